/-! THE SYSTEM's WORLD: single cells, lists, boxes -/
set_option maxRecDepth 100000
def bO (D : xk_G) (a ci : Nat) (fs : List Value) (H : Heap) : Prop := va_at D.1 xk_CL (a, .inr (ci, fs)) H
def bI (D : xk_G) (a N : Nat) (f : Nat → Int32) (H : Heap) : Prop := va_at D.1 xk_CL (a, .inl (D.2 0, N, .inl f)) H
def bQ (D : xk_G) (a cl N : Nat) (f : Nat → Option Nat) (H : Heap) : Prop := va_at D.1 xk_CL (a, .inl (D.2 cl, N, .inr (.inr (.inr (.inr f))))) H
/-- a box: an Integer made, or one of the cache's -/
def bX (D : xk_G) (a : Nat) (v : Int32) (H : Heap) : Prop := ∃ cell : Cell, H[a]? = some cell ∧ cell.cls = D.1.1 6 ∧ cell.vm ≠ .unknown ∧ cell.vm.isStatics = false ∧ cell.slots[D.1.2 6 0]? = some (.int v)
/-- a list at q of n elements g: its places at d, or those that all empty lists share (at D.2 100) -/
def bL (D : xk_G) (q d n : Nat) (g : Nat → Nat) (H : Heap) : Prop := ∃ (mc : Int32) (a : Nat), bO D q 5 [.int mc, .ref a, .int (nI n)] H ∧ ((n = 0 ∧ a = D.2 100) ∨ (0 < n ∧ a = d ∧ ∃ (cap : Nat) (f : Nat → Option Nat), n ≤ cap ∧ 10 ≤ cap ∧ cap ≤ 60 ∧ bQ D d 1 cap f H ∧ ∀ k, k < n → f k = some (g k)))
theorem bO.kept {D : xk_G} {a ci : Nat} {fs : List Value} {H H1 : Heap} (h : bO D a ci fs H) (e : H1[a]? = H[a]?) : bO D a ci fs H1 := va_at.kept h e
theorem bI.kept {D : xk_G} {a N : Nat} {f : Nat → Int32} {H H1 : Heap} (h : bI D a N f H) (e : H1[a]? = H[a]?) : bI D a N f H1 := va_at.kept h e
theorem bQ.kept {D : xk_G} {a cl N : Nat} {f : Nat → Option Nat} {H H1 : Heap} (h : bQ D a cl N f H) (e : H1[a]? = H[a]?) : bQ D a cl N f H1 := va_at.kept h e
theorem bX.kept {D : xk_G} {a : Nat} {v : Int32} {H H1 : Heap} (h : bX D a v H) (e : H1[a]? = H[a]?) : bX D a v H1 := by
  obtain ⟨cell, h1, h2⟩ := h
  exact ⟨cell, by rw [e]; exact h1, h2⟩
theorem bL.kept {D : xk_G} {q d n : Nat} {g : Nat → Nat} {H H1 : Heap} (h : bL D q d n g H) (e : H1[q]? = H[q]?) (e2 : 0 < n → H1[d]? = H[d]?) : bL D q d n g H1 := by
  obtain ⟨mc, a, h1, h2⟩ := h
  refine ⟨mc, a, h1.kept e, ?_⟩
  rcases h2 with h2 | ⟨h3, h4, cap, f, h5, h6, h7, h8, h9⟩
  · exact Or.inl h2
  · exact Or.inr ⟨h3, h4, cap, f, h5, h6, h7, h8.kept (e2 h3), h9⟩
theorem bO.lt {D : xk_G} {a ci : Nat} {fs : List Value} {H : Heap} (h : bO D a ci fs H) : a < H.size := va_at.lt h
theorem bI.lt {D : xk_G} {a N : Nat} {f : Nat → Int32} {H : Heap} (h : bI D a N f H) : a < H.size := va_at.lt h
theorem bQ.lt {D : xk_G} {a cl N : Nat} {f : Nat → Option Nat} {H : Heap} (h : bQ D a cl N f H) : a < H.size := va_at.lt h
theorem bX.lt {D : xk_G} {a : Nat} {v : Int32} {H : Heap} (h : bX D a v H) : a < H.size := by
  obtain ⟨cell, h1, -⟩ := h
  exact (Array.getElem?_eq_some_iff.mp h1).1
theorem bL.lt {D : xk_G} {q d n : Nat} {g : Nat → Nat} {H : Heap} (h : bL D q d n g H) : q < H.size := by
  obtain ⟨mc, a, h1, -⟩ := h
  exact h1.lt
theorem bI.same {D : xk_G} {a N : Nat} {f g : Nat → Int32} {H : Heap} (h : bI D a N f H) (e : ∀ j, j < N → f j = g j) : bI D a N g H := by
  have h0 : H[a]? = some (vp_cell (D.2 0) (N, .inl f)) := h
  show H[a]? = some (vp_cell (D.2 0) (N, .inl g))
  rw [h0, vp_cell_i, vp_cell_i, arrV_same (fun j hj => by rw [e j hj])]
theorem bQ.same {D : xk_G} {a cl N : Nat} {f g : Nat → Option Nat} {H : Heap} (h : bQ D a cl N f H) (e : ∀ j, j < N → f j = g j) : bQ D a cl N g H := by
  have h0 : H[a]? = some (vp_cell (D.2 cl) (N, .inr (.inr (.inr (.inr f))))) := h
  show H[a]? = some (vp_cell (D.2 cl) (N, .inr (.inr (.inr (.inr g)))))
  rw [h0]
  show some (arrV (D.2 cl) N (fun j => va_rf (f j))) = some (arrV (D.2 cl) N (fun j => va_rf (g j)))
  rw [arrV_same (fun j hj => by rw [e j hj])]
theorem bP1 {D : xk_G} {q : Nat × va_E} {H : Heap} (h : va_at D.1 xk_CL q H) : va_P D.1 xk_CL [q] H := by
  intro k x hk
  have h1 := (List.getElem?_eq_some_iff.mp hk).1
  have h2 : k = 0 := by simp at h1; exact h1
  subst h2
  cases hk
  exact h
section BB
variable {p : Program} {l : Launch} {e : Env} {R : Room} {s : State} {m : MethodId} {args : Array Value} {below : List Frame} {meth : Method} {c : Code} {H : Heap} {locs : List Loc} {cells slots : Nat} {Q : State → Prop}
variable {cc bytes : ByteArray} {pc maxL nL index a mc ms k : Nat} {ls : Array Slot} {rest st0 As : List Value} {D : xk_G} {A A1 : Nat → Prop} {own C : String} {y : MethodName} {rm : Room} {ret : Option FieldType} {P : Heap → Prop}
theorem xk_recv {ci : Nat} {fs : List Value} {q : vw_C} (hK : xk_K D s) (ho : bO D a ci fs H) (hc : xk_CL[ci]? = some q) : ∃ cell : Cell, H[a]? = some cell ∧ cell.vm.isStatics = false ∧ s.vm.findClass q.1 = some cell.cls := va_recv (q := q) hK.1 (bP1 ho) hc (q0 := 0) rfl
theorem xk_recvX {v : Int32} (hK : xk_K D s) (ho : bX D a v H) : ∃ cell : Cell, H[a]? = some cell ∧ cell.vm.isStatics = false ∧ s.vm.findClass RJ9 = some cell.cls := by
  obtain ⟨cell, h1, h2, h3, h4, h5⟩ := ho
  exact ⟨cell, h1, h4, by rw [h2]; exact (hK.1.1 6 (RJ9, TJ9, 1) rfl).2.1⟩
theorem xk_getO (S : xk_At p s m args meth c cc nL own) (hK : xk_K D s) {ci N : Nat} {T : u_T} {fs : List Value} (ho : bO D a ci fs H) (hc : xk_CL[ci]? = some (C, T, N)) (k : Nat) (hk : k < N) {v : Value} (hv : fs[k]? = some v) {ref : String} (hlink : (Cond.fieldLink own index ref (T k).2.1 (T k).2.2.1).before args s = true) (hsame : ∀ x, s.fieldFound? (T k).1 (T k).2.1 (T k).2.2.1 = some x → s.fieldFound? ref (T k).2.1 (T k).2.2.1 = some x) (hin : ∀ w ∈ u_ws C T N, w ∈ lw_all) (hdg : decode cc pc = .ok (.getfield index, 3))
    (kk : W p l e R s m args below meth c H locs cells slots Q (F0 m (pc + 3) ls (v :: rest))) : W p l e R s m args below meth c H locs cells slots Q (F0 m pc ls (.ref a :: rest)) :=
  va_get (D := D.1) (ci := ci) (v := v) (C := C) (T := T) (N := N) S.1 S.2.1 S.2.2.2.2 hin S.2.2.2.1 hK.1 (bP1 ho) 0 rfl hc k hk hlink hsame hv hdg kk
theorem xk_getN (S : xk_At p s m args meth c cc nL own) (hK : xk_K D s) {ci N : Nat} {T : u_T} {fs : List Value} (ho : bO D a ci fs H) (hc : xk_CL[ci]? = some (C, T, N)) (k : Nat) (hk : k < N) {v : Value} (hv : fs[k]? = some v) {ref host : String} (hlink : Cond.fieldLinkNest own index ref (T k).2.1 (T k).2.2.1 host ∈ lw_tbl) (hsame : ∀ x, s.fieldFound? (T k).1 (T k).2.1 (T k).2.2.1 = some x → s.fieldFound? ref (T k).2.1 (T k).2.2.1 = some x) (hin : ∀ w ∈ u_ws C T N, w ∈ lw_all) (hdg : decode cc pc = .ok (.getfield index, 3))
    (kk : W p l e R s m args below meth c H locs cells slots Q (F0 m (pc + 3) ls (v :: rest))) : W p l e R s m args below meth c H locs cells slots Q (F0 m pc ls (.ref a :: rest)) :=
  va_getN (D := D.1) (ci := ci) (v := v) (C := C) (T := T) (N := N) S.1 S.2.1 S.2.2.2.2 hin S.2.2.2.1 hK.1 (bP1 ho) 0 rfl hc k hk (va_Nw.use rfl (xk_nw hK hlink rfl)) hsame hv hdg kk
theorem xk_getX (S : xk_At p s m args meth c cc nL own) (hK : xk_K D s) {v : Int32} (ho : bX D a v H) (hlink : (Cond.fieldLink own index RJ9 "value" "I").before args s = true) (hdg : decode cc pc = .ok (.getfield index, 3))
    (kk : W p l e R s m args below meth c H locs cells slots Q (F0 m (pc + 3) ls (.int v :: rest))) : W p l e R s m args below meth c H locs cells slots Q (F0 m pc ls (.ref a :: rest)) := by
  obtain ⟨cell, h1, h2, h3, h4, h5⟩ := ho
  obtain ⟨hS, hfc, kC, hkC, hkind⟩ := hK.1.1 6 (RJ9, TJ9, 1) rfl
  obtain ⟨cf, kf, fi, f, hi, hsl⟩ := hS 0 (by decide)
  refine W.getf S.1 S.2.1 S.2.2.2.1 hlink hi (u_facts hfc hkC (u_lays (C := RJ9) (T := TJ9) (N := 1) (k := 0) S.2.2.2.2 in_J9 (by decide)) hi).1 h1 h3 (v := .int v) ?_ rfl rfl hdg kk
  rw [hsl]
  exact h5
theorem xk_ialdO (S : xk_At p s m args meth c cc nL own) (hK : xk_K D s) {N : Nat} {f : Nat → Int32} (ho : bI D a N f H) (k : Nat) (hk : k < N) (hN : N < 2147483648) (hdg : decode cc pc = .ok (.iaload, 1))
    (kk : W p l e R s m args below meth c H locs cells slots Q (F0 m (pc + 1) ls (.int (f k) :: rest))) : W p l e R s m args below meth c H locs cells slots Q (F0 m pc ls (.int (nI k) :: .ref a :: rest)) := by
  refine va_iald (f := f) S.1 S.2.1 hK.1 (bP1 ho) 0 0 rfl rfl (vp_in_nI hk hN) hdg ?_
  rw [nI_clamp (by omega)]
  exact kk
/-- the table's row -/
theorem xk_aaldT (S : xk_At p s m args meth c cc nL own) (hK : xk_K D s) {N : Nat} {f : Nat → Option Nat} (ho : bQ D a 2 N f H) (k r : Nat) (hk : k < N) (hN : N < 2147483648) (hr : f k = some r) (hdg : decode cc pc = .ok (.aaload, 1))
    (kk : W p l e R s m args below meth c H locs cells slots Q (F0 m (pc + 1) ls (.ref r :: rest))) : W p l e R s m args below meth c H locs cells slots Q (F0 m pc ls (.int (nI k) :: .ref a :: rest)) := by
  have e1 : (nI k).toNatClampNeg = k := nI_clamp (by omega)
  refine W.aald (v := .ref r) (ty := .array .int) S.1 S.2.1 (ho : H[a]? = some (arrV (D.2 2) N (fun j => va_rf (f j)))) ((hK.1.2 2 (D.2 2, .array .int) rfl).1 N (fun j => va_rf (f j))) rfl (fun q => by cases q) (by show ¬ (_ ∨ (arrV _ _ _).slots.size ≤ _); rw [arrV_size]; exact vp_in_nI hk hN) (by rw [e1]; show (arrV (D.2 2) N (fun j => va_rf (f j))).slots[k]? = _; rw [arrV_read _ _ hk, hr]; rfl) rfl rfl hdg kk
theorem xk_aaldQ (S : xk_At p s m args meth c cc nL own) (hK : xk_K D s) {N : Nat} {f : Nat → Option Nat} (ho : bQ D a 1 N f H) (k r : Nat) (hk : k < N) (hN : N < 2147483648) (hr : f k = some r) (hdg : decode cc pc = .ok (.aaload, 1))
    (kk : W p l e R s m args below meth c H locs cells slots Q (F0 m (pc + 1) ls (.ref r :: rest))) : W p l e R s m args below meth c H locs cells slots Q (F0 m pc ls (.int (nI k) :: .ref a :: rest)) := by
  refine va_aldq (f := f) S.1 S.2.1 hK.1 (bP1 ho) 0 1 rfl rfl (vp_in_nI hk hN) hdg ?_
  rw [nI_clamp (by omega), hr]
  exact kk
theorem xk_cast {nm : String} {ci : Nat} {q : vw_C} {fs : List Value} (S : xk_At p s m args meth c cc nL own) (hK : xk_K D s) (ho : bO D a ci fs H) (hc : xk_CL[ci]? = some q) (hn : q.1 = nm) (hlink : (Cond.classLink own index nm).before args s = true) (hdg : decode cc pc = .ok (.checkcast index, 3))
    (kk : W p l e R s m args below meth c H locs cells slots Q (F0 m (pc + 3) ls (.ref a :: rest))) : W p l e R s m args below meth c H locs cells slots Q (F0 m pc ls (.ref a :: rest)) := by
  subst hn
  exact va_castS S.1 S.2.1 S.2.2.2.1 hlink (hK.1.1 ci q hc).2 (xk_recv hK ho hc) hdg kk
theorem xk_castX {v : Int32} (S : xk_At p s m args meth c cc nL own) (hK : xk_K D s) (ho : bX D a v H) (hlink : (Cond.classLink own index RJ9).before args s = true) (hdg : decode cc pc = .ok (.checkcast index, 3))
    (kk : W p l e R s m args below meth c H locs cells slots Q (F0 m (pc + 3) ls (.ref a :: rest))) : W p l e R s m args below meth c H locs cells slots Q (F0 m pc ls (.ref a :: rest)) :=
  va_castS S.1 S.2.1 S.2.2.2.1 hlink (hK.1.1 6 (RJ9, TJ9, 1) rfl).2 (xk_recvX hK ho) hdg kk
/-! calls of methods that may be called on any cell of the kind -/
theorem xk_ciV (S : xk_At p s m args meth c cc nL own) (hK : xk_K D s) (hP : P H) (hA : ∀ q, s.heap.size ≤ q → A q) (hS : va_S A s.heap H locs) {b n : Nat} (hrecv : ∃ cell : Cell, H[b]? = some cell ∧ cell.vm.isStatics = false ∧ s.vm.findClass C = some cell.cls) {P' : Int32 → Heap → Prop}
    (hM : Met l y (ws_ y bytes maxL ret) rm (xk_Pre D A P (.ref b :: As)) (xk_Pi A P') mc ms A) (cw : CallW R s args own C index y bytes maxL ret (ws_ y bytes maxL ret) rm mc ms n) (hn : As.length = n) (hsz : ls.size = nL) (hst : st0 = As.reverse ++ .ref b :: rest) (hroom : (rest.map fun v => v.category).sum ≤ 8) (hdg : decode cc pc = .ok (.invokevirtual index, 3)) (hf : cells + mc ≤ R.cells ∧ slots + ms ≤ R.slots)
    (kk : ∀ (r : Int32) (H : Heap) (locs : List Loc), P' r H → va_S A s.heap H locs → W p l e R s m args below meth c H locs (cells + mc) (slots + ms) Q (F0 m (pc + 3) ls (.int r :: rest))) : W p l e R s m args below meth c H locs cells slots Q (F0 m pc ls st0) :=
  xk_ci (va_runV (As := As) (rest := rest) ⟨S.1, S.2.1, S.2.2.1, S.2.2.2.1, S.2.2.2.2⟩ hM cw (xk_preV hK hP (fun q h => hA q (Nat.le_trans hS.1 h)) hrecv) rfl hn hsz hst (lv_room hroom) hdg hf) hS kk
theorem xk_cvV (S : xk_At p s m args meth c cc nL own) (hK : xk_K D s) (hP : P H) (hA : ∀ q, s.heap.size ≤ q → A q) (hS : va_S A s.heap H locs) {b n : Nat} (hrecv : ∃ cell : Cell, H[b]? = some cell ∧ cell.vm.isStatics = false ∧ s.vm.findClass C = some cell.cls) {P' : Heap → Prop}
    (hM : Met l y (ws_ y bytes maxL none) rm (xk_Pre D A P (.ref b :: As)) (xk_Pv A P') mc ms A) (cw : CallW R s args own C index y bytes maxL none (ws_ y bytes maxL none) rm mc ms n) (hn : As.length = n) (hsz : ls.size = nL) (hst : st0 = As.reverse ++ .ref b :: rest) (hroom : (rest.map fun v => v.category).sum ≤ 8) (hdg : decode cc pc = .ok (.invokevirtual index, 3)) (hf : cells + mc ≤ R.cells ∧ slots + ms ≤ R.slots)
    (kk : ∀ (H : Heap) (locs : List Loc), P' H → va_S A s.heap H locs → W p l e R s m args below meth c H locs (cells + mc) (slots + ms) Q (F0 m (pc + 3) ls rest)) : W p l e R s m args below meth c H locs cells slots Q (F0 m pc ls st0) :=
  xk_cv (va_runV (As := As) (rest := rest) ⟨S.1, S.2.1, S.2.2.1, S.2.2.2.1, S.2.2.2.2⟩ hM cw (xk_preV hK hP (fun q h => hA q (Nat.le_trans hS.1 h)) hrecv) rfl hn hsz hst (lv_room hroom) hdg hf) hS kk
theorem xk_crV (S : xk_At p s m args meth c cc nL own) (hK : xk_K D s) (hP : P H) (hA : ∀ q, s.heap.size ≤ q → A q) (hS : va_S A s.heap H locs) {b n : Nat} (hrecv : ∃ cell : Cell, H[b]? = some cell ∧ cell.vm.isStatics = false ∧ s.vm.findClass C = some cell.cls) {P' : Nat → Heap → Prop}
    (hM : Met l y (ws_ y bytes maxL ret) rm (xk_Pre D A P (.ref b :: As)) (xk_Pr A P') mc ms A) (cw : CallW R s args own C index y bytes maxL ret (ws_ y bytes maxL ret) rm mc ms n) (hn : As.length = n) (hsz : ls.size = nL) (hst : st0 = As.reverse ++ .ref b :: rest) (hroom : (rest.map fun v => v.category).sum ≤ 8) (hdg : decode cc pc = .ok (.invokevirtual index, 3)) (hf : cells + mc ≤ R.cells ∧ slots + ms ≤ R.slots)
    (kk : ∀ (r : Nat) (H : Heap) (locs : List Loc), P' r H → va_S A s.heap H locs → W p l e R s m args below meth c H locs (cells + mc) (slots + ms) Q (F0 m (pc + 3) ls (.ref r :: rest))) : W p l e R s m args below meth c H locs cells slots Q (F0 m pc ls st0) :=
  xk_cr (va_runV (As := As) (rest := rest) ⟨S.1, S.2.1, S.2.2.1, S.2.2.2.1, S.2.2.2.2⟩ hM cw (xk_preV hK hP (fun q h => hA q (Nat.le_trans hS.1 h)) hrecv) rfl hn hsz hst (lv_room hroom) hdg hf) hS kk
/-- a nest mate's private method -/
theorem xk_ciN (S : xk_At p s m args meth c cc nL own) (hK : xk_K D s) (hP : P H) (hA : ∀ q, s.heap.size ≤ q → A q) (hS : va_S A s.heap H locs) {b n : Nat} {host : String} (hrecv : ∃ cell : Cell, H[b]? = some cell ∧ cell.vm.isStatics = false ∧ s.vm.findClass C = some cell.cls) {P' : Int32 → Heap → Prop}
    (hM : Met l y (ws_ y bytes maxL ret) rm (xk_Pre D A P (.ref b :: As)) (xk_Pi A P') mc ms A) (cw : va_CN R s args own index y host bytes maxL ret (ws_ y bytes maxL ret) rm mc ms n ∧ (Cond.instanceMethod y).before args s = true ∧ (Cond.selects C y y).before args s = true) (hn : As.length = n) (hsz : ls.size = nL) (hst : st0 = As.reverse ++ .ref b :: rest) (hroom : (rest.map fun v => v.category).sum ≤ 8) (hdg : decode cc pc = .ok (.invokevirtual index, 3)) (hf : cells + mc ≤ R.cells ∧ slots + ms ≤ R.slots)
    (kk : ∀ (r : Int32) (H : Heap) (locs : List Loc), P' r H → va_S A s.heap H locs → W p l e R s m args below meth c H locs (cells + mc) (slots + ms) Q (F0 m (pc + 3) ls (.int r :: rest))) : W p l e R s m args below meth c H locs cells slots Q (F0 m pc ls st0) :=
  xk_ci (va_runVN (As := As) (rest := rest) ⟨S.1, S.2.1, S.2.2.1, S.2.2.2.1, S.2.2.2.2⟩ hM cw (xk_preV hK hP (fun q h => hA q (Nat.le_trans hS.1 h)) hrecv) rfl hn hsz hst (lv_room hroom) hdg hf) hS kk
/-- List's methods -/
theorem xk_ciF (S : xk_At p s m args meth c cc nL own) (hK : xk_K D s) (hP : P H) (hA : ∀ q, s.heap.size ≤ q → A q) (hS : va_S A s.heap H locs) {b n count : Nat} {x : MethodName} (hrecv : ∃ cell : Cell, H[b]? = some cell ∧ cell.vm.isStatics = false ∧ s.vm.findClass RJ2 = some cell.cls) {P' : Int32 → Heap → Prop}
    (hM : Met l y (ws_ y bytes maxL ret) rm (xk_Pre D A P (.ref b :: As)) (xk_Pi A P') mc ms A) (cw : va_CI R s args own RJ2 index x y bytes maxL ret (ws_ y bytes maxL ret) rm mc ms n) (hn : As.length = n) (hsz : ls.size = nL) (hst : st0 = As.reverse ++ .ref b :: rest) (hroom : (rest.map fun v => v.category).sum ≤ 8) (hdg : decode cc pc = .ok (.invokeinterface index count, 5)) (hf : cells + mc ≤ R.cells ∧ slots + ms ≤ R.slots)
    (kk : ∀ (r : Int32) (H : Heap) (locs : List Loc), P' r H → va_S A s.heap H locs → W p l e R s m args below meth c H locs (cells + mc) (slots + ms) Q (F0 m (pc + 5) ls (.int r :: rest))) : W p l e R s m args below meth c H locs cells slots Q (F0 m pc ls st0) :=
  va_callFi (va_runF (As := As) (rest := rest) (hK.1.1 5 (RJ2, TJ2, 3) rfl).2 ⟨S.1, S.2.1, S.2.2.1, S.2.2.2.1, S.2.2.2.2⟩ hM cw (xk_preV hK hP (fun q h => hA q (Nat.le_trans hS.1 h)) hrecv) rfl hn hsz hst (lv_room hroom) hdg hf) hS (fun _ _ h => h) (fun _ h => h) (fun r u t H1 locs1 ht _ hp hB _ _ hS1 => by
    subst hp
    have hB : P' r t.heap := hB
    rw [ht] at hB
    exact kk r H1 locs1 hB hS1)
theorem xk_crF (S : xk_At p s m args meth c cc nL own) (hK : xk_K D s) (hP : P H) (hA : ∀ q, s.heap.size ≤ q → A q) (hS : va_S A s.heap H locs) {b n count : Nat} {x : MethodName} (hrecv : ∃ cell : Cell, H[b]? = some cell ∧ cell.vm.isStatics = false ∧ s.vm.findClass RJ2 = some cell.cls) {P' : Nat → Heap → Prop}
    (hM : Met l y (ws_ y bytes maxL ret) rm (xk_Pre D A P (.ref b :: As)) (xk_Pr A P') mc ms A) (cw : va_CI R s args own RJ2 index x y bytes maxL ret (ws_ y bytes maxL ret) rm mc ms n) (hn : As.length = n) (hsz : ls.size = nL) (hst : st0 = As.reverse ++ .ref b :: rest) (hroom : (rest.map fun v => v.category).sum ≤ 8) (hdg : decode cc pc = .ok (.invokeinterface index count, 5)) (hf : cells + mc ≤ R.cells ∧ slots + ms ≤ R.slots)
    (kk : ∀ (r : Nat) (H : Heap) (locs : List Loc), P' r H → va_S A s.heap H locs → W p l e R s m args below meth c H locs (cells + mc) (slots + ms) Q (F0 m (pc + 5) ls (.ref r :: rest))) : W p l e R s m args below meth c H locs cells slots Q (F0 m pc ls st0) :=
  va_callFr (va_runF (As := As) (rest := rest) (hK.1.1 5 (RJ2, TJ2, 3) rfl).2 ⟨S.1, S.2.1, S.2.2.1, S.2.2.2.1, S.2.2.2.2⟩ hM cw (xk_preV hK hP (fun q h => hA q (Nat.le_trans hS.1 h)) hrecv) rfl hn hsz hst (lv_room hroom) hdg hf) hS (fun _ _ h => h) (fun _ h => h) (fun u ra t H1 locs1 ht _ _ hB _ _ hS1 => by
    have hB : P' ra t.heap := hB
    rw [ht] at hB
    exact kk ra H1 locs1 hB hS1)
end BB
/-! the picture of the system: ad: the addresses of its parts by their numbers (0 the body, 1 the table, 2.. its rows, 6 the marks, 7 8 9 the lists owns, segments, joints, 10 11 12 their places, 20.. 30.. 40.. their boxes; 100 inside, 101 102 its lists cells, invaders, 103 the harms, 104 105 their places, 110.. the invaders, 120.. the cells); ρ: the inside that the body has -/
def bE1 (D : xk_G) (ad : Nat → Nat) (ρ : Nat) (σ : Nat → Nat → Int32) (H : Heap) : Prop :=
  bO D (ad 0) 0 [.ref (ad 1), .ref (ad 6), .ref (ad 7), .ref (ad 8), .ref (ad 9), .ref ρ] H ∧ bQ D (ad 1) 2 4 (fun i => some (ad (2 + i))) H ∧ (∀ i, i < 4 → bI D (ad (2 + i)) 4 (fun j => σ 0 (4 * i + j)) H) ∧ bI D (ad 6) 5 (σ 1) H
def bE2 (D : xk_G) (ad : Nat → Nat) (σ : Nat → Nat → Int32) (n : Nat → Nat) (H : Heap) : Prop :=
  bL D (ad 7) (ad 10) (n 0) (fun j => ad (20 + j)) H ∧ bL D (ad 8) (ad 11) (n 1) (fun j => ad (30 + j)) H ∧ bL D (ad 9) (ad 12) (n 2) (fun j => ad (40 + j)) H ∧ (∀ j, j < n 0 → bX D (ad (20 + j)) (σ 2 j) H) ∧ (∀ j, j < n 1 → bX D (ad (30 + j)) (σ 3 j + 4 * σ 4 j) H) ∧ (∀ j, j < n 2 → bX D (ad (40 + j)) (σ 5 j) H)
def bI1 (D : xk_G) (ad : Nat → Nat) (nw : Nat → Int32) (H : Heap) : Prop :=
  bO D (ad 100) 1 [.ref (ad 101), .ref (ad 102), .ref (ad 103), .int (nw 152), .int (nw 153), .int (nw 154), .ref (ad 0)] H ∧ bI D (ad 103) 8 (fun j => nw (144 + j)) H
def bI2 (D : xk_G) (ad : Nat → Nat) (σ : Nat → Nat → Int32) (nw : Nat → Int32) (n : Nat → Nat) (H : Heap) : Prop :=
  bL D (ad 102) (ad 105) (n 4) (fun j => ad (110 + j)) H ∧ ∀ k, k < n 4 → bO D (ad (110 + k)) 4 [.int (σ 9 k), .int (nw (120 + k)), .int (σ 10 k), .int (nw (128 + k)), .int (nw (136 + k))] H
def bI3 (D : xk_G) (ad : Nat → Nat) (σ : Nat → Nat → Int32) (nw : Nat → Int32) (n : Nat → Nat) (H : Heap) : Prop :=
  bL D (ad 101) (ad 104) (n 3) (fun j => ad (120 + j)) H ∧ ∀ k, k < n 3 → bO D (ad (120 + k)) 3 [.int (nI k), .int (σ 6 k), .int (σ 7 k), .int (σ 8 k), .int (nw k), .int (nw (40 + k)), .int (nw (80 + k))] H
def bP (D : xk_G) (ad : Nat → Nat) (ρ : Nat) (σ : Nat → Nat → Int32) (nw : Nat → Int32) (n : Nat → Nat) (H : Heap) : Prop := bE1 D ad ρ σ H ∧ bE2 D ad σ n H ∧ bI1 D ad nw H ∧ bI2 D ad σ nw n H ∧ bI3 D ad σ nw n H
/-- which numbers stand for a cell -/
def bk_dom (n : Nat → Nat) (x : Nat) : Prop := x < 10 ∨ (x = 10 ∧ 0 < n 0) ∨ (x = 11 ∧ 0 < n 1) ∨ (x = 12 ∧ 0 < n 2) ∨ (20 ≤ x ∧ x < 20 + n 0) ∨ (30 ≤ x ∧ x < 30 + n 1) ∨ (40 ≤ x ∧ x < 40 + n 2) ∨ (100 ≤ x ∧ x < 104) ∨ (x = 104 ∧ 0 < n 3) ∨ (x = 105 ∧ 0 < n 4) ∨ (110 ≤ x ∧ x < 110 + n 4) ∨ (120 ≤ x ∧ x < 120 + n 3)
def bk_box (x : Nat) : Prop := 20 ≤ x ∧ x < 50
def bk_ok (A : Nat → Prop) (ad : Nat → Nat) (n : Nat → Nat) : Prop := (∀ x y, bk_dom n x → bk_dom n y → ad x = ad y → x = y ∨ (bk_box x ∧ bk_box y)) ∧ ∀ x, bk_dom n x → ¬ bk_box x → A (ad x)
section BR
variable {D : xk_G} {ad : Nat → Nat} {ρ : Nat} {σ : Nat → Nat → Int32} {nw : Nat → Int32} {n : Nat → Nat} {H : Heap}
theorem b0 (h : bP D ad ρ σ nw n H) : bO D (ad 0) 0 [.ref (ad 1), .ref (ad 6), .ref (ad 7), .ref (ad 8), .ref (ad 9), .ref ρ] H := h.1.1
theorem btab (h : bP D ad ρ σ nw n H) : bQ D (ad 1) 2 4 (fun i => some (ad (2 + i))) H := h.1.2.1
theorem brow (h : bP D ad ρ σ nw n H) (i : Nat) (hi : i < 4) : bI D (ad (2 + i)) 4 (fun j => σ 0 (4 * i + j)) H := h.1.2.2.1 i hi
theorem bmk (h : bP D ad ρ σ nw n H) : bI D (ad 6) 5 (σ 1) H := h.1.2.2.2
theorem bow (h : bP D ad ρ σ nw n H) : bL D (ad 7) (ad 10) (n 0) (fun j => ad (20 + j)) H := h.2.1.1
theorem bsg (h : bP D ad ρ σ nw n H) : bL D (ad 8) (ad 11) (n 1) (fun j => ad (30 + j)) H := h.2.1.2.1
theorem bjo (h : bP D ad ρ σ nw n H) : bL D (ad 9) (ad 12) (n 2) (fun j => ad (40 + j)) H := h.2.1.2.2.1
theorem bxo (h : bP D ad ρ σ nw n H) (j : Nat) (hj : j < n 0) : bX D (ad (20 + j)) (σ 2 j) H := h.2.1.2.2.2.1 j hj
theorem bxs (h : bP D ad ρ σ nw n H) (j : Nat) (hj : j < n 1) : bX D (ad (30 + j)) (σ 3 j + 4 * σ 4 j) H := h.2.1.2.2.2.2.1 j hj
theorem bxj (h : bP D ad ρ σ nw n H) (j : Nat) (hj : j < n 2) : bX D (ad (40 + j)) (σ 5 j) H := h.2.1.2.2.2.2.2 j hj
theorem b100 (h : bP D ad ρ σ nw n H) : bO D (ad 100) 1 [.ref (ad 101), .ref (ad 102), .ref (ad 103), .int (nw 152), .int (nw 153), .int (nw 154), .ref (ad 0)] H := h.2.2.1.1
theorem bhm (h : bP D ad ρ σ nw n H) : bI D (ad 103) 8 (fun j => nw (144 + j)) H := h.2.2.1.2
theorem bvl (h : bP D ad ρ σ nw n H) : bL D (ad 102) (ad 105) (n 4) (fun j => ad (110 + j)) H := h.2.2.2.1.1
theorem binv (h : bP D ad ρ σ nw n H) (k : Nat) (hk : k < n 4) : bO D (ad (110 + k)) 4 [.int (σ 9 k), .int (nw (120 + k)), .int (σ 10 k), .int (nw (128 + k)), .int (nw (136 + k))] H := h.2.2.2.1.2 k hk
theorem bcl (h : bP D ad ρ σ nw n H) : bL D (ad 101) (ad 104) (n 3) (fun j => ad (120 + j)) H := h.2.2.2.2.1
theorem bcell (h : bP D ad ρ σ nw n H) (k : Nat) (hk : k < n 3) : bO D (ad (120 + k)) 3 [.int (nI k), .int (σ 6 k), .int (σ 7 k), .int (σ 8 k), .int (nw k), .int (nw (40 + k)), .int (nw (80 + k))] H := h.2.2.2.2.2 k hk
theorem bL.obj {q d k : Nat} {g : Nat → Nat} (h : bL D q d k g H) : ∃ fs, bO D q 5 fs H := by
  obtain ⟨mc, a, h1, -⟩ := h
  exact ⟨_, h1⟩
end BR
theorem xk_recvL {D : xk_G} {s : State} {H : Heap} {q d k : Nat} {g : Nat → Nat} (hK : xk_K D s) (h : bL D q d k g H) : ∃ cell : Cell, H[q]? = some cell ∧ cell.vm.isStatics = false ∧ s.vm.findClass RJ2 = some cell.cls := by
  obtain ⟨fs, h1⟩ := h.obj
  exact xk_recv (q := (RJ2, TJ2, 3)) hK h1 rfl
