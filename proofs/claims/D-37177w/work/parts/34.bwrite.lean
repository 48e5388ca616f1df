/-! writes into the system's cells -/
set_option maxRecDepth 100000
section BW
variable {p : Program} {l : Launch} {e : Env} {R : Room} {s : State} {m : MethodId} {args : Array Value} {below : List Frame} {meth : Method} {c : Code} {H : Heap} {locs : List Loc} {cells slots : Nat} {Q : State → Prop}
variable {cc bytes : ByteArray} {pc maxL nL index a mc ms : Nat} {ls : Array Slot} {rest st0 As : List Value} {D : xk_G} {A : Nat → Prop} {own C : String} {y : MethodName} {rm : Room} {P : Heap → Prop}
theorem xk_apart {ci N : Nat} {T : u_T} (hK : xk_K D s) (hts : ∀ w ∈ lw_all, w.before args s = true) (hc : xk_CL[ci]? = some (C, T, N)) (ty0 : Nat → FieldType) (hty : ∀ k, k < N → parseFieldDescriptor (T k).2.2.1 = some (ty0 k)) (hnm : ∀ a, a < N → ∀ b, b < N → a ≠ b → (T a).2.1 ≠ (T b).2.1) (hin : ∀ w ∈ u_ws C T N, w ∈ lw_all) : ∀ x y, x < N → y < N → x ≠ y → (D.1.2 ci) x ≠ (D.1.2 ci) y := va_apart (own := C) hts hin ty0 hty hnm hK.1 hc
theorem xk_putO (S : xk_At p s m args meth c cc nL own) (hK : xk_K D s) (hS : va_S A s.heap H locs) {ci N : Nat} {T : u_T} {fs : List Value} (ho : bO D a ci fs H) (hAa : A a) (hc : xk_CL[ci]? = some (C, T, N)) (k : Nat) (hk : k < N) {v : Value} {ref : String} (hlink : (Cond.fieldLink own index ref (T k).2.1 (T k).2.2.1).before args s = true) (hsame : ∀ x, s.fieldFound? (T k).1 (T k).2.1 (T k).2.2.1 = some x → s.fieldFound? ref (T k).2.1 (T k).2.2.1 = some x) (hfin : (T k).2.2.2 = false) {ty : FieldType} (hd : parseFieldDescriptor (T k).2.2.1 = some ty) (hn : narrow ty v = v) (hfit : fits ty v = true) (ty0 : Nat → FieldType) (hty : ∀ k, k < N → parseFieldDescriptor (T k).2.2.1 = some (ty0 k)) (hnm : ∀ a, a < N → ∀ b, b < N → a ≠ b → (T a).2.1 ≠ (T b).2.1) (hl : k < fs.length) (hin : ∀ w ∈ u_ws C T N, w ∈ lw_all) (hdg : decode cc pc = .ok (.putfield index, 3))
    (kk : ∀ (H1 : Heap) (locs1 : List Loc), bO D a ci (fs.set k v) H1 → (∀ q, q ≠ a → H1[q]? = H[q]?) → H1.size = H.size → va_S A s.heap H1 locs1 → W p l e R s m args below meth c H1 locs1 cells slots Q (F0 m (pc + 3) ls rest)) : W p l e R s m args below meth c H locs cells slots Q (F0 m pc ls (v :: .ref a :: rest)) := by
  have hts := S.2.2.2.2
  have hap := xk_apart hK hts hc ty0 hty hnm hin
  obtain ⟨r, h1, cell, q1, q2, q3, q4⟩ := ho
  have hr : r = (C, T, N) := Option.some.inj (h1.symm.trans hc)
  subst hr
  obtain ⟨hSl, hfc, kC, hkC, hkind⟩ := hK.1.1 ci _ hc
  obtain ⟨cf, kf, fi, f, hi, hsl⟩ := hSl k hk
  have hlay := hts _ (hin _ (u_in_lay hk))
  unfold u_lay at hlay
  rw [if_neg (by rw [hfin]; decide)] at hlay
  have hst := (u_facts hfc hkC (u_lays hts hin hk) hi).1
  have h6 := u_store hfc hkC hkind hlay hi hd hn hfit
  refine W.putK S.1 S.2.1 (f := f) ⟨S.2.2.2.1, hlink, ⟨_, _, _, hsame _ hi⟩, hst⟩ (by rw [q2]; exact h6) q1 q3 (by rw [hsl]; exact k2_hasslot (q4 k hk)) rfl rfl hdg fun H' e1 e2 e3 => ?_
  rw [hsl] at e1 ⊢
  exact kk H' _ ⟨_, hc, t_OB.to (V := updV (vp_V fs) k v) ⟨_, e1, q2, q3, t_set q4 hap hk v⟩ (fun j _ => vp_updV_set hl v j)⟩ e3 e2 (hS.put e2 e3 hAa)
theorem xk_putN (S : xk_At p s m args meth c cc nL own) (hK : xk_K D s) (hS : va_S A s.heap H locs) {ci N : Nat} {T : u_T} {fs : List Value} (ho : bO D a ci fs H) (hAa : A a) (hc : xk_CL[ci]? = some (C, T, N)) (k : Nat) (hk : k < N) {v : Value} {ref host : String} (hlink : Cond.fieldLinkNest own index ref (T k).2.1 (T k).2.2.1 host ∈ lw_tbl) (hsame : ∀ x, s.fieldFound? (T k).1 (T k).2.1 (T k).2.2.1 = some x → s.fieldFound? ref (T k).2.1 (T k).2.2.1 = some x) (hfin : (T k).2.2.2 = false) {ty : FieldType} (hd : parseFieldDescriptor (T k).2.2.1 = some ty) (hn : narrow ty v = v) (hfit : fits ty v = true) (ty0 : Nat → FieldType) (hty : ∀ k, k < N → parseFieldDescriptor (T k).2.2.1 = some (ty0 k)) (hnm : ∀ a, a < N → ∀ b, b < N → a ≠ b → (T a).2.1 ≠ (T b).2.1) (hl : k < fs.length) (hin : ∀ w ∈ u_ws C T N, w ∈ lw_all) (hdg : decode cc pc = .ok (.putfield index, 3))
    (kk : ∀ (H1 : Heap) (locs1 : List Loc), bO D a ci (fs.set k v) H1 → (∀ q, q ≠ a → H1[q]? = H[q]?) → H1.size = H.size → va_S A s.heap H1 locs1 → W p l e R s m args below meth c H1 locs1 cells slots Q (F0 m (pc + 3) ls rest)) : W p l e R s m args below meth c H locs cells slots Q (F0 m pc ls (v :: .ref a :: rest)) := by
  have hts := S.2.2.2.2
  have hap := xk_apart hK hts hc ty0 hty hnm hin
  obtain ⟨r, h1, cell, q1, q2, q3, q4⟩ := ho
  have hr : r = (C, T, N) := Option.some.inj (h1.symm.trans hc)
  subst hr
  obtain ⟨hSl, hfc, kC, hkC, hkind⟩ := hK.1.1 ci _ hc
  obtain ⟨cf, kf, fi, f, hi, hsl⟩ := hSl k hk
  have hlay := hts _ (hin _ (u_in_lay hk))
  unfold u_lay at hlay
  rw [if_neg (by rw [hfin]; decide)] at hlay
  have hst := (u_facts hfc hkC (u_lays hts hin hk) hi).1
  have h6 := u_store hfc hkC hkind hlay hi hd hn hfit
  refine va_WputK S.1 S.2.1 (f := f) S.2.2.2.1 (va_Nw.use rfl (xk_nw hK hlink rfl)) (hsame _ hi) hst (by rw [q2]; exact h6) q1 q3 (by rw [hsl]; exact k2_hasslot (q4 k hk)) rfl rfl hdg fun H' e1 e2 e3 => ?_
  rw [hsl] at e1 ⊢
  exact kk H' _ ⟨_, hc, t_OB.to (V := updV (vp_V fs) k v) ⟨_, e1, q2, q3, t_set q4 hap hk v⟩ (fun j _ => vp_updV_set hl v j)⟩ e3 e2 (hS.put e2 e3 hAa)
theorem xk_iastO (S : xk_At p s m args meth c cc nL own) (hK : xk_K D s) (hS : va_S A s.heap H locs) {N : Nat} {f : Nat → Int32} (ho : bI D a N f H) (hAa : A a) (k : Nat) (hk : k < N) (hN : N < 2147483648) {x : Int32} (hdg : decode cc pc = .ok (.iastore, 1))
    (kk : ∀ (H1 : Heap) (locs1 : List Loc), bI D a N (upd f k x) H1 → (∀ q, q ≠ a → H1[q]? = H[q]?) → H1.size = H.size → va_S A s.heap H1 locs1 → W p l e R s m args below meth c H1 locs1 cells slots Q (F0 m (pc + 1) ls rest)) : W p l e R s m args below meth c H locs cells slots Q (F0 m pc ls (.int x :: .int (nI k) :: .ref a :: rest)) := by
  have e0 : (nI k).toNatClampNeg = k := nI_clamp (by omega)
  refine W.iast S.1 S.2.1 (ho : H[a]? = some (arrV (D.2 0) N (fun j => .int (f j)))) ((hK.1.2 0 (D.2 0, .int) rfl).1 N (fun j => .int (f j))) (fun q => by cases q) (by show ¬ (_ ∨ (arrV _ _ _).slots.size ≤ _); rw [arrV_size]; exact vp_in_nI hk hN) rfl rfl hdg fun H1 e1 z oq => ?_
  refine kk H1 _ ?_ oq z (hS.put z oq hAa)
  show H1[a]? = some (vp_cell (D.2 0) (N, .inl (upd f k x)))
  rw [e1, e0]
  show some ((arrV (D.2 0) N (fun j => .int (f j))).setSlot k (.int x)) = some (arrV (D.2 0) N (fun j => .int (upd f k x j)))
  rw [arrV_store]
  congr 2
  funext q
  by_cases hq : q = k
  · subst hq
    simp [updV, upd]
  · simp [updV, upd, hq]
theorem xk_cvS (S : xk_At p s m args meth c cc nL own) (hK : xk_K D s) {P : Heap → Prop} (hP : P H) (hA : ∀ q, s.heap.size ≤ q → A q) (hS : va_S A s.heap H locs) {k : Nat} {P' : Heap → Prop}
    (hM : Met l y (ws_ y bytes maxL none) rm (xk_Pre D A P As) (xk_Pv A P') mc ms A) (cw : CallB R s args own index y bytes maxL none (ws_ y bytes maxL none) rm mc ms k ∧ (Cond.static y).before args s = true) (hn : As.length = k) (hsz : ls.size = nL) (hst : st0 = As.reverse ++ rest) (hroom : (rest.map fun v => v.category).sum ≤ 8) (hdg : decode cc pc = .ok (.invokestatic index, 3)) (hf : cells + mc ≤ R.cells ∧ slots + ms ≤ R.slots)
    (kk : ∀ (H : Heap) (locs : List Loc), P' H → va_S A s.heap H locs → W p l e R s m args below meth c H locs (cells + mc) (slots + ms) Q (F0 m (pc + 3) ls rest)) : W p l e R s m args below meth c H locs cells slots Q (F0 m pc ls st0) :=
  xk_cv (va_runS (As := As) (rest := rest) ⟨S.1, S.2.1, S.2.2.1, S.2.2.2.1, S.2.2.2.2⟩ hM cw (xk_preS hK hP (fun q h => hA q (Nat.le_trans hS.1 h))) rfl hn hsz hst (lv_room hroom) hdg hf) hS kk
end BW
section BK
variable {A : Nat → Prop} {D : xk_G} {ad : Nat → Nat} {ρ : Nat} {σ : Nat → Nat → Int32} {nw nw' : Nat → Int32} {n : Nat → Nat} {H H1 : Heap}
theorem bE1.kept (h : bE1 D ad ρ σ H) (e : ∀ x, x < 7 → H1[ad x]? = H[ad x]?) : bE1 D ad ρ σ H1 :=
  ⟨h.1.kept (e 0 (by omega)), h.2.1.kept (e 1 (by omega)), fun i hi => (h.2.2.1 i hi).kept (e (2 + i) (by omega)), h.2.2.2.kept (e 6 (by omega))⟩
theorem bE2.kept (h : bE2 D ad σ n H) (h0 : n 0 ≤ 8) (h1 : n 1 ≤ 4) (h2 : n 2 ≤ 4) (e : ∀ x, bk_dom n x → 7 ≤ x ∧ x < 50 → H1[ad x]? = H[ad x]?) : bE2 D ad σ n H1 :=
  ⟨h.1.kept (e 7 (by unfold bk_dom; omega) (by omega)) (fun _ => e 10 (by unfold bk_dom; omega) (by omega)), h.2.1.kept (e 8 (by unfold bk_dom; omega) (by omega)) (fun _ => e 11 (by unfold bk_dom; omega) (by omega)), h.2.2.1.kept (e 9 (by unfold bk_dom; omega) (by omega)) (fun _ => e 12 (by unfold bk_dom; omega) (by omega)),
   fun j hj => (h.2.2.2.1 j hj).kept (e (20 + j) (by unfold bk_dom; omega) (by omega)), fun j hj => (h.2.2.2.2.1 j hj).kept (e (30 + j) (by unfold bk_dom; omega) (by omega)), fun j hj => (h.2.2.2.2.2 j hj).kept (e (40 + j) (by unfold bk_dom; omega) (by omega))⟩
theorem bI1.to (h : bI1 D ad nw H) (e100 : H1[ad 100]? = H[ad 100]?) (e103 : H1[ad 103]? = H[ad 103]?) (hv : ∀ i, 144 ≤ i → i ≤ 154 → nw' i = nw i) : bI1 D ad nw' H1 := by
  refine ⟨?_, (h.2.kept e103).same (fun j hj => (hv (144 + j) (by omega) (by omega)).symm)⟩
  rw [hv 152 (by omega) (by omega), hv 153 (by omega) (by omega), hv 154 (by omega) (by omega)]
  exact h.1.kept e100
theorem bI2.to (h : bI2 D ad σ nw n H) (h4 : n 4 ≤ 8) (e : ∀ x, bk_dom n x → 102 ≤ x → x < 120 → x ≠ 103 → H1[ad x]? = H[ad x]?) (hv : ∀ k, k < n 4 → nw' (120 + k) = nw (120 + k) ∧ nw' (128 + k) = nw (128 + k) ∧ nw' (136 + k) = nw (136 + k)) : bI2 D ad σ nw' n H1 := by
  refine ⟨h.1.kept (e 102 (by unfold bk_dom; omega) (by omega) (by omega) (by omega)) (fun _ => e 105 (by unfold bk_dom; omega) (by omega) (by omega) (by omega)), fun k hk => ?_⟩
  obtain ⟨v1, v2, v3⟩ := hv k hk
  rw [v1, v2, v3]
  exact (h.2 k hk).kept (e (110 + k) (by unfold bk_dom; omega) (by omega) (by omega) (by omega))
theorem bI3.to (h : bI3 D ad σ nw n H) (e : ∀ x, bk_dom n x → 101 ≤ x → x ≠ 102 → x ≠ 103 → H1[ad x]? = H[ad x]?) (hv : ∀ k, k < n 3 → nw' k = nw k ∧ nw' (40 + k) = nw (40 + k) ∧ nw' (80 + k) = nw (80 + k)) : bI3 D ad σ nw' n H1 := by
  refine ⟨h.1.kept (e 101 (by unfold bk_dom; omega) (by omega) (by omega) (by omega)) (fun _ => e 104 (by unfold bk_dom; omega) (by omega) (by omega) (by omega)), fun k hk => ?_⟩
  obtain ⟨v1, v2, v3⟩ := hv k hk
  rw [v1, v2, v3]
  exact (h.2 k hk).kept (e (120 + k) (by unfold bk_dom; omega) (by omega) (by omega) (by omega))
theorem bk_ne {x0 : Nat} (hJ : bk_ok A ad n) (h0 : bk_dom n x0) (nb : ¬ bk_box x0) (oq : ∀ q, q ≠ ad x0 → H1[q]? = H[q]?) : ∀ x, bk_dom n x → x ≠ x0 → H1[ad x]? = H[ad x]? :=
  fun x hx hne => oq _ (fun e => (hJ.1 x x0 hx h0 e).elim hne (fun z => nb z.2))
/-- the bounds of the counts -/
def bk_n (n : Nat → Nat) : Prop := n 0 ≤ 8 ∧ n 1 ≤ 4 ∧ n 2 ≤ 4 ∧ n 3 ≤ 40 ∧ n 4 ≤ 8
theorem bP_cell (hJ : bk_ok A ad n) (hP : bP D ad ρ σ nw n H) (hn : bk_n n) (k : Nat) (hk : k < n 3) (ho : bO D (ad (120 + k)) 3 [.int (nI k), .int (σ 6 k), .int (σ 7 k), .int (σ 8 k), .int (nw' k), .int (nw' (40 + k)), .int (nw' (80 + k))] H1) (oq : ∀ q, q ≠ ad (120 + k) → H1[q]? = H[q]?) (hv : ∀ i, i ≠ k → i ≠ 40 + k → i ≠ 80 + k → nw' i = nw i) : bP D ad ρ σ nw' n H1 := by
  obtain ⟨n0, n1, n2, n3, n4⟩ := hn
  have ne := bk_ne hJ (x0 := 120 + k) (by unfold bk_dom; omega) (by unfold bk_box; omega) oq
  obtain ⟨h1, h2, h3, h4, h5, h6⟩ := hP
  refine ⟨h1.kept (fun x hx => ne x (by unfold bk_dom; omega) (by omega)), h2.kept n0 n1 n2 (fun x hx _ => ne x hx (by omega)), h3.to (ne 100 (by unfold bk_dom; omega) (by omega)) (ne 103 (by unfold bk_dom; omega) (by omega)) (fun i _ _ => hv i (by omega) (by omega) (by omega)), h4.to n4 (fun x hx _ hlt _ => ne x hx (by omega)) (fun j hj => ⟨hv _ (by omega) (by omega) (by omega), hv _ (by omega) (by omega) (by omega), hv _ (by omega) (by omega) (by omega)⟩), h5.kept (ne 101 (by unfold bk_dom; omega) (by omega)) (fun _ => ne 104 (by unfold bk_dom; omega) (by omega)), fun j hj => ?_⟩
  by_cases hjk : j = k
  · subst hjk
    exact ho
  · have e1 := hv j (by omega) (by omega) (by omega)
    have e2 := hv (40 + j) (by omega) (by omega) (by omega)
    have e3 := hv (80 + j) (by omega) (by omega) (by omega)
    rw [e1, e2, e3]
    exact (h6 j hj).kept (ne (120 + j) (by unfold bk_dom; omega) (by omega))
theorem bP_cSt (hJ : bk_ok A ad n) (hP : bP D ad ρ σ nw n H) (hn : bk_n n) (k : Nat) (hk : k < n 3) {x : Int32} (ho : bO D (ad (120 + k)) 3 [.int (nI k), .int (σ 6 k), .int (σ 7 k), .int (σ 8 k), .int x, .int (nw (40 + k)), .int (nw (80 + k))] H1) (oq : ∀ q, q ≠ ad (120 + k) → H1[q]? = H[q]?) : bP D ad ρ σ (upd nw k x) n H1 := by
  refine bP_cell hJ hP hn k hk ?_ oq (fun i h _ _ => pk_un h)
  rw [pk_us, pk_un (show 40 + k ≠ k by omega), pk_un (show 80 + k ≠ k by omega)]
  exact ho
theorem bP_cSz (hJ : bk_ok A ad n) (hP : bP D ad ρ σ nw n H) (hn : bk_n n) (k : Nat) (hk : k < n 3) {x : Int32} (ho : bO D (ad (120 + k)) 3 [.int (nI k), .int (σ 6 k), .int (σ 7 k), .int (σ 8 k), .int (nw k), .int x, .int (nw (80 + k))] H1) (oq : ∀ q, q ≠ ad (120 + k) → H1[q]? = H[q]?) : bP D ad ρ σ (upd nw (40 + k) x) n H1 := by
  refine bP_cell hJ hP hn k hk ?_ oq (fun i _ h _ => pk_un h)
  rw [pk_us, pk_un (show k ≠ 40 + k by omega), pk_un (show 80 + k ≠ 40 + k by omega)]
  exact ho
theorem bP_cWk (hJ : bk_ok A ad n) (hP : bP D ad ρ σ nw n H) (hn : bk_n n) (k : Nat) (hk : k < n 3) {x : Int32} (ho : bO D (ad (120 + k)) 3 [.int (nI k), .int (σ 6 k), .int (σ 7 k), .int (σ 8 k), .int (nw k), .int (nw (40 + k)), .int x] H1) (oq : ∀ q, q ≠ ad (120 + k) → H1[q]? = H[q]?) : bP D ad ρ σ (upd nw (80 + k) x) n H1 := by
  refine bP_cell hJ hP hn k hk ?_ oq (fun i _ _ h => pk_un h)
  rw [pk_us, pk_un (show k ≠ 80 + k by omega), pk_un (show 40 + k ≠ 80 + k by omega)]
  exact ho
theorem bP_inv (hJ : bk_ok A ad n) (hP : bP D ad ρ σ nw n H) (hn : bk_n n) (k : Nat) (hk : k < n 4) (ho : bO D (ad (110 + k)) 4 [.int (σ 9 k), .int (nw' (120 + k)), .int (σ 10 k), .int (nw' (128 + k)), .int (nw' (136 + k))] H1) (oq : ∀ q, q ≠ ad (110 + k) → H1[q]? = H[q]?) (hv : ∀ i, i ≠ 120 + k → i ≠ 128 + k → i ≠ 136 + k → nw' i = nw i) : bP D ad ρ σ nw' n H1 := by
  obtain ⟨n0, n1, n2, n3, n4⟩ := hn
  have ne := bk_ne hJ (x0 := 110 + k) (by unfold bk_dom; omega) (by unfold bk_box; omega) oq
  obtain ⟨h1, h2, h3, ⟨h4, h5⟩, h6⟩ := hP
  refine ⟨h1.kept (fun x hx => ne x (by unfold bk_dom; omega) (by omega)), h2.kept n0 n1 n2 (fun x hx _ => ne x hx (by omega)), h3.to (ne 100 (by unfold bk_dom; omega) (by omega)) (ne 103 (by unfold bk_dom; omega) (by omega)) (fun i _ _ => hv i (by omega) (by omega) (by omega)), ⟨h4.kept (ne 102 (by unfold bk_dom; omega) (by omega)) (fun _ => ne 105 (by unfold bk_dom; omega) (by omega)), fun j hj => ?_⟩, h6.1.kept (ne 101 (by unfold bk_dom; omega) (by omega)) (fun _ => ne 104 (by unfold bk_dom; omega) (by omega)), fun j hj => ?_⟩
  · by_cases hjk : j = k
    · subst hjk
      exact ho
    · have e1 := hv (120 + j) (by omega) (by omega) (by omega)
      have e2 := hv (128 + j) (by omega) (by omega) (by omega)
      have e3 := hv (136 + j) (by omega) (by omega) (by omega)
      rw [e1, e2, e3]
      exact (h5 j hj).kept (ne (110 + j) (by unfold bk_dom; omega) (by omega))
  · have e1 := hv j (by omega) (by omega) (by omega)
    have e2 := hv (40 + j) (by omega) (by omega) (by omega)
    have e3 := hv (80 + j) (by omega) (by omega) (by omega)
    rw [e1, e2, e3]
    exact (h6.2 j hj).kept (ne (120 + j) (by unfold bk_dom; omega) (by omega))
theorem bP_vSz (hJ : bk_ok A ad n) (hP : bP D ad ρ σ nw n H) (hn : bk_n n) (k : Nat) (hk : k < n 4) {x : Int32} (ho : bO D (ad (110 + k)) 4 [.int (σ 9 k), .int x, .int (σ 10 k), .int (nw (128 + k)), .int (nw (136 + k))] H1) (oq : ∀ q, q ≠ ad (110 + k) → H1[q]? = H[q]?) : bP D ad ρ σ (upd nw (120 + k) x) n H1 := by
  refine bP_inv hJ hP hn k hk ?_ oq (fun i h _ _ => pk_un h)
  rw [pk_us, pk_un (show 128 + k ≠ 120 + k by omega), pk_un (show 136 + k ≠ 120 + k by omega)]
  exact ho
theorem bP_vCl (hJ : bk_ok A ad n) (hP : bP D ad ρ σ nw n H) (hn : bk_n n) (k : Nat) (hk : k < n 4) {x : Int32} (ho : bO D (ad (110 + k)) 4 [.int (σ 9 k), .int (nw (120 + k)), .int (σ 10 k), .int x, .int (nw (136 + k))] H1) (oq : ∀ q, q ≠ ad (110 + k) → H1[q]? = H[q]?) : bP D ad ρ σ (upd nw (128 + k) x) n H1 := by
  refine bP_inv hJ hP hn k hk ?_ oq (fun i _ h _ => pk_un h)
  rw [pk_us, pk_un (show 120 + k ≠ 128 + k by omega), pk_un (show 136 + k ≠ 128 + k by omega)]
  exact ho
theorem bP_vGr (hJ : bk_ok A ad n) (hP : bP D ad ρ σ nw n H) (hn : bk_n n) (k : Nat) (hk : k < n 4) {x : Int32} (ho : bO D (ad (110 + k)) 4 [.int (σ 9 k), .int (nw (120 + k)), .int (σ 10 k), .int (nw (128 + k)), .int x] H1) (oq : ∀ q, q ≠ ad (110 + k) → H1[q]? = H[q]?) : bP D ad ρ σ (upd nw (136 + k) x) n H1 := by
  refine bP_inv hJ hP hn k hk ?_ oq (fun i _ _ h => pk_un h)
  rw [pk_us, pk_un (show 120 + k ≠ 136 + k by omega), pk_un (show 128 + k ≠ 136 + k by omega)]
  exact ho
theorem bP_vCo (hJ : bk_ok A ad n) (hP : bP D ad ρ σ nw n H) (hn : bk_n n) (k : Nat) (hk : k < n 4) {x : Int32} (ho : bO D (ad (110 + k)) 4 [.int x, .int (nw (120 + k)), .int (σ 10 k), .int (nw (128 + k)), .int (nw (136 + k))] H1) (oq : ∀ q, q ≠ ad (110 + k) → H1[q]? = H[q]?) : bP D ad ρ (va_up σ 9 (upd (σ 9) k x)) nw n H1 := by
  obtain ⟨n0, n1, n2, n3, n4⟩ := hn
  have ne := bk_ne hJ (x0 := 110 + k) (by unfold bk_dom; omega) (by unfold bk_box; omega) oq
  obtain ⟨h1, h2, h3, ⟨h4, h5⟩, h6⟩ := hP
  refine ⟨h1.kept (fun x hx => ne x (by unfold bk_dom; omega) (by omega)), h2.kept n0 n1 n2 (fun x hx _ => ne x hx (by omega)), h3.to (ne 100 (by unfold bk_dom; omega) (by omega)) (ne 103 (by unfold bk_dom; omega) (by omega)) (fun i _ _ => rfl), ⟨h4.kept (ne 102 (by unfold bk_dom; omega) (by omega)) (fun _ => ne 105 (by unfold bk_dom; omega) (by omega)), fun j hj => ?_⟩, h6.1.kept (ne 101 (by unfold bk_dom; omega) (by omega)) (fun _ => ne 104 (by unfold bk_dom; omega) (by omega)), fun j hj => ?_⟩
  · show bO D (ad (110 + j)) 4 [.int (upd (σ 9) k x j), .int (nw (120 + j)), .int (σ 10 j), .int (nw (128 + j)), .int (nw (136 + j))] H1
    by_cases hjk : j = k
    · subst hjk
      rw [pk_us]
      exact ho
    · rw [pk_un hjk]
      exact (h5 j hj).kept (ne (110 + j) (by unfold bk_dom; omega) (by omega))
  · exact (h6.2 j hj).kept (ne (120 + j) (by unfold bk_dom; omega) (by omega))
theorem bP_ins (hJ : bk_ok A ad n) (hP : bP D ad ρ σ nw n H) (hn : bk_n n) (ho : bO D (ad 100) 1 [.ref (ad 101), .ref (ad 102), .ref (ad 103), .int (nw' 152), .int (nw' 153), .int (nw' 154), .ref (ad 0)] H1) (oq : ∀ q, q ≠ ad 100 → H1[q]? = H[q]?) (hv : ∀ i, i ≠ 152 → i ≠ 153 → i ≠ 154 → nw' i = nw i) : bP D ad ρ σ nw' n H1 := by
  obtain ⟨n0, n1, n2, n3, n4⟩ := hn
  have ne := bk_ne hJ (x0 := 100) (by unfold bk_dom; omega) (by unfold bk_box; omega) oq
  obtain ⟨h1, h2, h3, h4, h6⟩ := hP
  exact ⟨h1.kept (fun x hx => ne x (by unfold bk_dom; omega) (by omega)), h2.kept n0 n1 n2 (fun x hx _ => ne x hx (by omega)), ⟨ho, (h3.2.kept (ne 103 (by unfold bk_dom; omega) (by omega))).same (fun j hj => (hv (144 + j) (by omega) (by omega) (by omega)).symm)⟩, h4.to n4 (fun x hx h _ _ => ne x hx (by omega)) (fun j hj => ⟨hv _ (by omega) (by omega) (by omega), hv _ (by omega) (by omega) (by omega), hv _ (by omega) (by omega) (by omega)⟩), h6.to (fun x hx h _ _ => ne x hx (by omega)) (fun j hj => ⟨hv _ (by omega) (by omega) (by omega), hv _ (by omega) (by omega) (by omega), hv _ (by omega) (by omega) (by omega)⟩)⟩
theorem bP_born (hJ : bk_ok A ad n) (hP : bP D ad ρ σ nw n H) (hn : bk_n n) {x : Int32} (ho : bO D (ad 100) 1 [.ref (ad 101), .ref (ad 102), .ref (ad 103), .int x, .int (nw 153), .int (nw 154), .ref (ad 0)] H1) (oq : ∀ q, q ≠ ad 100 → H1[q]? = H[q]?) : bP D ad ρ σ (upd nw 152 x) n H1 := bP_ins hJ hP hn ho oq (fun i h _ _ => pk_un h)
theorem bP_dead (hJ : bk_ok A ad n) (hP : bP D ad ρ σ nw n H) (hn : bk_n n) {x : Int32} (ho : bO D (ad 100) 1 [.ref (ad 101), .ref (ad 102), .ref (ad 103), .int (nw 152), .int x, .int (nw 154), .ref (ad 0)] H1) (oq : ∀ q, q ≠ ad 100 → H1[q]? = H[q]?) : bP D ad ρ σ (upd nw 153 x) n H1 := bP_ins hJ hP hn ho oq (fun i _ h _ => pk_un h)
theorem bP_hour (hJ : bk_ok A ad n) (hP : bP D ad ρ σ nw n H) (hn : bk_n n) {x : Int32} (ho : bO D (ad 100) 1 [.ref (ad 101), .ref (ad 102), .ref (ad 103), .int (nw 152), .int (nw 153), .int x, .ref (ad 0)] H1) (oq : ∀ q, q ≠ ad 100 → H1[q]? = H[q]?) : bP D ad ρ σ (upd nw 154 x) n H1 := bP_ins hJ hP hn ho oq (fun i _ _ h => pk_un h)
theorem bP_harm (hJ : bk_ok A ad n) (hP : bP D ad ρ σ nw n H) (hn : bk_n n) (j : Nat) (hj : j < 8) {x : Int32} (ho : bI D (ad 103) 8 (upd (fun j => nw (144 + j)) j x) H1) (oq : ∀ q, q ≠ ad 103 → H1[q]? = H[q]?) : bP D ad ρ σ (upd nw (144 + j) x) n H1 := by
  obtain ⟨n0, n1, n2, n3, n4⟩ := hn
  have ne := bk_ne hJ (x0 := 103) (by unfold bk_dom; omega) (by unfold bk_box; omega) oq
  obtain ⟨h1, h2, h3, h4, h6⟩ := hP
  have hv : ∀ i, i ≠ 144 + j → upd nw (144 + j) x i = nw i := fun i h => pk_un h
  refine ⟨h1.kept (fun x hx => ne x (by unfold bk_dom; omega) (by omega)), h2.kept n0 n1 n2 (fun x hx _ => ne x hx (by omega)), ⟨?_, ho.same (fun i hi => ?_)⟩, h4.to n4 (fun x hx h _ h3 => ne x hx h3) (fun j hj => ⟨hv _ (by omega), hv _ (by omega), hv _ (by omega)⟩), h6.to (fun x hx h _ h3 => ne x hx h3) (fun j hj => ⟨hv _ (by omega), hv _ (by omega), hv _ (by omega)⟩)⟩
  · rw [hv 152 (by omega), hv 153 (by omega), hv 154 (by omega)]
    exact h3.1.kept (ne 100 (by unfold bk_dom; omega) (by omega))
  · by_cases e : i = j
    · subst e
      rw [pk_us, pk_us]
    · rw [pk_un e, pk_un (show 144 + i ≠ 144 + j by omega)]
theorem bP_mark (hJ : bk_ok A ad n) (hP : bP D ad ρ σ nw n H) (hn : bk_n n) {k : Nat} {x : Int32} (ho : bI D (ad 6) 5 (upd (σ 1) k x) H1) (oq : ∀ q, q ≠ ad 6 → H1[q]? = H[q]?) : bP D ad ρ (va_up σ 1 (upd (σ 1) k x)) nw n H1 := by
  obtain ⟨n0, n1, n2, n3, n4⟩ := hn
  have ne := bk_ne hJ (x0 := 6) (by unfold bk_dom; omega) (by unfold bk_box; omega) oq
  obtain ⟨h1, h2, h3, h4, h6⟩ := hP
  exact ⟨⟨h1.1.kept (ne 0 (by unfold bk_dom; omega) (by omega)), h1.2.1.kept (ne 1 (by unfold bk_dom; omega) (by omega)), fun i hi => (h1.2.2.1 i hi).kept (ne (2 + i) (by unfold bk_dom; omega) (by omega)), ho⟩, h2.kept n0 n1 n2 (fun x hx h => ne x hx (by omega)), h3.to (ne 100 (by unfold bk_dom; omega) (by omega)) (ne 103 (by unfold bk_dom; omega) (by omega)) (fun i _ _ => rfl), h4.to n4 (fun x hx h _ _ => ne x hx (by omega)) (fun j hj => ⟨rfl, rfl, rfl⟩), h6.to (fun x hx h _ _ => ne x hx (by omega)) (fun j hj => ⟨rfl, rfl, rfl⟩)⟩
theorem bP_row (hJ : bk_ok A ad n) (hP : bP D ad ρ σ nw n H) (hn : bk_n n) (i j : Nat) (hi : i < 4) (hj : j < 4) {x : Int32} (ho : bI D (ad (2 + i)) 4 (upd (fun j => σ 0 (4 * i + j)) j x) H1) (oq : ∀ q, q ≠ ad (2 + i) → H1[q]? = H[q]?) : bP D ad ρ (va_up σ 0 (upd (σ 0) (4 * i + j) x)) nw n H1 := by
  obtain ⟨n0, n1, n2, n3, n4⟩ := hn
  have ne := bk_ne hJ (x0 := 2 + i) (by unfold bk_dom; omega) (by unfold bk_box; omega) oq
  obtain ⟨h1, h2, h3, h4, h6⟩ := hP
  refine ⟨⟨h1.1.kept (ne 0 (by unfold bk_dom; omega) (by omega)), h1.2.1.kept (ne 1 (by unfold bk_dom; omega) (by omega)), fun i2 hi2 => ?_, h1.2.2.2.kept (ne 6 (by unfold bk_dom; omega) (by omega))⟩, h2.kept n0 n1 n2 (fun x hx h => ne x hx (by omega)), h3.to (ne 100 (by unfold bk_dom; omega) (by omega)) (ne 103 (by unfold bk_dom; omega) (by omega)) (fun i _ _ => rfl), h4.to n4 (fun x hx h _ _ => ne x hx (by omega)) (fun j hj => ⟨rfl, rfl, rfl⟩), h6.to (fun x hx h _ _ => ne x hx (by omega)) (fun j hj => ⟨rfl, rfl, rfl⟩)⟩
  · show bI D (ad (2 + i2)) 4 (fun j2 => upd (σ 0) (4 * i + j) x (4 * i2 + j2)) H1
    by_cases e : i2 = i
    · subst e
      refine ho.same (fun j2 hj2 => ?_)
      by_cases e2 : j2 = j
      · subst e2
        rw [pk_us, pk_us]
      · rw [pk_un e2, pk_un (show 4 * i2 + j2 ≠ 4 * i2 + j by omega)]
    · refine ((h1.2.2.1 i2 hi2).kept (ne (2 + i2) (by unfold bk_dom; omega) (by omega))).same (fun j2 hj2 => ?_)
      rw [pk_un (show 4 * i2 + j2 ≠ 4 * i + j by omega)]
end BK
