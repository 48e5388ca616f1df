/-! an array's content beyond its length is nothing; now and aside change places -/
theorem arrV_same {c : ClassId} {N : Nat} {f g : Nat → Value} (h : ∀ j, j < N → f j = g j) : arrV c N f = arrV c N g := by
  unfold arrV
  congr 1
  exact congrArg Array.ofFn (funext fun j => h j.val j.isLt)
theorem mk_nowx {D : xk_G} {ad : Nat → Nat} {σ : Nat → Nat → Int32} {f g az ir : Nat → Int32} {n : Nat → Nat} {th : Int32} {H : Heap} (h : ∀ j, j < 155 → f j = g j) (hP : mP D ad σ f az ir n th H) : mP D ad σ g az ir n th H := by
  intro k q hk
  by_cases h12 : k = 12
  · subst h12
    have e : q = (ad 12, .inl (D.2 0, 155, .inl g)) := (Option.some.inj hk).symm
    subst e
    have h0 : H[ad 12]? = some (vp_cell (D.2 0) (155, .inl f)) := hP 12 _ rfl
    show H[ad 12]? = some (vp_cell (D.2 0) (155, .inl g))
    rw [h0, vp_cell_i, vp_cell_i, arrV_same (fun j hj => by rw [h j hj])]
  · refine hP k q ?_
    rw [← hk]
    match k, h12 with
    | 0, _ => rfl
    | 1, _ => rfl
    | 2, _ => rfl
    | 3, _ => rfl
    | 4, _ => rfl
    | 5, _ => rfl
    | 6, _ => rfl
    | 7, _ => rfl
    | 8, _ => rfl
    | 9, _ => rfl
    | 10, _ => rfl
    | 11, _ => rfl
    | 12, h => exact absurd rfl h
    | 13, _ => rfl
    | 14, _ => rfl
    | k + 15, _ => rfl
theorem mk_cpR_at (f nw : Nat → Int32) : ∀ k j, j < k → mk_cpR f nw k j = nw j := by
  intro k
  induction k with
  | zero => intro j h; exact absurd h (Nat.not_lt_zero _)
  | succ k ih =>
    intro j h
    show upd (mk_cpR f nw k) k (nw k) j = nw j
    by_cases e : j = k
    · rw [e]; exact pk_us
    · rw [pk_un e]
      exact ih j (by omega)
def mk_swap (ad : Nat → Nat) : Nat → Nat := va_up (va_up ad 12 (ad 13)) 13 (ad 12)
theorem mk_swap_in (ad : Nat → Nat) (i : Nat) (h : i < 15) : ∃ j, j < 15 ∧ mk_swap ad i = ad j ∧ (i = 12 → j = 13) ∧ (i = 13 → j = 12) ∧ (i ≠ 12 → i ≠ 13 → j = i) := by
  by_cases h13 : i = 13
  · exact ⟨12, by omega, by rw [h13]; rfl, by omega, fun _ => rfl, by omega⟩
  · by_cases h12 : i = 12
    · exact ⟨13, by omega, by rw [h12]; rfl, fun _ => rfl, by omega, by omega⟩
    · refine ⟨i, h, ?_, by omega, by omega, fun _ _ => rfl⟩
      unfold mk_swap
      rw [va_up_ne _ _ h13, va_up_ne _ _ h12]
theorem mk_swap_inj {ad : Nat → Nat} (h : ∀ i j, i < 15 → j < 15 → ad i = ad j → i = j) : ∀ i j, i < 15 → j < 15 → mk_swap ad i = mk_swap ad j → i = j := by
  intro i j hi hj e
  obtain ⟨a, ha, ea, a1, a2, a3⟩ := mk_swap_in ad i hi
  obtain ⟨b, hb, eb, b1, b2, b3⟩ := mk_swap_in ad j hj
  have hab := h a b ha hb (by rw [← ea, ← eb]; exact e)
  omega
/-! the model new -/
def mk_dgR : Nat → Nat → Int32
  | 0 => fun _ => 0
  | k + 1 => upd (mk_dgR k) (5 * k) 3
def mk_z2 : Nat → Nat → Int32 := fun _ _ => 0
def mk_mk0 : Nat → Int32 := upd (upd (upd (upd (fun _ => 0) 0 6) 1 9) 3 20) 4 12
def mk_s0 : Nat → Nat → Int32 := va_up (va_up mk_z2 0 (mk_dgR 4)) 1 mk_mk0
theorem mk_z20 : mk_z2 = va_up mk_z2 0 (mk_dgR 0) := by
  funext i
  unfold va_up mk_z2
  split <;> rfl
theorem xk_clsI {D : xk_G} {s : State} {cA : ClassId} (hK : xk_K D s) (h : va_K D.1 xk_CL (xk_TY D.2 ++ [(cA, .int)]) s) : cA = D.2 0 := by
  have h1 := va_nm_int (h.2 5 (cA, .int) rfl).2
  have h2 := va_nm_int (hK.1.2 0 (D.2 0, .int) rfl).2
  exact Option.some.inj (h1.symm.trans h2)
theorem xk_clsZ {D : xk_G} {s : State} {cA : ClassId} (hK : xk_K D s) (h : va_K D.1 xk_CL (xk_TY D.2 ++ [(cA, .boolean)]) s) : cA = D.2 4 := by
  have h1 := va_nm_boolean (h.2 5 (cA, .boolean) rfl).2
  have h2 := va_nm_boolean (hK.1.2 4 (D.2 4, .boolean) rfl).2
  exact Option.some.inj (h1.symm.trans h2)
section MKN
variable {p : Program} {l : Launch} {e : Env} {R : Room} {s : State} {m : MethodId} {args : Array Value} {below : List Frame} {meth : Method} {c : Code} {H : Heap} {locs : List Loc} {cells slots : Nat} {Q : State → Prop}
variable {cc : ByteArray} {pc : Nat} {ls : Array Slot} {rest : List Value} {D : xk_G} {A : Nat → Prop} {ws : va_W}
theorem xk_newI (hx : p.tables.exec = Jvm.exec) (hb : c.code = cc) (harr : (Cond.arrayClass .int).before args s = true) (hK : xk_K D s) (hP : va_P D.1 xk_CL ws H) (hD : va_D A ws) (hS : va_S A s.heap H locs) (hA : ∀ q, s.heap.size ≤ q → A q) {n : Int32} {N : Nat} (hn : ¬ n < 0) (hN : n.toNatClampNeg = N) (hbytes : N * 4 ≤ 536870912) (hcells : cells + 1 ≤ R.cells) (hslots : slots + N ≤ R.slots) (hdg : decode cc pc = .ok (.newarray .int, 2))
    (kk : ∀ (q : Nat) (H : Heap), va_P D.1 xk_CL (ws ++ [(q, .inl (D.2 0, N, .inl (fun _ => 0)))]) H → va_D A (ws ++ [(q, .inl (D.2 0, N, .inl (fun _ => 0)))]) → va_S A s.heap H locs → W p l e R s m args below meth c H locs (cells + 1) (slots + N) Q (F0 m (pc + 2) ls (.ref q :: rest))) : W p l e R s m args below meth c H locs cells slots Q (F0 m pc ls (.int n :: rest)) :=
  va_newa (atype := .int) (ty := .int) (a0 := (N, .inl (fun _ => 0))) hx hb harr rfl hK.1 hP hD hS hA (fun cA => rfl) hn hN hbytes hcells hslots hdg (fun q cA H1 hK1 hP1 hD1 hS1 => by
    obtain rfl := xk_clsI hK hK1
    exact kk q H1 hP1 hD1 hS1)
theorem xk_newZ (hx : p.tables.exec = Jvm.exec) (hb : c.code = cc) (harr : (Cond.arrayClass .boolean).before args s = true) (hK : xk_K D s) (hP : va_P D.1 xk_CL ws H) (hD : va_D A ws) (hS : va_S A s.heap H locs) (hA : ∀ q, s.heap.size ≤ q → A q) {n : Int32} {N : Nat} (hn : ¬ n < 0) (hN : n.toNatClampNeg = N) (hbytes : N * 1 ≤ 536870912) (hcells : cells + 1 ≤ R.cells) (hslots : slots + N ≤ R.slots) (hdg : decode cc pc = .ok (.newarray .boolean, 2))
    (kk : ∀ (q : Nat) (H : Heap), va_P D.1 xk_CL (ws ++ [(q, .inl (D.2 4, N, .inl (fun _ => 0)))]) H → va_D A (ws ++ [(q, .inl (D.2 4, N, .inl (fun _ => 0)))]) → va_S A s.heap H locs → W p l e R s m args below meth c H locs (cells + 1) (slots + N) Q (F0 m (pc + 2) ls (.ref q :: rest))) : W p l e R s m args below meth c H locs cells slots Q (F0 m pc ls (.int n :: rest)) :=
  va_newa (atype := .boolean) (ty := .boolean) (a0 := (N, .inl (fun _ => 0))) hx hb harr rfl hK.1 hP hD hS hA (fun cA => rfl) hn hN hbytes hcells hslots hdg (fun q cA H1 hK1 hP1 hD1 hS1 => by
    obtain rfl := xk_clsZ hK hK1
    exact kk q H1 hP1 hD1 hS1)
end MKN
/-- a list of fifteen cells is the model's world -/
theorem mk_world {A : Nat → Prop} {D : xk_G} {H : Heap} {o q1 q2 q3 q4 q5 q6 q7 q8 q9 q10 q11 q12 q13 q14 : Nat} (hP : va_P D.1 xk_CL [(o, .inr (2, [.ref q1, .ref q2, .int 0, .ref q3, .int 0, .ref q4, .ref q5, .int 0, .ref q6, .int 0, .ref q7, .ref q8, .ref q9, .int 0, .ref q10, .ref q11, .ref q12, .ref q13, .int 0, .ref q14])), (q1, .inl (D.2 0, 16, .inl (fun _ => 0))), (q2, .inl (D.2 0, 5, .inl (fun _ => 0))), (q3, .inl (D.2 0, 8, .inl (fun _ => 0))), (q4, .inl (D.2 0, 4, .inl (fun _ => 0))), (q5, .inl (D.2 0, 4, .inl (fun _ => 0))), (q6, .inl (D.2 0, 4, .inl (fun _ => 0))), (q7, .inl (D.2 0, 40, .inl (fun _ => 0))), (q8, .inl (D.2 0, 40, .inl (fun _ => 0))), (q9, .inl (D.2 0, 40, .inl (fun _ => 0))), (q10, .inl (D.2 0, 8, .inl (fun _ => 0))), (q11, .inl (D.2 0, 8, .inl (fun _ => 0))), (q12, .inl (D.2 0, 155, .inl (fun _ => 0))), (q13, .inl (D.2 0, 155, .inl (fun _ => 0))), (q14, .inl (D.2 4, 256, .inl (fun _ => 0)))] H)
    (hD : va_D A [(o, .inr (2, [.ref q1, .ref q2, .int 0, .ref q3, .int 0, .ref q4, .ref q5, .int 0, .ref q6, .int 0, .ref q7, .ref q8, .ref q9, .int 0, .ref q10, .ref q11, .ref q12, .ref q13, .int 0, .ref q14])), (q1, .inl (D.2 0, 16, .inl (fun _ => 0))), (q2, .inl (D.2 0, 5, .inl (fun _ => 0))), (q3, .inl (D.2 0, 8, .inl (fun _ => 0))), (q4, .inl (D.2 0, 4, .inl (fun _ => 0))), (q5, .inl (D.2 0, 4, .inl (fun _ => 0))), (q6, .inl (D.2 0, 4, .inl (fun _ => 0))), (q7, .inl (D.2 0, 40, .inl (fun _ => 0))), (q8, .inl (D.2 0, 40, .inl (fun _ => 0))), (q9, .inl (D.2 0, 40, .inl (fun _ => 0))), (q10, .inl (D.2 0, 8, .inl (fun _ => 0))), (q11, .inl (D.2 0, 8, .inl (fun _ => 0))), (q12, .inl (D.2 0, 155, .inl (fun _ => 0))), (q13, .inl (D.2 0, 155, .inl (fun _ => 0))), (q14, .inl (D.2 4, 256, .inl (fun _ => 0)))]) :
    ∃ ad : Nat → Nat, ad 0 = o ∧ mk_ok A ad ∧ mP D ad mk_z2 (fun _ => 0) (fun _ => 0) (fun _ => 0) (fun _ => 0) 0 H := by
  refine ⟨fun i => ([o, q1, q2, q3, q4, q5, q6, q7, q8, q9, q10, q11, q12, q13, q14] : List Nat).getD i 0, rfl, ?_, hP⟩
  generalize hws : ([(o, .inr (2, [.ref q1, .ref q2, .int 0, .ref q3, .int 0, .ref q4, .ref q5, .int 0, .ref q6, .int 0, .ref q7, .ref q8, .ref q9, .int 0, .ref q10, .ref q11, .ref q12, .ref q13, .int 0, .ref q14])), (q1, .inl (D.2 0, 16, .inl (fun _ => 0))), (q2, .inl (D.2 0, 5, .inl (fun _ => 0))), (q3, .inl (D.2 0, 8, .inl (fun _ => 0))), (q4, .inl (D.2 0, 4, .inl (fun _ => 0))), (q5, .inl (D.2 0, 4, .inl (fun _ => 0))), (q6, .inl (D.2 0, 4, .inl (fun _ => 0))), (q7, .inl (D.2 0, 40, .inl (fun _ => 0))), (q8, .inl (D.2 0, 40, .inl (fun _ => 0))), (q9, .inl (D.2 0, 40, .inl (fun _ => 0))), (q10, .inl (D.2 0, 8, .inl (fun _ => 0))), (q11, .inl (D.2 0, 8, .inl (fun _ => 0))), (q12, .inl (D.2 0, 155, .inl (fun _ => 0))), (q13, .inl (D.2 0, 155, .inl (fun _ => 0))), (q14, .inl (D.2 4, 256, .inl (fun _ => 0)))] : va_W) = ws at hD
  have key : ∀ i, i < 15 → ∃ q : Nat × va_E, ws[i]? = some q ∧ q.1 = ([o, q1, q2, q3, q4, q5, q6, q7, q8, q9, q10, q11, q12, q13, q14] : List Nat).getD i 0 := by
    intro i hi
    have hm : ws.map (·.1) = [o, q1, q2, q3, q4, q5, q6, q7, q8, q9, q10, q11, q12, q13, q14] := by rw [← hws]; rfl
    have hl : i < ws.length := by rw [← hws]; exact hi
    refine ⟨ws[i], List.getElem?_eq_getElem hl, ?_⟩
    rw [← hm]
    simp [List.getD, hl]
  refine ⟨fun i j hi hj e => ?_, fun i hi => ?_⟩
  · obtain ⟨a, h1, e1⟩ := key i hi
    obtain ⟨b, h2, e2⟩ := key j hj
    exact hD.1 i j a b h1 h2 (e1.trans (e.trans e2.symm))
  · obtain ⟨a, h1, e1⟩ := key i hi
    have h3 := hD.2 i a h1
    rw [e1] at h3
    exact h3
