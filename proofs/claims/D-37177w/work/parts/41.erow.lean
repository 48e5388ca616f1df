/-! rows of the methods that make cells -/
set_option maxRecDepth 100000
theorem xe_D1 {A : Nat → Prop} {a : Nat} {x : va_E} (h : A a) : va_D A [(a, x)] := ⟨fun i j p q hi hj _ => by
  have h1 := (List.getElem?_eq_some_iff.mp hi).1
  have h2 := (List.getElem?_eq_some_iff.mp hj).1
  simp at h1 h2
  omega, fun k q hk => by
  have h1 := (List.getElem?_eq_some_iff.mp hk).1
  simp at h1
  subst h1
  cases hk
  exact h⟩
section XER
variable {p : Program} {l : Launch} {e : Env} {R : Room} {s : State} {m : MethodId} {args : Array Value} {below : List Frame} {meth : Method} {c : Code} {H : Heap} {locs : List Loc} {cells slots : Nat} {Q : State → Prop}
variable {cc : ByteArray} {pc nL index a : Nat} {ls : Array Slot} {rest : List Value} {D : xk_G} {A : Nat → Prop} {own C : String} {ws : va_W}
/-- a new object: the heap grows by it, all else stays -/
theorem xe_new (S : xk_At p s m args meth c cc nL own) (hK : xk_K D s) (hS : va_S A s.heap H locs) {T : u_T} {N ci : Nat} (hin : ∀ w ∈ u_ws C T N, w ∈ lw_all) (ty : Nat → FieldType) (hty : ∀ k, k < N → parseFieldDescriptor (T k).2.2.1 = some (ty k)) (hcl : (Cond.classLink own index C).before args s = true) (hinst : (Cond.instantiable C N).before args s = true) (hini : (Cond.initialized C).before args s = true)
    (hc : xk_CL[ci]? = some (C, T, N)) {fs : List Value} (hfs : ∀ j, j < N → defaultValue (ty j) = vp_V fs j) (hcells : cells + 1 ≤ R.cells) (hslots : slots + N ≤ R.slots) (hdg : decode cc pc = .ok (.new index, 3))
    (kk : ∀ (q : Nat) (H1 : Heap), q = H.size → bO D q ci fs H1 → H1.size = H.size + 1 → (∀ x : Nat, x < H.size → H1[x]? = H[x]?) → va_S A s.heap H1 locs →
      W p l e R s m args below meth c H1 locs (cells + 1) (slots + N) Q (F0 m (pc + 3) ls (.ref q :: rest))) : W p l e R s m args below meth c H locs cells slots Q (F0 m pc ls rest) := by
  have hKn := hK.1.1 ci _ hc
  refine W.newcK S.1 S.2.1 S.2.2.2.1 hcl hinst hini rfl hdg hcells hslots hKn.2.1 rfl fun H1 kC hkC e1 z1 o1 => ?_
  exact kk H.size H1 rfl ⟨_, hc, (u_born ty S.2.2.2.2 hin hKn hkC e1 hty).to hfs⟩ z1 o1 ⟨Nat.le_trans hS.1 (by omega), fun x h1 h2 => (o1 x (Nat.lt_of_lt_of_le h1 hS.1)).trans (hS.2.1 x h1 h2), hS.2.2⟩
/-- a new Object[] -/
theorem xe_newQ (S : xk_At p s m args meth c cc nL own) (hK : xk_K D s) (hS : va_S A s.heap H locs) (hclink : (Cond.classLink own index "java/lang/Object").before args s = true)
    {N : Nat} (hN : N < 100) (hcells : cells + 1 ≤ R.cells) (hslots : slots + N ≤ R.slots) (hdg : decode cc pc = .ok (.anewarray index, 3))
    (kk : ∀ (q : Nat) (H1 : Heap), q = H.size → bQ D q 1 N (fun _ => none) H1 → H1.size = H.size + 1 → (∀ x : Nat, x < H.size → H1[x]? = H[x]?) → va_S A s.heap H1 locs →
      W p l e R s m args below meth c H1 locs (cells + 1) (slots + N) Q (F0 m (pc + 3) ls (.ref q :: rest))) : W p l e R s m args below meth c H locs cells slots Q (F0 m pc ls (.int (nI N) :: rest)) := by
  have hcl : (nI N).toNatClampNeg = N := nI_clamp (by omega)
  refine W.anew S.1 S.2.1 S.2.2.2.1 hclink (va_AO.use hK.2.2.2.2.2) rfl hdg rfl (nI_pos (by omega)) (by rw [hcl]; omega) hcells (by rw [hcl]; exact hslots) fun cA kA comp f1 f2 f3 f4 => ?_
  rw [hcl]
  have h2 := (hK.1.2 1 (D.2 1, .object "java/lang/Object") rfl).2
  obtain ⟨-, -, -, -, -, h2⟩ := h2
  have e : cA = D.2 1 := Option.some.inj (f1.symm.trans h2)
  subst e
  generalize hH1 : H.push ({ cls := D.2 1, slots := Array.replicate N .null, vm := .none } : Cell) = H1
  have z1 : H1.size = H.size + 1 := by rw [← hH1, Array.size_push]
  have e1 : H1[H.size]? = some (arrV (D.2 1) N (fun _ => .null)) := by rw [← hH1, Array.getElem?_push_size, ← arrV_new]
  have o1 : ∀ q : Nat, q < H.size → H1[q]? = H[q]? := fun q hq => by rw [← hH1, Array.getElem?_push, if_neg (Nat.ne_of_lt hq)]
  refine kk H.size H1 rfl ?_ z1 o1 ⟨Nat.le_trans hS.1 (by omega), fun x h1 h2 => (o1 x (Nat.lt_of_lt_of_le h1 hS.1)).trans (hS.2.1 x h1 h2), hS.2.2⟩
  show H1[H.size]? = some (vp_cell _ _)
  rw [vp_cell_q]
  exact e1
/-- an array's length -/
theorem xe_alen (S : xk_At p s m args meth c cc nL own) (hK : xk_K D s) {N : Nat} {f : Nat → Option Nat} (ho : bQ D a 1 N f H) (hdg : decode cc pc = .ok (.arraylength, 1))
    (kk : W p l e R s m args below meth c H locs cells slots Q (F0 m (pc + 1) ls (.int (nI N) :: rest))) : W p l e R s m args below meth c H locs cells slots Q (F0 m pc ls (.ref a :: rest)) :=
  va_alen S.1 S.2.1 hK.1 (bP1 ho) 0 1 rfl rfl rfl hdg kk
/-- v is an object of a class of ours -/
def xe_El (D : xk_G) (ci v : Nat) (H : Heap) : Prop := ∃ cell : Cell, H[v]? = some cell ∧ cell.vm.isStatics = false ∧ cell.cls = D.1.1 ci
theorem xe_El.kept {ci v : Nat} {H H1 : Heap} (h : xe_El D ci v H) (e : H1[v]? = H[v]?) : xe_El D ci v H1 := by
  obtain ⟨cell, h1, h2⟩ := h
  exact ⟨cell, by rw [e]; exact h1, h2⟩
theorem xe_El.lt {ci v : Nat} {H : Heap} (h : xe_El D ci v H) : v < H.size := by
  obtain ⟨cell, h1, h2⟩ := h
  exact (Array.getElem?_eq_some_iff.mp h1).1
theorem xe_El.any {ci v : Nat} {T : u_T} {N : Nat} {H : Heap} (hK : xk_K D s) (hc : xk_CL[ci]? = some (C, T, N)) (hw : Cond.castable C "java/lang/Object" ∈ lw_tbl) (h : xe_El D ci v H) : va_Any "java/lang/Object" s H v := by
  obtain ⟨cell, h1, h2, h3⟩ := h
  obtain ⟨hSl, hfc, kC, hkC, hkind⟩ := hK.1.1 ci _ hc
  obtain ⟨c0, t1, f1, f2, f3⟩ := Cond.castable_spec (va_Nw.use (A := #[]) rfl (xk_nw hK hw rfl))
  refine ⟨cell, h1, h2, ⟨kC, by rw [h3]; exact hkC⟩, fun comp hcomp => ?_⟩
  cases f2.symm.trans hcomp
  cases f1.symm.trans hfc
  rw [h3]
  exact f3
/-- a cell into an Object[] -/
theorem xe_astQ (S : xk_At p s m args meth c cc nL own) (hK : xk_K D s) (hS : va_S A s.heap H locs) {N v : Nat} {f : Nat → Option Nat} (ho : bQ D a 1 N f H) (hAa : A a) (hv : va_Any "java/lang/Object" s H v) (k : Nat) (hk : k < N) (hN : N < 2147483648) (hdg : decode cc pc = .ok (.aastore, 1))
    (kk : ∀ (H1 : Heap) (locs1 : List Loc), bQ D a 1 N (va_up f k (some v)) H1 → (∀ q, q ≠ a → H1[q]? = H[q]?) → H1.size = H.size → va_S A s.heap H1 locs1 → W p l e R s m args below meth c H1 locs1 cells slots Q (F0 m (pc + 1) ls rest)) : W p l e R s m args below meth c H locs cells slots Q (F0 m pc ls (.ref v :: .int (nI k) :: .ref a :: rest)) := by
  have hcl : (nI k).toNatClampNeg = k := nI_clamp (by omega)
  obtain ⟨cellV, g1, g3, ⟨kC, hkC⟩, hasg⟩ := hv
  obtain ⟨kA, comp, k1, k2, k3, -⟩ := (hK.1.2 1 (D.2 1, .object "java/lang/Object") rfl).2
  obtain ⟨kE, hkE, -⟩ := Vm.findClass_spec k3
  have ho' : H[a]? = some (vp_cell (D.2 1) (N, .inr (.inr (.inr (.inr f))))) := ho
  refine W.aast S.1 S.2.1 ho' (fun q h => by cases h) (fun h => by cases h) k1 k2 rfl hkE ⟨nI_pos (by omega), by show _ < (arrV _ _ _).slots.size; rw [arrV_size, hcl]; exact hk⟩ g1 (fun q h => by rw [h] at g3; cases g3) hkC (hasg _ k3) rfl rfl hdg fun H1 e z oq => ?_
  refine kk H1 _ ?_ oq z (hS.put z oq hAa)
  show H1[a]? = some (vp_cell _ _)
  rw [e, hcl]
  rw [vp_cell_q, vp_cell_q, arrV_store]
  congr 2
  funext q
  by_cases hq : q = k
  · subst hq
    simp [updV, va_up, va_rf]
  · simp [updV, va_up, hq]
theorem xe_P2 {x y : Nat × va_E} {H : Heap} (h1 : va_at D.1 xk_CL x H) (h2 : va_at D.1 xk_CL y H) : va_P D.1 xk_CL [x, y] H := by
  intro k z hk
  match k, hk with
  | 0, hk => cases hk; exact h1
  | 1, hk => cases hk; exact h2
  | k + 2, hk => exact absurd (List.getElem?_eq_some_iff.mp hk).1 (by simp)
theorem xe_D2 {x y : Nat × va_E} (h1 : A x.1) (h2 : A y.1) (hne : x.1 ≠ y.1) : va_D A [x, y] := by
  refine ⟨fun i j p q hi hj => ?_, fun k q hk => ?_⟩
  · match i, j, hi, hj with
    | 0, 0, _, _ => exact fun _ => rfl
    | 1, 1, _, _ => exact fun _ => rfl
    | 0, 1, hi, hj => cases hi; cases hj; exact fun z => absurd z hne
    | 1, 0, hi, hj => cases hi; cases hj; exact fun z => absurd z.symm hne
    | i + 2, _, hi, _ => exact absurd (List.getElem?_eq_some_iff.mp hi).1 (by simp)
    | _, j + 2, _, hj => exact absurd (List.getElem?_eq_some_iff.mp hj).1 (by simp)
  · match k, hk with
    | 0, hk => cases hk; exact h1
    | 1, hk => cases hk; exact h2
    | k + 2, hk => exact absurd (List.getElem?_eq_some_iff.mp hk).1 (by simp)
theorem bX_of {v : Int32} {H : Heap} (h : bO D a 6 [.int v] H) : bX D a v H := by
  obtain ⟨r, h1, cell, q1, q2, q3, q4⟩ := h
  have hr : r = (RJ9, TJ9, 1) := Option.some.inj (h1.symm.trans rfl)
  subst hr
  exact ⟨cell, q1, q2, by rw [q3]; decide, by rw [q3]; rfl, q4 0 (by decide)⟩
theorem xe_cN {z : Int32} (h1 : ¬ (z < (-128))) (h2 : ¬ (127 < z)) : ∃ k : Nat, k < 256 ∧ z + 128 = nI k ∧ vb_c k = z := by
  have h3 := Int32.le_iff_toInt_le.mp (Int32.not_lt.mp h1)
  have h4 := Int32.le_iff_toInt_le.mp (Int32.not_lt.mp h2)
  have e1 : (-128 : Int32).toInt = -128 := by decide
  have e2 : (127 : Int32).toInt = 127 := by decide
  have e3 : (128 : Int32).toInt = 128 := by decide
  rw [e1] at h3
  rw [e2] at h4
  have e4 : (z + 128).toInt = z.toInt + 128 := by
    rw [Int32.toInt_add, e3]
    exact Int.bmod_eq_of_le (by omega) (by omega)
  obtain ⟨k, hk, e⟩ := nI_of2 (x := z + 128) (M := 255) (n := 255) (by decide) (fun q => by
    have q1 := Int32.lt_iff_toInt_lt.mp q
    rw [e4] at q1
    have e5 : (0 : Int32).toInt = 0 := by decide
    omega) (Int32.le_iff_toInt_le.mpr (by rw [e4]; have e6 : (255 : Int32).toInt = 255 := (by decide); omega))
  refine ⟨k, by omega, e, ?_⟩
  show nI k - 128 = z
  rw [← e]
  exact Int32.add_sub_cancel z 128
theorem xe_bxC {b : Nat → Nat} {k : Nat} (hK : xk_K D s) (hC : vb_C b A s s.heap) (hS : va_S A s.heap H locs) (hk : k < 256) : bX D (b k) (vb_c k) H := by
  obtain ⟨cell, h1, h2, h3, h4⟩ := hC.1 k hk
  obtain ⟨cf, kf, i, f, cell2, g1, g2, g3, g4, g5, g6⟩ := hC.2 k hk
  obtain ⟨hSl, hfc, kC, hkC, hkind⟩ := hK.1.1 6 (RJ9, TJ9, 1) rfl
  obtain ⟨cf2, kf2, i2, f2, hi, hsl⟩ := hSl 0 (by decide)
  cases h1.symm.trans g3
  cases g1.symm.trans hi
  refine ⟨cell, ?_, Option.some.inj (h3.symm.trans hfc), g4, h2, ?_⟩
  · rw [hS.2.1 _ (Array.getElem?_eq_some_iff.mp h1).1 h4]
    exact h1
  · rw [← hsl]
    exact g5
end XER
