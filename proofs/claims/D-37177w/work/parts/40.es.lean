/-! WHAT THE METHODS THAT MAKE CELLS, READ STATICS OR THROW CARRY BESIDE: the statics (xk_ES), and their contracts (xe_..) -/
set_option maxRecDepth 100000
def xk_FM : Nat → Int32 | 0 => 6 | 1 => 9 | 2 => 0 | 3 => 20 | _ => 12
def xk_LM : Nat → Int32 | 4 => 1 | _ => 0
def xk_MM : Nat → Int32 | 3 => 9999 | 4 => 99 | _ => 36
def xk_SA (n : String) (f : Nat → Int32) (A : Nat → Prop) (U : State) (H : Heap) : Prop := ∃ t : Nat, va_Z RX1 n "[I" (.ref t) A U H ∧ va_T .int t 5 (fun j => .int (f j)) A U H
theorem xk_SA.moved {n : String} {f : Nat → Int32} {A : Nat → Prop} {u U : State} {H : Heap} (hvm : u.vm.Alike U.vm) (h : xk_SA n f A u H) : xk_SA n f A U H := h.imp fun _ h => ⟨va_Z.moved hvm h.1, va_T.moved hvm h.2⟩
theorem xk_SA.kept {n : String} {f : Nat → Int32} {A : Nat → Prop} {U : State} {H H1 : Heap} (h : xk_SA n f A U H) (hq : ∀ a : Nat, a < H.size → ¬ A a → H1[a]? = H[a]?) : xk_SA n f A U H1 := h.imp fun _ h => ⟨h.1.kept hq, h.2.kept hq⟩
theorem xk_SA.narrow {n : String} {f : Nat → Int32} {A B : Nat → Prop} {U : State} {H : Heap} (h : xk_SA n f A U H) (hAB : ∀ q, B q → A q) : xk_SA n f B U H := h.imp fun _ h => ⟨h.1.narrow hAB, h.2.narrow hAB⟩
abbrev RIC : String := "java/lang/Integer$IntegerCache"
def xk_IC (A : Nat → Prop) (U : State) (H : Heap) : Prop := va_Z RIC "high" "I" (.int 127) A U H ∧ ∃ (t : Nat) (b : Nat → Nat), va_Z RIC "cache" "[Ljava/lang/Integer;" (.ref t) A U H ∧ va_T (.object RJ9) t 256 (fun j => .ref (b j)) A U H ∧ vb_C b A U H
theorem xk_IC.moved {A : Nat → Prop} {u U : State} {H : Heap} (hvm : u.vm.Alike U.vm) (h : xk_IC A u H) : xk_IC A U H := ⟨va_Z.moved hvm h.1, h.2.imp fun _ h => h.imp fun _ h => ⟨va_Z.moved hvm h.1, va_T.moved hvm h.2.1, vb_C.moved hvm h.2.2⟩⟩
theorem xk_IC.kept {A : Nat → Prop} {U : State} {H H1 : Heap} (h : xk_IC A U H) (hq : ∀ a : Nat, a < H.size → ¬ A a → H1[a]? = H[a]?) : xk_IC A U H1 := ⟨h.1.kept hq, h.2.imp fun _ h => h.imp fun _ h => ⟨h.1.kept hq, h.2.1.kept hq, h.2.2.kept hq⟩⟩
theorem xk_IC.narrow {A B : Nat → Prop} {U : State} {H : Heap} (h : xk_IC A U H) (hAB : ∀ q, B q → A q) : xk_IC B U H := ⟨h.1.narrow hAB, h.2.imp fun _ h => h.imp fun _ h => ⟨h.1.narrow hAB, h.2.1.narrow hAB, h.2.2.narrow hAB⟩⟩
/-- ArrayList's shared empty array -/
def xk_EA (D : xk_G) (A : Nat → Prop) (U : State) (H : Heap) : Prop := va_Z RJ2 "DEFAULTCAPACITY_EMPTY_ELEMENTDATA" "[Ljava/lang/Object;" (.ref (D.2 100)) A U H ∧ va_T (.object "java/lang/Object") (D.2 100) 0 (fun _ => .null) A U H
theorem xk_EA.moved {D : xk_G} {A : Nat → Prop} {u U : State} {H : Heap} (hvm : u.vm.Alike U.vm) (h : xk_EA D A u H) : xk_EA D A U H := ⟨va_Z.moved hvm h.1, va_T.moved hvm h.2⟩
theorem xk_EA.kept {D : xk_G} {A : Nat → Prop} {U : State} {H H1 : Heap} (h : xk_EA D A U H) (hq : ∀ a : Nat, a < H.size → ¬ A a → H1[a]? = H[a]?) : xk_EA D A U H1 := ⟨h.1.kept hq, h.2.kept hq⟩
theorem xk_EA.narrow {D : xk_G} {A B : Nat → Prop} {U : State} {H : Heap} (h : xk_EA D A U H) (hAB : ∀ q, B q → A q) : xk_EA D B U H := ⟨h.1.narrow hAB, h.2.narrow hAB⟩
/-- the two statics that a new exception reads -/
def xk_TH (A : Nat → Prop) (U : State) (H : Heap) : Prop := vx_Zq Bundle.tN "UNASSIGNED_STACK" Bundle.steD A U H ∧ vx_Zq Bundle.tN "SUPPRESSED_SENTINEL" Bundle.listD A U H
theorem xk_TH.moved {A : Nat → Prop} {u U : State} {H : Heap} (hvm : u.vm.Alike U.vm) (h : xk_TH A u H) : xk_TH A U H := ⟨vx_Zq.moved hvm h.1, vx_Zq.moved hvm h.2⟩
theorem xk_TH.kept {A : Nat → Prop} {U : State} {H H1 : Heap} (h : xk_TH A U H) (hq : ∀ a : Nat, a < H.size → ¬ A a → H1[a]? = H[a]?) : xk_TH A U H1 := ⟨h.1.kept hq, h.2.kept hq⟩
theorem xk_TH.narrow {A B : Nat → Prop} {U : State} {H : Heap} (h : xk_TH A U H) (hAB : ∀ q, B q → A q) : xk_TH B U H := ⟨h.1.narrow hAB, h.2.narrow hAB⟩
/-- what the tables say beside: Object[]'s class object, getClass -/
def xk_MI (D : xk_G) (U : State) : Prop := va_Mi "[Ljava/lang/Object;" (D.2 102) U ∧ va_Dc U
theorem xk_MI.moved {D : xk_G} {u U : State} (hvm : u.vm.Alike U.vm) (h : xk_MI D u) : xk_MI D U := ⟨va_Mi.moved hvm h.1, va_Dc.moved hvm h.2⟩
def xk_ES (D : xk_G) (A : Nat → Prop) (U : State) (H : Heap) : Prop := xk_SA "FIRST_MARKS" xk_FM A U H ∧ xk_SA "LEAST_MARKS" xk_LM A U H ∧ xk_SA "MOST_MARKS" xk_MM A U H ∧ xk_IC A U H ∧ xk_EA D A U H ∧ xk_TH A U H ∧ xk_MI D U
theorem xk_ES.moved {D : xk_G} {A : Nat → Prop} {u U : State} {H : Heap} (hvm : u.vm.Alike U.vm) (h : xk_ES D A u H) : xk_ES D A U H := ⟨h.1.moved hvm, h.2.1.moved hvm, h.2.2.1.moved hvm, h.2.2.2.1.moved hvm, h.2.2.2.2.1.moved hvm, h.2.2.2.2.2.1.moved hvm, h.2.2.2.2.2.2.moved hvm⟩
theorem xk_ES.kept {D : xk_G} {A : Nat → Prop} {U : State} {H H1 : Heap} (h : xk_ES D A U H) (hq : ∀ a : Nat, a < H.size → ¬ A a → H1[a]? = H[a]?) : xk_ES D A U H1 := ⟨h.1.kept hq, h.2.1.kept hq, h.2.2.1.kept hq, h.2.2.2.1.kept hq, h.2.2.2.2.1.kept hq, h.2.2.2.2.2.1.kept hq, h.2.2.2.2.2.2⟩
theorem xk_ES.narrow {D : xk_G} {A B : Nat → Prop} {U : State} {H : Heap} (h : xk_ES D A U H) (hAB : ∀ q, B q → A q) : xk_ES D B U H := ⟨h.1.narrow hAB, h.2.1.narrow hAB, h.2.2.1.narrow hAB, h.2.2.2.1.narrow hAB, h.2.2.2.2.1.narrow hAB, h.2.2.2.2.2.1.narrow hAB, h.2.2.2.2.2.2⟩
/-- seen later on the same walk, by a callee that may touch less -/
theorem xk_ES.at {D : xk_G} {A B : Nat → Prop} {U : State} {H H1 : Heap} {locs : List Loc} (h : xk_ES D A U H) (hS : va_S A H H1 locs) (hAB : ∀ q, B q → A q) : xk_ES D B U H1 := (h.kept (fun a h1 h2 => hS.2.1 a h1 h2)).narrow hAB
abbrev xe_Pre (D : xk_G) (A : Nat → Prop) (P : Heap → Prop) (av : List Value) : Array Value → State → Prop := va_Pc av (fun U => (∀ q, U.heap.size ≤ q → A q) ∧ P U.heap ∧ xk_K D U ∧ xk_ES D A U U.heap)
theorem xe_blind {D : xk_G} {A : Nat → Prop} {P : Heap → Prop} {av : List Value} : FrameBlind (xe_Pre D A P av) := fun a U g mk q => by
  obtain ⟨q0, q1, qP, qK, qE⟩ := q
  exact ⟨q0, q1, qP, xk_K.same (u := U) (U := U.calling g mk a) rfl qK, xk_ES.moved (u := U) (U := U.calling g mk a) (Vm.Alike.refl _) qE⟩
section XEP
variable {s : State} {H : Heap} {D : xk_G} {A : Nat → Prop} {P : Heap → Prop} {C : String} {b : Nat} {As : List Value}
theorem xe_preV (hK : xk_K D s) (hE : xk_ES D A s H) (hP : P H) (hA : ∀ q, H.size ≤ q → A q) (hr : ∃ cell : Cell, H[b]? = some cell ∧ cell.vm.isStatics = false ∧ s.vm.findClass C = some cell.cls) : PreV s H C b (xe_Pre D A P (.ref b :: As)) As :=
  ⟨xe_blind, hr, fun U hU hW => ⟨rfl, by rw [hU]; exact hA, by rw [hU]; exact hP, xk_K.warm hW hK, by rw [hU]; exact hE.moved hW.alike⟩⟩
theorem xe_preS (hK : xk_K D s) (hE : xk_ES D A s H) (hP : P H) (hA : ∀ q, H.size ≤ q → A q) : PreS s H (xe_Pre D A P As) As :=
  ⟨xe_blind, fun U hU hW => ⟨rfl, by rw [hU]; exact hA, by rw [hU]; exact hP, xk_K.warm hW hK, by rw [hU]; exact hE.moved hW.alike⟩⟩
end XEP
theorem xe_startI {l : Launch} {y : MethodName} {cc : ByteArray} {nL : Nat} {rm : Room} {D : xk_G} {A : Nat → Prop} {P : Heap → Prop} {av : List Value} {P' : Int32 → Heap → Prop} (hy : plainName y.cls = true) (hn : (lg_sl av).length ≤ nL)
    (body : ∀ (p : Program) (e : Env) (s : State) (m : MethodId) (args : Array Value) (below : List Frame) (meth : Method) (c : Code) (Q : State → Prop), xk_At p s m args meth c cc nL y.cls → meth.name = y.name → xk_K D s → xk_ES D A s s.heap → (∀ q, s.heap.size ≤ q → A q) → P s.heap →
      xk_Ri p l e rm s m args below meth c rm.cells rm.slots Q cc A P' → ∀ ls, lv_has ls nL (lv_args 0 av) → W p l e rm s m args below meth c s.heap [] 0 0 Q (F0 m 0 ls [])) :
    Met l y (ws_ y cc nL (some .int)) rm (xe_Pre D A P av) (xk_Pi A P') rm.cells rm.slots A := by
  refine Met.ofW (cc := cc) (maxL := nL) (ret := some .int) hy rfl ?_
  intro p e s m args below meth c s₁ B hml hv
  obtain ⟨rfl, hA, hP, hK, hE⟩ := hv
  have hx := B.exec
  have hb := B.bytes
  have hr := B.returns
  have hts := atoms_spec (ws := ws_ y cc nL (some .int)) B.pre
  have hts : ∀ w ∈ lw_all, w.before _ s = true := fun w h => hts w (List.mem_cons_of_mem _ h)
  have hown : s.vm.findClass y.cls = some m.cls := findClass_of_methodNamed B.named
  have hlocks := B.notSynchronized
  have hin : meth.name = y.name := (name_of_methodNamed B.named B.method).1
  have hl := lv_entry av (n := nL) hn
  rw [lg_entry_eq]
  refine body p e s m _ below meth c _ ⟨hx, hb, hml, hown, hts⟩ hin hK hE hA hP ?_ _ hl
  intro H locs pc ls r hd hP' hS
  exact W.iret (v := r) hx hb hr (fun t ht hW => ⟨⟨r, r, rfl, rfl, by show P' r t.heap; rw [ht]; exact hP'⟩, hS.F ht⟩) hS.2.2 hd hlocks
theorem xe_startZ {l : Launch} {y : MethodName} {cc : ByteArray} {nL : Nat} {rm : Room} {D : xk_G} {A : Nat → Prop} {P : Heap → Prop} {av : List Value} {P' : Int32 → Heap → Prop} (hy : plainName y.cls = true) (hn : (lg_sl av).length ≤ nL) (h01 : ∀ r H, P' r H → narrow .boolean (.int r) = .int r)
    (body : ∀ (p : Program) (e : Env) (s : State) (m : MethodId) (args : Array Value) (below : List Frame) (meth : Method) (c : Code) (Q : State → Prop), xk_At p s m args meth c cc nL y.cls → meth.name = y.name → xk_K D s → xk_ES D A s s.heap → (∀ q, s.heap.size ≤ q → A q) → P s.heap →
      xk_Ri p l e rm s m args below meth c rm.cells rm.slots Q cc A P' → ∀ ls, lv_has ls nL (lv_args 0 av) → W p l e rm s m args below meth c s.heap [] 0 0 Q (F0 m 0 ls [])) :
    Met l y (ws_ y cc nL (some .boolean)) rm (xe_Pre D A P av) (xk_Pi A P') rm.cells rm.slots A := by
  refine Met.ofW (cc := cc) (maxL := nL) (ret := some .boolean) hy rfl ?_
  intro p e s m args below meth c s₁ B hml hv
  obtain ⟨rfl, hA, hP, hK, hE⟩ := hv
  have hx := B.exec
  have hb := B.bytes
  have hr := B.returns
  have hts := atoms_spec (ws := ws_ y cc nL (some .boolean)) B.pre
  have hts : ∀ w ∈ lw_all, w.before _ s = true := fun w h => hts w (List.mem_cons_of_mem _ h)
  have hown : s.vm.findClass y.cls = some m.cls := findClass_of_methodNamed B.named
  have hlocks := B.notSynchronized
  have hin : meth.name = y.name := (name_of_methodNamed B.named B.method).1
  have hl := lv_entry av (n := nL) hn
  rw [lg_entry_eq]
  refine body p e s m _ below meth c _ ⟨hx, hb, hml, hown, hts⟩ hin hK hE hA hP ?_ _ hl
  intro H locs pc ls r hd hP' hS
  exact W.zret (v := r) hx hb hr (h01 r H hP') (fun t ht hW => ⟨⟨r, r, rfl, rfl, by show P' r t.heap; rw [ht]; exact hP'⟩, hS.F ht⟩) hS.2.2 hd hlocks
theorem xe_startV {l : Launch} {y : MethodName} {cc : ByteArray} {nL : Nat} {rm : Room} {D : xk_G} {A : Nat → Prop} {P : Heap → Prop} {av : List Value} {P' : Heap → Prop} (hy : plainName y.cls = true) (hn : (lg_sl av).length ≤ nL)
    (body : ∀ (p : Program) (e : Env) (s : State) (m : MethodId) (args : Array Value) (below : List Frame) (meth : Method) (c : Code) (Q : State → Prop), xk_At p s m args meth c cc nL y.cls → meth.name = y.name → xk_K D s → xk_ES D A s s.heap → (∀ q, s.heap.size ≤ q → A q) → P s.heap →
      xk_Rv p l e rm s m args below meth c rm.cells rm.slots Q cc A P' → ∀ ls, lv_has ls nL (lv_args 0 av) → W p l e rm s m args below meth c s.heap [] 0 0 Q (F0 m 0 ls [])) :
    Met l y (ws_ y cc nL none) rm (xe_Pre D A P av) (xk_Pv A P') rm.cells rm.slots A := by
  refine Met.ofW (cc := cc) (maxL := nL) (ret := none) hy rfl ?_
  intro p e s m args below meth c s₁ B hml hv
  obtain ⟨rfl, hA, hP, hK, hE⟩ := hv
  have hx := B.exec
  have hb := B.bytes
  have hr := B.returns
  have hts := atoms_spec (ws := ws_ y cc nL none) B.pre
  have hts : ∀ w ∈ lw_all, w.before _ s = true := fun w h => hts w (List.mem_cons_of_mem _ h)
  have hown : s.vm.findClass y.cls = some m.cls := findClass_of_methodNamed B.named
  have hlocks := B.notSynchronized
  have hin : meth.name = y.name := (name_of_methodNamed B.named B.method).1
  have hl := lv_entry av (n := nL) hn
  rw [lg_entry_eq]
  refine body p e s m _ below meth c _ ⟨hx, hb, hml, hown, hts⟩ hin hK hE hA hP ?_ _ hl
  intro H locs pc ls hd hP' hS
  exact W.vret hx hb hr (fun t ht hW => ⟨⟨(), rfl, trivial, by show P' t.heap; rw [ht]; exact hP'⟩, hS.F ht⟩) hS.2.2 hd hlocks
theorem xe_startR {l : Launch} {y : MethodName} {cc : ByteArray} {nL : Nat} {rm : Room} {D : xk_G} {A : Nat → Prop} {P : Heap → Prop} {av : List Value} {P' : Nat → Heap → Prop} {rt : FieldType} (hy : plainName y.cls = true) (hn : (lg_sl av).length ≤ nL) (hrt : (∃ n, rt = .object n) ∨ ∃ t, rt = .array t)
    (body : ∀ (p : Program) (e : Env) (s : State) (m : MethodId) (args : Array Value) (below : List Frame) (meth : Method) (c : Code) (Q : State → Prop), xk_At p s m args meth c cc nL y.cls → meth.name = y.name → xk_K D s → xk_ES D A s s.heap → (∀ q, s.heap.size ≤ q → A q) → P s.heap →
      xk_Rr p l e rm s m args below meth c rm.cells rm.slots Q cc A P' → ∀ ls, lv_has ls nL (lv_args 0 av) → W p l e rm s m args below meth c s.heap [] 0 0 Q (F0 m 0 ls [])) :
    Met l y (ws_ y cc nL (some rt)) rm (xe_Pre D A P av) (xk_Pr A P') rm.cells rm.slots A := by
  refine Met.ofW (cc := cc) (maxL := nL) (ret := some rt) hy rfl ?_
  intro p e s m args below meth c s₁ B hml hv
  obtain ⟨rfl, hA, hP, hK, hE⟩ := hv
  have hx := B.exec
  have hb := B.bytes
  have hr := B.returns
  have hts := atoms_spec (ws := ws_ y cc nL (some rt)) B.pre
  have hts : ∀ w ∈ lw_all, w.before _ s = true := fun w h => hts w (List.mem_cons_of_mem _ h)
  have hown : s.vm.findClass y.cls = some m.cls := findClass_of_methodNamed B.named
  have hlocks := B.notSynchronized
  have hin : meth.name = y.name := (name_of_methodNamed B.named B.method).1
  have hl := lv_entry av (n := nL) hn
  rw [lg_entry_eq]
  refine body p e s m _ below meth c _ ⟨hx, hb, hml, hown, hts⟩ hin hK hE hA hP ?_ _ hl
  intro H locs pc ls r hd hP' hS
  exact W.aret (v := .ref r) hx hb hr hrt (Or.inr ⟨r, rfl⟩) (fun t ht hW => ⟨⟨(), r, rfl, trivial, by show P' r t.heap; rw [ht]; exact hP'⟩, hS.F ht⟩) hS.2.2 hd hlocks
section XEC
variable {p : Program} {l : Launch} {e : Env} {R : Room} {s : State} {m : MethodId} {args : Array Value} {below : List Frame} {meth : Method} {c : Code} {H : Heap} {locs : List Loc} {cells slots : Nat} {Q : State → Prop}
variable {cc bytes : ByteArray} {pc maxL nL mc ms k index : Nat} {ls : Array Slot} {rest st0 : List Value} {D : xk_G} {A A1 : Nat → Prop} {own C : String} {y : MethodName} {rm : Room} {P : Heap → Prop} {b : Nat} {As av : List Value} {ret : Option FieldType} {a : Array Value}
theorem xe_ci {P' : Int32 → Heap → Prop} (hr : va_Run p l e R s m args below meth c H locs cells slots mc ms (F0 m pc ls st0) rest (xk_Pi A1 P' a) A1) (hS : va_S A s.heap H locs) (hA1 : ∀ q, A1 q → A q)
    (kk : ∀ (r : Int32) (H1 : Heap) (locs1 : List Loc), P' r H1 → H.size ≤ H1.size → (∀ q : Nat, q < H.size → ¬ A1 q → H1[q]? = H[q]?) → va_S A s.heap H1 locs1 → W p l e R s m args below meth c H1 locs1 (cells + mc) (slots + ms) Q (F0 m (pc + 3) ls (.int r :: rest))) : W p l e R s m args below meth c H locs cells slots Q (F0 m pc ls st0) :=
  va_calli hr hS (fun q _ h => hA1 q h) hA1 (fun r u t H2 locs2 ht _ hp hB h1 h2 hS1 => by
    subst hp
    have hB : P' r t.heap := hB
    rw [ht] at hB
    exact kk r H2 locs2 hB h1 h2 hS1)
theorem xe_ci5 {P' : Int32 → Heap → Prop} (hr : va_Run5 p l e R s m args below meth c H locs cells slots mc ms (F0 m pc ls st0) rest (xk_Pi A1 P' a) A1) (hS : va_S A s.heap H locs) (hA1 : ∀ q, A1 q → A q)
    (kk : ∀ (r : Int32) (H1 : Heap) (locs1 : List Loc), P' r H1 → H.size ≤ H1.size → (∀ q : Nat, q < H.size → ¬ A1 q → H1[q]? = H[q]?) → va_S A s.heap H1 locs1 → W p l e R s m args below meth c H1 locs1 (cells + mc) (slots + ms) Q (F0 m (pc + 5) ls (.int r :: rest))) : W p l e R s m args below meth c H locs cells slots Q (F0 m pc ls st0) :=
  va_callFi hr hS (fun q _ h => hA1 q h) hA1 (fun r u t H2 locs2 ht _ hp hB h1 h2 hS1 => by
    subst hp
    have hB : P' r t.heap := hB
    rw [ht] at hB
    exact kk r H2 locs2 hB h1 h2 hS1)
theorem xe_cv {P' : Heap → Prop} (hr : va_Run p l e R s m args below meth c H locs cells slots mc ms (F0 m pc ls st0) rest (xk_Pv A1 P' a) A1) (hS : va_S A s.heap H locs) (hA1 : ∀ q, A1 q → A q)
    (kk : ∀ (H1 : Heap) (locs1 : List Loc), P' H1 → H.size ≤ H1.size → (∀ q : Nat, q < H.size → ¬ A1 q → H1[q]? = H[q]?) → va_S A s.heap H1 locs1 → W p l e R s m args below meth c H1 locs1 (cells + mc) (slots + ms) Q (F0 m (pc + 3) ls rest)) : W p l e R s m args below meth c H locs cells slots Q (F0 m pc ls st0) :=
  va_callv hr hS (fun q _ h => hA1 q h) hA1 (fun u t H2 locs2 ht _ _ hB h1 h2 hS1 => by
    have hB : P' t.heap := hB
    rw [ht] at hB
    exact kk H2 locs2 hB h1 h2 hS1)
theorem xe_cr {P' : Nat → Heap → Prop} (hr : va_Run p l e R s m args below meth c H locs cells slots mc ms (F0 m pc ls st0) rest (xk_Pr A1 P' a) A1) (hS : va_S A s.heap H locs) (hA1 : ∀ q, A1 q → A q)
    (kk : ∀ (r : Nat) (H1 : Heap) (locs1 : List Loc), P' r H1 → H.size ≤ H1.size → (∀ q : Nat, q < H.size → ¬ A1 q → H1[q]? = H[q]?) → va_S A s.heap H1 locs1 → W p l e R s m args below meth c H1 locs1 (cells + mc) (slots + ms) Q (F0 m (pc + 3) ls (.ref r :: rest))) : W p l e R s m args below meth c H locs cells slots Q (F0 m pc ls st0) :=
  va_callr hr hS (fun q _ h => hA1 q h) hA1 (fun u ra t H2 locs2 ht _ _ hB h1 h2 hS1 => by
    have hB : P' ra t.heap := hB
    rw [ht] at hB
    exact kk ra H2 locs2 hB h1 h2 hS1)
end XEC
