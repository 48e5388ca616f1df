/-! THE GROUND: what every contract carries of the tables (xk_K), and how a walk starts, calls and ends (xk_..) -/
set_option maxRecDepth 100000
abbrev xk_CL : List vw_C := [(RX1, TX1, 6), (RX2, TX2, 7), (RX3, TX3, 20), (RX4, TX4, 7), (RX5, TX5, 5), (RJ2, TJ2, 3), (RJ9, TJ9, 1)]
abbrev xk_TY (dA : Nat → ClassId) : List (ClassId × FieldType) := [(dA 0, .int), (dA 1, .object "java/lang/Object"), (dA 2, .array .int), (dA 3, .long), (dA 4, .boolean)]
abbrev xk_G : Type := va_G × (Nat → ClassId)
abbrev xk_size : MethodName := ⟨"java/util/List", "size", "()I"⟩
abbrev xk_get : MethodName := ⟨"java/util/List", "get", "(I)Ljava/lang/Object;"⟩
abbrev xk_add : MethodName := ⟨"java/util/List", "add", "(Ljava/lang/Object;)Z"⟩
def xk_nk (w : Cond) : Bool := match w with
  | .fieldLinkNest .. => true
  | .methodLinkNest .. => true
  | .castable .. => true
  | .declares .. => true
  | _ => false
/-- what a contract carries of the tables: the classes, the arrays' classes, the words that no list holds -/
def xk_K (D : xk_G) (U : State) : Prop := va_K D.1 xk_CL (xk_TY D.2) U ∧ (∀ w ∈ lw_tbl, xk_nk w = true → va_Nw w U) ∧ va_Fw RJ2 xk_size yJ2_size U ∧ va_Fw RJ2 xk_get yJ2_get U ∧ va_Fw RJ2 xk_add yJ2_add U ∧ va_AO "java/lang/Object" U
theorem xk_K.warm {D : xk_G} {s U : State} (hW : s.WarmedH U.vm) (h : xk_K D s) : xk_K D U := by
  obtain ⟨h1, h2, h3, h4, h5, h6⟩ := h
  refine ⟨va_K.moved hW.alike h1, fun w hw hk => ?_, va_Fw.moved (by decide +kernel) hW.alike h3, va_Fw.moved (by decide +kernel) hW.alike h4, va_Fw.moved (by decide +kernel) hW.alike h5, va_AO.moved hW.alike h6⟩
  have h0 := h2 w hw hk
  cases w <;> first | exact va_Nw.warmF hW h0 | exact va_Nw.warmM hW h0 | exact va_Nw.warmC hW h0 | exact va_Nw.warmD hW h0 | (simp [xk_nk] at hk; done)
theorem xk_K.same {D : xk_G} {u U : State} (hv : u.vm = U.vm) (h : xk_K D u) : xk_K D U := by
  obtain ⟨h1, h2, h3, h4, h5, h6⟩ := h
  have ha : u.vm.Alike U.vm := by rw [hv]; exact Vm.Alike.refl _
  refine ⟨va_K.moved ha h1, fun w hw hk => ?_, va_Fw.moved (by decide +kernel) ha h3, va_Fw.moved (by decide +kernel) ha h4, va_Fw.moved (by decide +kernel) ha h5, va_AO.moved ha h6⟩
  have h0 := h2 w hw hk
  cases w <;> first | exact va_Nw.same rfl hv h0 | (simp [xk_nk] at hk; done)
theorem xk_nw {D : xk_G} {s : State} (h : xk_K D s) {w : Cond} (hw : w ∈ lw_tbl) (hk : xk_nk w = true) : va_Nw w s := h.2.1 w hw hk
abbrev xk_R (f lo : Nat) : Room := { frames := f, cells := 0, slots := 0, locals := lo }
abbrev xk_Rm (f lo mc ms : Nat) : Room := { frames := f, cells := mc, slots := ms, locals := lo }
/-- a truth as an int -/
abbrev xk_b (P : Prop) [Decidable P] : Int32 := if P then 1 else 0
theorem xk_b01 (P : Prop) [Decidable P] : narrow .boolean (.int (xk_b P)) = .int (xk_b P) := by
  unfold xk_b
  split <;> decide +kernel
theorem xk_0 (k : Nat) : (0 : Int32) + nI k = nI k := by
  rw [show (0 : Int32) = nI 0 from nI_0.symm, nI_add, Nat.zero_add]
theorem xk_bc {P Q : Prop} [Decidable P] [Decidable Q] (h : P ↔ Q) : xk_b P = xk_b Q := by
  unfold xk_b
  by_cases hp : P
  · rw [if_pos hp, if_pos (h.mp hp)]
  · rw [if_neg hp, if_neg (fun q => hp (h.mpr q))]
theorem xk_dec (k : Nat) : nI (k + 1) + Int32.ofInt (-1) = nI k := pk_m1 k
theorem xk_inc (k : Nat) : nI k + Int32.ofInt 1 = nI (k + 1) := nI_1 k
/-- contracts by a picture of the heap that the method may change: Pic before, Pic' behind -/
abbrev xk_Pre (D : xk_G) (A : Nat → Prop) (P : Heap → Prop) (av : List Value) : Array Value → State → Prop := va_Pc av (fun U => (∀ q, U.heap.size ≤ q → A q) ∧ P U.heap ∧ xk_K D U)
abbrev xk_Qi (A : Nat → Prop) (P' : Int32 → Heap → Prop) : Array Value → State → Outcome → State → Prop := va_Qi (fun (_ : Int32) (_ : Unit) => True) (fun _ _ => True) A
section XK
variable {p : Program} {l : Launch} {e : Env} {R : Room} {s : State} {m : MethodId} {args : Array Value} {below : List Frame} {meth : Method} {c : Code} {H : Heap} {locs : List Loc} {cells slots : Nat} {Q : State → Prop}
variable {cc : ByteArray} {pc : Nat} {ls : Array Slot} {rest st0 : List Value} {D : xk_G} {A : Nat → Prop}
/-- what a walk stands on -/
def xk_At (p : Program) (s : State) (m : MethodId) (args : Array Value) (meth : Method) (c : Code) (cc : ByteArray) (nL : Nat) (own : String) : Prop :=
  p.tables.exec = Jvm.exec ∧ c.code = cc ∧ c.maxLocals = nL ∧ s.vm.findClass own = some m.cls ∧ (∀ w ∈ lw_all, w.before args s = true)
/-! branches on truths -/
theorem xk_bT {P : Prop} [Decidable P] {B : Prop} (h : xk_b P = 0) (k : ¬ P → B) : B := k (fun hp => by simp [xk_b, hp] at h)
theorem xk_bF {P : Prop} [Decidable P] {B : Prop} (h : ¬ xk_b P = 0) (k : P → B) : B := by
  by_cases hp : P
  · exact k hp
  · simp [xk_b, hp] at h
theorem xk_ifeq (hx : p.tables.exec = Jvm.exec) (hb : c.code = cc) {P : Prop} [Decidable P] {off : Int} {tgt : Nat} (hdg : decode cc pc = .ok (.ifCond .eq off, 3)) (ht : (pc : Int) + off = (tgt : Int))
    (kt : ¬ P → W p l e R s m args below meth c H locs cells slots Q (F0 m tgt ls rest)) (kf : P → W p l e R s m args below meth c H locs cells slots Q (F0 m (pc + 3) ls rest)) : W p l e R s m args below meth c H locs cells slots Q (F0 m pc ls (.int (xk_b P) :: rest)) :=
  lv_if_eq hx hb hdg ht (fun h => xk_bT h kt) (fun h => xk_bF h kf)
theorem xk_ifne (hx : p.tables.exec = Jvm.exec) (hb : c.code = cc) {P : Prop} [Decidable P] {off : Int} {tgt : Nat} (hdg : decode cc pc = .ok (.ifCond .ne off, 3)) (ht : (pc : Int) + off = (tgt : Int))
    (kt : P → W p l e R s m args below meth c H locs cells slots Q (F0 m tgt ls rest)) (kf : ¬ P → W p l e R s m args below meth c H locs cells slots Q (F0 m (pc + 3) ls rest)) : W p l e R s m args below meth c H locs cells slots Q (F0 m pc ls (.int (xk_b P) :: rest)) :=
  lv_if_ne hx hb hdg ht (fun h => xk_bF h kt) (fun h => xk_bT h kf)
/-- a number by another name -/
theorem xk_to {x y : Int32} (h : x = y) (k : W p l e R s m args below meth c H locs cells slots Q (F0 m pc ls (.int y :: rest))) : W p l e R s m args below meth c H locs cells slots Q (F0 m pc ls (.int x :: rest)) := by rw [h]; exact k
/-- the end of a method that answers a number (or a truth) -/
def xk_Ri (p : Program) (l : Launch) (e : Env) (R : Room) (s : State) (m : MethodId) (args : Array Value) (below : List Frame) (meth : Method) (c : Code) (cells slots : Nat) (Q : State → Prop) (cc : ByteArray) (A : Nat → Prop) (P' : Int32 → Heap → Prop) : Prop :=
  ∀ (H : Heap) (locs : List Loc) (pc : Nat) (ls : Array Slot) (r : Int32), decode cc pc = .ok (.ireturn, 1) → P' r H → va_S A s.heap H locs → W p l e R s m args below meth c H locs cells slots Q (F0 m pc ls [.int r])
def xk_Rv (p : Program) (l : Launch) (e : Env) (R : Room) (s : State) (m : MethodId) (args : Array Value) (below : List Frame) (meth : Method) (c : Code) (cells slots : Nat) (Q : State → Prop) (cc : ByteArray) (A : Nat → Prop) (P' : Heap → Prop) : Prop :=
  ∀ (H : Heap) (locs : List Loc) (pc : Nat) (ls : Array Slot), decode cc pc = .ok (.return_, 1) → P' H → va_S A s.heap H locs → W p l e R s m args below meth c H locs cells slots Q (F0 m pc ls [])
def xk_Rr (p : Program) (l : Launch) (e : Env) (R : Room) (s : State) (m : MethodId) (args : Array Value) (below : List Frame) (meth : Method) (c : Code) (cells slots : Nat) (Q : State → Prop) (cc : ByteArray) (A : Nat → Prop) (P' : Nat → Heap → Prop) : Prop :=
  ∀ (H : Heap) (locs : List Loc) (pc : Nat) (ls : Array Slot) (r : Nat), decode cc pc = .ok (.areturn, 1) → P' r H → va_S A s.heap H locs → W p l e R s m args below meth c H locs cells slots Q (F0 m pc ls [.ref r])
end XK
/-- the post of a method that answers a number: the number and the heap behind it -/
abbrev xk_Pi (A : Nat → Prop) (P' : Int32 → Heap → Prop) : Array Value → State → Outcome → State → Prop := va_Qi (fun (r : Int32) (u : Int32) => r = u) (fun u t => P' u t.heap) A
abbrev xk_Pv (A : Nat → Prop) (P' : Heap → Prop) : Array Value → State → Outcome → State → Prop := va_Qv (fun (_ : Unit) => True) (fun _ t => P' t.heap) A
abbrev xk_Pr (A : Nat → Prop) (P' : Nat → Heap → Prop) : Array Value → State → Outcome → State → Prop := va_Qr (fun (_ : Unit) => True) (fun _ a t => P' a t.heap) A
/-- a contract of a method that answers an int -/
theorem xk_startI {l : Launch} {y : MethodName} {cc : ByteArray} {nL : Nat} {rm : Room} {D : xk_G} {A : Nat → Prop} {P : Heap → Prop} {av : List Value} {P' : Int32 → Heap → Prop} (hy : plainName y.cls = true) (hn : (lg_sl av).length ≤ nL)
    (body : ∀ (p : Program) (e : Env) (s : State) (m : MethodId) (args : Array Value) (below : List Frame) (meth : Method) (c : Code) (Q : State → Prop), xk_At p s m args meth c cc nL y.cls → meth.name = y.name → xk_K D s → (∀ q, s.heap.size ≤ q → A q) → P s.heap →
      xk_Ri p l e rm s m args below meth c rm.cells rm.slots Q cc A P' → ∀ ls, lv_has ls nL (lv_args 0 av) → W p l e rm s m args below meth c s.heap [] 0 0 Q (F0 m 0 ls [])) :
    Met l y (ws_ y cc nL (some .int)) rm (xk_Pre D A P av) (xk_Pi A P') rm.cells rm.slots A := by
  refine Met.ofW (cc := cc) (maxL := nL) (ret := some .int) hy rfl ?_
  intro p e s m args below meth c s₁ B hml hv
  obtain ⟨rfl, hA, hP, hK⟩ := hv
  have hx := B.exec
  have hb := B.bytes
  have hr := B.returns
  have hts := atoms_spec (ws := ws_ y cc nL (some .int)) B.pre
  have hts : ∀ w ∈ lw_all, w.before _ s = true := fun w h => hts w (List.mem_cons_of_mem _ h)
  have hown : s.vm.findClass y.cls = some m.cls := findClass_of_methodNamed B.named
  have hlocks := B.notSynchronized
  have hin : meth.name = y.name := (name_of_methodNamed B.named B.method).1
  have hl := lv_entry av (n := nL) hn
  rw [lg_entry_eq]
  refine body p e s m _ below meth c _ ⟨hx, hb, hml, hown, hts⟩ hin hK hA hP ?_ _ hl
  intro H locs pc ls r hd hP' hS
  exact W.iret (v := r) hx hb hr (fun t ht hW => ⟨⟨r, r, rfl, rfl, by show P' r t.heap; rw [ht]; exact hP'⟩, hS.F ht⟩) hS.2.2 hd hlocks
/-- a contract of a method that answers a truth -/
theorem xk_startZ {l : Launch} {y : MethodName} {cc : ByteArray} {nL : Nat} {rm : Room} {D : xk_G} {A : Nat → Prop} {P : Heap → Prop} {av : List Value} {P' : Int32 → Heap → Prop} (hy : plainName y.cls = true) (hn : (lg_sl av).length ≤ nL) (h01 : ∀ r H, P' r H → narrow .boolean (.int r) = .int r)
    (body : ∀ (p : Program) (e : Env) (s : State) (m : MethodId) (args : Array Value) (below : List Frame) (meth : Method) (c : Code) (Q : State → Prop), xk_At p s m args meth c cc nL y.cls → meth.name = y.name → xk_K D s → (∀ q, s.heap.size ≤ q → A q) → P s.heap →
      xk_Ri p l e rm s m args below meth c rm.cells rm.slots Q cc A P' → ∀ ls, lv_has ls nL (lv_args 0 av) → W p l e rm s m args below meth c s.heap [] 0 0 Q (F0 m 0 ls [])) :
    Met l y (ws_ y cc nL (some .boolean)) rm (xk_Pre D A P av) (xk_Pi A P') rm.cells rm.slots A := by
  refine Met.ofW (cc := cc) (maxL := nL) (ret := some .boolean) hy rfl ?_
  intro p e s m args below meth c s₁ B hml hv
  obtain ⟨rfl, hA, hP, hK⟩ := hv
  have hx := B.exec
  have hb := B.bytes
  have hr := B.returns
  have hts := atoms_spec (ws := ws_ y cc nL (some .boolean)) B.pre
  have hts : ∀ w ∈ lw_all, w.before _ s = true := fun w h => hts w (List.mem_cons_of_mem _ h)
  have hown : s.vm.findClass y.cls = some m.cls := findClass_of_methodNamed B.named
  have hlocks := B.notSynchronized
  have hin : meth.name = y.name := (name_of_methodNamed B.named B.method).1
  have hl := lv_entry av (n := nL) hn
  rw [lg_entry_eq]
  refine body p e s m _ below meth c _ ⟨hx, hb, hml, hown, hts⟩ hin hK hA hP ?_ _ hl
  intro H locs pc ls r hd hP' hS
  exact W.zret (v := r) hx hb hr (h01 r H hP') (fun t ht hW => ⟨⟨r, r, rfl, rfl, by show P' r t.heap; rw [ht]; exact hP'⟩, hS.F ht⟩) hS.2.2 hd hlocks
/-- a contract of a method that answers nothing -/
theorem xk_startV {l : Launch} {y : MethodName} {cc : ByteArray} {nL : Nat} {rm : Room} {D : xk_G} {A : Nat → Prop} {P : Heap → Prop} {av : List Value} {P' : Heap → Prop} (hy : plainName y.cls = true) (hn : (lg_sl av).length ≤ nL)
    (body : ∀ (p : Program) (e : Env) (s : State) (m : MethodId) (args : Array Value) (below : List Frame) (meth : Method) (c : Code) (Q : State → Prop), xk_At p s m args meth c cc nL y.cls → meth.name = y.name → xk_K D s → (∀ q, s.heap.size ≤ q → A q) → P s.heap →
      xk_Rv p l e rm s m args below meth c rm.cells rm.slots Q cc A P' → ∀ ls, lv_has ls nL (lv_args 0 av) → W p l e rm s m args below meth c s.heap [] 0 0 Q (F0 m 0 ls [])) :
    Met l y (ws_ y cc nL none) rm (xk_Pre D A P av) (xk_Pv A P') rm.cells rm.slots A := by
  refine Met.ofW (cc := cc) (maxL := nL) (ret := none) hy rfl ?_
  intro p e s m args below meth c s₁ B hml hv
  obtain ⟨rfl, hA, hP, hK⟩ := hv
  have hx := B.exec
  have hb := B.bytes
  have hr := B.returns
  have hts := atoms_spec (ws := ws_ y cc nL none) B.pre
  have hts : ∀ w ∈ lw_all, w.before _ s = true := fun w h => hts w (List.mem_cons_of_mem _ h)
  have hown : s.vm.findClass y.cls = some m.cls := findClass_of_methodNamed B.named
  have hlocks := B.notSynchronized
  have hin : meth.name = y.name := (name_of_methodNamed B.named B.method).1
  have hl := lv_entry av (n := nL) hn
  rw [lg_entry_eq]
  refine body p e s m _ below meth c _ ⟨hx, hb, hml, hown, hts⟩ hin hK hA hP ?_ _ hl
  intro H locs pc ls hd hP' hS
  exact W.vret hx hb hr (fun t ht hW => ⟨⟨(), rfl, trivial, by show P' t.heap; rw [ht]; exact hP'⟩, hS.F ht⟩) hS.2.2 hd hlocks
/-- a contract of a method that answers a cell -/
theorem xk_startR {l : Launch} {y : MethodName} {cc : ByteArray} {nL : Nat} {rm : Room} {D : xk_G} {A : Nat → Prop} {P : Heap → Prop} {av : List Value} {P' : Nat → Heap → Prop} {rt : FieldType} (hy : plainName y.cls = true) (hn : (lg_sl av).length ≤ nL) (hrt : (∃ n, rt = .object n) ∨ ∃ t, rt = .array t)
    (body : ∀ (p : Program) (e : Env) (s : State) (m : MethodId) (args : Array Value) (below : List Frame) (meth : Method) (c : Code) (Q : State → Prop), xk_At p s m args meth c cc nL y.cls → meth.name = y.name → xk_K D s → (∀ q, s.heap.size ≤ q → A q) → P s.heap →
      xk_Rr p l e rm s m args below meth c rm.cells rm.slots Q cc A P' → ∀ ls, lv_has ls nL (lv_args 0 av) → W p l e rm s m args below meth c s.heap [] 0 0 Q (F0 m 0 ls [])) :
    Met l y (ws_ y cc nL (some rt)) rm (xk_Pre D A P av) (xk_Pr A P') rm.cells rm.slots A := by
  refine Met.ofW (cc := cc) (maxL := nL) (ret := some rt) hy rfl ?_
  intro p e s m args below meth c s₁ B hml hv
  obtain ⟨rfl, hA, hP, hK⟩ := hv
  have hx := B.exec
  have hb := B.bytes
  have hr := B.returns
  have hts := atoms_spec (ws := ws_ y cc nL (some rt)) B.pre
  have hts : ∀ w ∈ lw_all, w.before _ s = true := fun w h => hts w (List.mem_cons_of_mem _ h)
  have hown : s.vm.findClass y.cls = some m.cls := findClass_of_methodNamed B.named
  have hlocks := B.notSynchronized
  have hin : meth.name = y.name := (name_of_methodNamed B.named B.method).1
  have hl := lv_entry av (n := nL) hn
  rw [lg_entry_eq]
  refine body p e s m _ below meth c _ ⟨hx, hb, hml, hown, hts⟩ hin hK hA hP ?_ _ hl
  intro H locs pc ls r hd hP' hS
  exact W.aret (v := .ref r) hx hb hr hrt (Or.inr ⟨r, rfl⟩) (fun t ht hW => ⟨⟨(), r, rfl, trivial, by show P' r t.heap; rw [ht]; exact hP'⟩, hS.F ht⟩) hS.2.2 hd hlocks
section XKC
variable {p : Program} {l : Launch} {e : Env} {R : Room} {s : State} {m : MethodId} {args : Array Value} {below : List Frame} {meth : Method} {c : Code} {H : Heap} {locs : List Loc} {cells slots : Nat} {Q : State → Prop}
variable {cc bytes : ByteArray} {pc maxL nL mc ms k index : Nat} {ls : Array Slot} {rest st0 : List Value} {D : xk_G} {A A1 : Nat → Prop} {own C : String} {y : MethodName} {rm : Room} {P : Heap → Prop} {b : Nat} {As av : List Value} {ret : Option FieldType} {a : Array Value}
theorem xk_blind : FrameBlind (xk_Pre D A P av) := fun a U g mk q => by
  obtain ⟨q0, q1, qP, qK⟩ := q
  exact ⟨q0, q1, qP, xk_K.same (u := U) (U := U.calling g mk a) rfl qK⟩
theorem xk_preV (hK : xk_K D s) (hP : P H) (hA : ∀ q, H.size ≤ q → A q) (hr : ∃ cell : Cell, H[b]? = some cell ∧ cell.vm.isStatics = false ∧ s.vm.findClass C = some cell.cls) : PreV s H C b (xk_Pre D A P (.ref b :: As)) As :=
  ⟨xk_blind, hr, fun U hU hW => ⟨rfl, by rw [hU]; exact hA, by rw [hU]; exact hP, xk_K.warm hW hK⟩⟩
theorem xk_preS (hK : xk_K D s) (hP : P H) (hA : ∀ q, H.size ≤ q → A q) : PreS s H (xk_Pre D A P As) As :=
  ⟨xk_blind, fun U hU hW => ⟨rfl, by rw [hU]; exact hA, by rw [hU]; exact hP, xk_K.warm hW hK⟩⟩
/-- behind a call, by what it answers -/
theorem xk_ci {P' : Int32 → Heap → Prop} (hr : va_Run p l e R s m args below meth c H locs cells slots mc ms (F0 m pc ls st0) rest (xk_Pi A P' a) A) (hS : va_S A s.heap H locs)
    (kk : ∀ (r : Int32) (H : Heap) (locs : List Loc), P' r H → va_S A s.heap H locs → W p l e R s m args below meth c H locs (cells + mc) (slots + ms) Q (F0 m (pc + 3) ls (.int r :: rest))) : W p l e R s m args below meth c H locs cells slots Q (F0 m pc ls st0) :=
  va_calli hr hS (fun _ _ h => h) (fun _ h => h) (fun r u t H1 locs1 ht _ hp hB _ _ hS1 => by
    subst hp
    have hB : P' r t.heap := hB
    rw [ht] at hB
    exact kk r H1 locs1 hB hS1)
theorem xk_cv {P' : Heap → Prop} (hr : va_Run p l e R s m args below meth c H locs cells slots mc ms (F0 m pc ls st0) rest (xk_Pv A P' a) A) (hS : va_S A s.heap H locs)
    (kk : ∀ (H : Heap) (locs : List Loc), P' H → va_S A s.heap H locs → W p l e R s m args below meth c H locs (cells + mc) (slots + ms) Q (F0 m (pc + 3) ls rest)) : W p l e R s m args below meth c H locs cells slots Q (F0 m pc ls st0) :=
  va_callv hr hS (fun _ _ h => h) (fun _ h => h) (fun u t H1 locs1 ht _ _ hB _ _ hS1 => by
    have hB : P' t.heap := hB
    rw [ht] at hB
    exact kk H1 locs1 hB hS1)
theorem xk_cr {P' : Nat → Heap → Prop} (hr : va_Run p l e R s m args below meth c H locs cells slots mc ms (F0 m pc ls st0) rest (xk_Pr A P' a) A) (hS : va_S A s.heap H locs)
    (kk : ∀ (r : Nat) (H : Heap) (locs : List Loc), P' r H → va_S A s.heap H locs → W p l e R s m args below meth c H locs (cells + mc) (slots + ms) Q (F0 m (pc + 3) ls (.ref r :: rest))) : W p l e R s m args below meth c H locs cells slots Q (F0 m pc ls st0) :=
  va_callr hr hS (fun _ _ h => h) (fun _ h => h) (fun u ra t H1 locs1 ht _ _ hB _ _ hS1 => by
    have hB : P' ra t.heap := hB
    rw [ht] at hB
    exact kk ra H1 locs1 hB hS1)
end XKC
