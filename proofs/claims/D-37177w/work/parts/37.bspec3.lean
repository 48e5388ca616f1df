/-! reads of the body; what its public methods answer when they do -/
theorem mk_inP1 {j k : Nat} (h1 : 1 ≤ j) (h : j ≤ k) (hk : k < 2147483648) : mk_in (nI j) 1 (nI k) := ⟨fun z => absurd ((nI_ltI (a := j) (b := 1) (by omega) (by omega)).mp z) (by omega), fun z => absurd ((nI_ltI (by omega) (by omega)).mp z) (by omega)⟩
theorem mk_down0 {i x : Nat} (h1 : i ≤ x) (hx : x < 2147483648) (c : nI (x - i) ≤ 0) : i = x := by
  rcases Nat.lt_or_ge i x with h | h
  · exact absurd c (Int32.not_le.mpr ((nI_ltI (a := 0) (b := x - i) (by omega) (by omega)).mpr (by omega)))
  · omega
theorem mk_down1 {i x : Nat} (h : i < x) : nI (x - i) + (-1) = nI (x - (i + 1)) := by
  rw [show x - i = (x - (i + 1)) + 1 by omega]
  exact xk_dec _
theorem mk_down2 {i x : Nat} (h1 : i ≤ x) (c : ¬ (nI (x - i) ≤ 0)) : i < x := by
  rcases Nat.lt_or_ge i x with h | h
  · exact h
  · exfalso
    rw [show x - i = 0 by omega] at c
    exact c (by decide)
section BN
variable {p : Program} {l : Launch} {e : Env} {R : Room} {s : State} {m : MethodId} {args : Array Value} {below : List Frame} {meth : Method} {c : Code} {H : Heap} {locs : List Loc} {cells slots : Nat} {Q : State → Prop}
variable {cc bytes : ByteArray} {pc maxL nL index a mc ms : Nat} {ls : Array Slot} {rest st0 As : List Value} {D : xk_G} {A : Nat → Prop} {own C : String} {y : MethodName} {rm : Room} {P : Heap → Prop}
theorem xk_cvN (S : xk_At p s m args meth c cc nL own) (hK : xk_K D s) (hP : P H) (hA : ∀ q, s.heap.size ≤ q → A q) (hS : va_S A s.heap H locs) {b n : Nat} {host : String} (hrecv : ∃ cell : Cell, H[b]? = some cell ∧ cell.vm.isStatics = false ∧ s.vm.findClass C = some cell.cls) {P' : Heap → Prop}
    (hM : Met l y (ws_ y bytes maxL none) rm (xk_Pre D A P (.ref b :: As)) (xk_Pv A P') mc ms A) (cw : va_CN R s args own index y host bytes maxL none (ws_ y bytes maxL none) rm mc ms n ∧ (Cond.instanceMethod y).before args s = true ∧ (Cond.selects C y y).before args s = true) (hn : As.length = n) (hsz : ls.size = nL) (hst : st0 = As.reverse ++ .ref b :: rest) (hroom : (rest.map fun v => v.category).sum ≤ 8) (hdg : decode cc pc = .ok (.invokevirtual index, 3)) (hf : cells + mc ≤ R.cells ∧ slots + ms ≤ R.slots)
    (kk : ∀ (H : Heap) (locs : List Loc), P' H → va_S A s.heap H locs → W p l e R s m args below meth c H locs (cells + mc) (slots + ms) Q (F0 m (pc + 3) ls rest)) : W p l e R s m args below meth c H locs cells slots Q (F0 m pc ls st0) :=
  xk_cv (va_runVN (As := As) (rest := rest) ⟨S.1, S.2.1, S.2.2.1, S.2.2.2.1, S.2.2.2.2⟩ hM cw (xk_preV hK hP (fun q h => hA q (Nat.le_trans hS.1 h)) hrecv) rfl hn hsz hst (lv_room hroom) hdg hf) hS kk
theorem xk_crN (S : xk_At p s m args meth c cc nL own) (hK : xk_K D s) (hP : P H) (hA : ∀ q, s.heap.size ≤ q → A q) (hS : va_S A s.heap H locs) {b n : Nat} {host : String} (hrecv : ∃ cell : Cell, H[b]? = some cell ∧ cell.vm.isStatics = false ∧ s.vm.findClass C = some cell.cls) {P' : Nat → Heap → Prop}
    (hM : Met l y (ws_ y bytes maxL ret) rm (xk_Pre D A P (.ref b :: As)) (xk_Pr A P') mc ms A) (cw : va_CN R s args own index y host bytes maxL ret (ws_ y bytes maxL ret) rm mc ms n ∧ (Cond.instanceMethod y).before args s = true ∧ (Cond.selects C y y).before args s = true) (hn : As.length = n) (hsz : ls.size = nL) (hst : st0 = As.reverse ++ .ref b :: rest) (hroom : (rest.map fun v => v.category).sum ≤ 8) (hdg : decode cc pc = .ok (.invokevirtual index, 3)) (hf : cells + mc ≤ R.cells ∧ slots + ms ≤ R.slots)
    (kk : ∀ (r : Nat) (H : Heap) (locs : List Loc), P' r H → va_S A s.heap H locs → W p l e R s m args below meth c H locs (cells + mc) (slots + ms) Q (F0 m (pc + 3) ls (.ref r :: rest))) : W p l e R s m args below meth c H locs cells slots Q (F0 m pc ls st0) :=
  xk_cr (va_runVN (As := As) (rest := rest) ⟨S.1, S.2.1, S.2.2.1, S.2.2.2.1, S.2.2.2.2⟩ hM cw (xk_preV hK hP (fun q h => hA q (Nat.le_trans hS.1 h)) hrecv) rfl hn hsz hst (lv_room hroom) hdg hf) hS kk
end BN
def bk_s1 (nw : Nat → Int32) (x : Nat) : Nat → Int32
  | 0 => 0
  | k + 1 => bk_s1 nw x k + (if x = 2 then nw (40 + k) else 0)
def bk_s2 (nw : Nat → Int32) (x : Nat) (a : Int32) : Nat → Int32
  | 0 => a
  | k + 1 => bk_s2 nw x a k + (if x = 4 then nw (144 + k) else 0)
def bk_sum (nw : Nat → Int32) (n : Nat → Nat) (x : Nat) : Int32 := match x with
  | 0 => nw 152
  | 1 => nw 153
  | 3 => mk_sumI nw (n 4)
  | 5 => nw 154
  | _ => bk_s2 nw x (bk_s1 nw x (n 3)) 8
def bk_l1 (σ : Nat → Nat → Int32) (x : Int32) : Nat → Int32
  | 0 => 0
  | k + 1 => bk_l1 σ x k ||| xk_b ((σ 3 k + (4 * σ 4 k)) = (x - x / 16 * 16))
def bk_l2 (σ : Nat → Nat → Int32) (x : Int32) : Nat → Int32
  | 0 => 0
  | k + 1 => bk_l2 σ x k ||| xk_b (σ 5 k = nI (mk_ln x 2))
abbrev bk_isL (σ : Nat → Nat → Int32) (n : Nat → Nat) (x : Int32) : Prop := ¬ (bk_l1 σ x (n 1) = 0) ∧ ¬ (bk_l2 σ x (n 2) = 0)
def bk_o3 (σ : Nat → Nat → Int32) (n : Nat → Nat) (x : Int32) (a b : Nat) (f : Int32) : Nat → Int32
  | 0 => f
  | z + 1 => bk_o3 σ n x a b f z ||| xk_b (mk_tch σ (bk_lock σ a b (nI z)) x ∧ mk_school σ (mk_near σ n (bk_lock σ a b (nI z))) = 2)
def bk_o2 (σ : Nat → Nat → Int32) (n : Nat → Nat) (x : Int32) (a : Nat) (f : Int32) : Nat → Int32
  | 0 => f
  | b + 1 => bk_o3 σ n x a b (bk_o2 σ n x a f b) 4
def bk_o1 (σ : Nat → Nat → Int32) (n : Nat → Nat) (x : Int32) : Nat → Int32
  | 0 => 0
  | a + 1 => bk_o2 σ n x a (bk_o1 σ n x a) (n 2)
abbrev bk_hole (σ : Nat → Nat → Int32) (n : Nat → Nat) (x : Int32) : Prop := bk_o1 σ n x (n 1) = 0
def bk_holesR (σ : Nat → Nat → Int32) (n : Nat → Nat) : Nat → Int32
  | 0 => 0
  | k + 1 => bk_holesR σ n k + xk_b (bk_hole σ n (nI k))
abbrev bk_hx1 (σ : Nat → Nat → Int32) (n : Nat → Nat) (c : Int32) (i : Nat) : Prop := mk_tch σ (nI i) c ∧ (bk_isL σ n (nI i) ∧ mk_school σ (mk_near σ n (nI i)) = 2)
def bk_hx (σ : Nat → Nat → Int32) (n : Nat → Nat) (c : Int32) : Nat → Int32
  | 0 => 0
  | i + 1 => if bk_hx σ n c i = 0 then xk_b (bk_hx1 σ n c i) else bk_hx σ n c i
theorem bk_hx_st (σ : Nat → Nat → Int32) (n : Nat → Nat) (c : Int32) (i : Nat) (h : bk_hx σ n c i = 0) : xk_b (bk_hx1 σ n c i) = bk_hx σ n c (i + 1) := (if_pos h).symm
theorem bk_hx_up (σ : Nat → Nat → Int32) (n : Nat → Nat) (c : Int32) {i N : Nat} (hi : i ≤ N) (h : ¬ (bk_hx σ n c i = 0)) : bk_hx σ n c i = bk_hx σ n c N := by
  have hh : ∀ j, bk_hx σ n c (i + j) = bk_hx σ n c i := by
    intro j
    induction j with
    | zero => rfl
    | succ j ih =>
      show (if bk_hx σ n c (i + j) = 0 then xk_b (bk_hx1 σ n c (i + j)) else bk_hx σ n c (i + j)) = _
      rw [if_neg (by rw [ih]; exact h), ih]
  have := hh (N - i)
  rw [show i + (N - i) = N by omega] at this
  exact this.symm
def bk_hxA (σ : Nat → Nat → Int32) (n : Nat → Nat) (c : Int32) : Int32 := if σ 0 0 = σ 0 0 then bk_hx σ n c 256 else 0
theorem bk_hxA_of1 (σ : Nat → Nat → Int32) (n : Nat → Nat) (c : Int32) {i : Nat} (h : i = 256) : bk_hx σ n c i = bk_hxA σ n c := by
  unfold bk_hxA
  rw [if_pos rfl, h]
theorem bk_hxA_of2 (σ : Nat → Nat → Int32) (n : Nat → Nat) (c : Int32) {i : Nat} (hi : i ≤ 256) (h : ¬ (bk_hx σ n c i = 0)) : bk_hx σ n c i = bk_hxA σ n c := by
  unfold bk_hxA
  rw [if_pos rfl]
  exact bk_hx_up σ n c hi h
def bk_ha (σ : Nat → Nat → Int32) (n : Nat → Nat) : Nat → Int32
  | 0 => 256
  | k + 1 => bk_ha σ n k - xk_b (¬ (bk_hxA σ n (nI k) = 0))
/-! why -/
def bk_w1 (σ : Nat → Nat → Int32) (b : Nat) : Nat → Int32
  | 0 => 0
  | k + 1 => bk_w1 σ b k ||| xk_b (mk_wt σ b k)
def bk_w2 (σ : Nat → Nat → Int32) (nw : Nat → Int32) (b : Nat) : Nat → Int32
  | 0 => 0
  | k + 1 => bk_w2 σ nw b k ||| xk_b (mk_wt σ b k ∧ ¬ (bk_lost nw k))
def bk_w3 (σ : Nat → Nat → Int32) (nw : Nat → Int32) (b : Nat) : Nat → Int32
  | 0 => 0
  | k + 1 => bk_w3 σ nw b k ||| xk_b (mk_wt σ b k ∧ (¬ (bk_lost nw k) ∧ ¬ (nw k = 4)))
def bk_w4 (σ : Nat → Nat → Int32) (nw : Nat → Int32) (b : Nat) : Nat → Int32
  | 0 => 0
  | k + 1 => bk_w4 σ nw b k ||| xk_b (mk_wt σ b k ∧ nw k = 3)
def bk_w5 (σ : Nat → Nat → Int32) (nw : Nat → Int32) (b : Nat) : Nat → Int32
  | 0 => 0
  | k + 1 => bk_w5 σ nw b k ||| xk_b (mk_wt σ b k ∧ bk_is σ nw k 0 3)
def bk_why (σ : Nat → Nat → Int32) (nw : Nat → Int32) (n : Nat → Nat) (b : Nat) : Int32 :=
  if nw (120 + b) = 0 then 1 else (if bk_w1 σ b (n 3) = 0 then 2 else (if bk_w2 σ nw b (n 3) = 0 then 3 else (if bk_w3 σ nw b (n 3) = 0 then 4 else (if bk_w4 σ nw b (n 3) = 0 then 5 else (if bk_w5 σ nw b (n 3) = 0 then 6 else 0)))))
