/-! sums of the JDK's growing -/
theorem e_mx {n : Nat} (h : 10 ≤ n) (hn : n < 1000) : (if (1 : Int32) < nI (n / 2) then nI (n / 2) else 1) = nI (n / 2) := if_pos (nI_lt (a := 1) (b := n / 2) (by omega) (by omega))
theorem e_nmx {n : Nat} (h : 10 ≤ n) (hn : n < 1000) : ¬ (2147483639 < nI (n + n / 2)) := nI_nlt (a := 2147483639) (b := n + n / 2) (by omega) (by decide)
theorem e_mn {N M : Nat} (h : N ≤ M) (hM : M < 100) : (if nI M < nI N then nI M else nI N) = nI N := if_neg (nI_nlt h (by omega))
theorem e_asg {D : xk_G} {s : State} {C : String} (hK : xk_K D s) (hcast : Cond.castable C "java/lang/Object" ∈ lw_tbl) {comp c0 : ClassId} (h1 : s.vm.findClass "java/lang/Object" = some comp) (h2 : s.vm.findClass C = some c0) : s.vm.assignable c0 comp = true := by
  obtain ⟨c1, t1, f1, f2, f3⟩ := Cond.castable_spec (va_Nw.use (A := #[]) rfl (xk_nw hK hcast rfl))
  cases f2.symm.trans h1
  cases f1.symm.trans h2
  exact f3
theorem e_sub1 (n : Nat) : nI (n + 1) - nI n = 1 := by
  rw [← nI_1]
  rw [Int32.add_comm]
  exact Int32.add_sub_cancel 1 (nI n)
theorem e_shr {n : Nat} (h : n < 2147483648) : nI n >>> ((1 : Int32) &&& 31) = nI (n / 2) := by
  have k := pk_shrN (n := n) h ((1 : Int32) &&& 31) 1 (by decide)
  rw [Nat.pow_one] at k
  exact k
theorem e_cpy {n : Nat} (f : Nat → Option Nat) {i : Nat} (h : i < n) : va_cpy f (fun _ => none) 0 0 n i = f i := by
  simp [va_cpy, h]
theorem e_arO {D : xk_G} {s : State} {a N : Nat} {f : Nat → Option Nat} {H : Heap} (hK : xk_K D s) (h : bQ D a 1 N f H) : ∃ cell : Cell, H[a]? = some cell ∧ cell.vm.isStatics = false ∧ s.vm.findClass "[Ljava/lang/Object;" = some cell.cls :=
  ⟨_, h, rfl, va_nmO (hK.1.2 1 (D.2 1, .object "java/lang/Object") rfl).2 (by decide +kernel)⟩
