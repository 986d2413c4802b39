/-! THE SITES OF FUNCTION OBJECTS RIDE -/
theorem kn_lam {s t : State} (hW : s.WarmedH t.vm) {x : MethodName} {pc index : Nat} {σ : Lambda.Shape} {c : ClassId} {one : Option Addr} (h : s.lambdaAt? x pc index σ = some (c, one)) (ha : ∀ a, one = some a → t.heap[a]? = s.heap[a]?) : t.lambdaAt? x pc index σ = some (c, one) := by
  obtain ⟨m, kc, cf, i0, p0, l, hm, hk, hcf, hsh, hin, hfind, hmade, hcall, hl⟩ := State.lambdaAt?_spec h
  have hcall' : t.lambdaCallable σ c = true := by
    have hA := hW.alike
    simp only [State.lambdaCallable, hA.findClass, hA.assignable, hA.superclasses, hA.declaredIn] at hcall ⊢
    exact hcall
  obtain ⟨kc', hk', he⟩ := hW.alike.2.2 _ _ hk
  have hm' : t.methodNamed? x = some m := by
    have := State.methodNamed?_setVm (s := s) hW.alike x
    rw [hm] at this
    exact this
  have hcf' : kc'.cf = some cf := by rw [he]; exact hcf
  have hin' : (m.idx, pc, index, σ) ∈ Lambda.sitesOf kc' := by rw [he]; exact hin
  have hfind' : (kc'.callSites.find? fun y => y.1 == m.idx && y.2.1 == pc) = some (i0, p0, l) := by rw [he]; exact hfind
  have hmade' := Lambda.isMade_warmer hW hmade
  obtain ⟨m2, k2, hm2, hk2, hjdk, howes⟩ := State.lambdaAt?_road h
  cases hm.symm.trans hm2
  cases hk.symm.trans hk2
  have hjdk' : jdkName kc'.name = false := by rw [he]; exact hjdk
  have howes' : (t.vm.findClass σ.iface).bind (Lambda.owesInit t.vm) = none := by
    rw [hW.alike.findClass]
    cases hfi : s.vm.findClass σ.iface with
    | none => rfl
    | some i => rw [hfi] at howes; simpa [Lambda.owesInit_alike hW.alike] using howes
  have hany : ((Lambda.sitesOf kc').any fun y => decide (y = (m.idx, pc, index, σ))) = true := by simpa using hin'
  rcases hl with ⟨a, cell, rfl, rfl, hcap, hcell, rfl, hvm, hslots⟩ | ⟨rfl, rfl, hcap⟩
  · have hc' : t.heap[a]? = some cell := (ha a rfl).trans hcell
    simp [State.lambdaAt?, guard, hjdk', howes', hm', hk', hcf', hsh, hany, hfind', hc', hcap, hmade', hcall', hvm, hslots]
  · simp [State.lambdaAt?, guard, hjdk', howes', hm', hk', hcf', hsh, hany, hfind', hcap, hmade', hcall']
theorem warm_self (s : State) : s.WarmedH s.vm := ⟨rfl, rfl, fun d k h => ⟨k, h, rfl, rfl, fun i => Or.inl rfl, Or.inl ⟨rfl, rfl⟩⟩⟩
theorem di_moved {x : MethodName} (hx : x.cls ≠ "java/lang/invoke/MethodHandle" ∧ x.cls ≠ "java/lang/invoke/VarHandle") {u U : State} (hvm : u.vm.Alike U.vm) (h : (Cond.declares x).before #[] u = true ∧ (Cond.interfaceMethod x.cls x.cls x.name x.desc).before #[] u = true) : (Cond.declares x).before #[] U = true ∧ (Cond.interfaceMethod x.cls x.cls x.name x.desc).before #[] U = true := by
  obtain ⟨h1, h2⟩ := h
  obtain ⟨r, meth, hn, -⟩ := Cond.declares_spec h1
  have tr : ∀ {c : Cond}, c.onTables = true → c.before #[] (u.setVm U.vm) = true → c.before #[] U = true := by
    intro c hc h
    have e := Cond.onTables_vm (A := #[]) (A' := #[]) (U := u) (U' := U) U.vm c hc
    have hU : U.setVm U.vm = U := rfl
    rw [hU] at e
    rw [← e]
    exact h
  exact ⟨tr rfl (by rw [Cond.declares_setVm hvm]; exact h1), tr rfl (by rw [Cond.interfaceMethod_setVm hvm (r := r) hn hx]; exact h2)⟩
section KLm
variable {s : State} {args : Array Value} {D : va_G} {dA : Nat → ClassId}
theorem kn_lmK {x : MethodName} {pc index : Nat} {σ : Lambda.Shape} {c : ClassId} {one : Option Addr} (hi : σ.iface ≠ "java/lang/invoke/MethodHandle" ∧ σ.iface ≠ "java/lang/invoke/VarHandle") (h0 : s.lambdaAt? x pc index σ = some (c, one)) (h1 : (Cond.declares ⟨σ.iface, σ.name, σ.sam.toString⟩).before args s = true) (h2 : (Cond.interfaceMethod σ.iface σ.iface σ.name σ.sam.toString).before args s = true) {U : State} (h : cx_K (vG0 D dA (kA s) (kZ s)) U) : lm_K x pc index σ c one U := by
  have hold : ∀ a, one = some a → a < s.heap.size := by
    intro a e
    obtain ⟨m, kc, cf, i0, p0, l, -, -, -, -, -, -, -, -, hl⟩ := State.lambdaAt?_spec h0
    rcases hl with ⟨a', cell, -, e', -, hcell, -⟩ | ⟨-, e', -⟩
    · rw [e'] at e
      cases e
      exact (Array.getElem?_eq_some_iff.mp hcell).1
    · rw [e'] at e
      cases e
  refine ⟨?_, kZ_tb (G := fun U => (Cond.declares ⟨σ.iface, σ.name, σ.sam.toString⟩).before #[] U = true ∧ (Cond.interfaceMethod σ.iface σ.iface σ.name σ.sam.toString).before #[] U = true) (fun hvm h => di_moved (x := ⟨σ.iface, σ.name, σ.sam.toString⟩) hi hvm h) ⟨va_Nw.of rfl h1, va_Nw.of rfl h2⟩ h.2.2.2⟩
  have := h.2.2.2 (fun U => s.heap.size ≤ U.heap.size ∧ U.lambdaAt? x pc index σ = some (c, one)) ⟨Nat.le_refl _, h0⟩ (fun u V hu hv hs hq => ⟨Nat.le_trans hu.1 hs, kn_lam (hv.elim (fun h => h) (fun e => by rw [← e]; exact warm_self u)) hu.2 (fun a e => hq a (Nat.lt_of_lt_of_le (hold a e) hu.1) (kA_old (hold a e)))⟩)
  exact this.2
end KLm
