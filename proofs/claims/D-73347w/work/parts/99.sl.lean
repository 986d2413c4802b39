/-! THE PLAIN LAW: what holds at the loop's head, and a turn of the loop (but line) -/
def pi_P (KA : (Nat → Nat) → Prop) : lwPI := fun i adr Lx Px Mx ev f M P L k n o => KA adr ∧ vX adr Lx Px Mx ev ∧ ∃ t E A, i = 6 * t ∧ t ≤ 64 ∧ 30000 ≤ f ∧ qAI E A ∧ pi_W A ∧ cx_max 1 (ev 2 (fun _ => 0)) = E.1 7 ∧ pi_S f ev adr o E A M P L ∧ k ≤ 40000 + 18000 * t ∧ n ≤ 300000 + 80000 * t
theorem pi_bound {KA : (Nat → Nat) → Prop} : lwBound (pi_P KA) KA := by
  intro i adr Lx Px Mx ev f M P L k n o h
  obtain ⟨hK, hX, t, E, A, -, ht, -, -, -, -, -, hk, hn⟩ := h
  exact ⟨hK, hX, by omega, by omega⟩
/-- what line owes -/
def pi_line (dA : Nat → ClassId) (KA : (Nat → Nat) → Prop) (xs : Nat → Int32) (m : Nat) : Prop := ∀ i adr Lx Px Mx ev f M P L k n o, pi_P KA i adr Lx Px Mx ev f M P L k n o → i + 6 ≤ m → lwLine dA (pi_P KA) KA xs i adr Lx Px Mx f M P L k n o
theorem pi_a1 {k k' t u : Nat} (hu : u = t + 1) (h : k ≤ 40000 + 18000 * t) (h' : k' ≤ k + 2100) : k' ≤ 40000 + 18000 * u := by omega
theorem pi_a2 {k k' t u : Nat} (hu : u = t + 1) (h : k ≤ 300000 + 80000 * t) (h' : k' ≤ k + 9000) : k' ≤ 300000 + 80000 * u := by omega
theorem pi_sw {x : Int32} {Bs : List Prop} {D : Prop} (hD : ¬ (0 ≤ x.toInt ∧ x.toInt < Bs.length) → D) (h : ∀ p ∈ Bs, p) : cq_sw x 0 Bs D := by
  unfold cq_sw
  by_cases c : x.toInt < 0 ∨ 0 + (Bs.length : Int) ≤ x.toInt
  · rw [if_pos c]
    exact hD (fun z => by omega)
  · rw [if_neg c, List.getD_eq_getElem?_getD, List.getElem?_eq_getElem (by omega)]
    exact h _ (List.getElem_mem _)
theorem pi_step {dA : Nat → ClassId} {KA : (Nat → Nat) → Prop} {xs : Nat → Int32} {m : Nat} (hm : m ≤ 384) (hline : pi_line dA KA xs m) : lwStep dA (pi_P KA) KA xs m := by
  intro i adr Lx Px Mx ev f M P L k n o h hi
  have hL := hline i adr Lx Px Mx ev f M P L k n o h hi
  obtain ⟨hK, hX, t, E, A, et, ht, hf, hA, hW, h7, hS, hk, hn⟩ := h
  have hk1 : k ≤ 1180000 := by omega
  have hn1 : n ≤ 5350000 := by omega
  have hR : pi_K f ev adr o E k n (fun M P L k n => pi_P KA (i + 6) adr Lx Px Mx ev f M P L k n o) :=
    fun A' M' P' L' k' n' hA' hW' hS' hk' hn' => by
      have e1 : i + 6 = 6 * (t + 1) := by omega
      have e2 : t + 1 ≤ 64 := by omega
      have e3 : k' ≤ 40000 + 18000 * (t + 1) := pi_a1 rfl hk hk'
      have e4 : n' ≤ 300000 + 80000 * (t + 1) := pi_a2 rfl hn hn'
      exact ⟨hK, hX, t + 1, E, A', e1, e2, hf, hA', hW', h7, hS', e3, e4⟩
  generalize (fun M P L k n => pi_P KA (i + 6) adr Lx Px Mx ev f M P L k n o) = R at hR ⊢
  generalize lwLine dA (pi_P KA) KA xs i adr Lx Px Mx f M P L k n o = LINE at hL ⊢
  generalize xs i &&& 31 = x
  have h0 : R M P L k n := hR A M P L k n hA hW hS (by omega) (by omega)
  unfold lwCase
  refine pi_sw (fun _ => h0) ?_
  exact List.forall_mem_cons.mpr ⟨pi_c0 hf hA hW hS hR, List.forall_mem_cons.mpr ⟨hL, List.forall_mem_cons.mpr ⟨pi_c2 hf hA hW hS hR, List.forall_mem_cons.mpr ⟨pi_c3 hk1 hn1 hf hA hW hS hR, List.forall_mem_cons.mpr ⟨pi_c4 hk1 hn1 h7 hf hA hW hS hR, List.forall_mem_cons.mpr ⟨pi_c5 hk1 hn1 hf hA hW hS hR, List.forall_mem_cons.mpr ⟨pi_c6 hk1 hn1 hf hA hW hS hR, List.forall_mem_cons.mpr ⟨pi_c7 hk1 hn1 hf hA hW hS hR, List.forall_mem_cons.mpr ⟨pi_c8 hk1 hn1 hf hA hW hS hR, List.forall_mem_cons.mpr ⟨pi_c9 hk1 hn1 hf hA hW hS hR, List.forall_mem_cons.mpr ⟨pi_c10 hk1 hn1 hf hA hW hS hR, List.forall_mem_cons.mpr ⟨pi_c11 hf hA hW hS hR, List.forall_mem_cons.mpr ⟨pi_c12 hf hA hW hS hR, List.forall_mem_cons.mpr ⟨pi_c13 hf hA hW hS hR, List.forall_mem_cons.mpr ⟨pi_c14 hk1 hn1 hf hA hW hS hR, List.forall_mem_cons.mpr ⟨pi_c15 hf hA hW hS hR, List.forall_mem_cons.mpr ⟨pi_c16 hk1 hn1 hf hA hW hS hR, List.forall_mem_cons.mpr ⟨pi_c17 hk1 hn1 hf hA hW hS hR, List.forall_mem_cons.mpr ⟨pi_c18 hf hA hW hS hR, List.forall_mem_cons.mpr ⟨pi_c19 hk1 hn1 hf hA hW hS hR, List.forall_mem_cons.mpr ⟨pi_c20 hk1 hn1 hf hA hW hS hR, List.forall_mem_cons.mpr ⟨pi_c21 hf hA hW hS hR, List.forall_mem_cons.mpr ⟨pi_c22 hk1 hn1 hf hA hW hS hR, List.forall_mem_cons.mpr ⟨pi_c23 hk1 hn1 hf hA hW hS hR, List.forall_mem_cons.mpr ⟨pi_c24 hf hA hW hS hR, List.forall_mem_cons.mpr ⟨pi_c25 hk1 hn1 hf hA hW hS hR, List.forall_mem_cons.mpr ⟨pi_c26 hk1 hn1 hf hA hW hS hR, List.forall_mem_cons.mpr ⟨pi_c27 hf hA hW hS hR, List.forall_mem_cons.mpr ⟨pi_c28 hf hA hW hS hR, fun p hp => absurd hp (by simp)⟩⟩⟩⟩⟩⟩⟩⟩⟩⟩⟩⟩⟩⟩⟩⟩⟩⟩⟩⟩⟩⟩⟩⟩⟩⟩⟩⟩⟩
