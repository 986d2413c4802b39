/-! WHAT IS KNOWN OF EVERY STATE BEHIND THE LAW'S ENTRY -/
def kA (s : State) : Nat → Prop := fun q => s.heap.size ≤ q
def kZ (s U : State) : Prop := ∀ F : State → Prop, F s → (∀ u V : State, F u → (u.WarmedH V.vm ∨ u.vm = V.vm) → u.heap.size ≤ V.heap.size → (∀ q : Nat, q < u.heap.size → ¬ kA s q → V.heap[q]? = u.heap[q]?) → F V) → F U
section KZ
variable {s : State}
theorem kZ_self : kZ s s := fun F h0 _ => h0
theorem kZ_zc {D : va_G} {dA : Nat → ClassId} : cx_Zc (vG0 D dA (kA s) (kZ s)) := fun u V hu hv hs hq F h0 hst => hst u V (hu F h0 hst) hv hs hq
theorem kZ_alike {u V : State} (h : u.WarmedH V.vm ∨ u.vm = V.vm) : u.vm.Alike V.vm := by
  rcases h with h | h
  · exact h.alike
  · rw [h]; exact Vm.Alike.refl _
theorem kZ_mv {G : State → Heap → Prop} (hm : ∀ {u U : State} {H : Heap}, u.vm.Alike U.vm → G u H → G U H) (hk : ∀ {U : State} {H H1 : Heap}, G U H → (∀ a : Nat, a < H.size → ¬ kA s a → H1[a]? = H[a]?) → G U H1) (h0 : G s s.heap) {U : State} (h : kZ s U) : G U U.heap :=
  h (fun U => G U U.heap) h0 (fun u V hu hv _ hq => hk (hm (kZ_alike hv) hu) hq)
/-- a fact of the tables alone -/
theorem kZ_tb {G : State → Prop} (hm : ∀ {u U : State}, u.vm.Alike U.vm → G u → G U) (h0 : G s) {U : State} (h : kZ s U) : G U := h G h0 (fun u V hu hv _ _ => hm (kZ_alike hv) hu)
theorem kZ_sz {U : State} (h : kZ s U) : s.heap.size ≤ U.heap.size := h (fun U => s.heap.size ≤ U.heap.size) (Nat.le_refl _) (fun _ _ hu _ hs _ => Nat.le_trans hu hs)
theorem kZ_at {U : State} (h : kZ s U) {q : Nat} (hq : q < s.heap.size) : U.heap[q]? = s.heap[q]? := by
  have := h (fun U => s.heap.size ≤ U.heap.size ∧ U.heap[q]? = s.heap[q]?) ⟨Nat.le_refl _, rfl⟩ (fun u V hu hv hs hp => ⟨Nat.le_trans hu.1 hs, (hp q (Nat.lt_of_lt_of_le hq hu.1) (Nat.not_le.mpr hq)).trans hu.2⟩)
  exact this.2
theorem kA_old {a : Nat} (h : a < s.heap.size) : ¬ kA s a := Nat.not_le.mpr h
theorem ev_int {args : Array Value} {t : Term} {v : Int32} (h : (Cond.eq t (.int v)).before args s = true) : t.eval args s none [] s = some (.int v) := by
  cases hv : t.eval args s none [] s with
  | none => simp [Cond.before, Cond.holds, Cond.value, hv] at h
  | some w =>
    have e : (Term.int v).eval args s none [] s = some (.int v) := rfl
    simp only [Cond.before, Cond.holds, Cond.value, hv, e] at h
    cases w <;> simp_all
theorem ev_ref {args : Array Value} {t : Term} {C : String} (h : (Cond.exactly t C).before args s = true) : ∃ a : Nat, t.eval args s none [] s = some (.ref a) ∧ cx_RO C a s := by
  obtain ⟨a, c, cell, k, h1, h2, h3, h4, h5, h6, -⟩ := Cond.exactly_spec h
  exact ⟨a, h1, cell, h3, h5, by rw [h6]; exact h2⟩
theorem flat_n {args : Array Value} (hgv : (Jvm.Cond.and given_1 narrow_1).before args s = true) (w : Cond) (h : w ∈ flatC (Jvm.Cond.and given_1 narrow_1)) : w.before args s = true := flat_of_before _ hgv w h
variable {D : va_G} {dA : Nat → ClassId} {args : Array Value}
theorem kn_Z {C n d : String} {v : Value} (hl : (Cond.laysStatic C n d).before args s = true) (hini : (Cond.initialized C).before args s = true) (hv : (Term.static C n d).eval args s none [] s = some v) {U : State} (h : cx_K (vG0 D dA (kA s) (kZ s)) U) : va_Z C n d v (kA s) U U.heap :=
  kZ_mv (G := fun U H => va_Z C n d v (kA s) U H) (fun hvm h => va_Z.moved hvm h) (fun h hq => va_Z.kept h hq) (va_Zof hl hini hv (fun a h => kA_old h)) h.2.2.2
theorem kn_Zq {C n d : String} (hl : (Cond.laysStatic C n d).before args s = true) (hini : (Cond.initialized C).before args s = true) (hv : (Cond.isRef (.static C n d)).before args s = true) {U : State} (h : cx_K (vG0 D dA (kA s) (kZ s)) U) : va_Zq C n d (kA s) U U.heap :=
  kZ_mv (G := fun U H => va_Zq C n d (kA s) U H) (fun hvm h => va_Zq.moved hvm h) (fun h hq => va_Zq.kept h hq) (va_Zqof hl hini hv (fun a h => kA_old h)) h.2.2.2
theorem kn_AO {C : String} (h0 : (Cond.arrayOver (.object C)).before args s = true) {U : State} (h : cx_K (vG0 D dA (kA s) (kZ s)) U) : va_AO C U :=
  kZ_tb (G := fun U => va_AO C U) (fun hvm h => va_AO.moved hvm h) (va_AO.of h0) h.2.2.2
theorem kn_Nc {C T : String} (h0 : (Cond.not (.castable C T)).before args s = true) {U : State} (h : cx_K (vG0 D dA (kA s) (kZ s)) U) : va_Nc C T U :=
  kZ_tb (G := fun U => va_Nc C T U) (fun hvm h => va_Nc.moved hvm h) (va_Nc.of h0) h.2.2.2
theorem kn_RO {C : String} {a : Nat} (h0 : cx_RO C a s) {U : State} (h : cx_K (vG0 D dA (kA s) (kZ s)) U) : cx_RO C a U := by
  obtain ⟨cell, h1, h2, h3⟩ := h0
  refine ⟨cell, (kZ_at h.2.2.2 (Array.getElem?_eq_some_iff.mp h1).1).trans h1, h2, ?_⟩
  exact kZ_tb (G := fun U => U.vm.findClass C = some cell.cls) (fun hvm h => by rw [hvm.findClass]; exact h) h3 h.2.2.2
theorem kn_cJ (hts : ∀ w ∈ lw_tbl, w.before args s = true) (hgv : (Jvm.Cond.and given_1 narrow_1).before args s = true) : cJ_H (vG0 D dA (kA s) (kZ s)) := fun U h => ⟨kn_Z (hts _ (by decide +kernel)) (hts _ (by decide +kernel)) (ev_int (flat_n hgv _ (by decide +kernel))) h, kn_Zq (hts _ (by decide +kernel)) (hts _ (by decide +kernel)) (flat_n hgv _ (by decide +kernel)) h⟩
theorem kn_Nc1 (hgv : (Jvm.Cond.and given_1 narrow_1).before args s = true) : lwN (vG0 D dA (kA s) (kZ s)) := fun U h => kn_Nc (flat_n hgv _ (by decide +kernel)) h
end KZ
