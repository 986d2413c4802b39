/-! THE ARRAY OF VALUE'S CONSTANTS -/
section KV
variable {s : State} {args : Array Value} {D : va_G} {dA : Nat → ClassId} {adr : Nat → Nat}
theorem ev_eqr {t t' : Term} {a : Nat} (h : (Cond.eq t t').before args s = true) (h' : t'.eval args s none [] s = some (.ref a)) : t.eval args s none [] s = some (.ref a) := by
  cases hv : t.eval args s none [] s with
  | none => simp [Cond.before, Cond.holds, Cond.value, hv] at h
  | some w =>
    simp only [Cond.before, Cond.holds, Cond.value, hv, h'] at h
    cases w <;> simp_all
abbrev kVt : Term := .static "CircuitCells$Value" "$VALUES" "[LCircuitCells$Value;"
theorem kn_V0 (hgv : (Jvm.Cond.and given_1 narrow_1).before args s = true) (hK : KN s args adr) : ∃ cell : Cell, s.heap[adr 9299]? = some cell ∧ s.vm.findClass "[LCircuitCells$Value;" = some cell.cls ∧ s.isArrayOf cell (.object "CircuitCells$Value") ∧ cell.vm ≠ .unknown ∧ cell.slots.size = 4 ∧ ∀ (i : Nat) (v : Value), cell.slots[i]? = some v → v.isRef = true := by
  obtain ⟨a, c, cell, k, h1, h2, h3, h4, h5, h6, -⟩ := Cond.exactly_spec (flat_n hgv (.exactly kVt "[LCircuitCells$Value;") (by decide +kernel))
  rw [hK.2.2.2.2.1] at h1
  cases h1
  obtain ⟨t, g1, cl, g2, g3, g4, g5, g6, g7, -⟩ := va_Tof (s := s) (args := args) (tm := kVt) (ty := .object "CircuitCells$Value") (N := 4) (f := fun j => .ref (adr (9200 + j))) (A := kA s) (by decide) (flat_n hgv _ (by decide +kernel)) (ev_int (t := .length kVt) (v := 4) (flat_n hgv _ (by decide +kernel))) (fun j hj => ev_eqr (t' := .static "CircuitCells$Value" (kVn.getD j "") "LCircuitCells$Value;") (flat_n hgv _ (by
    match j, hj with
    | 0, _ => decide +kernel
    | 1, _ => decide +kernel
    | 2, _ => decide +kernel
    | 3, _ => decide +kernel
    | j + 4, hj => exact absurd hj (by omega))) (hK.2.2.1 j hj).1) (fun a h => kA_old h)
  rw [hK.2.2.2.2.1] at g1
  cases g1
  rw [h3] at g2
  cases g2
  obtain ⟨a', cell', e1, e2, e3⟩ := Term.length_spec (ev_int (t := .length kVt) (v := 4) (flat_n hgv _ (by decide +kernel)))
  rw [hK.2.2.2.2.1] at e1
  cases e1
  obtain ⟨e4, -, -, -⟩ := State.arrayAt?_spec e2
  rw [h3] at e4
  cases e4
  have hall := Cond.all_elim hK.2.2.2.2.1 e2 (by simpa [Cond.before, Cond.holds] using flat_n hgv (.all kVt (.le (.index 0) (.int 3))) (by decide +kernel))
  have hsz : cell.slots.size = 4 := by
    rcases Nat.lt_or_ge 4 cell.slots.size with q | q
    · have := hall 4 q
      have e : Cond.value args s none s [4] (.le (.index 0) (.int 3)) = some false := rfl
      rw [e] at this
      cases this
    · omega
  refine ⟨cell, h3, by rw [h6]; exact h2, g3, g4, hsz, fun i v hi => ?_⟩
  have hl := (Array.getElem?_eq_some_iff.mp hi).1
  rw [g7 i (by omega)] at hi
  cases hi
  rfl
theorem kn_dV (hts : ∀ w ∈ lw_tbl, w.before args s = true) (hgv : (Jvm.Cond.and given_1 narrow_1).before args s = true) (hK : KN s args adr) : dV (vG0 D dA (kA s) (kZ s)) (adr 9299) := fun U h => ⟨kn_Z (hts _ (by decide +kernel)) (hts _ (by decide +kernel)) hK.2.2.2.2.1 h, by
  obtain ⟨cell, h1, h2, h3, h4⟩ := kn_V0 hgv hK
  refine ⟨cell, (kZ_at h.2.2.2 (Array.getElem?_eq_some_iff.mp h1).1).trans h1, ?_, ?_, h4⟩
  · exact kZ_tb (G := fun U => U.vm.findClass "[LCircuitCells$Value;" = some cell.cls) (fun hvm h => by rw [hvm.findClass]; exact h) h2 h.2.2.2
  · exact kZ_tb (G := fun U => U.isArrayOf cell (.object "CircuitCells$Value")) (fun hvm h => State.isArrayOf_alike hvm h) h3 h.2.2.2⟩
theorem w_G0 {A : Nat → Prop} {Z : State → Prop} {M : cx_M} {H : Heap} : cx_w (vG0 D dA A Z) M H := ⟨fun k q h => by simp [vG0] at h, fun i j p q h => by simp [vG0] at h, fun k q h => by simp [vG0] at h⟩
theorem kn_dR0 {l : Launch} (hl : l.stackTraces = false) (hts : ∀ w ∈ lw_tbl, w.before args s = true) (hgv : (Jvm.Cond.and given_1 narrow_1).before args s = true) (hK : KN s args adr) (h508 : ¬ adr 508 = 1) : dR l (vG0 D dA (kA s) (kZ s)) adr := ⟨kn_dI hts hgv hK, kn_dT hl hts hgv, fun h => absurd h h508, kn_dSo hts hK, kn_cEn hts hgv hK, kn_rdStr hK, kn_dRk hts hK, kn_dV hts hgv hK⟩
/-- the same for a world with cells at rest -/
theorem kn_dRT {l : Launch} {ta : Nat} (hl : l.stackTraces = false) (hts : ∀ w ∈ lw_tbl, w.before args s = true) (hgv : (Jvm.Cond.and given_1 narrow_1).before args s = true) (hK : KN s args adr) (hta : ta = adr 509) : dR l (vT D dA (kA s) (kZ s) ta) adr :=
  ⟨⟨⟨vT_dB (fun U h q hq => kn_hA h q hq), (kn_dI (D := D) (dA := dA) hts hgv hK).1.2⟩, (kn_dI (D := D) (dA := dA) hts hgv hK).2⟩, kn_dT (D := D) (dA := dA) hl hts hgv, fun _ L P => by rw [← hta]; exact vT_AI L P, kn_dSo (D := D) (dA := dA) hts hK, kn_cEn (D := D) (dA := dA) hts hgv hK, fun w hw => ⟨fun M U _ hk => (kn_rdStr (D := D) (dA := dA) hK w hw).1 M U w_G0 hk, (kn_rdStr (D := D) (dA := dA) hK w hw).2⟩, kn_dRk (D := D) (dA := dA) hts hK, kn_dV (D := D) (dA := dA) hts hgv hK⟩
theorem kn_dRW {l : Launch} {Lx : dL} {Px : dP} {Mx : cx_M} (hl : l.stackTraces = false) (hts : ∀ w ∈ lw_tbl, w.before args s = true) (hgv : (Jvm.Cond.and given_1 narrow_1).before args s = true) (hK : KN s args adr) : dR l (vwG D dA (kA s) (kZ s) adr Lx Px Mx) adr :=
  ⟨⟨⟨vw_dB (fun U h q hq => kn_hA (D := D) (dA := dA) h q hq), (kn_dI (D := D) (dA := dA) hts hgv hK).1.2⟩, (kn_dI (D := D) (dA := dA) hts hgv hK).2⟩, kn_dT (D := D) (dA := dA) hl hts hgv, fun _ L P => cCc_A80 (vU_cCc_H vH_cCc_H), kn_dSo (D := D) (dA := dA) hts hK, kn_cEn (D := D) (dA := dA) hts hgv hK, fun w hw => ⟨fun M U _ hk => (kn_rdStr (D := D) (dA := dA) hK w hw).1 M U w_G0 hk, (kn_rdStr (D := D) (dA := dA) hK w hw).2⟩, kn_dRk (D := D) (dA := dA) hts hK, kn_dV (D := D) (dA := dA) hts hgv hK⟩
end KV
