/-! CLASSES, ARRAYS, THE SCRIPT: by program (gen/know.py) -/
theorem cx_nst_on {w : Cond} (h : cx_nst w = true) : w.onTables = true := by
  cases w <;> first | rfl | (simp [cx_nst] at h)
section KC
variable {s : State} {args : Array Value} {D : va_G} {dA : Nat → ClassId} {adr : Nat → Nat}
theorem kn_lwS {b m : Nat} {xs : Nat → Int32} (hX : va_X b m xs s s.heap) (hb : b < s.heap.size) : lwS (vG0 D dA (kA s) (kZ s)) b m xs := fun U h => ⟨kZ_mv (G := fun U H => va_X b m xs U H) (fun hvm h => va_X.moved hvm h) (fun h hq => by
  have h1 := h
  obtain ⟨scr, c1, -⟩ := h1
  exact va_X.kept h (hq b (Array.getElem?_eq_some_iff.mp c1).1 (kA_old hb))) hX h.2.2.2, Nat.lt_of_lt_of_le hb (kZ_sz h.2.2.2), kA_old hb⟩
theorem kn_nst (hts : ∀ w ∈ lw_tbl, w.before args s = true) : ∀ w ∈ lw_tbl, cx_nst w = true → va_Nw w s := fun w hw hn => va_Nw.of (cx_nst_on hn) (hts w hw)
theorem arr_P {ty : FieldType} (h : (Cond.arrayClass ty).before args s = true) : ∃ cA, ArrOfT s cA ty ∧ s.vm.findClass ("[" ++ ty.toString) = some cA := by
  obtain ⟨c, k, comp, h1, h2, h3⟩ := Cond.arrayClass_spec h
  exact ⟨c, fun n z => ⟨fun k h => (by cases h), k, h2, comp, h3⟩, h1⟩
theorem arr_O {C : String} (h : (Cond.arrayOver (.object C)).before args s = true) : ∃ cA, ArrOfT s cA (.object C) ∧ va_RA s cA (.object C) := by
  obtain ⟨comp, c, k, h1, h2, h3, h4, h5⟩ := Cond.arrayOver_spec h
  exact ⟨c, fun n z => ⟨fun k h => (by cases h), k, h3, comp, h4⟩, k, comp, h3, h4, h1, h5⟩
theorem kn_cl (hts : ∀ w ∈ lw_tbl, w.before args s = true) : ∃ D : va_G, ∀ (c : Nat) (q : vw_C), vwCl[c]? = some q → u_Kn s q.1 q.2.1 q.2.2 (D.1 c) (D.2 c) := by
  have hta : ∀ w ∈ lw_all, w.before args s = true := fun w hw => hts w (List.mem_filter.mp hw).1
  obtain ⟨c0, i0, k0⟩ := u_known (C := RX10) (T := TX10) (N := 52) (n := 52) hta in_X10 (hts _ (List.mem_filter.mp q2370).1)
  obtain ⟨c1, i1, k1⟩ := u_known (C := RX1) (T := TX1) (N := 17) (n := 17) hta in_X1 (hts _ (List.mem_filter.mp q171).1)
  obtain ⟨c2, i2, k2⟩ := u_known (C := RX5) (T := TX5) (N := 7) (n := 7) hta in_X5 (hts _ (List.mem_filter.mp q613).1)
  obtain ⟨c3, i3, k3⟩ := u_known (C := RX16) (T := TX16) (N := 3) (n := 3) hta in_X16 (hts _ (List.mem_filter.mp q1714).1)
  obtain ⟨c4, i4, k4⟩ := u_known (C := RX7) (T := TX7) (N := 3) (n := 3) hta in_X7 (hts _ (List.mem_filter.mp q942).1)
  obtain ⟨c5, i5, k5⟩ := u_known (C := RX12) (T := TX12) (N := 8) (n := 8) hta in_X12 (hts _ (List.mem_filter.mp q1495).1)
  obtain ⟨c6, i6, k6⟩ := u_known (C := RX8) (T := TX8) (N := 1) (n := 1) hta in_X8 (hts _ (List.mem_filter.mp q958).1)
  obtain ⟨c7, i7, k7⟩ := u_known (C := RX2) (T := TX2) (N := 11) (n := 11) hta in_X2 (hts _ (List.mem_filter.mp q179).1)
  obtain ⟨c8, i8, k8⟩ := u_known (C := RX9) (T := TX9) (N := 1) (n := 1) hta in_X9 (hts _ (List.mem_filter.mp q981).1)
  obtain ⟨c9, i9, k9⟩ := u_known (C := RX17) (T := TX17) (N := 1) (n := 1) hta in_X17 (hts _ (List.mem_filter.mp q1733).1)
  obtain ⟨c10, i10, k10⟩ := u_known (C := RX11) (T := TX11) (N := 9) (n := 9) hta in_X11 (hts _ (List.mem_filter.mp q1375).1)
  obtain ⟨c11, i11, k11⟩ := u_known (C := RX15) (T := TX15) (N := 1) (n := 1) hta in_X15 (hts _ (List.mem_filter.mp q1691).1)
  obtain ⟨c12, i12, k12⟩ := u_known (C := RX6) (T := TX6) (N := 46) (n := 46) hta in_X6 (hts _ (List.mem_filter.mp q619).1)
  obtain ⟨c13, i13, k13⟩ := u_known (C := RX14) (T := TX14) (N := 1) (n := 1) hta in_X14 (hts _ (List.mem_filter.mp q1661).1)
  obtain ⟨c14, i14, k14⟩ := u_known (C := RX3) (T := TX3) (N := 1) (n := 1) hta in_X3 (hts _ (List.mem_filter.mp q536).1)
  obtain ⟨c15, i15, k15⟩ := u_known (C := RJ6) (T := TJ6) (N := 6) (n := 6) hta in_J6 (hts _ (List.mem_filter.mp q201).1)
  obtain ⟨c16, i16, k16⟩ := u_known (C := RJ17) (T := TJ17) (N := 1) (n := 1) hta in_J17 (hts _ (List.mem_filter.mp q1621).1)
  obtain ⟨c17, i17, k17⟩ := u_known (C := RJ9) (T := TJ9) (N := 4) (n := 4) hta in_J9 (hts _ (List.mem_filter.mp q426).1)
  obtain ⟨c18, i18, k18⟩ := u_known (C := RJ8) (T := TJ8) (N := 4) (n := 4) hta in_J8 (hts _ (List.mem_filter.mp q244).1)
  obtain ⟨c19, i19, k19⟩ := u_known (C := RJ20) (T := TJ20) (N := 3) (n := 3) hta in_J20 (hts _ (List.mem_filter.mp q925).1)
  obtain ⟨c20, i20, k20⟩ := u_known (C := RJ2) (T := TJ2) (N := 3) (n := 3) hta in_J2 (hts _ (List.mem_filter.mp q185).1)
  obtain ⟨c21, i21, k21⟩ := u_known (C := RJ19) (T := TJ19) (N := 3) (n := 3) hta in_J19 (hts _ (List.mem_filter.mp q625).1)
  obtain ⟨c22, i22, k22⟩ := u_known (C := RJ23) (T := TJ23) (N := 4) (n := 4) hta in_J23 (hts _ (List.mem_filter.mp q1824).1)
  obtain ⟨c23, i23, k23⟩ := u_known (C := RJ29) (T := TJ29) (N := 5) (n := 5) hta in_J29 (hts _ (List.mem_filter.mp q1950).1)
  obtain ⟨c24, i24, k24⟩ := u_known (C := RJ25) (T := TJ25) (N := 3) (n := 3) hta in_J25 (hts _ (List.mem_filter.mp q1869).1)
  obtain ⟨c25, i25, k25⟩ := u_known (C := RJ21) (T := TJ21) (N := 6) (n := 6) hta in_J21 (hts _ (List.mem_filter.mp q1757).1)
  refine ⟨(fun k => [c0, c1, c2, c3, c4, c5, c6, c7, c8, c9, c10, c11, c12, c13, c14, c15, c16, c17, c18, c19, c20, c21, c22, c23, c24, c25].getD k c0, fun k => [i0, i1, i2, i3, i4, i5, i6, i7, i8, i9, i10, i11, i12, i13, i14, i15, i16, i17, i18, i19, i20, i21, i22, i23, i24, i25].getD k i0), fun k q hq => ?_⟩
  match k, hq with
  | 0, hq => cases hq; exact k0
  | 1, hq => cases hq; exact k1
  | 2, hq => cases hq; exact k2
  | 3, hq => cases hq; exact k3
  | 4, hq => cases hq; exact k4
  | 5, hq => cases hq; exact k5
  | 6, hq => cases hq; exact k6
  | 7, hq => cases hq; exact k7
  | 8, hq => cases hq; exact k8
  | 9, hq => cases hq; exact k9
  | 10, hq => cases hq; exact k10
  | 11, hq => cases hq; exact k11
  | 12, hq => cases hq; exact k12
  | 13, hq => cases hq; exact k13
  | 14, hq => cases hq; exact k14
  | 15, hq => cases hq; exact k15
  | 16, hq => cases hq; exact k16
  | 17, hq => cases hq; exact k17
  | 18, hq => cases hq; exact k18
  | 19, hq => cases hq; exact k19
  | 20, hq => cases hq; exact k20
  | 21, hq => cases hq; exact k21
  | 22, hq => cases hq; exact k22
  | 23, hq => cases hq; exact k23
  | 24, hq => cases hq; exact k24
  | 25, hq => cases hq; exact k25
  | k + 26, hq => exact absurd (List.getElem?_eq_some_iff.mp hq).1 (by simp)
theorem kn_tys (hts : ∀ w ∈ lw_tbl, w.before args s = true) (dx : Nat → ClassId) : ∃ dA : Nat → ClassId, (∀ (k : Nat) (q : ClassId × FieldType), (cx_tys dA)[k]? = some q → ArrOfT s q.1 q.2 ∧ va_RA s q.1 q.2) ∧ ∀ k, 6 ≤ k → dA k = dx k := by
  obtain ⟨d0, a0, b0⟩ := arr_P (s := s) (args := args) (ty := .int) (hts _ (List.mem_filter.mp q557).1)
  obtain ⟨d1, a1, b1⟩ := arr_P (s := s) (args := args) (ty := .boolean) (hts _ (List.mem_filter.mp q2547).1)
  obtain ⟨d2, a2, b2⟩ := arr_P (s := s) (args := args) (ty := .byte) (hts _ (List.mem_filter.mp q274).1)
  obtain ⟨d3, a3, b3⟩ := arr_P (s := s) (args := args) (ty := .long) (hts _ (List.mem_filter.mp q647).1)
  obtain ⟨d4, a4, b4⟩ := arr_O (s := s) (args := args) (C := "java/lang/Object") (hts _ q197)
  obtain ⟨d5, a5, b5⟩ := arr_O (s := s) (args := args) (C := "java/lang/String") (hts _ q2376)
  refine ⟨fun k => if k = 0 then d0 else if k = 1 then d1 else if k = 2 then d2 else if k = 3 then d3 else if k = 4 then d4 else if k = 5 then d5 else dx k, fun k q hq => ?_, fun k hk => by
    dsimp only
    rw [if_neg (by omega), if_neg (by omega), if_neg (by omega), if_neg (by omega), if_neg (by omega), if_neg (by omega)]⟩
  match k, hq with
  | 0, hq => cases hq; exact ⟨a0, b0⟩
  | 1, hq => cases hq; exact ⟨a1, b1⟩
  | 2, hq => cases hq; exact ⟨a2, b2⟩
  | 3, hq => cases hq; exact ⟨a3, b3⟩
  | 4, hq => cases hq; exact ⟨a4, b4⟩
  | 5, hq => cases hq; exact ⟨a5, b5⟩
  | k + 6, hq => exact absurd (List.getElem?_eq_some_iff.mp hq).1 (by simp [cx_tys])
end KC
