/-! READING A LINE, 27: from the line's world back to the loop's -/
section WB
variable {adr : Nat → Nat} {Lx L : dL} {Px P : dP} {Mx M : cx_M}
theorem wb_in (hn : dN (vLL adr Lx L)) {x y : Nat × dk} (hx : x ∈ vS) (hy : y ∈ vS) (e : adr x.1 = adr y.1) : x.1 = y.1 := by
  have h := vIx_of hn hx
  rw [e, vIx_of hn hy] at h
  exact (Option.some.inj h).symm
theorem wb_no (hn : dN (vLL adr Lx L)) {x y : Nat × dk} (hx : x ∈ vS) (hy : y ∈ Lx ++ L) : adr x.1 ≠ y.1 := by
  intro e
  have h := vIx_of hn hx
  rw [e, vIx_no hn hy] at h
  exact absurd h (by simp)
theorem wb_T {x : Nat × dk} (hx : x ∈ vS) (h5 : x.1 ≠ 509) : (adr x.1, x.2) ∈ vLT adr Lx L := by
  unfold vLT vSn
  exact List.mem_append_left _ (List.mem_map.mpr ⟨x, List.mem_filter.mpr ⟨hx, by simpa using h5⟩, rfl⟩)
theorem wb_all {x : Nat × dk} (hx : x ∈ vLT adr Lx L) : x ∈ vLL adr Lx L := by
  unfold vLT at hx
  rcases List.mem_append.mp hx with h | h
  · obtain ⟨y, hy, rfl⟩ := List.mem_map.mp h
    exact vLL_mS (List.mem_filter.mp hy).1
  · exact List.mem_append_right _ h
theorem wb_u (hn : dN (vLL adr Lx L)) : qd_u (vLT adr Lx L) := by
  intro x hx y hy e
  obtain ⟨i, hi⟩ := List.mem_iff_getElem?.mp (wb_all hx)
  obtain ⟨j, hj⟩ := List.mem_iff_getElem?.mp (wb_all hy)
  have := hn i j x y hi hj e
  subst this
  rw [hi] at hj
  rw [Option.some.inj hj]
theorem wb_xl {x : Nat × dk} (hx : x ∈ Lx ++ L) : x ∈ vLT adr Lx L := List.mem_append_right _ hx
theorem wb_M {c : Nat} (h : c ≠ 602 ∧ c ≠ 702) : vM M c = M c := by unfold vM; rw [if_neg (fun z => z.elim h.1 h.2)]
theorem wb_P {c k : Nat} (h : c ≠ 650 ∧ c ≠ 750) (hv : vnull c k = false) : vP adr M c k = some (adr (vref c k)) := by
  unfold vP vPk
  rw [if_neg (fun z => z.elim h.1 h.2), hv, if_neg (by decide)]
/-- ahead of a line -/
theorem lN_of {f : Nat} {E : ps_E} {A : qA} {N : cx_N} (hn : dN (vLL adr Lx L)) (h8 : adr 508 = 1) (h : qc_A N E M A) : lN_H (f, adr) (zM adr Lx Mx M) (zP adr M Lx Px P) (vLT adr Lx L) A.2.2.1.2 A.2.2.1.1 (adr 500) (adr 1000) (adr 1038) (adr 600) (adr 605) := by
  have ms : ∀ c kd, (c, kd) ∈ vS → c ≠ 509 → (adr c, kd) ∈ vLT adr Lx L := fun c kd hx h5 => wb_T (x := (c, kd)) hx h5
  have hp : ∀ c kd k, (c, kd) ∈ vS → c ≠ 650 ∧ c ≠ 750 → vnull c k = false → zP adr M Lx Px P (adr c) k = some (adr (vref c k)) := fun c kd k hx h5 hv => by
    rw [zP_S (x := (c, kd)) hn hx]
    exact wb_P h5 hv
  have v5 : ((500 : Nat), ((0, 1, 0) : dk)) ∈ vS := vS_of (by decide +kernel)
  have v10 : ((1000 : Nat), ((0, 12, 0) : dk)) ∈ vS := by decide +kernel
  have v38 : ((1038 : Nat), ((1, 0, 64) : dk)) ∈ vS := by decide +kernel
  have v6 : ((600 : Nat), ((0, 2, 0) : dk)) ∈ vS := vS_of (by decide +kernel)
  have v65 : ((605 : Nat), ((1, 0, 3) : dk)) ∈ vS := vS_of (by decide +kernel)
  obtain ⟨-, -, -, -, ⟨t1, t2, -⟩, -⟩ := h
  refine ⟨wb_u hn, ⟨ms _ _ v5 (by decide), ?_, hp _ _ 8 v5 (by decide) (by decide), h8⟩, fun j hj => ?_, ⟨hp _ _ 3 v5 (by decide) (by decide), ms _ _ v10 (by decide), hp _ _ 37 v10 (by decide) (by decide), ms _ _ v38 (by decide)⟩, ⟨hp _ _ 1 v5 (by decide) (by decide), ms _ _ v6 (by decide), hp _ _ 4 v6 (by decide) (by decide), ms _ _ v65 (by decide)⟩⟩
  · have e : zM adr Lx Mx M (dc (adr 500)) = vM M 500 := zM_S hn v5
    rw [e, wb_M (by decide)]
    exact t1
  · have e : zM adr Lx Mx M 509 = M 509 := by unfold zM; rw [if_pos (by decide)]
    rw [e]
    exact t2 j hj
/-- objects alike in what counts -/
theorem wb_dF {ci k : Nat} {f f' : Nat → Int32} {p p' : Nat → Option Nat} (h0 : dFk ci k = 0 → f k = f' k) (h1 : dFk ci k ≠ 0 → p k = p' k) : dFv ci k f p = dFv ci k f' p' := by
  unfold dFv
  by_cases c : dFk ci k = 0
  · rw [c]
    exact congrArg Value.int (h0 c)
  · rw [h1 c]
    split
    · next e => exact absurd e c
    · rfl
    · rfl
theorem wb_dE {dA : Nat → ClassId} {ci z : Nat} {f f' : Nat → Int32} {p p' : Nat → Option Nat} (h : ∀ k, k < dNf ci → (dFk ci k = 0 → f k = f' k) ∧ (dFk ci k ≠ 0 → p k = p' k)) : dE dA (0, ci, z) f p = dE dA (0, ci, z) f' p' := by
  show Sum.inr (ci, _) = Sum.inr (ci, _)
  exact congrArg (fun l => Sum.inr (ci, l)) (List.map_congr_left (fun k hk => wb_dF (h k (List.mem_range.mp hk)).1 (h k (List.mem_range.mp hk)).2))
end WB
section WR
variable {dA : Nat → ClassId} {adr : Nat → Nat} {Lx L L1 : dL} {Px P P1 : dP} {Mx M M1 : cx_M} {U : Nat → Prop}
/-- what stands of what was there -/
theorem wb_old (hn : dN (vLL adr Lx L)) (hY : qd_J U (zM adr Lx Mx M) (zP adr M Lx Px P) (vLT adr Lx L) M1 P1 L1) {x : Nat × dk} (hx : x ∈ vS) (h5 : x.1 ≠ 509) : (adr x.1, x.2) ∈ L1 ∧ (¬ U (adr x.1) → M1 (dc (adr x.1)) = vM M x.1 ∧ P1 (adr x.1) = vP adr M x.1) := by
  have m := wb_T (adr := adr) (Lx := Lx) (L := L) hx h5
  refine ⟨hY.mem m, fun hu => ?_⟩
  obtain ⟨e1, e2⟩ := hY.2.2 _ m hu
  exact ⟨e1.trans (zM_S hn hx), e2.trans (zP_S hn hx)⟩
theorem wb_oldX (hn : dN (vLL adr Lx L)) (hY : qd_J U (zM adr Lx Mx M) (zP adr M Lx Px P) (vLT adr Lx L) M1 P1 L1) {x : Nat × dk} (hx : x ∈ Lx) (hu : ¬ U x.1) : x ∈ L1 ∧ M1 (dc x.1) = Mx (dc x.1) ∧ P1 x.1 = Px x.1 := by
  have m := wb_xl (adr := adr) (List.mem_append_left L hx)
  obtain ⟨e1, e2⟩ := hY.2.2 _ m hu
  exact ⟨hY.mem m, e1.trans (zM_X hn hx), e2.trans (zP_X hn hx)⟩
theorem wb_oldL (hn : dN (vLL adr Lx L)) (hY : qd_J U (zM adr Lx Mx M) (zP adr M Lx Px P) (vLT adr Lx L) M1 P1 L1) {x : Nat × dk} (hx : x ∈ L) (hu : ¬ U x.1) : x ∈ L1 ∧ M1 (dc x.1) = M (dc x.1) ∧ P1 x.1 = P x.1 := by
  have m := wb_xl (adr := adr) (List.mem_append_right Lx hx)
  obtain ⟨e1, e2⟩ := hY.2.2 _ m hu
  exact ⟨hY.mem m, e1.trans (zM_L hn hx), e2.trans (zP_L hn hx)⟩
/-- the memory behind a refused line -/
def lMr (adr : Nat → Nat) (M M1 : cx_M) : cx_M := fun c => if c = 500 ∨ c = 605 then M1 (dc (adr c)) else M c
theorem wb_vn : ∀ k, vnull 500 k = false := fun k => by
  unfold vnull
  simp
theorem wb_605 : ∀ k, vnull 605 k = false := fun k => by
  unfold vnull
  simp
/-- nothing new is kept: only the class's own numbers and the book's refusals -/
theorem wb_ref (hn : dN (vLL adr Lx L)) (hY : qd_J (fun y => y = adr 500 ∨ y = adr 605) (zM adr Lx Mx M) (zP adr M Lx Px P) (vLT adr Lx L) M1 P1 L1) (h5 : P1 (adr 500) = vP adr M 500) (h6 : P1 (adr 605) = vP adr M 605) {Ms : cx_M} {o : Nat} (ho : (o, ((2, 0, 1) : dk)) ∈ L) (hMs : ∀ c, c ≠ dc o → Ms c = M1 c) : vFrom dA true (adr 509) L1 P1 Ms adr Lx Px Mx L P (fun c => if c = dc o then Ms c else lMr adr M M1 c) := by
  have v5 : ((500 : Nat), ((0, 1, 0) : dk)) ∈ vS := vS_of (by decide +kernel)
  have v65 : ((605 : Nat), ((1, 0, 3) : dk)) ∈ vS := vS_of (by decide +kernel)
  have noU : ∀ x ∈ Lx ++ L, ¬ (x.1 = adr 500 ∨ x.1 = adr 605) := fun x hx z => z.elim (fun e => wb_no hn v5 hx e.symm) (fun e => wb_no hn v65 hx e.symm)
  have na : ∀ x ∈ vS, dc (adr x.1) ≠ dc o := fun x hx => dc_ne (wb_no hn hx (List.mem_append_right _ ho))
  refine ⟨hn, fun x hx => ?_, fun x hx => ?_, fun x hx => ?_⟩
  · by_cases c9 : x.1 = 509
    · refine Or.inr ⟨rfl, c9, rfl, ?_⟩
      rw [hMs _ (dc_lo (by decide)), hY.1 509 (by decide)]
      show zM adr Lx Mx M 509 = if (509 : Nat) = dc o then Ms 509 else lMr adr M M1 509
      rw [if_neg (dc_lo (by decide))]
      unfold zM lMr
      rw [if_pos (by decide), if_neg (by decide)]
    · obtain ⟨g1, g2⟩ := wb_old hn hY hx c9
      refine Or.inl ⟨g1, P1 (adr x.1), fun _ _ => rfl, ?_⟩
      rw [hMs _ (na x hx)]
      -- references
      have eP : vP adr (fun c => if c = dc o then Ms c else lMr adr M M1 c) x.1 = P1 (adr x.1) := by
        have key : P1 (adr x.1) = vP adr M x.1 := by
          by_cases c : x.1 = 500
          · rw [c]; exact h5
          · by_cases c2 : x.1 = 605
            · rw [c2]; exact h6
            · exact (g2 (fun z => z.elim (fun e => c (wb_in hn hx v5 e)) (fun e => c2 (wb_in hn hx v65 e)))).2
        rw [key]
        funext k
        unfold vP vPk
        have lo : vdep x.1 < 10000000 := by
          have := vS_lt hx
          unfold vdep
          split <;> (try split) <;> omega
        have e0 : (fun c => if c = dc o then Ms c else lMr adr M M1 c) (vdep x.1) = lMr adr M M1 (vdep x.1) := if_neg (dc_lo lo)
        rw [e0]
        by_cases c : x.1 = 650 ∨ x.1 = 750
        · have e1 : lMr adr M M1 (vdep x.1) = M (vdep x.1) := by
            unfold lMr
            rw [if_neg]
            unfold vdep
            rcases c with c | c <;> rw [c] <;> decide
          rw [if_pos c, if_pos c, e1]
        · rw [if_neg c, if_neg c]
          have ed : vdep x.1 = x.1 := by unfold vdep; rw [if_neg (fun e => c (Or.inl e)), if_neg (fun e => c (Or.inr e))]
          rw [ed]
          by_cases c5 : x.1 = 500 ∨ x.1 = 605
          · have hv : vnull x.1 k = false := by rcases c5 with c5 | c5 <;> rw [c5]; exact wb_vn k; exact wb_605 k
            rw [hv, if_neg (by decide), if_neg (by decide)]
          · have e1 : lMr adr M M1 x.1 = M x.1 := by unfold lMr; rw [if_neg c5]
            rw [e1]
      rw [eP]
      have eM : M1 (dc (adr x.1)) = vM (fun c => if c = dc o then Ms c else lMr adr M M1 c) x.1 := by
        have lo := vS_lt hx
        have e0 : (fun c => if c = dc o then Ms c else lMr adr M M1 c) x.1 = lMr adr M M1 x.1 := if_neg (dc_lo (Nat.lt_trans lo (by decide)))
        by_cases c5 : x.1 = 500 ∨ x.1 = 605
        · rw [wb_M (by omega)]
          refine Eq.trans ?_ e0.symm
          unfold lMr
          rw [if_pos c5]
        · rw [(g2 (fun z => c5 (z.elim (fun e => Or.inl (wb_in hn hx v5 e)) (fun e => Or.inr (wb_in hn hx v65 e))))).1]
          unfold vM
          rw [e0]
          unfold lMr
          rw [if_neg c5]
      rw [eM]
  · obtain ⟨g1, g2, g3⟩ := wb_oldX hn hY hx (noU x (List.mem_append_left _ hx))
    refine ⟨g1, g3.symm, ?_⟩
    rw [hMs, g2]
    exact dc_ne (fun e => by
      obtain ⟨i, hi⟩ := List.mem_iff_getElem?.mp hx
      obtain ⟨j, hj⟩ := List.mem_iff_getElem?.mp ho
      have il := (List.getElem?_eq_some_iff.mp hi).1
      have q := hn ((vS.map (fun x => (adr x.1, x.2))).length + i) ((vS.map (fun x => (adr x.1, x.2))).length + (Lx.length + j)) x (o, (2, 0, 1)) (by unfold vLL; rw [List.getElem?_append_right (by omega), Nat.add_sub_cancel_left, List.getElem?_append_left il]; exact hi) (by unfold vLL; rw [List.getElem?_append_right (by omega), Nat.add_sub_cancel_left, List.getElem?_append_right (by omega), Nat.add_sub_cancel_left]; exact hj) e
      omega)
  · obtain ⟨g1, g2, g3⟩ := wb_oldL hn hY hx (noU x (List.mem_append_right _ hx))
    refine ⟨g1, g3.symm, ?_⟩
    show (if dc x.1 = dc o then Ms (dc x.1) else lMr adr M M1 (dc x.1)) = Ms (dc x.1)
    by_cases c : dc x.1 = dc o
    · rw [if_pos c]
    · rw [if_neg c, hMs _ c, g2]
      unfold lMr
      rw [if_neg (by unfold dc; omega)]
end WR
