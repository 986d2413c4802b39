/-! THE BASE WORLD HAS THE FACTS: by program (gen/view.py) -/
theorem vS_of {x : Nat × dk} (h : x ∈ vSfix) : x ∈ vS := by
  unfold vS
  exact List.mem_append_left _ (List.mem_append_left _ (List.mem_append_left _ h))
theorem vS_of2 {x : Nat × dk} (h : x ∈ vSfix2) : x ∈ vS := by
  unfold vS
  exact List.mem_append_left _ (List.mem_append_right _ h)
theorem vS_st {b : Nat} {x : Nat × dk} (hb : b ∈ cSt_all) (h : x ∈ vSt b) : x ∈ vS := by
  have hb' : b ∈ vSb1 ∨ b ∈ vSb2 := by
    have h1 : cSt_all.all (fun b => vSb1.contains b || vSb2.contains b) = true := by decide +kernel
    have := (List.all_eq_true.mp h1) b hb
    simpa using this
  unfold vS
  rcases hb' with q | q
  · exact List.mem_append_left _ (List.mem_append_left _ (List.mem_append_right _ (List.mem_flatMap.mpr ⟨b, q, h⟩)))
  · exact List.mem_append_right _ (List.mem_flatMap.mpr ⟨b, q, h⟩)
theorem vSt_of {b : Nat} (hb : b ∈ cSt_all) : b % 100 = 0 ∧ 1000 ≤ b ∧ b ≠ 8000 ∧ b ≠ 9000 := by
  have h1 : cSt_all.all (fun b => decide (b % 100 = 0 ∧ 1000 ≤ b ∧ b ≠ 8000 ∧ b ≠ 9000)) = true := by decide +kernel
  have := (List.all_eq_true.mp h1) b hb
  simpa using this
theorem vSt_pl {b j : Nat} (hb : b ∈ cSt_all) : vpl (b + j) = true := by
  have h := vSt_of hb
  simp only [vpl, Bool.and_eq_true, bne_iff_ne]
  omega
theorem vSt_65 {b j : Nat} (hb : b ∈ cSt_all) : b + j ≠ 650 ∧ b + j ≠ 750 := by
  have h := vSt_of hb
  omega
theorem vSt_nul {b j k : Nat} (hb : b ∈ cSt_all) (hk : k ≠ 45 ∨ j = 42) (hj : j < 100) : vnull (b + j) k = false := by
  have h := vSt_of hb
  unfold vnull
  rw [Bool.or_eq_false_iff]
  refine ⟨?_, ?_⟩
  · rw [Bool.and_eq_false_iff]
    by_cases e : b + j = 8000
    · omega
    · left; simpa using e
  · rcases hk with hk | hk
    · have : (k == 45) = false := by simpa using hk
      rw [this]; simp
    · subst hk
      have : ((b + 42) % 100 == 0) = false := by
        have : (b + 42) % 100 = 42 := by omega
        rw [this]; rfl
      rw [this]; simp
theorem vSt_nul45 {b : Nat} (hb : b ∈ cSt_all) : vnull b 45 = true := by
  have h := vSt_of hb
  unfold vnull
  have e1 : (b == 8000) = false := by simpa using h.2.2.1
  have e2 : decide (1000 ≤ b) = true := by simpa using h.2.1
  have e3 : (b % 100 == 0) = true := by simpa using h.1
  have e4 : (b != 8000) = true := by simpa using h.2.2.1
  have e8 : (b != 9000) = true := by simpa using h.2.2.2
  rw [e1, e2, e3, e4, e8]
  rfl
theorem vSt_tgt {b : Nat} (hb : b ∈ cSt_all) : vtgt b 45 = 9000 := by
  have h := vSt_of hb
  unfold vtgt
  rw [if_neg h.2.2.1]
theorem vSt_ref {b k : Nat} (hb : b ∈ cSt_all) : vref b k = b + k + 1 := by
  have h := vSt_of hb
  unfold vref
  rw [if_neg (by omega), if_neg (by omega), if_neg (by omega), if_neg (by omega), if_neg (by omega), if_neg (by omega), if_neg (by omega), if_neg (by omega), if_neg h.2.2.1, if_neg (by omega), if_neg h.2.2.2, if_pos h.1]
theorem vSt_ref42 {b : Nat} (hb : b ∈ cSt_all) : vref (b + 42) 0 = b + 43 := by
  have h := vSt_of hb
  unfold vref
  rw [if_neg (by omega), if_neg (by omega), if_neg (by omega), if_neg (by omega), if_neg (by omega), if_neg (by omega), if_neg (by omega), if_neg (by omega), if_neg (by omega), if_neg (by omega), if_neg (by omega), if_neg (by omega)]
theorem vw_nar {c : String} (w : Option Nat) : narrow (.object c) (va_rf w) = va_rf w ∧ fits (.object c) (va_rf w) = true := by cases w <;> exact ⟨rfl, rfl⟩
section VF
variable {D : va_G} {dA : Nat → ClassId} {A : Nat → Prop} {Z : State → Prop} {adr : Nat → Nat} {Lx : dL} {Px : dP} {Mx : cx_M}
theorem vH_bs {b : Nat} (hb : b ∈ cSt_all) : jBs_H (vwG D dA A Z adr Lx Px Mx) adr (b + 42) := ⟨vw_Rc (z := 0) (vS_st hb (by unfold vSt; exact List.Mem.tail _ (List.Mem.tail _ (List.Mem.tail _ (List.Mem.tail _ (List.Mem.tail _ (List.Mem.tail _ (List.Mem.tail _ (List.Mem.tail _ (List.Mem.head _)))))))))) dCl_J19,
  vw_FR (z := 0) (vS_st hb (by unfold vSt; exact List.Mem.tail _ (List.Mem.tail _ (List.Mem.tail _ (List.Mem.tail _ (List.Mem.tail _ (List.Mem.tail _ (List.Mem.tail _ (List.Mem.tail _ (List.Mem.head _)))))))))) dCl_J19 (k := 0) (by decide) rfl (by decide) (vSt_65 (j := 42) hb) (vSt_nul (j := 42) hb (by decide) (by decide)) (vSt_ref42 hb),
  vw_LI (vS_st hb (by unfold vSt; exact List.Mem.tail _ (List.Mem.tail _ (List.Mem.tail _ (List.Mem.tail _ (List.Mem.tail _ (List.Mem.tail _ (List.Mem.tail _ (List.Mem.tail _ (List.Mem.tail _ (List.Mem.head _))))))))))) (vSt_pl (j := 43) hb),
  vw_FI (z := 0) (vS_st hb (by unfold vSt; exact List.Mem.tail _ (List.Mem.tail _ (List.Mem.tail _ (List.Mem.tail _ (List.Mem.tail _ (List.Mem.tail _ (List.Mem.tail _ (List.Mem.tail _ (List.Mem.head _)))))))))) dCl_J19 (k := 1) (by decide) rfl (tyJ19_ok 1 (by decide)) (by decide) (vSt_pl (j := 42) hb),
  vw_FI (z := 0) (vS_st hb (by unfold vSt; exact List.Mem.tail _ (List.Mem.tail _ (List.Mem.tail _ (List.Mem.tail _ (List.Mem.tail _ (List.Mem.tail _ (List.Mem.tail _ (List.Mem.tail _ (List.Mem.head _)))))))))) dCl_J19 (k := 2) (by decide) rfl (tyJ19_ok 2 (by decide)) (by decide) (vSt_pl (j := 42) hb)⟩
theorem vH_st {b : Nat} (hb : b ∈ cSt_all) : cSt_H (vwG D dA A Z adr Lx Px Mx) adr b := ⟨vw_Rc (z := 0) (vS_st hb (by unfold vSt; exact List.Mem.head _)) dCl_X6,
  vw_FI (z := 0) (vS_st hb (by unfold vSt; exact List.Mem.head _)) dCl_X6 (k := 0) (by decide) rfl (tyX6_ok 0 (by decide)) (by decide) (vSt_pl (j := 0) hb),
  vw_FI (z := 0) (vS_st hb (by unfold vSt; exact List.Mem.head _)) dCl_X6 (k := 1) (by decide) rfl (tyX6_ok 1 (by decide)) (by decide) (vSt_pl (j := 0) hb),
  vw_FI (z := 0) (vS_st hb (by unfold vSt; exact List.Mem.head _)) dCl_X6 (k := 2) (by decide) rfl (tyX6_ok 2 (by decide)) (by decide) (vSt_pl (j := 0) hb),
  vw_FI (z := 0) (vS_st hb (by unfold vSt; exact List.Mem.head _)) dCl_X6 (k := 3) (by decide) rfl (tyX6_ok 3 (by decide)) (by decide) (vSt_pl (j := 0) hb),
  vw_FI (z := 0) (vS_st hb (by unfold vSt; exact List.Mem.head _)) dCl_X6 (k := 4) (by decide) rfl (tyX6_ok 4 (by decide)) (by decide) (vSt_pl (j := 0) hb),
  vw_FI (z := 0) (vS_st hb (by unfold vSt; exact List.Mem.head _)) dCl_X6 (k := 5) (by decide) rfl (tyX6_ok 5 (by decide)) (by decide) (vSt_pl (j := 0) hb),
  vw_FI (z := 0) (vS_st hb (by unfold vSt; exact List.Mem.head _)) dCl_X6 (k := 6) (by decide) rfl (tyX6_ok 6 (by decide)) (by decide) (vSt_pl (j := 0) hb),
  vw_FI (z := 0) (vS_st hb (by unfold vSt; exact List.Mem.head _)) dCl_X6 (k := 7) (by decide) rfl (tyX6_ok 7 (by decide)) (by decide) (vSt_pl (j := 0) hb),
  vw_FI (z := 0) (vS_st hb (by unfold vSt; exact List.Mem.head _)) dCl_X6 (k := 8) (by decide) rfl (tyX6_ok 8 (by decide)) (by decide) (vSt_pl (j := 0) hb),
  vw_FI (z := 0) (vS_st hb (by unfold vSt; exact List.Mem.head _)) dCl_X6 (k := 9) (by decide) rfl (tyX6_ok 9 (by decide)) (by decide) (vSt_pl (j := 0) hb),
  vw_FI (z := 0) (vS_st hb (by unfold vSt; exact List.Mem.head _)) dCl_X6 (k := 10) (by decide) rfl (tyX6_ok 10 (by decide)) (by decide) (vSt_pl (j := 0) hb),
  vw_FI (z := 0) (vS_st hb (by unfold vSt; exact List.Mem.head _)) dCl_X6 (k := 11) (by decide) rfl (tyX6_ok 11 (by decide)) (by decide) (vSt_pl (j := 0) hb),
  vw_FI (z := 0) (vS_st hb (by unfold vSt; exact List.Mem.head _)) dCl_X6 (k := 12) (by decide) rfl (tyX6_ok 12 (by decide)) (by decide) (vSt_pl (j := 0) hb),
  vw_FI (z := 0) (vS_st hb (by unfold vSt; exact List.Mem.head _)) dCl_X6 (k := 13) (by decide) rfl (tyX6_ok 13 (by decide)) (by decide) (vSt_pl (j := 0) hb),
  vw_FI (z := 0) (vS_st hb (by unfold vSt; exact List.Mem.head _)) dCl_X6 (k := 14) (by decide) rfl (tyX6_ok 14 (by decide)) (by decide) (vSt_pl (j := 0) hb),
  vw_FI (z := 0) (vS_st hb (by unfold vSt; exact List.Mem.head _)) dCl_X6 (k := 15) (by decide) rfl (tyX6_ok 15 (by decide)) (by decide) (vSt_pl (j := 0) hb),
  vw_FI (z := 0) (vS_st hb (by unfold vSt; exact List.Mem.head _)) dCl_X6 (k := 16) (by decide) rfl (tyX6_ok 16 (by decide)) (by decide) (vSt_pl (j := 0) hb),
  vw_FI (z := 0) (vS_st hb (by unfold vSt; exact List.Mem.head _)) dCl_X6 (k := 17) (by decide) rfl (tyX6_ok 17 (by decide)) (by decide) (vSt_pl (j := 0) hb),
  vw_FI (z := 0) (vS_st hb (by unfold vSt; exact List.Mem.head _)) dCl_X6 (k := 18) (by decide) rfl (tyX6_ok 18 (by decide)) (by decide) (vSt_pl (j := 0) hb),
  vw_FI (z := 0) (vS_st hb (by unfold vSt; exact List.Mem.head _)) dCl_X6 (k := 19) (by decide) rfl (tyX6_ok 19 (by decide)) (by decide) (vSt_pl (j := 0) hb),
  vw_FI (z := 0) (vS_st hb (by unfold vSt; exact List.Mem.head _)) dCl_X6 (k := 20) (by decide) rfl (tyX6_ok 20 (by decide)) (by decide) (vSt_pl (j := 0) hb),
  vw_FI (z := 0) (vS_st hb (by unfold vSt; exact List.Mem.head _)) dCl_X6 (k := 21) (by decide) rfl (tyX6_ok 21 (by decide)) (by decide) (vSt_pl (j := 0) hb),
  vw_FI (z := 0) (vS_st hb (by unfold vSt; exact List.Mem.head _)) dCl_X6 (k := 22) (by decide) rfl (tyX6_ok 22 (by decide)) (by decide) (vSt_pl (j := 0) hb),
  vw_FI (z := 0) (vS_st hb (by unfold vSt; exact List.Mem.head _)) dCl_X6 (k := 23) (by decide) rfl (tyX6_ok 23 (by decide)) (by decide) (vSt_pl (j := 0) hb),
  vw_FI (z := 0) (vS_st hb (by unfold vSt; exact List.Mem.head _)) dCl_X6 (k := 24) (by decide) rfl (tyX6_ok 24 (by decide)) (by decide) (vSt_pl (j := 0) hb),
  vw_FI (z := 0) (vS_st hb (by unfold vSt; exact List.Mem.head _)) dCl_X6 (k := 25) (by decide) rfl (tyX6_ok 25 (by decide)) (by decide) (vSt_pl (j := 0) hb),
  vw_FI (z := 0) (vS_st hb (by unfold vSt; exact List.Mem.head _)) dCl_X6 (k := 26) (by decide) rfl (tyX6_ok 26 (by decide)) (by decide) (vSt_pl (j := 0) hb),
  vw_FI (z := 0) (vS_st hb (by unfold vSt; exact List.Mem.head _)) dCl_X6 (k := 27) (by decide) rfl (tyX6_ok 27 (by decide)) (by decide) (vSt_pl (j := 0) hb),
  vw_FI (z := 0) (vS_st hb (by unfold vSt; exact List.Mem.head _)) dCl_X6 (k := 28) (by decide) rfl (tyX6_ok 28 (by decide)) (by decide) (vSt_pl (j := 0) hb),
  vw_FI (z := 0) (vS_st hb (by unfold vSt; exact List.Mem.head _)) dCl_X6 (k := 29) (by decide) rfl (tyX6_ok 29 (by decide)) (by decide) (vSt_pl (j := 0) hb),
  vw_FI (z := 0) (vS_st hb (by unfold vSt; exact List.Mem.head _)) dCl_X6 (k := 30) (by decide) rfl (tyX6_ok 30 (by decide)) (by decide) (vSt_pl (j := 0) hb),
  vw_FI (z := 0) (vS_st hb (by unfold vSt; exact List.Mem.head _)) dCl_X6 (k := 31) (by decide) rfl (tyX6_ok 31 (by decide)) (by decide) (vSt_pl (j := 0) hb),
  vw_FI (z := 0) (vS_st hb (by unfold vSt; exact List.Mem.head _)) dCl_X6 (k := 32) (by decide) rfl (tyX6_ok 32 (by decide)) (by decide) (vSt_pl (j := 0) hb),
  vw_FI (z := 0) (vS_st hb (by unfold vSt; exact List.Mem.head _)) dCl_X6 (k := 33) (by decide) rfl (tyX6_ok 33 (by decide)) (by decide) (vSt_pl (j := 0) hb),
  vw_FR (z := 0) (vS_st hb (by unfold vSt; exact List.Mem.head _)) dCl_X6 (k := 34) (by decide) rfl (by decide) (vSt_65 (j := 0) hb) (vSt_nul (j := 0) hb (by decide) (by decide)) (vSt_ref hb),
  vw_AI (vS_st hb (by unfold vSt; exact List.Mem.tail _ (List.Mem.head _))) rfl (vSt_pl (j := 35) hb),
  vw_FR (z := 0) (vS_st hb (by unfold vSt; exact List.Mem.head _)) dCl_X6 (k := 35) (by decide) rfl (by decide) (vSt_65 (j := 0) hb) (vSt_nul (j := 0) hb (by decide) (by decide)) (vSt_ref hb),
  vw_AI (vS_st hb (by unfold vSt; exact List.Mem.tail _ (List.Mem.tail _ (List.Mem.head _)))) rfl (vSt_pl (j := 36) hb),
  vw_FR (z := 0) (vS_st hb (by unfold vSt; exact List.Mem.head _)) dCl_X6 (k := 36) (by decide) rfl (by decide) (vSt_65 (j := 0) hb) (vSt_nul (j := 0) hb (by decide) (by decide)) (vSt_ref hb),
  vw_AI (vS_st hb (by unfold vSt; exact List.Mem.tail _ (List.Mem.tail _ (List.Mem.tail _ (List.Mem.head _))))) rfl (vSt_pl (j := 37) hb),
  vw_FR (z := 0) (vS_st hb (by unfold vSt; exact List.Mem.head _)) dCl_X6 (k := 37) (by decide) rfl (by decide) (vSt_65 (j := 0) hb) (vSt_nul (j := 0) hb (by decide) (by decide)) (vSt_ref hb),
  vw_AI (vS_st hb (by unfold vSt; exact List.Mem.tail _ (List.Mem.tail _ (List.Mem.tail _ (List.Mem.tail _ (List.Mem.head _)))))) rfl (vSt_pl (j := 38) hb),
  vw_FR (z := 0) (vS_st hb (by unfold vSt; exact List.Mem.head _)) dCl_X6 (k := 38) (by decide) rfl (by decide) (vSt_65 (j := 0) hb) (vSt_nul (j := 0) hb (by decide) (by decide)) (vSt_ref hb),
  vw_AI (vS_st hb (by unfold vSt; exact List.Mem.tail _ (List.Mem.tail _ (List.Mem.tail _ (List.Mem.tail _ (List.Mem.tail _ (List.Mem.head _))))))) rfl (vSt_pl (j := 39) hb),
  vw_FR (z := 0) (vS_st hb (by unfold vSt; exact List.Mem.head _)) dCl_X6 (k := 39) (by decide) rfl (by decide) (vSt_65 (j := 0) hb) (vSt_nul (j := 0) hb (by decide) (by decide)) (vSt_ref hb),
  vw_AI (vS_st hb (by unfold vSt; exact List.Mem.tail _ (List.Mem.tail _ (List.Mem.tail _ (List.Mem.tail _ (List.Mem.tail _ (List.Mem.tail _ (List.Mem.head _)))))))) rfl (vSt_pl (j := 40) hb),
  vw_FR (z := 0) (vS_st hb (by unfold vSt; exact List.Mem.head _)) dCl_X6 (k := 40) (by decide) rfl (by decide) (vSt_65 (j := 0) hb) (vSt_nul (j := 0) hb (by decide) (by decide)) (vSt_ref hb),
  vw_AI (vS_st hb (by unfold vSt; exact List.Mem.tail _ (List.Mem.tail _ (List.Mem.tail _ (List.Mem.tail _ (List.Mem.tail _ (List.Mem.tail _ (List.Mem.tail _ (List.Mem.head _))))))))) rfl (vSt_pl (j := 41) hb),
  vw_FR (z := 0) (vS_st hb (by unfold vSt; exact List.Mem.head _)) dCl_X6 (k := 41) (by decide) rfl (by decide) (vSt_65 (j := 0) hb) (vSt_nul (j := 0) hb (by decide) (by decide)) (vSt_ref hb),
  vH_bs hb,
  vw_FI (z := 0) (vS_st hb (by unfold vSt; exact List.Mem.head _)) dCl_X6 (k := 42) (by decide) rfl (tyX6_ok 42 (by decide)) (by decide) (vSt_pl (j := 0) hb),
  vw_FI (z := 0) (vS_st hb (by unfold vSt; exact List.Mem.head _)) dCl_X6 (k := 43) (by decide) rfl (tyX6_ok 43 (by decide)) (by decide) (vSt_pl (j := 0) hb),
  vw_FI (z := 0) (vS_st hb (by unfold vSt; exact List.Mem.head _)) dCl_X6 (k := 44) (by decide) rfl (tyX6_ok 44 (by decide)) (by decide) (vSt_pl (j := 0) hb),
  vw_FO (z := 0) (vS_st hb (by unfold vSt; exact List.Mem.head _)) dCl_X6 (k := 45) (by decide) rfl (tyX6_ok 45 (by decide)) vw_nar (by decide) (vSt_pl (j := 0) hb) (vSt_nul45 hb) (vSt_tgt hb),
  hb⟩
theorem vH_cLn_H : cLn_H (vwG D dA A Z adr Lx Px Mx) adr := ⟨vw_Rc (z := 0) (vS_of2 (by decide +kernel)) dCl_X2,
  vw_FI (z := 0) (vS_of2 (by decide +kernel)) dCl_X2 (k := 0) (by decide) rfl (tyX2_ok 0 (by decide)) (by decide) (by decide),
  vw_FI (z := 0) (vS_of2 (by decide +kernel)) dCl_X2 (k := 1) (by decide) rfl (tyX2_ok 1 (by decide)) (by decide) (by decide),
  vw_FI (z := 0) (vS_of2 (by decide +kernel)) dCl_X2 (k := 2) (by decide) rfl (tyX2_ok 2 (by decide)) (by decide) (by decide),
  vw_FI (z := 0) (vS_of2 (by decide +kernel)) dCl_X2 (k := 3) (by decide) rfl (tyX2_ok 3 (by decide)) (by decide) (by decide),
  vw_FI (z := 0) (vS_of2 (by decide +kernel)) dCl_X2 (k := 4) (by decide) rfl (tyX2_ok 4 (by decide)) (by decide) (by decide),
  vw_FI (z := 0) (vS_of2 (by decide +kernel)) dCl_X2 (k := 5) (by decide) rfl (tyX2_ok 5 (by decide)) (by decide) (by decide),
  vw_FI (z := 0) (vS_of2 (by decide +kernel)) dCl_X2 (k := 6) (by decide) rfl (tyX2_ok 6 (by decide)) (by decide) (by decide),
  vw_FR (z := 0) (vS_of2 (by decide +kernel)) dCl_X2 (k := 7) (by decide) rfl (by decide) (by decide) (by decide) (by decide),
  vw_FO (z := 0) (vS_of2 (by decide +kernel)) dCl_X2 (k := 8) (by decide) rfl (tyX2_ok 8 (by decide)) vw_nar (by decide) (by decide) (by decide) (by decide),
  vw_FO (z := 0) (vS_of2 (by decide +kernel)) dCl_X2 (k := 9) (by decide) rfl (tyX2_ok 9 (by decide)) vw_nar (by decide) (by decide) (by decide) (by decide),
  vw_FR (z := 0) (vS_of2 (by decide +kernel)) dCl_X2 (k := 10) (by decide) rfl (by decide) (by decide) (by decide) (by decide)⟩
theorem vH_cCo_H : cCo_H (vwG D dA A Z adr Lx Px Mx) adr := ⟨vw_Rc (z := 0) (vS_of2 (by decide +kernel)) dCl_X7,
  vw_FR (z := 0) (vS_of2 (by decide +kernel)) dCl_X7 (k := 0) (by decide) rfl (by decide) (by decide) (by decide) (by decide),
  vw_AI (vS_of2 (by decide +kernel)) rfl (by decide),
  vw_FR (z := 0) (vS_of2 (by decide +kernel)) dCl_X7 (k := 1) (by decide) rfl (by decide) (by decide) (by decide) (by decide),
  vw_AI (vS_of2 (by decide +kernel)) rfl (by decide),
  vw_FI (z := 0) (vS_of2 (by decide +kernel)) dCl_X7 (k := 2) (by decide) rfl (tyX7_ok 2 (by decide)) (by decide) (by decide)⟩
theorem vH_cVw_H : cVw_H (vwG D dA A Z adr Lx Px Mx) adr := ⟨vw_Rc (z := 0) (vS_of2 (by decide +kernel)) dCl_X3,
  vw_FR (z := 0) (vS_of2 (by decide +kernel)) dCl_X3 (k := 0) (by decide) rfl (by decide) (by decide) (by decide) (by decide),
  vw_AI (vS_of2 (by decide +kernel)) rfl (by decide)⟩
theorem vH_cCc_H : cCc_H (vwG D dA A Z adr Lx Px Mx) adr := ⟨vw_Rc (z := 0) (vS_of (by decide +kernel)) dCl_X1,
  vw_FR (z := 0) (vS_of (by decide +kernel)) dCl_X1 (k := 0) (by decide) rfl (by decide) (by decide) (by decide) (by decide),
  vw_FR (z := 0) (vS_of (by decide +kernel)) dCl_X1 (k := 1) (by decide) rfl (by decide) (by decide) (by decide) (by decide),
  vw_FR (z := 0) (vS_of (by decide +kernel)) dCl_X1 (k := 2) (by decide) rfl (by decide) (by decide) (by decide) (by decide),
  vw_FR (z := 0) (vS_of (by decide +kernel)) dCl_X1 (k := 3) (by decide) rfl (by decide) (by decide) (by decide) (by decide),
  vw_FR (z := 0) (vS_of (by decide +kernel)) dCl_X1 (k := 4) (by decide) rfl (by decide) (by decide) (by decide) (by decide),
  vw_FR (z := 0) (vS_of (by decide +kernel)) dCl_X1 (k := 5) (by decide) rfl (by decide) (by decide) (by decide) (by decide),
  vw_FR (z := 0) (vS_of (by decide +kernel)) dCl_X1 (k := 6) (by decide) rfl (by decide) (by decide) (by decide) (by decide),
  vw_FI (z := 0) (vS_of (by decide +kernel)) dCl_X1 (k := 7) (by decide) rfl (tyX1_ok 7 (by decide)) (by decide) (by decide),
  vw_FR (z := 0) (vS_of (by decide +kernel)) dCl_X1 (k := 8) (by decide) rfl (by decide) (by decide) (by decide) (by decide),
  vw_AI (vS_of (by decide +kernel)) rfl (by decide),
  vw_FI (z := 0) (vS_of (by decide +kernel)) dCl_X1 (k := 9) (by decide) rfl (tyX1_ok 9 (by decide)) (by decide) (by decide),
  vw_FI (z := 0) (vS_of (by decide +kernel)) dCl_X1 (k := 10) (by decide) rfl (tyX1_ok 10 (by decide)) (by decide) (by decide),
  vw_FR (z := 0) (vS_of (by decide +kernel)) dCl_X1 (k := 11) (by decide) rfl (by decide) (by decide) (by decide) (by decide),
  vw_FR (z := 0) (vS_of (by decide +kernel)) dCl_X1 (k := 12) (by decide) rfl (by decide) (by decide) (by decide) (by decide),
  vw_FR (z := 0) (vS_of (by decide +kernel)) dCl_X1 (k := 13) (by decide) rfl (by decide) (by decide) (by decide) (by decide),
  vw_FR (z := 0) (vS_of (by decide +kernel)) dCl_X1 (k := 14) (by decide) rfl (by decide) (by decide) (by decide) (by decide),
  vw_AI (vS_of (by decide +kernel)) rfl (by decide),
  vw_FR (z := 0) (vS_of (by decide +kernel)) dCl_X1 (k := 15) (by decide) rfl (by decide) (by decide) (by decide) (by decide),
  vw_AI (vS_of (by decide +kernel)) rfl (by decide),
  vw_FI (z := 0) (vS_of (by decide +kernel)) dCl_X1 (k := 16) (by decide) rfl (tyX1_ok 16 (by decide)) (by decide) (by decide)⟩
theorem vH_bk600 : cBk_H (vwG D dA A Z adr Lx Px Mx) adr 600 := ⟨vw_Rc (z := 0) (vS_of (by decide +kernel)) dCl_X5,
  vw_FR (z := 0) (vS_of (by decide +kernel)) dCl_X5 (k := 0) (by decide) rfl (by decide) (by decide) (by decide) (by decide),
  vw_FR (z := 0) (vS_of (by decide +kernel)) dCl_X5 (k := 1) (by decide) rfl (by decide) (by decide) (by decide) (by decide),
  vw_FR (z := 0) (vS_of (by decide +kernel)) dCl_X5 (k := 2) (by decide) rfl (by decide) (by decide) (by decide) (by decide),
  vw_AI (vS_of (by decide +kernel)) rfl (by decide),
  vw_FR (z := 0) (vS_of (by decide +kernel)) dCl_X5 (k := 3) (by decide) rfl (by decide) (by decide) (by decide) (by decide),
  vw_AI (vS_of (by decide +kernel)) rfl (by decide),
  vw_FR (z := 0) (vS_of (by decide +kernel)) dCl_X5 (k := 4) (by decide) rfl (by decide) (by decide) (by decide) (by decide),
  vw_AI (vS_of (by decide +kernel)) rfl (by decide),
  vw_FI (z := 0) (vS_of (by decide +kernel)) dCl_X5 (k := 5) (by decide) rfl (tyX5_ok 5 (by decide)) (by decide) (by decide),
  vw_FI (z := 0) (vS_of (by decide +kernel)) dCl_X5 (k := 6) (by decide) rfl (tyX5_ok 6 (by decide)) (by decide) (by decide),
  vH_st (b := 1000) (by decide +kernel),
  (by decide)⟩
theorem vH_bk700 : cBk_H (vwG D dA A Z adr Lx Px Mx) adr 700 := ⟨vw_Rc (z := 0) (vS_of (by decide +kernel)) dCl_X5,
  vw_FR (z := 0) (vS_of (by decide +kernel)) dCl_X5 (k := 0) (by decide) rfl (by decide) (by decide) (by decide) (by decide),
  vw_FR (z := 0) (vS_of (by decide +kernel)) dCl_X5 (k := 1) (by decide) rfl (by decide) (by decide) (by decide) (by decide),
  vw_FR (z := 0) (vS_of (by decide +kernel)) dCl_X5 (k := 2) (by decide) rfl (by decide) (by decide) (by decide) (by decide),
  vw_AI (vS_of (by decide +kernel)) rfl (by decide),
  vw_FR (z := 0) (vS_of (by decide +kernel)) dCl_X5 (k := 3) (by decide) rfl (by decide) (by decide) (by decide) (by decide),
  vw_AI (vS_of (by decide +kernel)) rfl (by decide),
  vw_FR (z := 0) (vS_of (by decide +kernel)) dCl_X5 (k := 4) (by decide) rfl (by decide) (by decide) (by decide) (by decide),
  vw_AI (vS_of (by decide +kernel)) rfl (by decide),
  vw_FI (z := 0) (vS_of (by decide +kernel)) dCl_X5 (k := 5) (by decide) rfl (tyX5_ok 5 (by decide)) (by decide) (by decide),
  vw_FI (z := 0) (vS_of (by decide +kernel)) dCl_X5 (k := 6) (by decide) rfl (tyX5_ok 6 (by decide)) (by decide) (by decide),
  vH_st (b := 6000) (by decide +kernel),
  (by decide)⟩
theorem vH_tw (hs : tw_Hs (vwG D dA A Z adr Lx Px Mx) adr) (hj : cJ_H (vwG D dA A Z adr Lx Px Mx)) : tw_H (vwG D dA A Z adr Lx Px Mx) adr := ⟨vw_Rc (z := 0) (vS_of (by decide +kernel)) dCl_X10,
  vw_FR (z := 0) (vS_of (by decide +kernel)) dCl_X10 (k := 0) (by decide) rfl (by decide) (by decide) (by decide) (by decide),
  vw_FR (z := 0) (vS_of (by decide +kernel)) dCl_X10 (k := 1) (by decide) rfl (by decide) (by decide) (by decide) (by decide),
  vw_FI (z := 0) (vS_of (by decide +kernel)) dCl_X10 (k := 2) (by decide) rfl (tyX10_ok 2 (by decide)) (by decide) (by decide),
  vw_FR (z := 0) (vS_of (by decide +kernel)) dCl_X10 (k := 3) (by decide) rfl (by decide) (by decide) (by decide) (by decide),
  vw_FR (z := 0) (vS_of (by decide +kernel)) dCl_X10 (k := 4) (by decide) rfl (by decide) (by decide) (by decide) (by decide),
  vw_FR (z := 0) (vS_of (by decide +kernel)) dCl_X10 (k := 5) (by decide) rfl (by decide) (by decide) (by decide) (by decide),
  vw_FR (z := 0) (vS_of (by decide +kernel)) dCl_X10 (k := 6) (by decide) rfl (by decide) (by decide) (by decide) (by decide),
  vw_FR (z := 0) (vS_of (by decide +kernel)) dCl_X10 (k := 7) (by decide) rfl (by decide) (by decide) (by decide) (by decide),
  vw_FR (z := 0) (vS_of (by decide +kernel)) dCl_X10 (k := 8) (by decide) rfl (by decide) (by decide) (by decide) (by decide),
  vw_FI (z := 0) (vS_of (by decide +kernel)) dCl_X10 (k := 9) (by decide) rfl (tyX10_ok 9 (by decide)) (by decide) (by decide),
  vw_FI (z := 0) (vS_of (by decide +kernel)) dCl_X10 (k := 10) (by decide) rfl (tyX10_ok 10 (by decide)) (by decide) (by decide),
  vw_FR (z := 0) (vS_of (by decide +kernel)) dCl_X10 (k := 11) (by decide) rfl (by decide) (by decide) (by decide) (by decide),
  vw_FI (z := 0) (vS_of (by decide +kernel)) dCl_X10 (k := 12) (by decide) rfl (tyX10_ok 12 (by decide)) (by decide) (by decide),
  vw_FI (z := 0) (vS_of (by decide +kernel)) dCl_X10 (k := 13) (by decide) rfl (tyX10_ok 13 (by decide)) (by decide) (by decide),
  vw_FI (z := 0) (vS_of (by decide +kernel)) dCl_X10 (k := 14) (by decide) rfl (tyX10_ok 14 (by decide)) (by decide) (by decide),
  vw_FI (z := 0) (vS_of (by decide +kernel)) dCl_X10 (k := 15) (by decide) rfl (tyX10_ok 15 (by decide)) (by decide) (by decide),
  vw_FI (z := 0) (vS_of (by decide +kernel)) dCl_X10 (k := 16) (by decide) rfl (tyX10_ok 16 (by decide)) (by decide) (by decide),
  vw_FI (z := 0) (vS_of (by decide +kernel)) dCl_X10 (k := 17) (by decide) rfl (tyX10_ok 17 (by decide)) (by decide) (by decide),
  vw_FI (z := 0) (vS_of (by decide +kernel)) dCl_X10 (k := 18) (by decide) rfl (tyX10_ok 18 (by decide)) (by decide) (by decide),
  vw_FI (z := 0) (vS_of (by decide +kernel)) dCl_X10 (k := 19) (by decide) rfl (tyX10_ok 19 (by decide)) (by decide) (by decide),
  vw_FI (z := 0) (vS_of (by decide +kernel)) dCl_X10 (k := 20) (by decide) rfl (tyX10_ok 20 (by decide)) (by decide) (by decide),
  vw_FI (z := 0) (vS_of (by decide +kernel)) dCl_X10 (k := 21) (by decide) rfl (tyX10_ok 21 (by decide)) (by decide) (by decide),
  vw_FR (z := 0) (vS_of (by decide +kernel)) dCl_X10 (k := 22) (by decide) rfl (by decide) (by decide) (by decide) (by decide),
  vw_FR (z := 0) (vS_of (by decide +kernel)) dCl_X10 (k := 23) (by decide) rfl (by decide) (by decide) (by decide) (by decide),
  vw_FI (z := 0) (vS_of (by decide +kernel)) dCl_X10 (k := 24) (by decide) rfl (tyX10_ok 24 (by decide)) (by decide) (by decide),
  vw_FI (z := 0) (vS_of (by decide +kernel)) dCl_X10 (k := 25) (by decide) rfl (tyX10_ok 25 (by decide)) (by decide) (by decide),
  vw_FR (z := 0) (vS_of (by decide +kernel)) dCl_X10 (k := 26) (by decide) rfl (by decide) (by decide) (by decide) (by decide),
  vw_FR (z := 0) (vS_of (by decide +kernel)) dCl_X10 (k := 27) (by decide) rfl (by decide) (by decide) (by decide) (by decide),
  vw_FR (z := 0) (vS_of (by decide +kernel)) dCl_X10 (k := 28) (by decide) rfl (by decide) (by decide) (by decide) (by decide),
  vw_FI (z := 0) (vS_of (by decide +kernel)) dCl_X10 (k := 29) (by decide) rfl (tyX10_ok 29 (by decide)) (by decide) (by decide),
  vw_FI (z := 0) (vS_of (by decide +kernel)) dCl_X10 (k := 30) (by decide) rfl (tyX10_ok 30 (by decide)) (by decide) (by decide),
  vw_FI (z := 0) (vS_of (by decide +kernel)) dCl_X10 (k := 31) (by decide) rfl (tyX10_ok 31 (by decide)) (by decide) (by decide),
  vw_FI (z := 0) (vS_of (by decide +kernel)) dCl_X10 (k := 32) (by decide) rfl (tyX10_ok 32 (by decide)) (by decide) (by decide),
  vw_FR (z := 0) (vS_of (by decide +kernel)) dCl_X10 (k := 33) (by decide) rfl (by decide) (by decide) (by decide) (by decide),
  vw_FR (z := 0) (vS_of (by decide +kernel)) dCl_X10 (k := 34) (by decide) rfl (by decide) (by decide) (by decide) (by decide),
  vw_FR (z := 0) (vS_of (by decide +kernel)) dCl_X10 (k := 35) (by decide) rfl (by decide) (by decide) (by decide) (by decide),
  vw_FI (z := 0) (vS_of (by decide +kernel)) dCl_X10 (k := 36) (by decide) rfl (tyX10_ok 36 (by decide)) (by decide) (by decide),
  vw_FI (z := 0) (vS_of (by decide +kernel)) dCl_X10 (k := 37) (by decide) rfl (tyX10_ok 37 (by decide)) (by decide) (by decide),
  vw_FR (z := 0) (vS_of (by decide +kernel)) dCl_X10 (k := 38) (by decide) rfl (by decide) (by decide) (by decide) (by decide),
  vw_FR (z := 0) (vS_of (by decide +kernel)) dCl_X10 (k := 39) (by decide) rfl (by decide) (by decide) (by decide) (by decide),
  vw_FR (z := 0) (vS_of (by decide +kernel)) dCl_X10 (k := 40) (by decide) rfl (by decide) (by decide) (by decide) (by decide),
  vw_FR (z := 0) (vS_of (by decide +kernel)) dCl_X10 (k := 41) (by decide) rfl (by decide) (by decide) (by decide) (by decide),
  vw_FI (z := 0) (vS_of (by decide +kernel)) dCl_X10 (k := 42) (by decide) rfl (tyX10_ok 42 (by decide)) (by decide) (by decide),
  vw_FI (z := 0) (vS_of (by decide +kernel)) dCl_X10 (k := 43) (by decide) rfl (tyX10_ok 43 (by decide)) (by decide) (by decide),
  vw_FI (z := 0) (vS_of (by decide +kernel)) dCl_X10 (k := 44) (by decide) rfl (tyX10_ok 44 (by decide)) (by decide) (by decide),
  vw_FI (z := 0) (vS_of (by decide +kernel)) dCl_X10 (k := 45) (by decide) rfl (tyX10_ok 45 (by decide)) (by decide) (by decide),
  vw_FI (z := 0) (vS_of (by decide +kernel)) dCl_X10 (k := 46) (by decide) rfl (tyX10_ok 46 (by decide)) (by decide) (by decide),
  vw_FR (z := 0) (vS_of (by decide +kernel)) dCl_X10 (k := 47) (by decide) rfl (by decide) (by decide) (by decide) (by decide),
  vw_FR (z := 0) (vS_of (by decide +kernel)) dCl_X10 (k := 48) (by decide) rfl (by decide) (by decide) (by decide) (by decide),
  vw_FR (z := 0) (vS_of (by decide +kernel)) dCl_X10 (k := 49) (by decide) rfl (by decide) (by decide) (by decide) (by decide),
  vw_FR (z := 0) (vS_of (by decide +kernel)) dCl_X10 (k := 50) (by decide) rfl (by decide) (by decide) (by decide) (by decide),
  vw_FR (z := 0) (vS_of (by decide +kernel)) dCl_X10 (k := 51) (by decide) rfl (by decide) (by decide) (by decide) (by decide),
  vw_AI (vS_of (by decide +kernel)) rfl (by decide),
  vw_AI (vS_of (by decide +kernel)) rfl (by decide),
  vw_AI (vS_of (by decide +kernel)) rfl (by decide),
  vw_AI (vS_of (by decide +kernel)) rfl (by decide),
  vw_AI (vS_of (by decide +kernel)) rfl (by decide),
  vw_AI (vS_of (by decide +kernel)) rfl (by decide),
  vw_AI (vS_of (by decide +kernel)) rfl (by decide),
  vw_AI (vS_of (by decide +kernel)) rfl (by decide),
  vw_AI (vS_of (by decide +kernel)) rfl (by decide),
  vw_AI (vS_of (by decide +kernel)) rfl (by decide),
  vw_AI (vS_of (by decide +kernel)) rfl (by decide),
  vw_AI (vS_of (by decide +kernel)) rfl (by decide),
  vw_AI (vS_of (by decide +kernel)) rfl (by decide),
  vw_AI (vS_of (by decide +kernel)) rfl (by decide),
  vw_AI (vS_of (by decide +kernel)) rfl (by decide),
  vw_AI (vS_of (by decide +kernel)) rfl (by decide),
  vw_AI (vS_of (by decide +kernel)) rfl (by decide),
  vw_AI (vS_of (by decide +kernel)) rfl (by decide),
  vw_AI (vS_of (by decide +kernel)) rfl (by decide),
  vw_AI (vS_of (by decide +kernel)) rfl (by decide),
  vw_AI (vS_of (by decide +kernel)) rfl (by decide),
  vw_AI (vS_of (by decide +kernel)) rfl (by decide),
  vw_AI (vS_of (by decide +kernel)) rfl (by decide),
  vw_AI (vS_of (by decide +kernel)) rfl (by decide),
  fun w hw => by
    match w, hw with
    | 0, _ => exact vw_QI (vS_of (by decide +kernel)) rfl (by decide) (fun k => by unfold vnull; simp) (fun k => rfl)
    | 1, _ => exact vw_QI (vS_of (by decide +kernel)) rfl (by decide) (fun k => by unfold vnull; simp) (fun k => rfl),
  hs, hj⟩
end VF
section VG
variable {g : cx_G} {adr : Nat → Nat} {L : dL} {P : dP}
theorem vSt_lt {b : Nat} (hb : b ∈ cSt_all) : b + 100 < 9999999 := by
  have h1 : cSt_all.all (fun b => decide (b + 100 < 9999999)) = true := by decide +kernel
  have := (List.all_eq_true.mp h1) b hb
  simpa using this
theorem vU_jBs_H {b : Nat} (hb : b + 1 < 9999999) (H : jBs_H g adr b) : jBs_H (dG g L P) adr b := ⟨vu_Rc H.1,
  vu_FR H.2.1,
  vu_LI (by omega) H.2.2.1,
  vu_FI (by omega) H.2.2.2.1,
  vu_FI (by omega) H.2.2.2.2⟩
theorem vU_cSt_H0 {b : Nat} (hb : b + 100 < 9999999) (H : cSt_H g adr b) : cSt_H (dG g L P) adr b := ⟨vu_Rc H.1,
  vu_FI (by omega) H.2.1,
  vu_FI (by omega) H.2.2.1,
  vu_FI (by omega) H.2.2.2.1,
  vu_FI (by omega) H.2.2.2.2.1,
  vu_FI (by omega) H.2.2.2.2.2.1,
  vu_FI (by omega) H.2.2.2.2.2.2.1,
  vu_FI (by omega) H.2.2.2.2.2.2.2.1,
  vu_FI (by omega) H.2.2.2.2.2.2.2.2.1,
  vu_FI (by omega) H.2.2.2.2.2.2.2.2.2.1,
  vu_FI (by omega) H.2.2.2.2.2.2.2.2.2.2.1,
  vu_FI (by omega) H.2.2.2.2.2.2.2.2.2.2.2.1,
  vu_FI (by omega) H.2.2.2.2.2.2.2.2.2.2.2.2.1,
  vu_FI (by omega) H.2.2.2.2.2.2.2.2.2.2.2.2.2.1,
  vu_FI (by omega) H.2.2.2.2.2.2.2.2.2.2.2.2.2.2.1,
  vu_FI (by omega) H.2.2.2.2.2.2.2.2.2.2.2.2.2.2.2.1,
  vu_FI (by omega) H.2.2.2.2.2.2.2.2.2.2.2.2.2.2.2.2.1,
  vu_FI (by omega) H.2.2.2.2.2.2.2.2.2.2.2.2.2.2.2.2.2.1,
  vu_FI (by omega) H.2.2.2.2.2.2.2.2.2.2.2.2.2.2.2.2.2.2.1,
  vu_FI (by omega) H.2.2.2.2.2.2.2.2.2.2.2.2.2.2.2.2.2.2.2.1,
  vu_FI (by omega) H.2.2.2.2.2.2.2.2.2.2.2.2.2.2.2.2.2.2.2.2.1,
  vu_FI (by omega) H.2.2.2.2.2.2.2.2.2.2.2.2.2.2.2.2.2.2.2.2.2.1,
  vu_FI (by omega) H.2.2.2.2.2.2.2.2.2.2.2.2.2.2.2.2.2.2.2.2.2.2.1,
  vu_FI (by omega) H.2.2.2.2.2.2.2.2.2.2.2.2.2.2.2.2.2.2.2.2.2.2.2.1,
  vu_FI (by omega) H.2.2.2.2.2.2.2.2.2.2.2.2.2.2.2.2.2.2.2.2.2.2.2.2.1,
  vu_FI (by omega) H.2.2.2.2.2.2.2.2.2.2.2.2.2.2.2.2.2.2.2.2.2.2.2.2.2.1,
  vu_FI (by omega) H.2.2.2.2.2.2.2.2.2.2.2.2.2.2.2.2.2.2.2.2.2.2.2.2.2.2.1,
  vu_FI (by omega) H.2.2.2.2.2.2.2.2.2.2.2.2.2.2.2.2.2.2.2.2.2.2.2.2.2.2.2.1,
  vu_FI (by omega) H.2.2.2.2.2.2.2.2.2.2.2.2.2.2.2.2.2.2.2.2.2.2.2.2.2.2.2.2.1,
  vu_FI (by omega) H.2.2.2.2.2.2.2.2.2.2.2.2.2.2.2.2.2.2.2.2.2.2.2.2.2.2.2.2.2.1,
  vu_FI (by omega) H.2.2.2.2.2.2.2.2.2.2.2.2.2.2.2.2.2.2.2.2.2.2.2.2.2.2.2.2.2.2.1,
  vu_FI (by omega) H.2.2.2.2.2.2.2.2.2.2.2.2.2.2.2.2.2.2.2.2.2.2.2.2.2.2.2.2.2.2.2.1,
  vu_FI (by omega) H.2.2.2.2.2.2.2.2.2.2.2.2.2.2.2.2.2.2.2.2.2.2.2.2.2.2.2.2.2.2.2.2.1,
  vu_FI (by omega) H.2.2.2.2.2.2.2.2.2.2.2.2.2.2.2.2.2.2.2.2.2.2.2.2.2.2.2.2.2.2.2.2.2.1,
  vu_FI (by omega) H.2.2.2.2.2.2.2.2.2.2.2.2.2.2.2.2.2.2.2.2.2.2.2.2.2.2.2.2.2.2.2.2.2.2.1,
  vu_FR H.2.2.2.2.2.2.2.2.2.2.2.2.2.2.2.2.2.2.2.2.2.2.2.2.2.2.2.2.2.2.2.2.2.2.2.1,
  vu_AI (by omega) H.2.2.2.2.2.2.2.2.2.2.2.2.2.2.2.2.2.2.2.2.2.2.2.2.2.2.2.2.2.2.2.2.2.2.2.2.1,
  vu_FR H.2.2.2.2.2.2.2.2.2.2.2.2.2.2.2.2.2.2.2.2.2.2.2.2.2.2.2.2.2.2.2.2.2.2.2.2.2.1,
  vu_AI (by omega) H.2.2.2.2.2.2.2.2.2.2.2.2.2.2.2.2.2.2.2.2.2.2.2.2.2.2.2.2.2.2.2.2.2.2.2.2.2.2.1,
  vu_FR H.2.2.2.2.2.2.2.2.2.2.2.2.2.2.2.2.2.2.2.2.2.2.2.2.2.2.2.2.2.2.2.2.2.2.2.2.2.2.2.1,
  vu_AI (by omega) H.2.2.2.2.2.2.2.2.2.2.2.2.2.2.2.2.2.2.2.2.2.2.2.2.2.2.2.2.2.2.2.2.2.2.2.2.2.2.2.2.1,
  vu_FR H.2.2.2.2.2.2.2.2.2.2.2.2.2.2.2.2.2.2.2.2.2.2.2.2.2.2.2.2.2.2.2.2.2.2.2.2.2.2.2.2.2.1,
  vu_AI (by omega) H.2.2.2.2.2.2.2.2.2.2.2.2.2.2.2.2.2.2.2.2.2.2.2.2.2.2.2.2.2.2.2.2.2.2.2.2.2.2.2.2.2.2.1,
  vu_FR H.2.2.2.2.2.2.2.2.2.2.2.2.2.2.2.2.2.2.2.2.2.2.2.2.2.2.2.2.2.2.2.2.2.2.2.2.2.2.2.2.2.2.2.1,
  vu_AI (by omega) H.2.2.2.2.2.2.2.2.2.2.2.2.2.2.2.2.2.2.2.2.2.2.2.2.2.2.2.2.2.2.2.2.2.2.2.2.2.2.2.2.2.2.2.2.1,
  vu_FR H.2.2.2.2.2.2.2.2.2.2.2.2.2.2.2.2.2.2.2.2.2.2.2.2.2.2.2.2.2.2.2.2.2.2.2.2.2.2.2.2.2.2.2.2.2.1,
  vu_AI (by omega) H.2.2.2.2.2.2.2.2.2.2.2.2.2.2.2.2.2.2.2.2.2.2.2.2.2.2.2.2.2.2.2.2.2.2.2.2.2.2.2.2.2.2.2.2.2.2.1,
  vu_FR H.2.2.2.2.2.2.2.2.2.2.2.2.2.2.2.2.2.2.2.2.2.2.2.2.2.2.2.2.2.2.2.2.2.2.2.2.2.2.2.2.2.2.2.2.2.2.2.1,
  vu_AI (by omega) H.2.2.2.2.2.2.2.2.2.2.2.2.2.2.2.2.2.2.2.2.2.2.2.2.2.2.2.2.2.2.2.2.2.2.2.2.2.2.2.2.2.2.2.2.2.2.2.2.1,
  vu_FR H.2.2.2.2.2.2.2.2.2.2.2.2.2.2.2.2.2.2.2.2.2.2.2.2.2.2.2.2.2.2.2.2.2.2.2.2.2.2.2.2.2.2.2.2.2.2.2.2.2.1,
  vU_jBs_H (by omega) H.2.2.2.2.2.2.2.2.2.2.2.2.2.2.2.2.2.2.2.2.2.2.2.2.2.2.2.2.2.2.2.2.2.2.2.2.2.2.2.2.2.2.2.2.2.2.2.2.2.2.1,
  vu_FI (by omega) H.2.2.2.2.2.2.2.2.2.2.2.2.2.2.2.2.2.2.2.2.2.2.2.2.2.2.2.2.2.2.2.2.2.2.2.2.2.2.2.2.2.2.2.2.2.2.2.2.2.2.2.1,
  vu_FI (by omega) H.2.2.2.2.2.2.2.2.2.2.2.2.2.2.2.2.2.2.2.2.2.2.2.2.2.2.2.2.2.2.2.2.2.2.2.2.2.2.2.2.2.2.2.2.2.2.2.2.2.2.2.2.1,
  vu_FI (by omega) H.2.2.2.2.2.2.2.2.2.2.2.2.2.2.2.2.2.2.2.2.2.2.2.2.2.2.2.2.2.2.2.2.2.2.2.2.2.2.2.2.2.2.2.2.2.2.2.2.2.2.2.2.2.1,
  vu_FO (by omega) H.2.2.2.2.2.2.2.2.2.2.2.2.2.2.2.2.2.2.2.2.2.2.2.2.2.2.2.2.2.2.2.2.2.2.2.2.2.2.2.2.2.2.2.2.2.2.2.2.2.2.2.2.2.2.1,
  H.2.2.2.2.2.2.2.2.2.2.2.2.2.2.2.2.2.2.2.2.2.2.2.2.2.2.2.2.2.2.2.2.2.2.2.2.2.2.2.2.2.2.2.2.2.2.2.2.2.2.2.2.2.2.2⟩
theorem vU_cSt_H {b : Nat} (H : cSt_H g adr b) : cSt_H (dG g L P) adr b := vU_cSt_H0 (vSt_lt (cSt_b H)) H
theorem vU_cLn_H (H : cLn_H g adr) : cLn_H (dG g L P) adr := ⟨vu_Rc H.1,
  vu_FI (by decide) H.2.1,
  vu_FI (by decide) H.2.2.1,
  vu_FI (by decide) H.2.2.2.1,
  vu_FI (by decide) H.2.2.2.2.1,
  vu_FI (by decide) H.2.2.2.2.2.1,
  vu_FI (by decide) H.2.2.2.2.2.2.1,
  vu_FI (by decide) H.2.2.2.2.2.2.2.1,
  vu_FR H.2.2.2.2.2.2.2.2.1,
  vu_FO (by decide) H.2.2.2.2.2.2.2.2.2.1,
  vu_FO (by decide) H.2.2.2.2.2.2.2.2.2.2.1,
  vu_FR H.2.2.2.2.2.2.2.2.2.2.2⟩
theorem vU_cCo_H (H : cCo_H g adr) : cCo_H (dG g L P) adr := ⟨vu_Rc H.1,
  vu_FR H.2.1,
  vu_AI (by decide) H.2.2.1,
  vu_FR H.2.2.2.1,
  vu_AI (by decide) H.2.2.2.2.1,
  vu_FI (by decide) H.2.2.2.2.2⟩
theorem vU_cVw_H (H : cVw_H g adr) : cVw_H (dG g L P) adr := ⟨vu_Rc H.1,
  vu_FR H.2.1,
  vu_AI (by decide) H.2.2⟩
theorem vU_cCc_H (H : cCc_H g adr) : cCc_H (dG g L P) adr := ⟨vu_Rc H.1,
  vu_FR H.2.1,
  vu_FR H.2.2.1,
  vu_FR H.2.2.2.1,
  vu_FR H.2.2.2.2.1,
  vu_FR H.2.2.2.2.2.1,
  vu_FR H.2.2.2.2.2.2.1,
  vu_FR H.2.2.2.2.2.2.2.1,
  vu_FI (by decide) H.2.2.2.2.2.2.2.2.1,
  vu_FR H.2.2.2.2.2.2.2.2.2.1,
  vu_AI (by decide) H.2.2.2.2.2.2.2.2.2.2.1,
  vu_FI (by decide) H.2.2.2.2.2.2.2.2.2.2.2.1,
  vu_FI (by decide) H.2.2.2.2.2.2.2.2.2.2.2.2.1,
  vu_FR H.2.2.2.2.2.2.2.2.2.2.2.2.2.1,
  vu_FR H.2.2.2.2.2.2.2.2.2.2.2.2.2.2.1,
  vu_FR H.2.2.2.2.2.2.2.2.2.2.2.2.2.2.2.1,
  vu_FR H.2.2.2.2.2.2.2.2.2.2.2.2.2.2.2.2.1,
  vu_AI (by decide) H.2.2.2.2.2.2.2.2.2.2.2.2.2.2.2.2.2.1,
  vu_FR H.2.2.2.2.2.2.2.2.2.2.2.2.2.2.2.2.2.2.1,
  vu_AI (by decide) H.2.2.2.2.2.2.2.2.2.2.2.2.2.2.2.2.2.2.2.1,
  vu_FI (by decide) H.2.2.2.2.2.2.2.2.2.2.2.2.2.2.2.2.2.2.2.2⟩
theorem vU_cBk_H0 {b : Nat} (hb : b + 100 < 9999999) (H : cBk_H g adr b) : cBk_H (dG g L P) adr b := ⟨vu_Rc H.1,
  vu_FR H.2.1,
  vu_FR H.2.2.1,
  vu_FR H.2.2.2.1,
  vu_AI (by omega) H.2.2.2.2.1,
  vu_FR H.2.2.2.2.2.1,
  vu_AI (by omega) H.2.2.2.2.2.2.1,
  vu_FR H.2.2.2.2.2.2.2.1,
  vu_AI (by omega) H.2.2.2.2.2.2.2.2.1,
  vu_FI (by omega) H.2.2.2.2.2.2.2.2.2.1,
  vu_FI (by omega) H.2.2.2.2.2.2.2.2.2.2.1,
  vU_cSt_H H.2.2.2.2.2.2.2.2.2.2.2.1,
  H.2.2.2.2.2.2.2.2.2.2.2.2⟩
theorem vU_cBk_H {b : Nat} (H : cBk_H g adr b) : cBk_H (dG g L P) adr b := vU_cBk_H0 (by rcases cBk_b H with h | h <;> omega) H
theorem vU_tw_H (H : tw_H g adr) : tw_H (dG g L P) adr := ⟨vu_Rc H.1,
  vu_FR H.2.1,
  vu_FR H.2.2.1,
  vu_FI (by decide) H.2.2.2.1,
  vu_FR H.2.2.2.2.1,
  vu_FR H.2.2.2.2.2.1,
  vu_FR H.2.2.2.2.2.2.1,
  vu_FR H.2.2.2.2.2.2.2.1,
  vu_FR H.2.2.2.2.2.2.2.2.1,
  vu_FR H.2.2.2.2.2.2.2.2.2.1,
  vu_FI (by decide) H.2.2.2.2.2.2.2.2.2.2.1,
  vu_FI (by decide) H.2.2.2.2.2.2.2.2.2.2.2.1,
  vu_FR H.2.2.2.2.2.2.2.2.2.2.2.2.1,
  vu_FI (by decide) H.2.2.2.2.2.2.2.2.2.2.2.2.2.1,
  vu_FI (by decide) H.2.2.2.2.2.2.2.2.2.2.2.2.2.2.1,
  vu_FI (by decide) H.2.2.2.2.2.2.2.2.2.2.2.2.2.2.2.1,
  vu_FI (by decide) H.2.2.2.2.2.2.2.2.2.2.2.2.2.2.2.2.1,
  vu_FI (by decide) H.2.2.2.2.2.2.2.2.2.2.2.2.2.2.2.2.2.1,
  vu_FI (by decide) H.2.2.2.2.2.2.2.2.2.2.2.2.2.2.2.2.2.2.1,
  vu_FI (by decide) H.2.2.2.2.2.2.2.2.2.2.2.2.2.2.2.2.2.2.2.1,
  vu_FI (by decide) H.2.2.2.2.2.2.2.2.2.2.2.2.2.2.2.2.2.2.2.2.1,
  vu_FI (by decide) H.2.2.2.2.2.2.2.2.2.2.2.2.2.2.2.2.2.2.2.2.2.1,
  vu_FI (by decide) H.2.2.2.2.2.2.2.2.2.2.2.2.2.2.2.2.2.2.2.2.2.2.1,
  vu_FR H.2.2.2.2.2.2.2.2.2.2.2.2.2.2.2.2.2.2.2.2.2.2.2.1,
  vu_FR H.2.2.2.2.2.2.2.2.2.2.2.2.2.2.2.2.2.2.2.2.2.2.2.2.1,
  vu_FI (by decide) H.2.2.2.2.2.2.2.2.2.2.2.2.2.2.2.2.2.2.2.2.2.2.2.2.2.1,
  vu_FI (by decide) H.2.2.2.2.2.2.2.2.2.2.2.2.2.2.2.2.2.2.2.2.2.2.2.2.2.2.1,
  vu_FR H.2.2.2.2.2.2.2.2.2.2.2.2.2.2.2.2.2.2.2.2.2.2.2.2.2.2.2.1,
  vu_FR H.2.2.2.2.2.2.2.2.2.2.2.2.2.2.2.2.2.2.2.2.2.2.2.2.2.2.2.2.1,
  vu_FR H.2.2.2.2.2.2.2.2.2.2.2.2.2.2.2.2.2.2.2.2.2.2.2.2.2.2.2.2.2.1,
  vu_FI (by decide) H.2.2.2.2.2.2.2.2.2.2.2.2.2.2.2.2.2.2.2.2.2.2.2.2.2.2.2.2.2.2.1,
  vu_FI (by decide) H.2.2.2.2.2.2.2.2.2.2.2.2.2.2.2.2.2.2.2.2.2.2.2.2.2.2.2.2.2.2.2.1,
  vu_FI (by decide) H.2.2.2.2.2.2.2.2.2.2.2.2.2.2.2.2.2.2.2.2.2.2.2.2.2.2.2.2.2.2.2.2.1,
  vu_FI (by decide) H.2.2.2.2.2.2.2.2.2.2.2.2.2.2.2.2.2.2.2.2.2.2.2.2.2.2.2.2.2.2.2.2.2.1,
  vu_FR H.2.2.2.2.2.2.2.2.2.2.2.2.2.2.2.2.2.2.2.2.2.2.2.2.2.2.2.2.2.2.2.2.2.2.1,
  vu_FR H.2.2.2.2.2.2.2.2.2.2.2.2.2.2.2.2.2.2.2.2.2.2.2.2.2.2.2.2.2.2.2.2.2.2.2.1,
  vu_FR H.2.2.2.2.2.2.2.2.2.2.2.2.2.2.2.2.2.2.2.2.2.2.2.2.2.2.2.2.2.2.2.2.2.2.2.2.1,
  vu_FI (by decide) H.2.2.2.2.2.2.2.2.2.2.2.2.2.2.2.2.2.2.2.2.2.2.2.2.2.2.2.2.2.2.2.2.2.2.2.2.2.1,
  vu_FI (by decide) H.2.2.2.2.2.2.2.2.2.2.2.2.2.2.2.2.2.2.2.2.2.2.2.2.2.2.2.2.2.2.2.2.2.2.2.2.2.2.1,
  vu_FR H.2.2.2.2.2.2.2.2.2.2.2.2.2.2.2.2.2.2.2.2.2.2.2.2.2.2.2.2.2.2.2.2.2.2.2.2.2.2.2.1,
  vu_FR H.2.2.2.2.2.2.2.2.2.2.2.2.2.2.2.2.2.2.2.2.2.2.2.2.2.2.2.2.2.2.2.2.2.2.2.2.2.2.2.2.1,
  vu_FR H.2.2.2.2.2.2.2.2.2.2.2.2.2.2.2.2.2.2.2.2.2.2.2.2.2.2.2.2.2.2.2.2.2.2.2.2.2.2.2.2.2.1,
  vu_FR H.2.2.2.2.2.2.2.2.2.2.2.2.2.2.2.2.2.2.2.2.2.2.2.2.2.2.2.2.2.2.2.2.2.2.2.2.2.2.2.2.2.2.1,
  vu_FI (by decide) H.2.2.2.2.2.2.2.2.2.2.2.2.2.2.2.2.2.2.2.2.2.2.2.2.2.2.2.2.2.2.2.2.2.2.2.2.2.2.2.2.2.2.2.1,
  vu_FI (by decide) H.2.2.2.2.2.2.2.2.2.2.2.2.2.2.2.2.2.2.2.2.2.2.2.2.2.2.2.2.2.2.2.2.2.2.2.2.2.2.2.2.2.2.2.2.1,
  vu_FI (by decide) H.2.2.2.2.2.2.2.2.2.2.2.2.2.2.2.2.2.2.2.2.2.2.2.2.2.2.2.2.2.2.2.2.2.2.2.2.2.2.2.2.2.2.2.2.2.1,
  vu_FI (by decide) H.2.2.2.2.2.2.2.2.2.2.2.2.2.2.2.2.2.2.2.2.2.2.2.2.2.2.2.2.2.2.2.2.2.2.2.2.2.2.2.2.2.2.2.2.2.2.1,
  vu_FI (by decide) H.2.2.2.2.2.2.2.2.2.2.2.2.2.2.2.2.2.2.2.2.2.2.2.2.2.2.2.2.2.2.2.2.2.2.2.2.2.2.2.2.2.2.2.2.2.2.2.1,
  vu_FR H.2.2.2.2.2.2.2.2.2.2.2.2.2.2.2.2.2.2.2.2.2.2.2.2.2.2.2.2.2.2.2.2.2.2.2.2.2.2.2.2.2.2.2.2.2.2.2.2.1,
  vu_FR H.2.2.2.2.2.2.2.2.2.2.2.2.2.2.2.2.2.2.2.2.2.2.2.2.2.2.2.2.2.2.2.2.2.2.2.2.2.2.2.2.2.2.2.2.2.2.2.2.2.1,
  vu_FR H.2.2.2.2.2.2.2.2.2.2.2.2.2.2.2.2.2.2.2.2.2.2.2.2.2.2.2.2.2.2.2.2.2.2.2.2.2.2.2.2.2.2.2.2.2.2.2.2.2.2.1,
  vu_FR H.2.2.2.2.2.2.2.2.2.2.2.2.2.2.2.2.2.2.2.2.2.2.2.2.2.2.2.2.2.2.2.2.2.2.2.2.2.2.2.2.2.2.2.2.2.2.2.2.2.2.2.1,
  vu_FR H.2.2.2.2.2.2.2.2.2.2.2.2.2.2.2.2.2.2.2.2.2.2.2.2.2.2.2.2.2.2.2.2.2.2.2.2.2.2.2.2.2.2.2.2.2.2.2.2.2.2.2.2.1,
  vu_AI (by decide) H.2.2.2.2.2.2.2.2.2.2.2.2.2.2.2.2.2.2.2.2.2.2.2.2.2.2.2.2.2.2.2.2.2.2.2.2.2.2.2.2.2.2.2.2.2.2.2.2.2.2.2.2.2.1,
  vu_AI (by decide) H.2.2.2.2.2.2.2.2.2.2.2.2.2.2.2.2.2.2.2.2.2.2.2.2.2.2.2.2.2.2.2.2.2.2.2.2.2.2.2.2.2.2.2.2.2.2.2.2.2.2.2.2.2.2.1,
  vu_AI (by decide) H.2.2.2.2.2.2.2.2.2.2.2.2.2.2.2.2.2.2.2.2.2.2.2.2.2.2.2.2.2.2.2.2.2.2.2.2.2.2.2.2.2.2.2.2.2.2.2.2.2.2.2.2.2.2.2.1,
  vu_AI (by decide) H.2.2.2.2.2.2.2.2.2.2.2.2.2.2.2.2.2.2.2.2.2.2.2.2.2.2.2.2.2.2.2.2.2.2.2.2.2.2.2.2.2.2.2.2.2.2.2.2.2.2.2.2.2.2.2.2.1,
  vu_AI (by decide) H.2.2.2.2.2.2.2.2.2.2.2.2.2.2.2.2.2.2.2.2.2.2.2.2.2.2.2.2.2.2.2.2.2.2.2.2.2.2.2.2.2.2.2.2.2.2.2.2.2.2.2.2.2.2.2.2.2.1,
  vu_AI (by decide) H.2.2.2.2.2.2.2.2.2.2.2.2.2.2.2.2.2.2.2.2.2.2.2.2.2.2.2.2.2.2.2.2.2.2.2.2.2.2.2.2.2.2.2.2.2.2.2.2.2.2.2.2.2.2.2.2.2.2.1,
  vu_AI (by decide) H.2.2.2.2.2.2.2.2.2.2.2.2.2.2.2.2.2.2.2.2.2.2.2.2.2.2.2.2.2.2.2.2.2.2.2.2.2.2.2.2.2.2.2.2.2.2.2.2.2.2.2.2.2.2.2.2.2.2.2.1,
  vu_AI (by decide) H.2.2.2.2.2.2.2.2.2.2.2.2.2.2.2.2.2.2.2.2.2.2.2.2.2.2.2.2.2.2.2.2.2.2.2.2.2.2.2.2.2.2.2.2.2.2.2.2.2.2.2.2.2.2.2.2.2.2.2.2.1,
  vu_AI (by decide) H.2.2.2.2.2.2.2.2.2.2.2.2.2.2.2.2.2.2.2.2.2.2.2.2.2.2.2.2.2.2.2.2.2.2.2.2.2.2.2.2.2.2.2.2.2.2.2.2.2.2.2.2.2.2.2.2.2.2.2.2.2.1,
  vu_AI (by decide) H.2.2.2.2.2.2.2.2.2.2.2.2.2.2.2.2.2.2.2.2.2.2.2.2.2.2.2.2.2.2.2.2.2.2.2.2.2.2.2.2.2.2.2.2.2.2.2.2.2.2.2.2.2.2.2.2.2.2.2.2.2.2.1,
  vu_AI (by decide) H.2.2.2.2.2.2.2.2.2.2.2.2.2.2.2.2.2.2.2.2.2.2.2.2.2.2.2.2.2.2.2.2.2.2.2.2.2.2.2.2.2.2.2.2.2.2.2.2.2.2.2.2.2.2.2.2.2.2.2.2.2.2.2.1,
  vu_AI (by decide) H.2.2.2.2.2.2.2.2.2.2.2.2.2.2.2.2.2.2.2.2.2.2.2.2.2.2.2.2.2.2.2.2.2.2.2.2.2.2.2.2.2.2.2.2.2.2.2.2.2.2.2.2.2.2.2.2.2.2.2.2.2.2.2.2.1,
  vu_AI (by decide) H.2.2.2.2.2.2.2.2.2.2.2.2.2.2.2.2.2.2.2.2.2.2.2.2.2.2.2.2.2.2.2.2.2.2.2.2.2.2.2.2.2.2.2.2.2.2.2.2.2.2.2.2.2.2.2.2.2.2.2.2.2.2.2.2.2.1,
  vu_AI (by decide) H.2.2.2.2.2.2.2.2.2.2.2.2.2.2.2.2.2.2.2.2.2.2.2.2.2.2.2.2.2.2.2.2.2.2.2.2.2.2.2.2.2.2.2.2.2.2.2.2.2.2.2.2.2.2.2.2.2.2.2.2.2.2.2.2.2.2.1,
  vu_AI (by decide) H.2.2.2.2.2.2.2.2.2.2.2.2.2.2.2.2.2.2.2.2.2.2.2.2.2.2.2.2.2.2.2.2.2.2.2.2.2.2.2.2.2.2.2.2.2.2.2.2.2.2.2.2.2.2.2.2.2.2.2.2.2.2.2.2.2.2.2.1,
  vu_AI (by decide) H.2.2.2.2.2.2.2.2.2.2.2.2.2.2.2.2.2.2.2.2.2.2.2.2.2.2.2.2.2.2.2.2.2.2.2.2.2.2.2.2.2.2.2.2.2.2.2.2.2.2.2.2.2.2.2.2.2.2.2.2.2.2.2.2.2.2.2.2.1,
  vu_AI (by decide) H.2.2.2.2.2.2.2.2.2.2.2.2.2.2.2.2.2.2.2.2.2.2.2.2.2.2.2.2.2.2.2.2.2.2.2.2.2.2.2.2.2.2.2.2.2.2.2.2.2.2.2.2.2.2.2.2.2.2.2.2.2.2.2.2.2.2.2.2.2.1,
  vu_AI (by decide) H.2.2.2.2.2.2.2.2.2.2.2.2.2.2.2.2.2.2.2.2.2.2.2.2.2.2.2.2.2.2.2.2.2.2.2.2.2.2.2.2.2.2.2.2.2.2.2.2.2.2.2.2.2.2.2.2.2.2.2.2.2.2.2.2.2.2.2.2.2.2.1,
  vu_AI (by decide) H.2.2.2.2.2.2.2.2.2.2.2.2.2.2.2.2.2.2.2.2.2.2.2.2.2.2.2.2.2.2.2.2.2.2.2.2.2.2.2.2.2.2.2.2.2.2.2.2.2.2.2.2.2.2.2.2.2.2.2.2.2.2.2.2.2.2.2.2.2.2.2.1,
  vu_AI (by decide) H.2.2.2.2.2.2.2.2.2.2.2.2.2.2.2.2.2.2.2.2.2.2.2.2.2.2.2.2.2.2.2.2.2.2.2.2.2.2.2.2.2.2.2.2.2.2.2.2.2.2.2.2.2.2.2.2.2.2.2.2.2.2.2.2.2.2.2.2.2.2.2.2.1,
  vu_AI (by decide) H.2.2.2.2.2.2.2.2.2.2.2.2.2.2.2.2.2.2.2.2.2.2.2.2.2.2.2.2.2.2.2.2.2.2.2.2.2.2.2.2.2.2.2.2.2.2.2.2.2.2.2.2.2.2.2.2.2.2.2.2.2.2.2.2.2.2.2.2.2.2.2.2.2.1,
  vu_AI (by decide) H.2.2.2.2.2.2.2.2.2.2.2.2.2.2.2.2.2.2.2.2.2.2.2.2.2.2.2.2.2.2.2.2.2.2.2.2.2.2.2.2.2.2.2.2.2.2.2.2.2.2.2.2.2.2.2.2.2.2.2.2.2.2.2.2.2.2.2.2.2.2.2.2.2.2.1,
  vu_AI (by decide) H.2.2.2.2.2.2.2.2.2.2.2.2.2.2.2.2.2.2.2.2.2.2.2.2.2.2.2.2.2.2.2.2.2.2.2.2.2.2.2.2.2.2.2.2.2.2.2.2.2.2.2.2.2.2.2.2.2.2.2.2.2.2.2.2.2.2.2.2.2.2.2.2.2.2.2.1,
  vu_AI (by decide) H.2.2.2.2.2.2.2.2.2.2.2.2.2.2.2.2.2.2.2.2.2.2.2.2.2.2.2.2.2.2.2.2.2.2.2.2.2.2.2.2.2.2.2.2.2.2.2.2.2.2.2.2.2.2.2.2.2.2.2.2.2.2.2.2.2.2.2.2.2.2.2.2.2.2.2.2.1,
  fun w hw => vu_QI (H.2.2.2.2.2.2.2.2.2.2.2.2.2.2.2.2.2.2.2.2.2.2.2.2.2.2.2.2.2.2.2.2.2.2.2.2.2.2.2.2.2.2.2.2.2.2.2.2.2.2.2.2.2.2.2.2.2.2.2.2.2.2.2.2.2.2.2.2.2.2.2.2.2.2.2.2.2.1 w hw),
  H.2.2.2.2.2.2.2.2.2.2.2.2.2.2.2.2.2.2.2.2.2.2.2.2.2.2.2.2.2.2.2.2.2.2.2.2.2.2.2.2.2.2.2.2.2.2.2.2.2.2.2.2.2.2.2.2.2.2.2.2.2.2.2.2.2.2.2.2.2.2.2.2.2.2.2.2.2.2.1,
  H.2.2.2.2.2.2.2.2.2.2.2.2.2.2.2.2.2.2.2.2.2.2.2.2.2.2.2.2.2.2.2.2.2.2.2.2.2.2.2.2.2.2.2.2.2.2.2.2.2.2.2.2.2.2.2.2.2.2.2.2.2.2.2.2.2.2.2.2.2.2.2.2.2.2.2.2.2.2.2⟩
end VG
