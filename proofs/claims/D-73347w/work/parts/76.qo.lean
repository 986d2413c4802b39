/-! THE CLASS: trials -/
/-- only the trial's state was changed -/
theorem qc_A.try {N : cx_N} {E : ps_E} {M M' : cx_M} {A : qA} (hA : qAI E A) (h : qc_A N E M A) (hU : pc_U M' 1100) (h45 : M' 1100 45 = 0) (e : ∀ c, c < 1100 ∨ 1143 < c → c ≠ 8011 → c ≠ 9001 → c ≠ 9002 → M' c = M c) : qc_A N E M' A := by
  have l6 : qc_lo 600 = 1200 ∧ cBk_st 600 = 1000 := ⟨rfl, rfl⟩
  have l7 : qc_lo 700 = 20000 ∧ cBk_st 700 = 6000 := ⟨rfl, rfl⟩
  have fr : ∀ c, c < 1100 ∨ (1143 < c ∧ c < 8000) ∨ 10000 ≤ c → M' c = M c := fun c hc => e c (by omega) (by omega) (by omega) (by omega)
  obtain ⟨hK, hb, h3, hi, ⟨t1, t2, t3⟩, -, -⟩ := h
  refine ⟨hK.fr (e 8000 (by omega) (by omega) (by omega) (by omega)), hb.frm (Or.inl rfl) hA.2.1.2.2.1 (fun c hc => fr c (by omega)), by rw [fr 1000 (by omega)]; exact h3, ?_, ⟨by rw [fr 500 (by omega)]; exact t1, by rw [fr 509 (by omega)]; exact t2, by rw [fr 500 (by omega)]; exact t3⟩, hU, h45⟩
  unfold qc_im at hi ⊢
  cases hI : A.2.1 with
  | none =>
    rw [hI] at hi
    exact ⟨by rw [fr 500 (by omega)]; exact hi.1, hi.2.fr (Or.inr rfl) (fun c hc => fr c (by omega))⟩
  | some I =>
    rw [hI] at hi
    exact ⟨by rw [fr 500 (by omega)]; exact hi.1, hi.2.frm (Or.inr rfl) (hA.2.2.1 I hI).2.2.1 (fun c hc => fr c (by omega))⟩
theorem cCc_tries_s {N : cx_N} {E : ps_E} {M : cx_M} {A : qA} {n T : Nat} (hN : 700 ≤ N.1) (hA : qAI E A) (h : qc_A N E M A) (hI : ps_I E A.1.1 T) (hT : T + n ≤ 22000) (hn : n ≤ 640) :
    ∃ M' v, cCc_tries N M (nI n) = some (M', 0, 0) ∧ qc_A N E M' A ∧ qc_F M M' ∧ pc_V N E M' 1100 (ps_steps E n (cx_up A.1.1 0 35 v, [])) (fun _ => False) ∧ M' 1000 = M 1000 := by
  obtain ⟨π, -, -, -, -, ⟨v, hv⟩, -⟩ := h.2.1
  have h31 := qI_31 hA.2.1.1
  obtain ⟨M1, e1, s1, z43, -, z45, f1⟩ := cSt_like_s (N := N) (b := 1100) (b2 := 1000) (by omega) hv h.2.2.2.2.2.1 (by omega) (by rw [px_up, if_neg (by decide)]; exact h31)
  rw [px_upup] at s1
  generalize M 1100 42 = v2 at s1
  have k45 : M1 1100 45 = 0 := by rw [z45]; exact h.2.2.2.2.2.2
  have hV1 : pc_V N E M1 1100 (cx_up A.1.1 0 35 v2, []) (fun _ => False) := ⟨s1, h.1.fr (f1 8000 (by omega)), ⟨z43, by show 0 ≤ 8; decide, fun z => absurd z (by show ¬ 0 < 0; decide)⟩, Or.inl k45⟩
  obtain ⟨M2, e2, hV2, hF2⟩ := cCc_goes_s (T := T) hN hA.1 (by decide) hV1 (fun z => absurd k45 z) (qI_up29 hI (by decide) (by decide) (by decide)) hT hn
  have fr : ∀ c, c < 1100 ∨ 1143 < c → c ≠ 8011 → c ≠ 9001 → c ≠ 9002 → M2 c = M c := fun c a b1 b2 b3 => by rw [hF2.1 c (by omega) b1 b2 b3, f1 c (by omega)]
  refine ⟨M2, v2, ?_, qc_A.try hA h hV2.1.U (by rw [hF2.2]; exact k45) fr, fun c hc => fr c (by omega) (by omega) (by omega) (by omega), hV2, fr 1000 (by omega) (by omega) (by omega) (by omega)⟩
  unfold cCc_tries cCc_tries_0
  rw [px_cal e1, px_cal e2]
