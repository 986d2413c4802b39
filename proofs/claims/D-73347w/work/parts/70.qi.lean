/-! THE CLASS: image, restore, feed -/
theorem qc_bk.sh {M : cx_M} {b : Nat} {B : qB} (h : qc_bk M b B) : qc_sh M b := by
  obtain ⟨π, ho, hf, -, -, hW, -⟩ := h
  exact ⟨π, ho, hf, hW.U⟩
theorem qc_im.sh {M : cx_M} {o : Option qB} (h : qc_im M o) : qc_sh M 700 := by
  unfold qc_im at h
  cases o with
  | none => exact h.2
  | some I => exact h.2.sh
theorem cCc_image_s {N : cx_N} {E : ps_E} {M : cx_M} {A : qA} (hN : 65 ≤ N.1) (hA : qAI E A) (h : qc_A N E M A) : qc_act N E M (cCc_image N M) (A.1, some A.1, A.2.2) 0 := by
  have l6 : qc_lo 600 = 1200 ∧ cBk_st 600 = 1000 := ⟨rfl, rfl⟩
  have l7 : qc_lo 700 = 20000 ∧ cBk_st 700 = 6000 := ⟨rfl, rfl⟩
  obtain ⟨hK, hb, h3, hi, ⟨t1, t2, t3⟩, hU, h45⟩ := h
  obtain ⟨M1, e1, b1, -, -, f1⟩ := cBk_like_s (N := N) (b := 700) (b2 := 600) hN (Or.inr ⟨rfl, rfl⟩) hA.2.1 hb hi.sh
  have fr : ∀ c, ¬ (700 ≤ c ∧ c ≤ 705) → ¬ (6000 ≤ c ∧ c ≤ 6043) → ¬ (20000 ≤ c ∧ c < 24000) → M1 c = M c := fun c a b d => f1 c (by omega) (by omega) (by omega)
  have g7 : cx_up M1 500 7 1 500 7 = 1 := by rw [px_up, if_pos ⟨rfl, rfl⟩]
  have gk : ∀ k, k ≠ 7 → cx_up M1 500 7 1 500 k = M 500 k := fun k hk => by rw [px_up, if_neg (fun z => hk z.2), fr 500 (by omega) (by omega) (by omega)]
  have gc : ∀ c, c ≠ 500 → cx_up M1 500 7 1 c = M1 c := fun c hc => px_upc hc
  have gm : ∀ c, c ≠ 500 → ¬ (700 ≤ c ∧ c ≤ 705) → ¬ (6000 ≤ c ∧ c ≤ 6043) → ¬ (20000 ≤ c ∧ c < 24000) → cx_up M1 500 7 1 c = M c := fun c a b d e => by rw [gc c a, fr c b d e]
  refine ⟨cx_up M1 500 7 1, ?_, ⟨hK.fr (gm 8000 (by omega) (by omega) (by omega) (by omega)), hb.frm (Or.inl rfl) hA.2.1.2.2.1 (fun c hc => gm c (by omega) (by omega) (by omega) (by omega)), by rw [gm 1000 (by omega) (by omega) (by omega) (by omega)]; exact h3, ⟨g7, b1.frm (Or.inr rfl) hA.2.1.2.2.1 (fun c hc => gc c (by omega))⟩, ⟨by rw [gk 9 (by decide)]; exact t1, by rw [gm 509 (by omega) (by omega) (by omega) (by omega)]; exact t2, by rw [gk 10 (by decide)]; exact t3⟩, hU.fr (fun c h1 h2 => gm c (by omega) (by omega) (by omega) (by omega)), by rw [gm 1100 (by omega) (by omega) (by omega) (by omega)]; exact h45⟩, fun c hc => gm c (by omega) (by omega) (by omega) (by omega)⟩
  unfold cCc_image cCc_image_0
  simp only [px_put]
  rw [px_cal e1]
theorem cCc_restore_s {N : cx_N} {E : ps_E} {M : cx_M} {A : qA} (hN : 65 ≤ N.1) (hA : qAI E A) (h : qc_A N E M A) : qc_act N E M (cCc_restore N M) (pa_restore A).1 (pa_restore A).2 := by
  have l6 : qc_lo 600 = 1200 ∧ cBk_st 600 = 1000 := ⟨rfl, rfl⟩
  have hi := h.2.2.2.1
  unfold cCc_restore cCc_restore_0 pa_restore
  simp only [px_get]
  unfold qc_im at hi
  cases hI : A.2.1 with
  | none =>
    rw [hI] at hi
    rw [show M 500 7 = 0 from hi.1, if_pos rfl]
    exact ⟨M, rfl, h, qc_F.rf⟩
  | some I =>
    rw [hI] at hi
    have h7 : M 500 7 = 1 := hi.1
    obtain ⟨M1, e1, b1, z43, z45, f1⟩ := cBk_like_s (N := N) (b := 600) (b2 := 700) hN (Or.inl ⟨rfl, rfl⟩) (hA.2.2.1 I hI) hi.2 h.2.1.sh
    have fr : ∀ c, ¬ (600 ≤ c ∧ c ≤ 605) → ¬ (1000 ≤ c ∧ c ≤ 1043) → ¬ (1200 ≤ c ∧ c < 5200) → M1 c = M c := fun c a b d => f1 c (by omega) (by omega) (by omega)
    have z45' : M1 1000 45 = M 1000 45 := z45
    rw [h7, if_neg (by decide), px_cal e1]
    exact ⟨M1, rfl, qc_A.bk (B := I) hA h b1 ⟨z43, by rw [z45']; exact h.2.2.1.2⟩ (fun c hc => fr c (by omega) (by omega) (by omega)), fun c hc => fr c (by omega) (by omega) (by omega)⟩
