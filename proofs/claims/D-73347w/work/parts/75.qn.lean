/-! THE CLASS: flying, sample -/
theorem dCc_flyingD_s {N : dNx} {E : ps_E} {M : cx_M} {P : dP} {L : dL} {A : qA} {i w : Int32} {bc bs : Nat} {Q : cd_Qt} (hA : qAI E A) (h : qc_A N.1 E M A) (hb : 1 ≤ bc) (hs : 6 ≤ bs)
    (hy : (0 ≤ i.toInt ∧ i.toInt < (A.1.1 0 31).toInt) ∧ (0 ≤ w.toInt ∧ w.toInt ≤ 2) → Q M P L (A.1.1 (1 + pn w) (pn i)) none 0 0 0) (hn : ¬ ((0 ≤ i.toInt ∧ i.toInt < (A.1.1 0 31).toInt) ∧ (0 ≤ w.toInt ∧ w.toInt ≤ 2)) → Q M P L 0 none 1 1 6) : dCc_flyingD N bc bs M P L i w Q := by
  obtain ⟨T, hT, hI, -⟩ := hA.2.1.1
  have h40 : 0 ≤ (A.1.1 0 31).toInt ∧ (A.1.1 0 31).toInt ≤ 40 := ⟨hI.1.1.2.2.1.2.2.2.1, hI.1.1.2.2.1.2.2.2.2⟩
  obtain ⟨π, -, -, -, -, ⟨v, hv⟩, -⟩ := h.2.1
  have hf : ∀ k, k < pn (A.1.1 0 31) → M 1035 k = A.1.1 1 k ∧ M 1036 k = A.1.1 2 k ∧ M 1037 k = A.1.1 3 k := hv.2.2.1
  have bad : ¬ ((0 ≤ i.toInt ∧ i.toInt < (A.1.1 0 31).toInt) ∧ (0 ≤ w.toInt ∧ w.toInt ≤ 2)) → dCc_flyingD_28 N bc bs Q M P L 0 0 i w := by
    intro z
    unfold dCc_flyingD_28 dCc_flyingD_29
    exact cd_thr_s hb hs (fun _ => ⟨fun _ => hn z, fun z => absurd z (by decide)⟩) (fun z => absurd rfl z)
  unfold dCc_flyingD dCc_flyingD_0
  by_cases c0 : i < 0
  · rw [if_pos c0]
    have := Int32.lt_iff_toInt_lt.mp c0
    rw [pi_0] at this
    exact bad (fun z => by omega)
  · have c0' : 0 ≤ i.toInt := by
      have : ¬ i.toInt < (0 : Int32).toInt := fun z => c0 (Int32.lt_iff_toInt_lt.mpr z)
      rw [pi_0] at this
      omega
    rw [if_neg c0]
    show if M 1000 33 ≤ i then dCc_flyingD_28 N bc bs Q M P L 0 0 i w else _
    rw [h.n 33 (Or.inl (by decide)) (show pc_F 33 = 31 from rfl) (by decide)]
    by_cases c1 : A.1.1 0 31 ≤ i
    · rw [if_pos c1]
      have := Int32.le_iff_toInt_le.mp c1
      exact bad (fun z => by omega)
    · have c1' : i.toInt < (A.1.1 0 31).toInt := by
        have : ¬ (A.1.1 0 31).toInt ≤ i.toInt := fun z => c1 (Int32.le_iff_toInt_le.mpr z)
        omega
      rw [if_neg c1, pq_cal cCc_within_s]
      by_cases c2 : 0 ≤ w.toInt ∧ w.toInt ≤ 2
      · rw [if_pos (show (0 : Int32).toInt ≤ w.toInt ∧ w.toInt ≤ (2 : Int32).toInt from c2), if_neg (by decide)]
        have hq := hy ⟨⟨c0', c1'⟩, c2⟩
        obtain ⟨f1, f2, f3⟩ := hf (pn i) (by rw [pn_def, pn_def]; omega)
        unfold dCc_flyingD_29
        refine cd_thr_s hb hs (fun z => absurd z (by decide)) (fun _ => ⟨fun z => absurd rfl z, fun _ => ?_⟩)
        have hw : w = nI (pn w) := pn_nI c2.1
        have hp : pn w < 3 := by rw [pn_def]; omega
        generalize pn w = k at hw hp hq
        subst hw
        match k, hp, hq with
        | 0, _, hq =>
          show cq_ld M 1035 40 i fun v => Q M P L v none 0 0 0
          exact pq_ld c0' (by omega) (by rw [f1]; exact hq)
        | 1, _, hq =>
          show cq_ld M 1036 40 i fun v => Q M P L v none 0 0 0
          exact pq_ld c0' (by omega) (by rw [f2]; exact hq)
        | 2, _, hq =>
          show cq_ld M 1037 40 i fun v => Q M P L v none 0 0 0
          exact pq_ld c0' (by omega) (by rw [f3]; exact hq)
        | k + 3, hp, _ => exact absurd hp (by omega)
      · rw [if_neg (show ¬ ((0 : Int32).toInt ≤ w.toInt ∧ w.toInt ≤ (2 : Int32).toInt) from c2), if_pos rfl]
        exact bad (fun z => c2 z.2)
theorem cSt_sampleAt_s {N : cx_N} {E : ps_E} {M : cx_M} {A : qA} {i : Int32} (h : qc_A N E M A) (h32 : 0 ≤ (A.1.1 0 32).toInt ∧ (A.1.1 0 32).toInt ≤ 90000) (hi : 0 ≤ i.toInt ∧ i.toInt < (cx_min 128 (A.1.1 0 32)).toInt) : cSt_sampleAt N 1000 M i = some (M, pa_sampleAt A.1.1 i, 0) := by
  obtain ⟨k0, k1, k2, k3⟩ := pa_kept h32.1
  have e5 : (A.1.1 0 32 - cx_min 128 (A.1.1 0 32)).toInt = (A.1.1 0 32).toInt - (cx_min 128 (A.1.1 0 32)).toInt := by rw [i32_sub (by omega) (by omega)]
  have e6 : (A.1.1 0 32 - cx_min 128 (A.1.1 0 32) + i).toInt = (A.1.1 0 32).toInt - (cx_min 128 (A.1.1 0 32)).toInt + i.toInt := by rw [i32_add (by omega) (by omega), e5]
  obtain ⟨r0, r1, r2⟩ := pi_rp (x := A.1.1 0 32 - cx_min 128 (A.1.1 0 32) + i) (by omega)
  obtain ⟨π, -, -, -, -, ⟨v, hv⟩, -⟩ := h.2.1
  have h6 : M 1041 (pn (cx_rem (A.1.1 0 32 - cx_min 128 (A.1.1 0 32) + i) 128)) = A.1.1 6 (pn (cx_rem (A.1.1 0 32 - cx_min 128 (A.1.1 0 32) + i) 128)) := by
    have e32 : cx_up A.1.1 0 35 v 0 32 = A.1.1 0 32 := by rw [px_up, if_neg (by decide)]
    have er := pi_rem128 (x := A.1.1 0 32 - cx_min 128 (A.1.1 0 32) + i) (by omega)
    exact (hv.2.2.2.2.1 _ r2).2 (by rw [e32, pn_def]; omega)
  unfold cSt_sampleAt cSt_sampleAt_0 pa_sampleAt cSt_kept cSt_kept_0
  simp only [px_get]
  rw [h.n 24 (Or.inl (by decide)) (show pc_F 24 = 32 from rfl) (by decide), px_cal rfl, px_ld r0 (by omega), h6]
theorem dCc_sampleD_s {N : dNx} {E : ps_E} {M : cx_M} {P : dP} {L : dL} {A : qA} {i : Int32} {bc bs : Nat} {Q : cd_Qt} (hA : qAI E A) (h : qc_A N.1 E M A) (hb : 1 ≤ bc) (hs : 6 ≤ bs)
    (hy : 0 ≤ i.toInt ∧ i.toInt < (cx_min 128 (A.1.1 0 32)).toInt → Q M P L (pa_sampleAt A.1.1 i) none 0 0 0) (hn : ¬ (0 ≤ i.toInt ∧ i.toInt < (cx_min 128 (A.1.1 0 32)).toInt) → Q M P L 0 none 1 1 6) : dCc_sampleD N bc bs M P L i Q := by
  obtain ⟨T, hT, hI, -⟩ := hA.2.1.1
  have h32 := pa_I32 hI
  obtain ⟨k0, k1, k2, k3⟩ := pa_kept h32.1
  have bad : ¬ (0 ≤ i.toInt ∧ i.toInt < (cx_min 128 (A.1.1 0 32)).toInt) → dCc_sampleD_26 N bc bs Q M P L 0 0 i := by
    intro z
    unfold dCc_sampleD_26 dCc_sampleD_27
    exact cd_thr_s hb hs (fun _ => ⟨fun _ => hn z, fun z => absurd z (by decide)⟩) (fun z => absurd rfl z)
  unfold dCc_sampleD dCc_sampleD_0
  by_cases c0 : i < 0
  · rw [if_pos c0]
    have := Int32.lt_iff_toInt_lt.mp c0
    rw [pi_0] at this
    exact bad (fun z => by omega)
  · have c0' : 0 ≤ i.toInt := by
      have : ¬ i.toInt < (0 : Int32).toInt := fun z => c0 (Int32.lt_iff_toInt_lt.mpr z)
      rw [pi_0] at this
      omega
    rw [if_neg c0]
    show if cx_min 128 (M 1000 24) ≤ i then dCc_sampleD_26 N bc bs Q M P L 0 0 i else dCc_sampleD_27 N bc bs Q M P L 0 0 i 1
    rw [h.n 24 (Or.inl (by decide)) (show pc_F 24 = 32 from rfl) (by decide)]
    by_cases c1 : cx_min 128 (A.1.1 0 32) ≤ i
    · rw [if_pos c1]
      have := Int32.le_iff_toInt_le.mp c1
      exact bad (fun z => by omega)
    · have c1' : i.toInt < (cx_min 128 (A.1.1 0 32)).toInt := by
        have : ¬ (cx_min 128 (A.1.1 0 32)).toInt ≤ i.toInt := fun z => c1 (Int32.le_iff_toInt_le.mpr z)
        omega
      rw [if_neg c1]
      unfold dCc_sampleD_27
      refine cd_thr_s hb hs (fun z => absurd z (by decide)) (fun _ => ⟨fun z => absurd rfl z, fun _ => ?_⟩)
      exact (pq_cal (f := fun M v => Q M P L v none 0 0 0) (cSt_sampleAt_s h h32 ⟨c0', c1'⟩)).mpr (hy ⟨c0', c1'⟩)
