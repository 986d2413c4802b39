/-! THE CLASS: set, slot, flying, sample -/
theorem dCc_setD_s {N : dNx} {E : ps_E} {M : cx_M} {P : dP} {L : dL} {A : qA} {w : Int32} {bc bs : Nat} {Q : cd_Qt} (h7 : cx_max 1 (cLn_n N.1) = E.1 7) (hA : qAI E A) (h : qc_A N.1 E M A) (hb : 1 ≤ bc) (hs : 6 ≤ bs)
    (hy : 0 ≤ w.toInt ∧ w.toInt ≤ 14 → Q M P L (pa_set E A w) none 0 0 0) (hn : ¬ (0 ≤ w.toInt ∧ w.toInt ≤ 14) → Q M P L 0 none 1 1 6) : dCc_setD N bc bs M P L w Q := by
  have n (k : Nat) {j : Nat} (hk : k < 34) (hj : pc_F k = j) (h35 : j ≠ 35) : M 1000 k = A.1.1 0 j := h.n k (Or.inl hk) hj h35
  obtain ⟨t0, t4, t6, -⟩ := h.1
  have hz : ¬ (64 : Int32) * E.1 0 = 0 := by
    intro z
    have h64 : (64 : Int32).toInt = 64 := rfl
    have e := pi_mul (a := 64) (b := E.1 0) (by rw [h64]; have := hA.1.1; omega) (by rw [h64]; have := hA.1.1; omega)
    rw [z, h64, pi_0] at e
    have := hA.1.1
    omega
  unfold dCc_setD dCc_setD_0
  rw [pq_cal cCc_within_s]
  by_cases c : 0 ≤ w.toInt ∧ w.toInt ≤ 14
  · rw [if_pos (show (0 : Int32).toInt ≤ w.toInt ∧ w.toInt ≤ (14 : Int32).toInt from c)]
    refine cd_thr_s hb hs (fun z => absurd z (by decide)) (fun _ => ⟨fun z => absurd rfl z, fun _ => ?_⟩)
    have hq := hy c
    have hw : w = nI (pn w) := pn_nI c.1
    have hp : pn w < 15 := by rw [pn_def]; omega
    unfold pa_set at hq
    generalize pn w = k at hw hp hq
    subst hw
    match k, hp, hq with
    | 0, _, hq =>
      have hq2 : Q M P L (E.1 0) none 0 0 0 := hq
      rw [← t0] at hq2
      exact hq2
    | 1, _, hq =>
      have hq2 : Q M P L (A.1.1 0 29) none 0 0 0 := hq
      rw [← n 30 (by decide) (show pc_F 30 = 29 from rfl) (by decide)] at hq2
      exact hq2
    | 2, _, hq =>
      have hq2 : Q M P L (A.1.1 0 33) none 0 0 0 := hq
      rw [← n 31 (by decide) (show pc_F 31 = 33 from rfl) (by decide)] at hq2
      exact hq2
    | 3, _, hq =>
      have hq2 : Q M P L (A.1.1 0 34) none 0 0 0 := hq
      rw [← n 32 (by decide) (show pc_F 32 = 34 from rfl) (by decide)] at hq2
      exact hq2
    | 4, _, hq =>
      have hq2 : Q M P L (E.1 4) none 0 0 0 := hq
      rw [← t4] at hq2
      exact hq2
    | 5, _, hq =>
      have hq2 : Q M P L (A.1.1 0 27) none 0 0 0 := hq
      rw [← n 28 (by decide) (show pc_F 28 = 27 from rfl) (by decide)] at hq2
      exact hq2
    | 6, _, hq =>
      have hq2 : Q M P L (E.1 6) none 0 0 0 := hq
      rw [← t6] at hq2
      exact hq2
    | 7, _, hq =>
      have hq2 : Q M P L (E.1 7) none 0 0 0 := hq
      rw [← h7] at hq2
      exact hq2
    | 8, _, hq =>
      have hq2 : Q M P L (A.1.1 0 28) none 0 0 0 := hq
      rw [← n 29 (by decide) (show pc_F 29 = 28 from rfl) (by decide)] at hq2
      exact hq2
    | 9, _, hq =>
      have hq2 : Q M P L (A.1.1 0 25) none 0 0 0 := hq
      rw [← n 26 (by decide) (show pc_F 26 = 25 from rfl) (by decide)] at hq2
      exact hq2
    | 10, _, hq =>
      have hq2 : Q M P L (A.1.1 0 26) none 0 0 0 := hq
      rw [← n 27 (by decide) (show pc_F 27 = 26 from rfl) (by decide)] at hq2
      exact hq2
    | 11, _, hq =>
      have hq2 : Q M P L (A.1.1 0 22) none 0 0 0 := hq
      rw [← n 9 (by decide) (show pc_F 9 = 22 from rfl) (by decide)] at hq2
      exact hq2
    | 12, _, hq =>
      have hq2 : Q M P L (A.1.1 0 23) none 0 0 0 := hq
      rw [← n 10 (by decide) (show pc_F 10 = 23 from rfl) (by decide)] at hq2
      exact hq2
    | 13, _, hq =>
      have hq2 : Q M P L (cx_rem (A.1.1 0 14) ((64 : Int32) * E.1 0)) none 0 0 0 := hq
      rw [← n 14 (by decide) (show pc_F 14 = 14 from rfl) (by decide)] at hq2
      show cq_nz ((64 : Int32) * M 8000 0) (Q M P L (cx_rem (M 1000 14) ((64 : Int32) * M 8000 0)) none 0 0 0)
      rw [t0]
      exact pq_nz hz hq2
    | 14, _, hq =>
      have hq2 : Q M P L (A.1.1 0 11) none 0 0 0 := hq
      rw [← n 13 (by decide) (show pc_F 13 = 11 from rfl) (by decide)] at hq2
      exact hq2
    | k + 15, hp, _ => exact absurd hp (by omega)
  · rw [if_neg (show ¬ ((0 : Int32).toInt ≤ w.toInt ∧ w.toInt ≤ (14 : Int32).toInt) from c)]
    exact cd_thr_s hb hs (fun _ => ⟨fun _ => hn c, fun z => absurd z (by decide)⟩) (fun z => absurd rfl z)
theorem dCc_slotD_s {N : dNx} {E : ps_E} {M : cx_M} {P : dP} {L : dL} {A : qA} {w : Int32} {bc bs : Nat} {Q : cd_Qt} (hA : qAI E A) (h : qc_A N.1 E M A) (hb : 1 ≤ bc) (hs : 6 ≤ bs)
    (hy : 0 ≤ w.toInt ∧ w.toInt ≤ 63 → Q M P L (pa_slot E A.1.1 (pn w)) none 0 0 0) (hn : ¬ (0 ≤ w.toInt ∧ w.toInt ≤ 63) → Q M P L 0 none 1 1 6) : dCc_slotD N bc bs M P L w Q := by
  have n (k : Nat) {j : Nat} (hk : k < 34) (hj : pc_F k = j) (h35 : j ≠ 35) : M 1000 k = A.1.1 0 j := h.n k (Or.inl hk) hj h35
  obtain ⟨T, hT, hI, -⟩ := hA.2.1.1
  obtain ⟨hs1, hs2⟩ := hI.1.2.2.1
  have h14 := hI.1.1.2.2.2.2.2.1
  obtain ⟨π, -, -, -, -, ⟨v, hv⟩, -⟩ := h.2.1
  have h4 : ∀ k, k < 64 → M 1038 k = A.1.1 5 k ∧ (A.1.1 5 k ≠ -1 → M 1039 k = A.1.1 4 k) := hv.2.2.2.1
  unfold dCc_slotD dCc_slotD_0
  rw [pq_cal cCc_within_s]
  by_cases c : 0 ≤ w.toInt ∧ w.toInt ≤ 63
  · rw [if_pos (show (0 : Int32).toInt ≤ w.toInt ∧ w.toInt ≤ (63 : Int32).toInt from c)]
    refine cd_thr_s hb hs (fun z => absurd z (by decide)) (fun _ => ⟨fun z => absurd rfl z, fun _ => ?_⟩)
    have hq := hy c
    have hp : pn w < 64 := by rw [pn_def]; omega
    have hwn : w.toInt < (64 : Nat) := by omega
    obtain ⟨g5, g4⟩ := h4 (pn w) hp
    have hE0 : E.1 0 ≠ 0 := fun z => by
      have := hA.1.1
      rw [z, pi_0] at this
      omega
    unfold pa_slot at hq
    show if M 1000 8 = 0 then Q M P L (-1) none 0 0 0 else cq_ld M 1038 64 w fun v13 => cq_nz (M 8000 0) (if v13 < M 1000 14 / M 8000 0 then Q M P L (-1) none 0 0 0 else cq_ld M 1039 64 w fun v16 => Q M P L v16 none 0 0 0)
    rw [n 8 (by decide) (show pc_F 8 = 8 from rfl) (by decide), n 14 (by decide) (show pc_F 14 = 14 from rfl) (by decide), h.1.1]
    by_cases c8 : A.1.1 0 8 = 0
    · rw [if_pos c8]
      rw [if_pos (hs2 c8 _ hp).1] at hq
      exact hq
    · rw [if_neg c8]
      refine pq_ld c.1 hwn (pq_nz hE0 ?_)
      rw [g5]
      have hd := pi_div (x := A.1.1 0 14) (y := E.1 0) (by omega) (by have := hA.1.1; omega)
      have hd0 : 0 ≤ (A.1.1 0 14).toInt / (E.1 0).toInt := Int.ediv_nonneg (by omega) (by have := hA.1.1; omega)
      have hm1 : (-1 : Int32).toInt = -1 := rfl
      rcases hs1 (pn w) hp with ⟨a4, a5⟩ | ⟨a4, a5, a6⟩
      · rw [if_pos a4] at hq
        rw [a5, if_pos (Int32.lt_iff_toInt_lt.mpr (by rw [hd, hm1]; omega))]
        exact hq
      · rw [if_neg (fun z => by rw [z, hm1] at a4; omega)] at hq
        by_cases c2 : A.1.1 5 (pn w) < A.1.1 0 14 / E.1 0
        · rw [if_pos c2] at hq ⊢
          exact hq
        · rw [if_neg c2] at hq ⊢
          refine pq_ld c.1 hwn ?_
          rw [g4 (fun z => by rw [z, hm1] at a5; omega)]
          exact hq
  · rw [if_neg (show ¬ ((0 : Int32).toInt ≤ w.toInt ∧ w.toInt ≤ (63 : Int32).toInt) from c)]
    exact cd_thr_s hb hs (fun _ => ⟨fun _ => hn c, fun z => absurd z (by decide)⟩) (fun z => absurd rfl z)
