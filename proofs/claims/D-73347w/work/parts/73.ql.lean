/-! THE CLASS: asks without trials: count, set, flying, slot, sample -/
theorem pq_ld {M : cx_M} {c n : Nat} {i : Int32} {f : Int32 → Prop} (h0 : 0 ≤ i.toInt) (h1 : i.toInt < n) (h : f (M c (pn i))) : cq_ld M c n i f := by
  unfold cq_ld
  rw [if_neg]
  · exact h
  · intro z
    rcases z with z | z
    · have := Int32.lt_iff_toInt_lt.mp z
      rw [pi_0] at this
      omega
    · have z2 : n ≤ pn i := z
      rw [pn_def] at z2
      omega
theorem pq_nz {b : Int32} {f : Prop} (h : b ≠ 0) (hf : f) : cq_nz b f := by
  unfold cq_nz
  rw [if_neg h]
  exact hf
theorem cCc_regained_s {N : cx_N} {E : ps_E} {M : cx_M} {A : qA} (h : qc_A N E M A) : cCc_regained N 1000 M (E.1 0) = some (M, pa_regained E A.1.1, 0) := by
  unfold cCc_regained cCc_regained_0 pa_regained
  simp only [px_get]
  rw [h.n 8 (Or.inl (by decide)) (show pc_F 8 = 8 from rfl) (by decide), h.n 19 (Or.inl (by decide)) (show pc_F 19 = 20 from rfl) (by decide), h.n 20 (Or.inl (by decide)) (show pc_F 20 = 21 from rfl) (by decide)]
  by_cases c : A.1.1 0 8 = 0
  · rw [if_pos c, if_pos c]
  · rw [if_neg c, if_neg c]
    by_cases c2 : A.1.1 0 20 = 0
    · rw [if_pos c2, if_pos c2]
    · rw [if_neg c2, if_neg c2, px_nz c2]
theorem pa_level_35 {E : ps_E} {S : ps_S} {v : Int32} : ps_level E (cx_up S 0 35 v) = ps_level E S := by
  rfl
theorem dCc_countD_s {N : dNx} {E : ps_E} {M : cx_M} {P : dP} {L : dL} {A : qA} {w : Int32} {bc bs : Nat} {Q : cd_Qt} (hN : 65 ≤ N.1.1) (hA : qAI E A) (h : qc_A N.1 E M A) (hb : 1 ≤ bc) (hs : 6 ≤ bs)
    (hy : 0 ≤ w.toInt ∧ w.toInt ≤ 22 → Q M P L (pa_count E A w) none 0 0 0) (hn : ¬ (0 ≤ w.toInt ∧ w.toInt ≤ 22) → Q M P L 0 none 1 1 6) : dCc_countD N bc bs M P L w Q := by
  have n (k : Nat) {j : Nat} (hk : k < 34) (hj : pc_F k = j) (h35 : j ≠ 35) : M 1000 k = A.1.1 0 j := h.n k (Or.inl hk) hj h35
  obtain ⟨π, -, -, h5, ⟨h6, -, h605⟩, -⟩ := h.2.1
  unfold dCc_countD dCc_countD_0
  rw [pq_cal cCc_within_s]
  by_cases c : 0 ≤ w.toInt ∧ w.toInt ≤ 22
  · rw [if_pos (show (0 : Int32).toInt ≤ w.toInt ∧ w.toInt ≤ (22 : Int32).toInt from c)]
    refine cd_thr_s hb hs (fun z => absurd z (by decide)) (fun _ => ⟨fun z => absurd rfl z, fun _ => ?_⟩)
    have hq := hy c
    have hw : w = nI (pn w) := pn_nI c.1
    have hp : pn w < 23 := by rw [pn_def]; omega
    unfold pa_count at hq
    generalize pn w = k at hw hp hq
    subst hw
    match k, hp, hq with
    | 0, _, hq =>
      have hq2 : Q M P L (A.1.1 0 0) none 0 0 0 := hq
      rw [← n 0 (by decide) (show pc_F 0 = 0 from rfl) (by decide)] at hq2
      exact hq2
    | 1, _, hq =>
      have hq2 : Q M P L (A.1.1 0 1) none 0 0 0 := hq
      rw [← n 1 (by decide) (show pc_F 1 = 1 from rfl) (by decide)] at hq2
      exact hq2
    | 2, _, hq =>
      have hq2 : Q M P L (A.1.1 0 2) none 0 0 0 := hq
      rw [← n 2 (by decide) (show pc_F 2 = 2 from rfl) (by decide)] at hq2
      exact hq2
    | 3, _, hq =>
      have hq2 : Q M P L (A.1.1 0 3) none 0 0 0 := hq
      rw [← n 3 (by decide) (show pc_F 3 = 3 from rfl) (by decide)] at hq2
      exact hq2
    | 4, _, hq =>
      have hq2 : Q M P L (A.1.1 0 31) none 0 0 0 := hq
      rw [← n 33 (by decide) (show pc_F 33 = 31 from rfl) (by decide)] at hq2
      exact hq2
    | 5, _, hq =>
      have hq2 : Q M P L (A.1.1 0 4) none 0 0 0 := hq
      rw [← n 4 (by decide) (show pc_F 4 = 4 from rfl) (by decide)] at hq2
      exact hq2
    | 6, _, hq =>
      have hq2 : Q M P L (A.1.1 0 5) none 0 0 0 := hq
      rw [← n 5 (by decide) (show pc_F 5 = 5 from rfl) (by decide)] at hq2
      exact hq2
    | 7, _, hq =>
      have hq2 : Q M P L (A.1.1 0 6) none 0 0 0 := hq
      rw [← n 6 (by decide) (show pc_F 6 = 6 from rfl) (by decide)] at hq2
      exact hq2
    | 8, _, hq =>
      have hq2 : Q M P L (A.1.1 0 7) none 0 0 0 := hq
      rw [← n 7 (by decide) (show pc_F 7 = 7 from rfl) (by decide)] at hq2
      exact hq2
    | 9, _, hq =>
      obtain ⟨v, hV⟩ := h.V (fun _ => False)
      obtain ⟨T, hT, hI, -⟩ := hA.2.1.1
      have hI2 : ps_I E (cx_up A.1.1 0 35 v) T := qI_up29 hI (by decide) (by decide) (by decide)
      exact (pq_cal (f := fun M v => Q M P L v none 0 0 0) (cSt_level_s hN hA.1 hV hI2.1)).mpr hq
    | 10, _, hq =>
      have hq2 : Q M P L (A.1.1 0 8) none 0 0 0 := hq
      rw [← n 8 (by decide) (show pc_F 8 = 8 from rfl) (by decide)] at hq2
      exact hq2
    | 11, _, hq =>
      have hq2 : Q M P L (A.1.1 0 9) none 0 0 0 := hq
      rw [← n 12 (by decide) (show pc_F 12 = 9 from rfl) (by decide)] at hq2
      exact hq2
    | 12, _, hq =>
      have hq2 : Q M P L (A.1.1 0 10) none 0 0 0 := hq
      rw [← n 11 (by decide) (show pc_F 11 = 10 from rfl) (by decide)] at hq2
      exact hq2
    | 13, _, hq =>
      show cq_cal (cCc_regained N.1 1000 M (M 8000 0)) (fun M v => Q M P L v none 0 0 0)
      rw [h.1.1]
      exact (pq_cal (cCc_regained_s h)).mpr hq
    | 14, _, hq =>
      have hq2 : Q M P L (A.1.1 0 12) none 0 0 0 := hq
      rw [← n 22 (by decide) (show pc_F 22 = 12 from rfl) (by decide)] at hq2
      exact hq2
    | 15, _, hq =>
      have hq2 : Q M P L (A.1.1 0 13) none 0 0 0 := hq
      rw [← n 23 (by decide) (show pc_F 23 = 13 from rfl) (by decide)] at hq2
      exact hq2
    | 16, _, hq =>
      have hq2 : Q M P L (cx_min 128 (A.1.1 0 32)) none 0 0 0 := hq
      rw [← n 24 (by decide) (show pc_F 24 = 32 from rfl) (by decide)] at hq2
      exact hq2
    | 17, _, hq =>
      have hq2 : Q M P L (nI A.1.2.1.length) none 0 0 0 := hq
      rw [← h5] at hq2
      exact hq2
    | 18, _, hq =>
      have hq2 : Q M P L (nI A.1.2.2.1.length) none 0 0 0 := hq
      rw [← h6] at hq2
      exact hq2
    | 19, _, hq =>
      have hq2 : Q M P L (nI A.2.2.1.1) none 0 0 0 := hq
      rw [← h.2.2.2.2.1.1] at hq2
      exact hq2
    | 20, _, hq =>
      have hq2 : Q M P L (A.1.2.2.2 0) none 0 0 0 := hq
      rw [← h605 0 (by decide)] at hq2
      exact pq_ld (M := M) (c := 605) (n := 3) (i := nI 20 - 20) (f := fun v => Q M P L v none 0 0 0) (by decide) (by decide) hq2
    | 21, _, hq =>
      have hq2 : Q M P L (A.1.2.2.2 1) none 0 0 0 := hq
      rw [← h605 1 (by decide)] at hq2
      exact pq_ld (M := M) (c := 605) (n := 3) (i := nI 21 - 20) (f := fun v => Q M P L v none 0 0 0) (by decide) (by decide) hq2
    | 22, _, hq =>
      have hq2 : Q M P L (A.1.2.2.2 2) none 0 0 0 := hq
      rw [← h605 2 (by decide)] at hq2
      exact pq_ld (M := M) (c := 605) (n := 3) (i := nI 22 - 20) (f := fun v => Q M P L v none 0 0 0) (by decide) (by decide) hq2
    | k + 23, hp, _ => exact absurd hp (by omega)
  · rw [if_neg (show ¬ ((0 : Int32).toInt ≤ w.toInt ∧ w.toInt ≤ (22 : Int32).toInt) from c)]
    exact cd_thr_s hb hs (fun _ => ⟨fun _ => hn c, fun z => absurd z (by decide)⟩) (fun z => absurd rfl z)
