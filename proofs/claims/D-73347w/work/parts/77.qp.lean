/-! THE CLASS: then -/
theorem pq_ix {i : Int32} {n : Nat} {f : Nat → Prop} (h0 : 0 ≤ i.toInt) (h1 : i.toInt < n) (h : f (pn i)) : cq_ix i n f := by
  unfold cq_ix
  rw [if_neg]
  · exact h
  · intro z
    rcases z with z | z
    · have := Int32.lt_iff_toInt_lt.mp z
      rw [pi_0] at this
      omega
    · have z2 : n ≤ pn i := z
      rw [pn_def] at z2
      omega
theorem pa_look_35 {E : ps_E} {S : ps_S} {v w : Int32} : pa_look E (cx_up S 0 35 v) w = pa_look E S w := by
  unfold pa_look
  by_cases c : w = 0
  · rw [if_pos c, if_pos c, pa_level_35]
  · rw [if_neg c, if_neg c, px_up, if_neg]
    intro z
    have z2 := z.2
    revert z2
    split
    · decide
    · split
      · decide
      · split
        · decide
        · split
          · decide
          · decide
theorem pa_look_n {E : ps_E} {S : ps_S} {v w : Int32} (n : Nat) : pa_look E (ps_steps E n (cx_up S 0 35 v, [])).1 w = pa_look E (ps_steps E n (S, [])).1 w := by
  by_cases c : n = 0
  · rw [c]
    exact pa_look_35
  · rw [ps_steps_35 _ _ _ _ _ (by omega)]
theorem cLk_s {f : Nat} {ev : Nat → (Nat → Int32) → Int32} {E : ps_E} {M : cx_M} {b T k : Nat} {s : ps_T} {G : ps_S → Prop} (hN : 65 ≤ f) (hE : ps_EO E) (hV : pc_V (vN f ev) E M b s G) (hI : ps_I E s.1 T) (hk : k < 6) : cLk_at (vN f ev) k b M = some (M, pa_look E s.1 (nI k), 0) := by
  have n (i : Nat) {j : Nat} (hi : i < 34) (hj : pc_F i = j) : M b i = s.1 0 j := pc_n hV.1 i (Or.inl hi) hj
  have hV2 : pc_V (f, ev, fun _ _ _ => none, fun _ _ _ _ => none) E M b s G := hV
  match k, hk with
  | 0, _ =>
    show cCc_lambda_new_1 (f, ev, fun _ _ _ => none, fun _ _ _ _ => none) b M = _
    unfold cCc_lambda_new_1 cCc_lambda_new_1_0
    rw [px_cal (cSt_level_s hN hE hV2 hI.1)]
    rfl
  | 1, _ => exact (show some (M, M b 12, 0) = some (M, s.1 0 9, 0) by rw [n 12 (by decide) (show pc_F 12 = 9 from rfl)])
  | 2, _ => exact (show some (M, M b 8, 0) = some (M, s.1 0 8, 0) by rw [n 8 (by decide) (show pc_F 8 = 8 from rfl)])
  | 3, _ => exact (show some (M, M b 6, 0) = some (M, s.1 0 6, 0) by rw [n 6 (by decide) (show pc_F 6 = 6 from rfl)])
  | 4, _ => exact (show some (M, M b 7, 0) = some (M, s.1 0 7, 0) by rw [n 7 (by decide) (show pc_F 7 = 7 from rfl)])
  | 5, _ => exact (show some (M, M b 4, 0) = some (M, s.1 0 4, 0) by rw [n 4 (by decide) (show pc_F 4 = 4 from rfl)])
theorem dCc_thenD_s {f : Nat} {ev : Nat → (Nat → Int32) → Int32} {adr : Nat → Nat} {E : ps_E} {M : cx_M} {P : dP} {L : dL} {A : qA} {m w : Int32} {bc bs : Nat} {Q : cd_Qt} (hN : 700 ≤ f) (hA : qAI E A) (h : qc_A (vN f ev) E M A) (hb : 1 ≤ bc) (hs : 6 ≤ bs)
    (hy : 0 ≤ w.toInt ∧ w.toInt ≤ 5 → 0 ≤ m.toInt ∧ m.toInt ≤ 400 → ∀ M', qc_A (vN f ev) E M' A → qc_F M M' → Q M' P L (pa_look E (ps_steps E (pn m) (A.1.1, [])).1 w) none 0 0 0)
    (h2 : 0 ≤ w.toInt ∧ w.toInt ≤ 5 → ¬ (0 ≤ m.toInt ∧ m.toInt ≤ 400) → Q M P L 0 none 2 1 6) (h1 : ¬ (0 ≤ w.toInt ∧ w.toInt ≤ 5) → Q M P L 0 none 1 1 6) : dCc_thenD (vN f ev, adr) bc bs M P L m w Q := by
  obtain ⟨T, hT, hI, -⟩ := hA.2.1.1
  unfold dCc_thenD dCc_thenD_0
  rw [pq_cal cCc_within_s]
  by_cases c : 0 ≤ w.toInt ∧ w.toInt ≤ 5
  · rw [if_pos (show (0 : Int32).toInt ≤ w.toInt ∧ w.toInt ≤ (5 : Int32).toInt from c)]
    refine cd_thr_s hb hs (fun z => absurd z (by decide)) (fun _ => ⟨fun z => absurd rfl z, fun _ => ?_⟩)
    show dCc_soonD (vN f ev, adr) (bc - 0) (bs - 0) M P L m 0 _
    unfold dCc_soonD dCc_soonD_0
    rw [pq_cal cCc_within_s]
    by_cases c2 : 0 ≤ m.toInt ∧ m.toInt ≤ 400
    · rw [if_pos (show (0 : Int32).toInt ≤ m.toInt ∧ m.toInt ≤ (400 : Int32).toInt from c2)]
      refine cd_thr_s hb hs (fun z => absurd z (by decide)) (fun _ => ⟨fun z => absurd rfl z, fun _ => ⟨fun z => absurd rfl z, fun _ => ?_⟩⟩)
      obtain ⟨M1, v, e1, hA1, F1, hV, -⟩ := cCc_tries_s (n := pn m) (T := T) hN hA h hI (by rw [pn_def]; omega) (by rw [pn_def]; omega)
      rw [← pn_nI (x := m) c2.1] at e1
      have hIt := ps_steps_I (s := (cx_up A.1.1 0 35 v, [])) hA.1 (qI_up29 hI (by decide) (by decide) (by decide)) (pn m) (by rw [pn_def]; omega)
      have e2 := cLk_s (k := pn w) (by omega) hA.1 hV hIt (by rw [pn_def]; omega)
      rw [← pn_nI (x := w) c.1, pa_look_n] at e2
      show cq_cal (cCc_tries (vN f ev) M m) (fun M12 _ => cq_ix w 6 fun j => cq_cal (cLk_at (vN f ev) j 1100 M12) fun M v => Q M P L v none 0 0 0)
      rw [pq_cal e1]
      exact pq_ix (n := 6) c.1 (by omega) ((pq_cal (f := fun M v => Q M P L v none 0 0 0) e2).mpr (hy c c2 M1 hA1 F1))
    · rw [if_neg (show ¬ ((0 : Int32).toInt ≤ m.toInt ∧ m.toInt ≤ (400 : Int32).toInt) from c2)]
      exact cd_thr_s hb hs (fun _ => ⟨fun _ => ⟨fun _ => h2 c c2, fun z => absurd z (by decide)⟩, fun z => absurd z (by decide)⟩) (fun z => absurd rfl z)
  · rw [if_neg (show ¬ ((0 : Int32).toInt ≤ w.toInt ∧ w.toInt ≤ (5 : Int32).toInt) from c)]
    exact cd_thr_s hb hs (fun _ => ⟨fun _ => h1 c, fun z => absurd z (by decide)⟩) (fun z => absurd rfl z)
