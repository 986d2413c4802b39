/-! THE CLASS: steps, undo, forget, note -/
theorem qc_A.V {N : cx_N} {E : ps_E} {M : cx_M} {A : qA} (h : qc_A N E M A) (G : ps_S → Prop) : ∃ v, pc_V N E M 1000 (cx_up A.1.1 0 35 v, []) G := by
  obtain ⟨hK, ⟨π, -, -, -, -, ⟨v, hv⟩, -⟩, ⟨h43, h45⟩, -⟩ := h
  exact ⟨v, hv, hK, ⟨h43, by show 0 ≤ 8; decide, fun z => absurd z (by show ¬ 0 < 0; decide)⟩, Or.inl h45⟩
/-- the state now written over, the rest as it was -/
theorem qc_A.now {N : cx_N} {E : ps_E} {M M' : cx_M} {A : qA} {S : ps_S} (hA : qAI E A) (h : qc_A N E M A) (hW : qc_W M' 1000 S) (h3 : M' 1000 43 = 0 ∧ M' 1000 45 = 0) (e : ∀ c, c < 1000 ∨ 1043 < c → c ≠ 8011 → c ≠ 9001 → c ≠ 9002 → M' c = M c) : qc_A N E M' ((S, A.1.2), A.2) := by
  have l6 : qc_lo 600 = 1200 ∧ cBk_st 600 = 1000 := ⟨rfl, rfl⟩
  obtain ⟨π, ho, hf, h5, ⟨n1, n2, n3⟩, -, hL⟩ := h.2.1
  have fr : ∀ c, c < 1000 ∨ 1043 < c → c < 8000 → M' c = M c := fun c a b => e c a (by omega) (by omega) (by omega)
  refine qc_A.bk (B := (S, A.1.2)) hA h ⟨π, ⟨by rw [fr 602 (by omega) (by omega)]; exact ho.1, ho.2.1, ho.2.2.1, by rw [fr 602 (by omega) (by omega)]; exact ho.2.2.2⟩, fun i hi => (hf i hi).fr (fun c h1 h2 => fr c (by omega) (by omega)), by rw [fr 600 (by omega) (by omega)]; exact h5, ⟨by rw [fr 600 (by omega) (by omega)]; exact n1, by rw [fr 603 (by omega) (by omega), fr 604 (by omega) (by omega)]; exact n2, by rw [fr 605 (by omega) (by omega)]; exact n3⟩, hW, fun i X hi => ?_⟩ h3 (fun c hc => e c (by omega) (by omega) (by omega) (by omega))
  have hi2 : i < 40 := by
    rcases Nat.lt_or_ge i A.1.2.1.length with z | z
    · have := hA.2.1.2.2.1
      omega
    · rw [List.getElem?_eq_none z] at hi; cases hi
  have := ho.2.1 i hi2
  exact (hL i X hi).fr (fun c h1 h2 => fr c (by omega) (by omega))
theorem qc_A.goes {N : cx_N} {E : ps_E} {M : cx_M} {A : qA} {n T : Nat} (hN : 700 ≤ N.1) (hA : qAI E A) (h : qc_A N E M A) (hI : ps_I E A.1.1 T) (hT : T + n ≤ 22000) (hn : 0 < n ∧ n ≤ 640) : ∃ M', cCc_goes N 1000 M (nI n) = some (M', 0, 0) ∧ qc_A N E M' (((ps_steps E n (A.1.1, [])).1, A.1.2), A.2) ∧ qc_F M M' := by
  obtain ⟨v, hV⟩ := h.V (fun _ => False)
  obtain ⟨M', e, hV2, hF⟩ := cCc_goes_s (T := T) hN hA.1 (by decide) hV (fun z => absurd h.2.2.1.2 z) (qI_up29 hI (by decide) (by decide) (by decide)) hT hn.2
  rw [ps_steps_35 _ _ _ _ _ hn.1] at hV2
  have hq := ps_steps_q (E := E) (s := (A.1.1, [])) rfl n
  have h43 : M' 1000 43 = 0 := by
    have := hV2.2.2.1.1
    rw [hq] at this
    exact this
  exact ⟨M', e, qc_A.now hA h hV2.1.W ⟨h43, by rw [hF.2]; exact h.2.2.1.2⟩ (fun c a b1 b2 b3 => hF.1 c (by omega) b1 b2 b3), fun c hc => hF.1 c (by omega) (by omega) (by omega) (by omega)⟩
theorem cCc_steps_s {N : cx_N} {E : ps_E} {M : cx_M} {A : qA} {n : Int32} (hN : 700 ≤ N.1) (hA : qAI E A) (h : qc_A N E M A) : qc_act N E M (cCc_steps N M n) (pa_stepsOn E A n).1 (pa_stepsOn E A n).2 := by
  obtain ⟨T, hT, hI, -⟩ := hA.2.1.1
  have hT0 : A.1.1 0 0 = nI T := hI.2.1
  have tT := pi_nI (n := T) (by omega)
  have hno : ¬ pa_mayStep A n → qc_act N E M (cCc_steps_30 N M n) (pa_stepsOn E A n).1 (pa_stepsOn E A n).2 := by
    intro c
    obtain ⟨M1, e1, h1, F1⟩ := cCc_does_n hA h
    rw [pa_stepsOn_n c]
    refine ⟨M1, ?_, h1, F1⟩
    unfold cCc_steps_30 cCc_steps_31
    rw [px_cal e1, if_pos rfl]
  unfold cCc_steps cCc_steps_0
  rw [px_cal cCc_within_s]
  by_cases c : (1 : Int32).toInt ≤ n.toInt ∧ n.toInt ≤ (50 : Int32).toInt
  · have c' : 1 ≤ n.toInt ∧ n.toInt ≤ 50 := c
    rw [if_pos c, if_neg (by decide)]
    simp only [px_get]
    rw [h.n 0 (Or.inl (by decide)) (show pc_F 0 = 0 from rfl) (by decide)]
    have es : (A.1.1 0 0 + n).toInt = (A.1.1 0 0).toInt + n.toInt := i32_add (by rw [hT0, tT]; omega) (by rw [hT0, tT]; omega)
    by_cases c2 : 20000 < A.1.1 0 0 + n
    · have := Int32.lt_iff_toInt_lt.mp c2
      rw [es, show (20000 : Int32).toInt = 20000 from rfl] at this
      rw [if_pos c2]
      exact hno (fun z => by have := z.2; omega)
    · have c3 : (A.1.1 0 0).toInt + n.toInt ≤ 20000 := by
        have : ¬ (20000 : Int32).toInt < (A.1.1 0 0 + n).toInt := fun z => c2 (Int32.lt_iff_toInt_lt.mpr z)
        rw [es, show (20000 : Int32).toInt = 20000 from rfl] at this
        omega
      rw [if_neg c2, pa_stepsOn_y ⟨c', c3⟩]
      obtain ⟨M1, e1, h1, F1, f1⟩ := cCc_does_y (by omega) hA h
      have hA1 : qAI E ((A.1.1, pa_keepL A.1, A.1.2.2), A.2) := hA.B (B := (A.1.1, pa_keepL A.1, A.1.2.2)) ⟨hA.2.1.1, hA.2.1.keep.1, hA.2.1.keep.2, hA.2.1.2.2.2⟩
      have en : n = nI (pn n) := pn_nI (by omega)
      rw [hT0, tT] at c3
      obtain ⟨M2, e2, h2, F2⟩ := qc_A.goes (n := pn n) (T := T) hN hA1 h1 hI (by rw [pn_def]; omega) (by rw [pn_def]; omega)
      rw [← en] at e2
      refine ⟨M2, ?_, h2, F1.tr F2⟩
      unfold cCc_steps_31
      simp only [px_get]
      rw [px_cal e1, if_neg (by decide), px_cal e2, h2.n 0 (Or.inl (by decide)) (show pc_F 0 = 0 from rfl) (by decide)]
  · rw [if_neg c, if_pos rfl]
    exact hno (fun z => c z.1)
theorem cCc_forget_s {N : cx_N} {E : ps_E} {M : cx_M} {A : qA} (hA : qAI E A) (h : qc_A N E M A) : qc_act N E M (cCc_forget N M) (pa_forget A) 0 := by
  have l6 : qc_lo 600 = 1200 ∧ cBk_st 600 = 1000 := ⟨rfl, rfl⟩
  obtain ⟨π, ho, hf, h5, ⟨n1, n2, n3⟩, hW, hL⟩ := h.2.1
  have fr : ∀ c, c ≠ 600 → cx_up M 600 6 0 c = M c := fun c hc => px_upc hc
  refine ⟨cx_up M 600 6 0, rfl, qc_A.bk (B := (A.1.1, A.1.2.1, [], A.1.2.2.2)) hA h ⟨π, ⟨by rw [fr 602 (by decide)]; exact ho.1, ho.2.1, ho.2.2.1, by rw [fr 602 (by decide)]; exact ho.2.2.2⟩, fun i hi => (hf i hi).fr (fun c h1 h2 => fr c (by omega)), by rw [px_up, if_neg (by decide)]; exact h5, ⟨by rw [px_up, if_pos ⟨rfl, rfl⟩]; rfl, fun j x hj => (by cases hj), by rw [fr 605 (by decide)]; exact n3⟩, hW.fr (fun c h1 h2 => fr c (by omega)), fun i X hi => (hL i X hi).fr (fun c h1 h2 => fr c (by omega))⟩ (by rw [fr 1000 (by decide)]; exact h.2.2.1) (fun c hc => fr c (by omega)), qc_F.up (by decide)⟩
theorem cCc_note_s {N : cx_N} {E : ps_E} {M : cx_M} {A : qA} {a b : Int32} (hA : qAI E A) (h : qc_A N E M A) : qc_act N E M (cCc_note N M a b) (pa_note A a b).1 (pa_note A a b).2 := by
  have l6 : qc_lo 600 = 1200 ∧ cBk_st 600 = 1000 := ⟨rfl, rfl⟩
  have hL8 := hA.2.1.2.2.2
  obtain ⟨π, ho, hf, h5, ⟨n1, n2, n3⟩, hW, hL⟩ := h.2.1
  have no : ¬ pa_mayNote A a b → qc_act N E M (cCc_note_33 N M) (pa_note A a b).1 (pa_note A a b).2 := by
    intro z
    rw [pa_note_n z]
    obtain ⟨M2, e2, h2, F2⟩ := cCc_refuses_s (i := 2) hA (by decide) h
    refine ⟨M2, ?_, h2, F2⟩
    unfold cCc_note_33
    rw [px_cal (show cCc_refuses N M 2 = _ from e2)]
  unfold cCc_note cCc_note_0
  simp only [px_get]
  rw [n1]
  by_cases c8 : A.1.2.2.1.length = 8
  · rw [c8, if_pos (show nI 8 = 8 from rfl)]
    exact no (fun z => z.1 c8)
  · have t := pi_nI (n := A.1.2.2.1.length) (by omega)
    rw [if_neg (fun z => by
      have := congrArg Int32.toInt z
      rw [t, show (8 : Int32).toInt = 8 from rfl] at this
      omega), px_cal cCc_within_s]
    by_cases ca : (0 : Int32).toInt ≤ a.toInt ∧ a.toInt ≤ (60 : Int32).toInt
    · rw [if_pos ca, if_neg (by decide), px_cal cCc_within_s]
      by_cases cb : (0 : Int32).toInt ≤ b.toInt ∧ b.toInt ≤ (999 : Int32).toInt
      · rw [if_pos cb, if_neg (by decide), pa_note_y ⟨c8, ca, cb⟩]
        simp only [px_put]
        rw [n1, px_st (by omega) (by omega), pn_I (by omega), px_upc (show (600 : Nat) ≠ 603 by decide), n1, px_st (by omega) (by omega), pn_I (by omega), px_upc (show (600 : Nat) ≠ 604 by decide), px_upc (show (600 : Nat) ≠ 603 by decide), n1]
        generalize eM : cx_up (cx_up M 603 A.1.2.2.1.length a) 604 A.1.2.2.1.length b = M2
        have ac : ∀ c, c ≠ 603 → c ≠ 604 → M2 c = M c := fun c x y => by rw [← eM, px_upc y, px_upc x]
        have i38 : ∀ j, M2 603 j = if j = A.1.2.2.1.length then a else M 603 j := fun j => by
          rw [← eM, px_upc (by decide), px_up]
          by_cases z : j = A.1.2.2.1.length
          · rw [if_pos ⟨rfl, z⟩, if_pos z]
          · rw [if_neg (fun y => z y.2), if_neg z]
        have i39 : ∀ j, M2 604 j = if j = A.1.2.2.1.length then b else M 604 j := fun j => by
          rw [← eM, px_up, px_upc (by decide)]
          by_cases z : j = A.1.2.2.1.length
          · rw [if_pos ⟨rfl, z⟩, if_pos z]
          · rw [if_neg (fun y => z y.2), if_neg z]
        have g32 : cx_up M2 600 6 (nI A.1.2.2.1.length + 1) 600 6 = nI (A.1.2.2.1.length + 1) := by rw [px_up, if_pos ⟨rfl, rfl⟩, ← nI_succ]
        have bc : ∀ c, c ≠ 603 → c ≠ 604 → c ≠ 600 → cx_up M2 600 6 (nI A.1.2.2.1.length + 1) c = M c := fun c x y z => by rw [px_upc z, ac c x y]
        have bk : ∀ k, k ≠ 6 → cx_up M2 600 6 (nI A.1.2.2.1.length + 1) 600 k = M 600 k := fun k z => by rw [px_up, if_neg (fun y => z y.2), ac 600 (by decide) (by decide)]
        have b38 : cx_up M2 600 6 (nI A.1.2.2.1.length + 1) 603 = M2 603 := px_upc (by decide)
        have b39 : cx_up M2 600 6 (nI A.1.2.2.1.length + 1) 604 = M2 604 := px_upc (by decide)
        generalize cx_up M2 600 6 (nI A.1.2.2.1.length + 1) = M3 at g32 bc bk b38 b39 ⊢
        have fr : ∀ c, 700 ≤ c ∨ c < 600 ∨ c = 602 ∨ c = 605 → M3 c = M c := fun c hc => bc c (by omega) (by omega) (by omega)
        refine ⟨M3, by rw [g32], qc_A.bk (B := (A.1.1, A.1.2.1, A.1.2.2.1 ++ [(a, b)], A.1.2.2.2)) hA h ⟨π, ⟨by rw [fr 602 (by omega)]; exact ho.1, ho.2.1, ho.2.2.1, by rw [fr 602 (by omega)]; exact ho.2.2.2⟩, fun i hi => (hf i hi).fr (fun c h1 h2 => fr c (by omega)), by rw [bk 5 (by decide)]; exact h5, ⟨?_, fun j x hj => ?_, by rw [fr 605 (by omega)]; exact n3⟩, hW.fr (fun c h1 h2 => fr c (by omega)), fun i X hi => (hL i X hi).fr (fun c h1 h2 => fr c (by omega))⟩ (by rw [fr 1000 (by omega)]; exact h.2.2.1) (fun c hc => fr c (by omega)), fun c hc => fr c (by omega)⟩
        · rw [g32]
          show _ = nI (A.1.2.2.1 ++ [(a, b)]).length
          rw [List.length_append, List.length_singleton]
        · have hj' : (A.1.2.2.1 ++ [(a, b)])[j]? = some x := hj
          rw [b38, b39, i38, i39]
          by_cases z : j < A.1.2.2.1.length
          · rw [List.getElem?_append_left z] at hj'
            rw [if_neg (by omega), if_neg (by omega)]
            exact n2 j x hj'
          · rw [List.getElem?_append_right (by omega)] at hj'
            cases hd : j - A.1.2.2.1.length with
            | zero =>
              rw [hd] at hj'
              have ex : (a, b) = x := Option.some.inj hj'
              rw [if_pos (by omega), if_pos (by omega), ← ex]
              exact ⟨rfl, rfl⟩
            | succ d => rw [hd] at hj'; cases hj'
      · rw [if_neg cb, if_pos rfl]
        exact no (fun z => cb z.2.2)
    · rw [if_neg ca, if_pos rfl]
      exact no (fun z => ca z.2.1)
