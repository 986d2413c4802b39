/-! ASKS: count, set, flying, slot, played, sample: the reference -/
noncomputable def pa_regained (E : ps_E) (S : ps_S) : Int32 := if S 0 8 = 0 then 10000 else if S 0 20 = 0 then 10000 else ((((1000 : Int32) * E.1 0) * S 0 21) / S 0 20) - 1000
theorem tw_regained_s {N : Nat} {E : ps_E} {M : cx_M} {s : ps_T} (hV : pr_V N E M s) : tw_regained N M = some (M, pa_regained E s.1, 0) := by
  unfold tw_regained tw_regained_0 pa_regained
  simp only [px_get]
  rw [pr_n hV.1 8 (by decide), pr_n hV.1 20 (by decide), pr_n hV.1 21 (by decide), hV.2.2.1.1 0 (by decide)]
  by_cases c : s.1 0 8 = 0
  · rw [if_pos c, if_pos c]
  · rw [if_neg c, if_neg c]
    by_cases c2 : s.1 0 20 = 0
    · rw [if_pos c2, if_pos c2]
    · rw [if_neg c2, if_neg c2, px_nz c2]
noncomputable def pa_counts (E : ps_E) (A : qA) : List Int32 := [A.1.1 0 0, A.1.1 0 1, A.1.1 0 2, A.1.1 0 3, A.1.1 0 31, A.1.1 0 4, A.1.1 0 5, A.1.1 0 6, A.1.1 0 7, ps_level E A.1.1, A.1.1 0 8, A.1.1 0 9, A.1.1 0 10, pa_regained E A.1.1, A.1.1 0 12, A.1.1 0 13, cx_min 128 (A.1.1 0 32), nI A.1.2.1.length, nI A.1.2.2.1.length, nI A.2.2.1.1, A.1.2.2.2 0, A.1.2.2.2 1, A.1.2.2.2 2]
noncomputable def pa_count (E : ps_E) (A : qA) (w : Int32) : Int32 := (pa_counts E A).getD (pn w) 0
theorem tw_count_s {N : Nat} {E : ps_E} {M : cx_M} {A : qA} {w : Int32} (hN : 700 ≤ N) (hA : qAI E A) (h : qr_pre N E M A) :
    tw_ok N E A M (tw_count N M w) (pa_count E A w) (if 0 ≤ w.toInt ∧ w.toInt ≤ 22 then 0 else 1) := by
  obtain ⟨M1, e1, hA1, hc1, hF1⟩ := h
  obtain ⟨hE, -⟩ := hA
  have n (k : Nat) (hk : k < 33) : M1 8 k = A.1.1 0 k := pr_n hA1.1.1 k hk
  obtain ⟨h31, -, h32, -, hs⟩ := hA1.2.1
  have h12 := hA1.2.2.2.2.1
  have fin : ∀ (o : Option cx_R) (v : Int32), o = some (M1, v, 0) → tw_ok N E A M o v 0 := fun o v e => ⟨M1, v, e, hA1, hc1, fun _ => rfl, hF1⟩
  unfold tw_count tw_count_0 cx_sw
  rw [px_cal e1]
  by_cases c : 0 ≤ w.toInt ∧ w.toInt ≤ 22
  · rw [if_pos c, if_neg (fun z => by
      simp only [List.length_cons, List.length_nil] at z
      omega)]
    have hw : w = nI (pn w) := pn_nI c.1
    have hp : pn w < 23 := by rw [pn_def]; omega
    unfold pa_count
    generalize pn w = k at hw hp
    subst hw
    match k, hp with
    | 0, _ => exact fin _ _ (show some (M1, M1 8 0, 0) = some (M1, A.1.1 0 0, 0) by rw [n 0 (by decide)])
    | 1, _ => exact fin _ _ (show some (M1, M1 8 1, 0) = some (M1, A.1.1 0 1, 0) by rw [n 1 (by decide)])
    | 2, _ => exact fin _ _ (show some (M1, M1 8 2, 0) = some (M1, A.1.1 0 2, 0) by rw [n 2 (by decide)])
    | 3, _ => exact fin _ _ (show some (M1, M1 8 3, 0) = some (M1, A.1.1 0 3, 0) by rw [n 3 (by decide)])
    | 4, _ => exact fin _ _ (show some (M1, M1 8 31, 0) = some (M1, A.1.1 0 31, 0) by rw [n 31 (by decide)])
    | 5, _ => exact fin _ _ (show some (M1, M1 8 4, 0) = some (M1, A.1.1 0 4, 0) by rw [n 4 (by decide)])
    | 6, _ => exact fin _ _ (show some (M1, M1 8 5, 0) = some (M1, A.1.1 0 5, 0) by rw [n 5 (by decide)])
    | 7, _ => exact fin _ _ (show some (M1, M1 8 6, 0) = some (M1, A.1.1 0 6, 0) by rw [n 6 (by decide)])
    | 8, _ => exact fin _ _ (show some (M1, M1 8 7, 0) = some (M1, A.1.1 0 7, 0) by rw [n 7 (by decide)])
    | 9, _ => exact fin _ _ (show cx_cal (tw_levelNow N M1) (fun M v => some (M, v, 0)) = some (M1, ps_level E A.1.1, 0) from px_cal (tw_level_s (by omega) hE hA1.1))
    | 10, _ => exact fin _ _ (show some (M1, M1 8 8, 0) = some (M1, A.1.1 0 8, 0) by rw [n 8 (by decide)])
    | 11, _ => exact fin _ _ (show some (M1, M1 8 9, 0) = some (M1, A.1.1 0 9, 0) by rw [n 9 (by decide)])
    | 12, _ => exact fin _ _ (show some (M1, M1 8 10, 0) = some (M1, A.1.1 0 10, 0) by rw [n 10 (by decide)])
    | 13, _ => exact fin _ _ (show cx_cal (tw_regained N M1) (fun M v => some (M, v, 0)) = some (M1, pa_regained E A.1.1, 0) from px_cal (tw_regained_s hA1.1))
    | 14, _ => exact fin _ _ (show some (M1, M1 8 12, 0) = some (M1, A.1.1 0 12, 0) by rw [n 12 (by decide)])
    | 15, _ => exact fin _ _ (show some (M1, M1 8 13, 0) = some (M1, A.1.1 0 13, 0) by rw [n 13 (by decide)])
    | 16, _ => exact fin _ _ (show some (M1, cx_min 128 (M1 8 32), 0) = some (M1, cx_min 128 (A.1.1 0 32), 0) by rw [n 32 (by decide)])
    | 17, _ => exact fin _ _ (show some (M1, M1 60 31, 0) = some (M1, nI A.1.2.1.length, 0) by rw [h31])
    | 18, _ => exact fin _ _ (show some (M1, M1 60 32, 0) = some (M1, nI A.1.2.2.1.length, 0) by rw [h32])
    | 19, _ => exact fin _ _ (show some (M1, M1 60 12, 0) = some (M1, nI A.2.2.1.1, 0) by rw [h12])
    | 20, _ => exact fin _ _ (show cx_ld M1 7 3 (nI 20 - 20) (fun v => some (M1, v, 0)) = some (M1, A.1.2.2.2 0, 0) by rw [show (nI 20 - 20 : Int32) = nI 0 from by decide, px_ld (by decide) (by decide), show pn (nI 0) = 0 from rfl, hs 0 (by decide)])
    | 21, _ => exact fin _ _ (show cx_ld M1 7 3 (nI 21 - 20) (fun v => some (M1, v, 0)) = some (M1, A.1.2.2.2 1, 0) by rw [show (nI 21 - 20 : Int32) = nI 1 from by decide, px_ld (by decide) (by decide), show pn (nI 1) = 1 from rfl, hs 1 (by decide)])
    | 22, _ => exact fin _ _ (show cx_ld M1 7 3 (nI 22 - 20) (fun v => some (M1, v, 0)) = some (M1, A.1.2.2.2 2, 0) by rw [show (nI 22 - 20 : Int32) = nI 2 from by decide, px_ld (by decide) (by decide), show pn (nI 2) = 2 from rfl, hs 2 (by decide)])
    | k + 23, hp => exact absurd hp (by omega)
  · rw [if_neg c, if_pos (by
      simp only [List.length_cons, List.length_nil]
      omega)]
    obtain ⟨M2, e2, hA2, hc2, hF2⟩ := tw_fail_s (x := 1) hA1
    rw [px_cal e2]
    exact ⟨M2, 0, rfl, hA2, hc2, fun z => absurd z (by decide), hF1.tr hF2⟩
noncomputable def pa_sets (E : ps_E) (A : qA) : List Int32 := [E.1 0, A.1.1 0 29, A.1.1 0 33, A.1.1 0 34, E.1 4, A.1.1 0 27, E.1 6, E.1 7, A.1.1 0 28, A.1.1 0 25, A.1.1 0 26, A.1.1 0 22, A.1.1 0 23, cx_rem (A.1.1 0 14) ((64 : Int32) * E.1 0), A.1.1 0 11]
noncomputable def pa_set (E : ps_E) (A : qA) (w : Int32) : Int32 := (pa_sets E A).getD (pn w) 0
theorem tw_set_s {N : Nat} {E : ps_E} {M : cx_M} {A : qA} {w : Int32} (hA : qAI E A) (h : qr_pre N E M A) :
    tw_ok N E A M (tw_set N M w) (pa_set E A w) (if 0 ≤ w.toInt ∧ w.toInt ≤ 14 then 0 else 1) := by
  obtain ⟨M1, e1, hA1, hc1, hF1⟩ := h
  obtain ⟨hE, -⟩ := hA
  have n (k : Nat) (hk : k < 33) : M1 8 k = A.1.1 0 k := pr_n hA1.1.1 k hk
  have t (k : Nat) (hk : k < 10) : M1 3 k = E.1 k := hA1.1.2.2.1.1 k hk
  have hg : M1 60 24 = A.1.1 0 33 ∧ M1 60 25 = A.1.1 0 34 := hA1.1.2.1
  have hz : ¬ (64 : Int32) * E.1 0 = 0 := by
    intro z
    have h64 : (64 : Int32).toInt = 64 := rfl
    have e := pi_mul (a := 64) (b := E.1 0) (by rw [h64]; have := hE.1; omega) (by rw [h64]; have := hE.1; omega)
    rw [z, h64, pi_0] at e
    have := hE.1
    omega
  have fin : ∀ (o : Option cx_R) (v : Int32), o = some (M1, v, 0) → tw_ok N E A M o v 0 := fun o v e => ⟨M1, v, e, hA1, hc1, fun _ => rfl, hF1⟩
  unfold tw_set tw_set_0 cx_sw
  rw [px_cal e1]
  by_cases c : 0 ≤ w.toInt ∧ w.toInt ≤ 14
  · rw [if_pos c, if_neg (fun z => by
      simp only [List.length_cons, List.length_nil] at z
      omega)]
    have hw : w = nI (pn w) := pn_nI c.1
    have hp : pn w < 15 := by rw [pn_def]; omega
    unfold pa_set
    generalize pn w = k at hw hp
    subst hw
    match k, hp with
    | 0, _ => exact fin _ _ (show some (M1, M1 3 0, 0) = some (M1, E.1 0, 0) by rw [t 0 (by decide)])
    | 1, _ => exact fin _ _ (show some (M1, M1 8 29, 0) = some (M1, A.1.1 0 29, 0) by rw [n 29 (by decide)])
    | 2, _ => exact fin _ _ (show some (M1, M1 60 24, 0) = some (M1, A.1.1 0 33, 0) by rw [hg.1])
    | 3, _ => exact fin _ _ (show some (M1, M1 60 25, 0) = some (M1, A.1.1 0 34, 0) by rw [hg.2])
    | 4, _ => exact fin _ _ (show some (M1, M1 3 4, 0) = some (M1, E.1 4, 0) by rw [t 4 (by decide)])
    | 5, _ => exact fin _ _ (show some (M1, M1 8 27, 0) = some (M1, A.1.1 0 27, 0) by rw [n 27 (by decide)])
    | 6, _ => exact fin _ _ (show some (M1, M1 3 6, 0) = some (M1, E.1 6, 0) by rw [t 6 (by decide)])
    | 7, _ => exact fin _ _ (show some (M1, M1 3 7, 0) = some (M1, E.1 7, 0) by rw [t 7 (by decide)])
    | 8, _ => exact fin _ _ (show some (M1, M1 8 28, 0) = some (M1, A.1.1 0 28, 0) by rw [n 28 (by decide)])
    | 9, _ => exact fin _ _ (show some (M1, M1 8 25, 0) = some (M1, A.1.1 0 25, 0) by rw [n 25 (by decide)])
    | 10, _ => exact fin _ _ (show some (M1, M1 8 26, 0) = some (M1, A.1.1 0 26, 0) by rw [n 26 (by decide)])
    | 11, _ => exact fin _ _ (show some (M1, M1 8 22, 0) = some (M1, A.1.1 0 22, 0) by rw [n 22 (by decide)])
    | 12, _ => exact fin _ _ (show some (M1, M1 8 23, 0) = some (M1, A.1.1 0 23, 0) by rw [n 23 (by decide)])
    | 13, _ => exact fin _ _ (show cx_nz ((64 : Int32) * M1 3 0) (some (M1, cx_rem (M1 8 14) ((64 : Int32) * M1 3 0), 0)) = some (M1, cx_rem (A.1.1 0 14) ((64 : Int32) * E.1 0), 0) by rw [t 0 (by decide), n 14 (by decide), px_nz hz])
    | 14, _ => exact fin _ _ (show some (M1, M1 8 11, 0) = some (M1, A.1.1 0 11, 0) by rw [n 11 (by decide)])
    | k + 15, hp => exact absurd hp (by omega)
  · rw [if_neg c, if_pos (by
      simp only [List.length_cons, List.length_nil]
      omega)]
    obtain ⟨M2, e2, hA2, hc2, hF2⟩ := tw_fail_s (x := 1) hA1
    rw [px_cal e2]
    exact ⟨M2, 0, rfl, hA2, hc2, fun z => absurd z (by decide), hF1.tr hF2⟩
theorem tw_fail1_ok {N : Nat} {E : ps_E} {M M1 : cx_M} {A : qA} {v x : Int32} (hF : qr_F M M1) (h : qr_A N E M1 A) (hx : x ≠ 0) : tw_ok N E A M (cx_cal (tw_fail N M1 x) fun M2 v2 => some (M2, v2, 0)) v x := by
  obtain ⟨M2, e2, hA2, hc2, hF2⟩ := tw_fail_s (x := x) h
  rw [px_cal e2]
  exact ⟨M2, 0, rfl, hA2, hc2, fun z => absurd z hx, hF.tr hF2⟩
theorem tw_flying_s {N : Nat} {E : ps_E} {M : cx_M} {A : qA} {i w : Int32} (hA : qAI E A) (h : qr_pre N E M A) :
    tw_ok N E A M (tw_flying N M i w) (A.1.1 (1 + pn w) (pn i)) (if (0 ≤ i.toInt ∧ i.toInt < (A.1.1 0 31).toInt) ∧ (0 ≤ w.toInt ∧ w.toInt ≤ 2) then 0 else 1) := by
  obtain ⟨M1, e1, hA1, hc1, hF1⟩ := h
  obtain ⟨hE, ⟨⟨T, hT, hI, -⟩, -⟩, -⟩ := hA
  have hn : 0 ≤ (A.1.1 0 31).toInt ∧ (A.1.1 0 31).toInt ≤ 40 := ⟨hI.1.1.2.2.1.2.2.2.1, hI.1.1.2.2.1.2.2.2.2⟩
  have h1 : (1 : Int32).toInt = 1 := rfl
  have e31 : (A.1.1 0 31 - 1).toInt = (A.1.1 0 31).toInt - 1 := by rw [i32_sub (by omega) (by omega), h1]
  unfold tw_flying tw_flying_0
  rw [px_cal e1]
  simp only [px_get]
  rw [pr_n hA1.1.1 31 (by decide)]
  show tw_ok N E A M (cx_cal (tw_isIn N M1 (Int32.toInt64 i) 0 (Int32.toInt64 (A.1.1 0 31 - 1))) _) _ _
  rw [px_cal tw_isIn_s, pi_64, e31]
  by_cases c : 0 ≤ i.toInt ∧ i.toInt < (A.1.1 0 31).toInt
  · rw [if_pos (show (0 : Int64).toInt ≤ i.toInt ∧ i.toInt ≤ (A.1.1 0 31).toInt - 1 from ⟨c.1, by omega⟩), if_neg (by decide), px_cal tw_isIn_s]
    by_cases c2 : 0 ≤ w.toInt ∧ w.toInt ≤ 2
    · rw [if_pos (show (0 : Int64).toInt ≤ w.toInt ∧ w.toInt ≤ (2 : Int64).toInt from c2), if_neg (by decide), if_pos ⟨c, c2⟩]
      have e2 := pi_fl (x := i) c.1 (by omega)
      have e3 : ((33 : Int32) + (3 : Int32) * i + w).toInt = 33 + 3 * i.toInt + w.toInt := by rw [i32_add (by omega) (by omega), e2]
      rw [px_ld (by omega) (by omega)]
      refine ⟨M1, _, rfl, hA1, hc1, fun _ => ?_, hF1⟩
      have ep : pn ((33 : Int32) + (3 : Int32) * i + w) = 33 + 3 * pn i + pn w := by rw [pn_def, e3, pn_def, pn_def]; omega
      have hpi : pn i < 40 := by rw [pn_def]; omega
      have hpw : pn w < 3 := by rw [pn_def]; omega
      obtain ⟨f1, f2⟩ := ps_c_fl hpi hpw
      rw [ep, show M1 8 (33 + 3 * pn i + pn w) = A.1.1 (ps_c (33 + 3 * pn i + pn w)) (ps_k (33 + 3 * pn i + pn w)) from hA1.1.1 _ (by omega), f1, f2]
    · rw [if_neg (show ¬ ((0 : Int64).toInt ≤ w.toInt ∧ w.toInt ≤ (2 : Int64).toInt) from c2), if_pos rfl, if_neg (fun z => c2 z.2)]
      exact tw_fail1_ok hF1 hA1 (by decide)
  · rw [if_neg (show ¬ ((0 : Int64).toInt ≤ i.toInt ∧ i.toInt ≤ (A.1.1 0 31).toInt - 1) from fun z => c ⟨z.1, by omega⟩), if_pos rfl, if_neg (fun z => c z.1)]
    exact tw_fail1_ok hF1 hA1 (by decide)
noncomputable def pa_slot (E : ps_E) (S : ps_S) (k : Nat) : Int32 := if S 4 k = -1 then -1 else if S 5 k < S 0 14 / E.1 0 then -1 else S 4 k
theorem tw_slot_s {N : Nat} {E : ps_E} {M : cx_M} {A : qA} {w : Int32} (hA : qAI E A) (h : qr_pre N E M A) :
    tw_ok N E A M (tw_slot N M w) (pa_slot E A.1.1 (pn w)) (if 0 ≤ w.toInt ∧ w.toInt ≤ 63 then 0 else 1) := by
  obtain ⟨M1, e1, hA1, hc1, hF1⟩ := h
  obtain ⟨hE, -⟩ := hA
  unfold tw_slot tw_slot_0
  rw [px_cal e1, px_cal tw_isIn_s]
  by_cases c : 0 ≤ w.toInt ∧ w.toInt ≤ 63
  · rw [if_pos (show (0 : Int64).toInt ≤ w.toInt ∧ w.toInt ≤ (63 : Int64).toInt from c), if_neg (by decide), if_pos c]
    have hpw : pn w < 64 := by rw [pn_def]; omega
    have hw : w = nI (pn w) := pn_nI c.1
    have a4 := pi_addk (k := 153) (x := w) (by decide) c.1 (by omega)
    have a5 := pi_addk (k := 217) (x := w) (by decide) c.1 (by omega)
    have i4 : ((153 : Int32) + w).toInt = 153 + w.toInt := by rw [i32_add (by rw [show (153 : Int32).toInt = 153 from rfl]; omega) (by rw [show (153 : Int32).toInt = 153 from rfl]; omega)]; rfl
    have i5 : ((217 : Int32) + w).toInt = 217 + w.toInt := by rw [i32_add (by rw [show (217 : Int32).toInt = 217 from rfl]; omega) (by rw [show (217 : Int32).toInt = 217 from rfl]; omega)]; rfl
    have g4 : ∀ f : Int32 → Option cx_R, cx_ld M1 8 665 ((153 : Int32) + w) f = f (A.1.1 4 (pn w)) := fun f => by
      rw [px_ld (by omega) (by omega), show pn ((153 : Int32) + w) = 153 + pn w by rw [pn_def, i4, pn_def]; omega, show M1 8 (153 + pn w) = A.1.1 (ps_c (153 + pn w)) (ps_k (153 + pn w)) from hA1.1.1 _ (by omega), (ps_c_4 hpw).1, (ps_c_4 hpw).2]
    have g5 : ∀ f : Int32 → Option cx_R, cx_ld M1 8 665 ((217 : Int32) + w) f = f (A.1.1 5 (pn w)) := fun f => by
      rw [px_ld (by omega) (by omega), show pn ((217 : Int32) + w) = 217 + pn w by rw [pn_def, i5, pn_def]; omega, show M1 8 (217 + pn w) = A.1.1 (ps_c (217 + pn w)) (ps_k (217 + pn w)) from hA1.1.1 _ (by omega), (ps_c_5 hpw).1, (ps_c_5 hpw).2]
    have fin : ∀ v : Int32, tw_ok N E A M (some (M1, v, 0)) v 0 := fun v => ⟨M1, v, rfl, hA1, hc1, fun _ => rfl, hF1⟩
    rw [g4]
    unfold pa_slot
    by_cases c1 : A.1.1 4 (pn w) = -1
    · rw [if_pos c1, if_pos c1]
      exact fin _
    · rw [if_neg c1, if_neg c1, g5, px_cal (tw_spot_s hE hA1.1)]
      by_cases c2 : A.1.1 5 (pn w) < A.1.1 0 14 / E.1 0
      · rw [if_pos c2, if_pos c2]
        exact fin _
      · rw [if_neg c2, if_neg c2, g4]
        exact fin _
  · rw [if_neg (show ¬ ((0 : Int64).toInt ≤ w.toInt ∧ w.toInt ≤ (63 : Int64).toInt) from c), if_pos rfl, if_neg c]
    exact tw_fail1_ok hF1 hA1 (by decide)
