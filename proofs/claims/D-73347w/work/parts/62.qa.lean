/-! ASKS: played, sample, spans, wander: the reference -/
theorem pa_kept {x : Int32} (h : 0 ≤ x.toInt) : 0 ≤ (cx_min 128 x).toInt ∧ (cx_min 128 x).toInt ≤ 128 ∧ (cx_min 128 x).toInt ≤ x.toInt ∧ ((cx_min 128 x) - 1).toInt = (cx_min 128 x).toInt - 1 := by
  have e := pi_min (x := 128) (y := x)
  have h128 : (128 : Int32).toInt = 128 := rfl
  have h1 : (1 : Int32).toInt = 1 := rfl
  rw [h128] at e
  have b : 0 ≤ (cx_min 128 x).toInt ∧ (cx_min 128 x).toInt ≤ 128 ∧ (cx_min 128 x).toInt ≤ x.toInt := by omega
  refine ⟨b.1, b.2.1, b.2.2, ?_⟩
  rw [i32_sub (by omega) (by omega), h1]
theorem pi_rp {x : Int32} (h : 0 ≤ x.toInt) : 0 ≤ (cx_rem x 128).toInt ∧ (cx_rem x 128).toInt < 128 ∧ pn (cx_rem x 128) < 128 := by
  have e := pi_rem128 h
  rw [pn_def]
  omega
noncomputable def pa_playedAt (S : ps_S) (i w : Int32) : Int32 := S (7 + pn w) (pn (cx_rem ((S 0 6 - 1) - i) 128))
theorem tw_played_s {N : Nat} {E : ps_E} {M : cx_M} {A : qA} {i w : Int32} (hA : qAI E A) (h : qr_pre N E M A) :
    tw_ok N E A M (tw_played N M i w) (pa_playedAt A.1.1 i w) (if (0 ≤ i.toInt ∧ i.toInt < (cx_min 128 (A.1.1 0 6)).toInt) ∧ (0 ≤ w.toInt ∧ w.toInt ≤ 1) then 0 else 1) := by
  obtain ⟨M1, e1, hA1, hc1, hF1⟩ := h
  obtain ⟨hE, ⟨⟨T, hT, hI, -⟩, -⟩, -⟩ := hA
  have h6 : 0 ≤ (A.1.1 0 6).toInt ∧ (A.1.1 0 6).toInt ≤ 90000 := ⟨hI.1.1.2.2.2.1.1, by have := hI.1.1.2.2.2.1.2.1; have := hI.1.1.1.2.2.2.1; omega⟩
  have n6 : M1 8 6 = A.1.1 0 6 := pr_n hA1.1.1 6 (by decide)
  obtain ⟨k0, k1, k2, k3⟩ := pa_kept h6.1
  have kp : tw_playedKept N M1 = some (M1, cx_min 128 (A.1.1 0 6), 0) := by
    unfold tw_playedKept tw_playedKept_0
    simp only [px_get]
    rw [n6]
  have h1 : (1 : Int32).toInt = 1 := rfl
  unfold tw_played tw_played_0
  rw [px_cal e1, px_cal kp, px_cal tw_isIn_s, pi_64, k3]
  by_cases c : 0 ≤ i.toInt ∧ i.toInt < (cx_min 128 (A.1.1 0 6)).toInt
  · rw [if_pos (show (0 : Int64).toInt ≤ i.toInt ∧ i.toInt ≤ (cx_min 128 (A.1.1 0 6)).toInt - 1 from ⟨c.1, by omega⟩), if_neg (by decide), px_cal tw_isIn_s]
    by_cases c2 : 0 ≤ w.toInt ∧ w.toInt ≤ 1
    · rw [if_pos (show (0 : Int64).toInt ≤ w.toInt ∧ w.toInt ≤ (1 : Int64).toInt from c2), if_neg (by decide), if_pos (show (0 ≤ i.toInt ∧ i.toInt < (cx_min 128 (A.1.1 0 6)).toInt) ∧ (0 ≤ w.toInt ∧ w.toInt ≤ 1) from ⟨c, c2⟩)]
      have e5 : (A.1.1 0 6 - 1).toInt = (A.1.1 0 6).toInt - 1 := by rw [i32_sub (by omega) (by omega), h1]
      have e6 : (A.1.1 0 6 - 1 - i).toInt = (A.1.1 0 6).toInt - 1 - i.toInt := by rw [i32_sub (by omega) (by omega), e5]
      obtain ⟨r0, r1, r2⟩ := pi_rp (x := A.1.1 0 6 - 1 - i) (by omega)
      have hw : w = nI (pn w) := pn_nI c2.1
      have hp : pn w < 2 := by rw [pn_def]; omega
      unfold pa_playedAt
      have go : ∀ (b : Nat) (c : Nat), (b = 409 ∧ c = 7 ∨ b = 537 ∧ c = 8) → tw_ok N E A M (tw_played_53 N M1 i (nI b)) (A.1.1 c (pn (cx_rem ((A.1.1 0 6 - 1) - i) 128))) 0 := by
        intro b c hb
        obtain ⟨a0, a1, a2⟩ := pi_addk (k := b) (x := cx_rem (A.1.1 0 6 - 1 - i) 128) (by omega) r0 (by omega)
        have a3 : (nI b + cx_rem (A.1.1 0 6 - 1 - i) 128).toInt < 665 := by
          rw [pn_def, pn_def] at a2
          omega
        unfold tw_played_53
        simp only [px_get]
        rw [n6, px_ld a0 (by omega), a2, show M1 8 (b + pn (cx_rem (A.1.1 0 6 - 1 - i) 128)) = A.1.1 (ps_c (b + pn (cx_rem (A.1.1 0 6 - 1 - i) 128))) (ps_k (b + pn (cx_rem (A.1.1 0 6 - 1 - i) 128))) from hA1.1.1 _ (by omega)]
        rcases hb with ⟨rfl, rfl⟩ | ⟨rfl, rfl⟩
        · rw [(ps_c_7 r2).1, (ps_c_7 r2).2]
          exact ⟨M1, _, rfl, hA1, hc1, fun _ => rfl, hF1⟩
        · rw [ps_c_8.1, ps_c_8.2]
          exact ⟨M1, _, rfl, hA1, hc1, fun _ => rfl, hF1⟩
      generalize pn w = k at hw hp
      subst hw
      match k, hp with
      | 0, _ =>
        rw [if_pos (show nI 0 = 0 from rfl)]
        exact go 409 7 (Or.inl ⟨rfl, rfl⟩)
      | 1, _ =>
        rw [if_neg (by decide)]
        exact go 537 8 (Or.inr ⟨rfl, rfl⟩)
      | k + 2, hp => exact absurd hp (by omega)
    · rw [if_neg (show ¬ ((0 : Int64).toInt ≤ w.toInt ∧ w.toInt ≤ (1 : Int64).toInt) from c2), if_pos rfl, if_neg (fun z => c2 z.2)]
      exact tw_fail1_ok hF1 hA1 (by decide)
  · rw [if_neg (show ¬ ((0 : Int64).toInt ≤ i.toInt ∧ i.toInt ≤ (cx_min 128 (A.1.1 0 6)).toInt - 1) from fun z => c ⟨z.1, by omega⟩), if_pos rfl, if_neg (fun z => c z.1)]
    exact tw_fail1_ok hF1 hA1 (by decide)
def pa_sampleAt (S : ps_S) (i : Int32) : Int32 := S 6 (pn (cx_rem ((S 0 32 - cx_min 128 (S 0 32)) + i) 128))
theorem tw_samplesKept_s {N : Nat} {E : ps_E} {M : cx_M} {s : ps_T} (h : pr_V N E M s) : tw_samplesKept N M = some (M, cx_min 128 (s.1 0 32), 0) := by
  unfold tw_samplesKept tw_samplesKept_0
  simp only [px_get]
  rw [pr_n h.1 32 (by decide)]
theorem tw_sampleAt_s {N : Nat} {E : ps_E} {M : cx_M} {s : ps_T} {i : Int32} (h : pr_V N E M s) (h32 : 0 ≤ (s.1 0 32).toInt ∧ (s.1 0 32).toInt ≤ 90000) (hi : 0 ≤ i.toInt ∧ i.toInt ≤ 1000) : tw_sampleAt N M i = some (M, pa_sampleAt s.1 i, 0) := by
  obtain ⟨k0, k1, k2, k3⟩ := pa_kept h32.1
  have e5 : (s.1 0 32 - cx_min 128 (s.1 0 32)).toInt = (s.1 0 32).toInt - (cx_min 128 (s.1 0 32)).toInt := by rw [i32_sub (by omega) (by omega)]
  have e6 : (s.1 0 32 - cx_min 128 (s.1 0 32) + i).toInt = (s.1 0 32).toInt - (cx_min 128 (s.1 0 32)).toInt + i.toInt := by rw [i32_add (by omega) (by omega), e5]
  obtain ⟨r0, r1, r2⟩ := pi_rp (x := s.1 0 32 - cx_min 128 (s.1 0 32) + i) (by omega)
  obtain ⟨a0, a1, a2⟩ := pi_addk (k := 281) (x := cx_rem (s.1 0 32 - cx_min 128 (s.1 0 32) + i) 128) (by omega) r0 (by omega)
  have a3 : (nI 281 + cx_rem (s.1 0 32 - cx_min 128 (s.1 0 32) + i) 128).toInt < 665 := by
    rw [pn_def, pn_def] at a2
    omega
  unfold tw_sampleAt tw_sampleAt_0 pa_sampleAt
  simp only [px_get]
  rw [px_cal (tw_samplesKept_s h), pr_n h.1 32 (by decide)]
  show cx_ld M 8 665 (nI 281 + cx_rem (s.1 0 32 - cx_min 128 (s.1 0 32) + i) 128) _ = _
  rw [px_ld a0 (by omega), a2, show M 8 (281 + pn (cx_rem (s.1 0 32 - cx_min 128 (s.1 0 32) + i) 128)) = s.1 (ps_c (281 + pn (cx_rem (s.1 0 32 - cx_min 128 (s.1 0 32) + i) 128))) (ps_k (281 + pn (cx_rem (s.1 0 32 - cx_min 128 (s.1 0 32) + i) 128))) from h.1 _ (by omega), (ps_c_6 r2).1, (ps_c_6 r2).2]
theorem pa_I32 {E : ps_E} {S : ps_S} {T : Nat} (hI : ps_I E S T) : 0 ≤ (S 0 32).toInt ∧ (S 0 32).toInt ≤ 90000 := by
  have a := hI.1.1.2.2.2.2.2.2.2
  have b := hI.1.1.1
  omega
theorem tw_sample_s {N : Nat} {E : ps_E} {M : cx_M} {A : qA} {i : Int32} (hA : qAI E A) (h : qr_pre N E M A) :
    tw_ok N E A M (tw_sample N M i) (pa_sampleAt A.1.1 i) (if 0 ≤ i.toInt ∧ i.toInt < (cx_min 128 (A.1.1 0 32)).toInt then 0 else 1) := by
  obtain ⟨M1, e1, hA1, hc1, hF1⟩ := h
  obtain ⟨hE, ⟨⟨T, hT, hI, -⟩, -⟩, -⟩ := hA
  have h32 := pa_I32 hI
  obtain ⟨k0, k1, k2, k3⟩ := pa_kept h32.1
  unfold tw_sample tw_sample_0
  rw [px_cal e1, px_cal (tw_samplesKept_s hA1.1), px_cal tw_isIn_s, pi_64, k3]
  by_cases c : 0 ≤ i.toInt ∧ i.toInt < (cx_min 128 (A.1.1 0 32)).toInt
  · rw [if_pos (show (0 : Int64).toInt ≤ i.toInt ∧ i.toInt ≤ (cx_min 128 (A.1.1 0 32)).toInt - 1 from ⟨c.1, by omega⟩), if_neg (by decide), if_pos c, px_cal (tw_sampleAt_s hA1.1 h32 (by omega))]
    exact ⟨M1, _, rfl, hA1, hc1, fun _ => rfl, hF1⟩
  · rw [if_neg (show ¬ ((0 : Int64).toInt ≤ i.toInt ∧ i.toInt ≤ (cx_min 128 (A.1.1 0 32)).toInt - 1) from fun z => c ⟨z.1, by omega⟩), if_pos rfl, if_neg c]
    exact tw_fail1_ok hF1 hA1 (by decide)
/-! spans -/
def pa_gap (S : ps_S) (m : Nat) : Prop := ¬ m = 0 ∧ S 8 (pn (cx_rem (S 0 6 - nI m) 128)) = 1
def pa_gapD (S : ps_S) (m : Nat) : Decidable (pa_gap S m) := by unfold pa_gap; exact inferInstance
def pa_sp (S : ps_S) (l n : Int32) : Nat → Int32 → Int32 → Option Int32
  | 0, x3, _ => if n = -1 then some x3 else none
  | m + 1, x3, x4 => @ite (Option Int32) (pa_gap S m) (pa_gapD S m) (pa_sp S l n m x3 (x4 + 1)) (if x4 < l then pa_sp S l n m x3 0 else if x3 = n then some x4 else pa_sp S l n m (x3 + 1) 0)
def pa_spans (S : ps_S) (l n : Int32) : Option Int32 := pa_sp S l n (pn (cx_min 128 (S 0 6)) + 1) 0 0
theorem tw_spans_loop {N : Nat} {E : ps_E} {M M1 : cx_M} {A : qA} {l n : Int32} (hF1 : qr_F M M1) (hA1 : qr_A N E M1 A) (hc1 : M1 60 2 = 0) (h6 : (A.1.1 0 6).toInt ≤ 90000) : ∀ (m f : Nat) (x3 x4 : Int32), m ≤ 129 → (m : Int) ≤ (A.1.1 0 6).toInt + 1 → m < f →
    tw_ok N E A M (tw_spans_33 N f M1 l n x3 x4 (nI m - 1)) ((pa_sp A.1.1 l n m x3 x4).getD 0) (if (pa_sp A.1.1 l n m x3 x4).isSome then 0 else 1) := by
  have n6 : M1 8 6 = A.1.1 0 6 := pr_n hA1.1.1 6 (by decide)
  intro m
  induction m with
  | zero =>
    intro f x3 x4 hm hm2 hf
    obtain ⟨f, rfl⟩ : ∃ q, f = q + 1 := ⟨f - 1, by omega⟩
    show tw_ok N E A M (tw_spans_33b N (tw_spans_33 N f) M1 l n x3 x4 (nI 0 - 1)) _ _
    unfold tw_spans_33b pa_sp
    rw [if_pos (by decide)]
    by_cases c : n = -1
    · rw [if_pos c, if_pos c]
      exact ⟨M1, x3, rfl, hA1, hc1, fun _ => rfl, hF1⟩
    · rw [if_neg c, if_neg c]
      exact tw_fail1_ok hF1 hA1 (by decide)
  | succ m ih =>
    intro f x3 x4 hm hm2 hf
    obtain ⟨f, rfl⟩ : ∃ q, f = q + 1 := ⟨f - 1, by omega⟩
    have em : nI (m + 1) - 1 = nI m := nI_pr1 (by omega)
    have em2 : nI m + -1 = nI m - 1 := by
      have h1 : (1 : Int32).toInt = 1 := rfl
      have hm1 : (-1 : Int32).toInt = -1 := rfl
      have t := pi_nI (n := m) (by omega)
      rw [i32_eq, i32_add (by rw [t, hm1]; omega) (by rw [t, hm1]; omega), i32_sub (by rw [t, h1]; omega) (by rw [t, h1]; omega), hm1, h1]
      omega
    have t := pi_nI (n := m) (by omega)
    have d0 : ∀ x3 x4 z0, tw_spans_112 N (tw_spans_33 N f) M1 l n x3 x4 z0 = tw_spans_33 N f M1 l n x3 z0 (x4 - 1) ∨ True := fun _ _ _ => Or.inr trivial
    have d112 : ∀ y z0, tw_spans_112 N (tw_spans_33 N f) M1 l n y (nI m) z0 = tw_spans_33 N f M1 l n y z0 (nI m - 1) := by
      intro y z0
      unfold tw_spans_112
      simp only [px_let]
      rw [em2]
    have d75 : tw_ok N E A M (tw_spans_75 N (tw_spans_33 N f) M1 l n x3 x4 (nI m) 0) ((if x4 < l then pa_sp A.1.1 l n m x3 0 else if x3 = n then some x4 else pa_sp A.1.1 l n m (x3 + 1) 0).getD 0) (if (if x4 < l then pa_sp A.1.1 l n m x3 0 else if x3 = n then some x4 else pa_sp A.1.1 l n m (x3 + 1) 0).isSome then 0 else 1) := by
      unfold tw_spans_75
      rw [if_pos rfl]
      by_cases c1 : x4 < l
      · rw [if_pos c1, if_pos c1]
        unfold tw_spans_99
        rw [if_pos rfl, d112]
        exact ih f x3 0 (by omega) (by omega) (by omega)
      · rw [if_neg c1, if_neg c1]
        by_cases c2 : x3 = n
        · rw [if_pos c2, if_pos c2]
          exact ⟨M1, x4, rfl, hA1, hc1, fun _ => rfl, hF1⟩
        · rw [if_neg c2, if_neg c2]
          simp only [px_let]
          unfold tw_spans_99
          rw [if_pos rfl, d112]
          exact ih f (x3 + 1) 0 (by omega) (by omega) (by omega)
    have d75y : tw_spans_75 N (tw_spans_33 N f) M1 l n x3 x4 (nI m) 1 = tw_spans_33 N f M1 l n x3 (x4 + 1) (nI m - 1) := by
      unfold tw_spans_75
      rw [if_neg (by decide)]
      unfold tw_spans_99
      rw [if_neg (by decide), d112]
    show tw_ok N E A M (tw_spans_33b N (tw_spans_33 N f) M1 l n x3 x4 (nI (m + 1) - 1)) _ _
    rw [em]
    unfold tw_spans_33b pa_sp
    rw [if_neg (show ¬ nI m < 0 from fun z => by
      have := Int32.lt_iff_toInt_lt.mp z
      rw [t, pi_0] at this
      omega)]
    by_cases c0 : m = 0
    · have g0 : ¬ pa_gap A.1.1 m := fun z => z.1 c0
      rw [if_neg g0, if_pos (show nI m ≤ 0 from Int32.le_iff_toInt_le.mpr (by rw [t, pi_0]; omega))]
      exact d75
    · have h1 : (1 : Int32).toInt = 1 := rfl
      have e6 : (A.1.1 0 6 - nI m).toInt = (A.1.1 0 6).toInt - m := by rw [i32_sub (by omega) (by omega), t]
      obtain ⟨r0, r1, r2⟩ := pi_rp (x := A.1.1 0 6 - nI m) (by omega)
      obtain ⟨a0, a1, a2⟩ := pi_addk (k := 537) (x := cx_rem (A.1.1 0 6 - nI m) 128) (by omega) r0 (by omega)
      have a3 : (nI 537 + cx_rem (A.1.1 0 6 - nI m) 128).toInt < 665 := by
        rw [pn_def, pn_def] at a2
        omega
      rw [if_neg (show ¬ nI m ≤ 0 from fun z => by
        have := Int32.le_iff_toInt_le.mp z
        rw [t, pi_0] at this
        omega)]
      simp only [px_get]
      rw [n6]
      show tw_ok N E A M (cx_ld M1 8 665 (nI 537 + cx_rem (A.1.1 0 6 - nI m) 128) _) _ _
      rw [px_ld a0 (by omega), a2, show M1 8 (537 + pn (cx_rem (A.1.1 0 6 - nI m) 128)) = A.1.1 (ps_c (537 + pn (cx_rem (A.1.1 0 6 - nI m) 128))) (ps_k (537 + pn (cx_rem (A.1.1 0 6 - nI m) 128))) from hA1.1.1 _ (by omega), ps_c_8.1, ps_c_8.2]
      by_cases c1 : A.1.1 8 (pn (cx_rem (A.1.1 0 6 - nI m) 128)) = 1
      · have g1 : pa_gap A.1.1 m := ⟨c0, c1⟩
        rw [if_pos c1, if_pos g1, d75y]
        exact ih f x3 (x4 + 1) (by omega) (by omega) (by omega)
      · have g1 : ¬ pa_gap A.1.1 m := fun z => c1 z.2
        rw [if_neg c1, if_neg g1]
        exact d75
theorem tw_spans_s {N : Nat} {E : ps_E} {M : cx_M} {A : qA} {l n : Int32} (hN : 700 ≤ N) (hA : qAI E A) (h : qr_pre N E M A) :
    tw_ok N E A M (tw_spans N M l n) ((pa_spans A.1.1 l n).getD 0) (if 1 ≤ l.toInt ∧ l.toInt ≤ 128 then (if (pa_spans A.1.1 l n).isSome then 0 else 1) else 2) := by
  obtain ⟨M1, e1, hA1, hc1, hF1⟩ := h
  obtain ⟨hE, ⟨⟨T, hT, hI, -⟩, -⟩, -⟩ := hA
  have h6 : 0 ≤ (A.1.1 0 6).toInt ∧ (A.1.1 0 6).toInt ≤ 90000 := ⟨hI.1.1.2.2.2.1.1, by have := hI.1.1.2.2.2.1.2.1; have := hI.1.1.1.2.2.2.1; omega⟩
  have n6 : M1 8 6 = A.1.1 0 6 := pr_n hA1.1.1 6 (by decide)
  obtain ⟨k0, k1, k2, k3⟩ := pa_kept h6.1
  have kp : tw_playedKept N M1 = some (M1, cx_min 128 (A.1.1 0 6), 0) := by
    unfold tw_playedKept tw_playedKept_0
    simp only [px_get]
    rw [n6]
  unfold tw_spans tw_spans_0
  rw [px_cal e1, px_cal tw_isIn_s]
  by_cases c : 1 ≤ l.toInt ∧ l.toInt ≤ 128
  · rw [if_pos (show (1 : Int64).toInt ≤ l.toInt ∧ l.toInt ≤ (128 : Int64).toInt from c), if_neg (by decide), if_pos c, px_cal kp]
    have ek : cx_min 128 (A.1.1 0 6) = nI (pn (cx_min 128 (A.1.1 0 6)) + 1) - 1 := by rw [nI_pr1 (by rw [pn_def]; omega)]; exact pn_nI k0
    have := tw_spans_loop (l := l) (n := n) hF1 hA1 hc1 h6.2 (pn (cx_min 128 (A.1.1 0 6)) + 1) N 0 0 (by rw [pn_def]; omega) (by rw [pn_def]; omega) (by rw [pn_def]; omega)
    rw [← ek] at this
    exact this
  · rw [if_neg (show ¬ ((1 : Int64).toInt ≤ l.toInt ∧ l.toInt ≤ (128 : Int64).toInt) from c), if_pos rfl, if_neg c]
    exact tw_fail1_ok hF1 hA1 (by decide)
/-! wander -/
def pa_rg (S : ps_S) : Nat → Nat → Int32 → Int32 → Int32
  | 0, _, lo, hi => hi - lo
  | m + 1, i, lo, hi => pa_rg S m (i + 1) (cx_min lo (pa_sampleAt S (nI i))) (cx_max hi (pa_sampleAt S (nI i)))
def pa_wn (S : ps_S) (L : Nat) (a b : Int32) : Nat → Nat → Int32 → Int32
  | 0, _, best => best
  | m + 1, i, best => pa_wn S L a b m (i + 1) (cx_max best (pa_rg S L i a b))
def pa_wander (S : ps_S) (w : Int32) : Int32 :=
  if 2 ≤ cx_min 128 (S 0 32) then pa_wn S (pn (cx_min (cx_min 128 (S 0 32)) w)) 100000000 (-100000000) (pn (cx_min 128 (S 0 32)) + 1 - pn (cx_min (cx_min 128 (S 0 32)) w)) 0 0 else -1
theorem tw_rangeOf_loop {N : Nat} {E : ps_E} {M : cx_M} {s : ps_T} {k w : Nat} (h : pr_V N E M s) (h32 : 0 ≤ (s.1 0 32).toInt ∧ (s.1 0 32).toInt ≤ 90000) (hk : k + w ≤ 400) : ∀ (m i f : Nat) (lo hi : Int32), i + m = k + w → m < f →
    tw_rangeOf_12 N f M (nI k) (nI w) lo hi (nI i) = some (M, pa_rg s.1 m i lo hi, 0) := by
  have ek : nI k + nI w = nI (k + w) := by
    have t1 := pi_nI (n := k) (by omega)
    have t2 := pi_nI (n := w) (by omega)
    rw [i32_eq, i32_add (by omega) (by omega), t1, t2, pi_nI (by omega)]
    omega
  intro m
  induction m with
  | zero =>
    intro i f lo hi hi2 hf
    obtain ⟨f, rfl⟩ : ∃ q, f = q + 1 := ⟨f - 1, by omega⟩
    show tw_rangeOf_12b N (tw_rangeOf_12 N f) M (nI k) (nI w) lo hi (nI i) = _
    unfold tw_rangeOf_12b
    rw [ek, if_pos (nI_le (by omega) (by omega))]
    rfl
  | succ m ih =>
    intro i f lo hi hi2 hf
    obtain ⟨f, rfl⟩ : ∃ q, f = q + 1 := ⟨f - 1, by omega⟩
    have t := pi_nI (n := i) (by omega)
    have es := tw_sampleAt_s (i := nI i) h h32 (by omega)
    show tw_rangeOf_12b N (tw_rangeOf_12 N f) M (nI k) (nI w) lo hi (nI i) = _
    unfold tw_rangeOf_12b
    rw [ek, if_neg (nI_ge (by omega) (by omega)), px_cal es]
    simp only [px_let]
    rw [px_cal es, ← nI_succ]
    exact ih (i + 1) f _ _ (by omega) (by omega)
theorem tw_wander_loop {N : Nat} {E : ps_E} {M : cx_M} {s : ps_T} {K L : Nat} (hN : 700 ≤ N) (h : pr_V N E M s) (h32 : 0 ≤ (s.1 0 32).toInt ∧ (s.1 0 32).toInt ≤ 90000) (hK : K ≤ 128) (hL : L ≤ K) : ∀ (m i f : Nat) (best : Int32), i + L + m = K + 1 → m < f →
    tw_wander_48 N f M (nI K) (nI L) best (nI i) = some (M, pa_wn s.1 L 100000000 (-100000000) m i best, 0) := by
  intro m
  induction m with
  | zero =>
    intro i f best hi hf
    obtain ⟨f, rfl⟩ : ∃ q, f = q + 1 := ⟨f - 1, by omega⟩
    have ek : nI i + nI L = nI (i + L) := by
      have t1 := pi_nI (n := i) (by omega)
      have t2 := pi_nI (n := L) (by omega)
      rw [i32_eq, i32_add (by omega) (by omega), t1, t2, pi_nI (by omega)]
      omega
    show tw_wander_48b N (tw_wander_48 N f) M (nI K) (nI L) best (nI i) = _
    unfold tw_wander_48b
    rw [ek, if_pos (Int32.lt_iff_toInt_lt.mpr (by rw [pi_nI (by omega), pi_nI (by omega)]; omega))]
    rfl
  | succ m ih =>
    intro i f best hi hf
    obtain ⟨f, rfl⟩ : ∃ q, f = q + 1 := ⟨f - 1, by omega⟩
    have ek : nI i + nI L = nI (i + L) := by
      have t1 := pi_nI (n := i) (by omega)
      have t2 := pi_nI (n := L) (by omega)
      rw [i32_eq, i32_add (by omega) (by omega), t1, t2, pi_nI (by omega)]
      omega
    have er : tw_rangeOf N M (nI i) (nI L) = some (M, pa_rg s.1 L i 100000000 (-100000000), 0) := tw_rangeOf_loop h h32 (by omega) L i N 100000000 (-100000000) rfl (by omega)
    show tw_wander_48b N (tw_wander_48 N f) M (nI K) (nI L) best (nI i) = _
    unfold tw_wander_48b
    rw [ek, if_neg (fun z => by
      have := Int32.lt_iff_toInt_lt.mp z
      rw [pi_nI (by omega), pi_nI (by omega)] at this
      omega), px_cal er]
    simp only [px_let]
    rw [← nI_succ]
    exact ih (i + 1) f _ (by omega) (by omega)
theorem tw_wander_s {N : Nat} {E : ps_E} {M : cx_M} {A : qA} {w : Int32} (hN : 700 ≤ N) (hA : qAI E A) (h : qr_pre N E M A) :
    tw_ok N E A M (tw_wander N M w) (pa_wander A.1.1 w) (if 2 ≤ w.toInt ∧ w.toInt ≤ 128 then 0 else 1) := by
  obtain ⟨M1, e1, hA1, hc1, hF1⟩ := h
  obtain ⟨hE, ⟨⟨T, hT, hI, -⟩, -⟩, -⟩ := hA
  have h32 := pa_I32 hI
  obtain ⟨k0, k1, k2, k3⟩ := pa_kept h32.1
  unfold tw_wander tw_wander_0
  rw [px_cal e1, px_cal tw_isIn_s]
  by_cases c : 2 ≤ w.toInt ∧ w.toInt ≤ 128
  · rw [if_pos (show (2 : Int64).toInt ≤ w.toInt ∧ w.toInt ≤ (128 : Int64).toInt from c), if_neg (by decide), if_pos c, px_cal (tw_samplesKept_s hA1.1)]
    unfold pa_wander
    by_cases c2 : 2 ≤ cx_min 128 (A.1.1 0 32)
    · rw [if_pos c2, if_pos c2]
      simp only [px_let]
      have em := pi_min (x := cx_min 128 (A.1.1 0 32)) (y := w)
      have hK : cx_min 128 (A.1.1 0 32) = nI (pn (cx_min 128 (A.1.1 0 32))) := pn_nI k0
      have hL : cx_min (cx_min 128 (A.1.1 0 32)) w = nI (pn (cx_min (cx_min 128 (A.1.1 0 32)) w)) := pn_nI (by omega)
      have bL : pn (cx_min (cx_min 128 (A.1.1 0 32)) w) ≤ pn (cx_min 128 (A.1.1 0 32)) := by rw [pn_def, pn_def]; omega
      have bK : pn (cx_min 128 (A.1.1 0 32)) ≤ 128 := by rw [pn_def]; omega
      have er := tw_wander_loop (K := pn (cx_min 128 (A.1.1 0 32))) (L := pn (cx_min (cx_min 128 (A.1.1 0 32)) w)) hN hA1.1 h32 bK bL (pn (cx_min 128 (A.1.1 0 32)) + 1 - pn (cx_min (cx_min 128 (A.1.1 0 32)) w)) 0 N 0 (by omega) (by omega)
      rw [← hK, ← hL] at er
      exact ⟨M1, _, er, hA1, hc1, fun _ => rfl, hF1⟩
    · rw [if_neg c2, if_neg c2]
      exact ⟨M1, _, rfl, hA1, hc1, fun _ => rfl, hF1⟩
  · rw [if_neg (show ¬ ((2 : Int64).toInt ≤ w.toInt ∧ w.toInt ≤ (128 : Int64).toInt) from c), if_pos rfl, if_neg c]
    exact tw_fail1_ok hF1 hA1 (by decide)
