/-! other, look: the reference -/
theorem tw_tellFits_s {N : Nat} {E : ps_E} {A : qA} {T : Nat} {M : cx_M} (hN : 700 ≤ N) (hE : ps_EO E) (hI : ps_I E A.1.1 T) (hT : T ≤ 20000) (hL : A.1.2.2.1.length ≤ 8) (h : qr_A N E M A) (h2 : M 60 2 = 0) :
    ∃ M', tw_tellFits N M = some (M', 0, 0) ∧ qr_T N E M' A (A.1.1, []) ∧ M' 60 42 = nI (pa_fits E A.1.1 A.1.2.2.1 199 0).length ∧ (∀ j v, (pa_fits E A.1.1 A.1.2.2.1 199 0)[j]? = some v → M' 40 j = v ∧ ∀ i, i < 5 → M' 41 (5 * j + i) = pa_ten E (pa_go A.1.1 v) i) ∧ qr_F M M' := by
  have c2 : cx_up M 60 42 0 60 2 = 0 := by rw [px_up, if_neg (by decide)]; exact h2
  obtain ⟨M2, e2, t2, hF2, ho2⟩ := qr_T.remember hN (h.put 42 0 (by decide)) c2
  have h42 : M2 60 42 = nI 0 := by rw [ho2 60 (by decide), px_up, if_pos ⟨rfl, rfl⟩]; rfl
  obtain ⟨M3, e3, a3, b3, c3, d3⟩ := tw_tellFits_loop hN hE hI hT hL 199 0 N M2 [] (by omega) (by simp) t2 h42 (fun j v hj => by cases hj) (by omega)
  refine ⟨M3, ?_, a3, b3, c3, ((qr_F.up (by decide)).tr hF2).tr d3⟩
  unfold tw_tellFits tw_tellFits_0
  simp only [px_put]
  rw [px_cal e2]
  simp only [px_get]
  rw [pr_n t2.1.1 27 (by decide)]
  exact e3
def pa_news (f : Nat → Int32) (k : Nat) : Prop := ∀ m, m < k → f m ≠ f k
noncomputable def pa_cnt (f : Nat → Int32) : Nat → Nat
  | 0 => 0
  | n + 1 => pa_cnt f n + @ite Nat (pa_news f n) (Classical.propDecidable _) 1 0
theorem pa_cnt_congr {f g : Nat → Int32} : ∀ n, (∀ j, j < n → f j = g j) → pa_cnt f n = pa_cnt g n
  | 0, _ => rfl
  | n + 1, h => by
    have e : pa_news f n ↔ pa_news g n := by
      unfold pa_news
      rw [h n (by omega)]
      exact ⟨fun z m hm => by rw [← h m (by omega)]; exact z m hm, fun z m hm => by rw [h m (by omega)]; exact z m hm⟩
    show pa_cnt f n + _ = pa_cnt g n + _
    rw [pa_cnt_congr n (fun j hj => h j (by omega))]
    by_cases c : pa_news f n
    · rw [if_pos c, if_pos (e.mp c)]
    · rw [if_neg c, if_neg (fun z => c (e.mpr z))]
theorem pa_cnt_le (f : Nat → Int32) : ∀ n, pa_cnt f n ≤ n
  | 0 => Nat.le_refl _
  | n + 1 => by
    have := pa_cnt_le f n
    show pa_cnt f n + _ ≤ n + 1
    split <;> omega
theorem pi_5k {x y : Int32} {a b : Nat} (hx : x.toInt = a) (hy : y.toInt = b) (ha : a < 2000) (hb : b < 10) : 0 ≤ ((5 : Int32) * x + y).toInt ∧ ((5 : Int32) * x + y).toInt = 5 * a + b ∧ pn ((5 : Int32) * x + y) = 5 * a + b := by
  have h5 : (5 : Int32).toInt = 5 := rfl
  have e1 : ((5 : Int32) * x).toInt = 5 * a := by rw [pi_mul (by rw [h5]; omega) (by rw [h5]; omega), h5, hx]
  have e2 : ((5 : Int32) * x + y).toInt = 5 * a + b := by rw [i32_add (by omega) (by omega), e1, hy]
  refine ⟨by omega, e2, by rw [pn_def, e2]; omega⟩
theorem tw_unlike_inner {N : Nat} {M : cx_M} {r_4 : cx_M → Int32 → Int32 → Int32 → Option cx_R} {i k : Nat} {x2 : Int32} (hi : i < 5) (hk : k < 199) : ∀ (m j f : Nat) (z : Prop), j + m = k → m < f →
    tw_unlikeAt_18 N r_4 f M (nI i) x2 (nI k) (pa_b z) (nI j) = tw_unlikeAt_66 N r_4 M (nI i) x2 (nI k) (pa_b (z ∧ ∀ d, j ≤ d → d < k → M 41 (5 * d + i) ≠ M 41 (5 * k + i))) := by
  intro m
  induction m with
  | zero =>
    intro j f z hj hf
    obtain ⟨f, rfl⟩ : ∃ q, f = q + 1 := ⟨f - 1, by omega⟩
    rw [pa_b_c (show (z ∧ ∀ d, j ≤ d → d < k → M 41 (5 * d + i) ≠ M 41 (5 * k + i)) ↔ z from ⟨fun y => y.1, fun y => ⟨y, fun d a b => by omega⟩⟩)]
    show tw_unlikeAt_18b N r_4 (tw_unlikeAt_18 N r_4 f) M (nI i) x2 (nI k) (pa_b z) (nI j) = _
    unfold tw_unlikeAt_18b
    rw [if_pos (nI_le (by omega) (by omega))]
  | succ m ih =>
    intro j f z hj hf
    obtain ⟨f, rfl⟩ : ∃ q, f = q + 1 := ⟨f - 1, by omega⟩
    show tw_unlikeAt_18b N r_4 (tw_unlikeAt_18 N r_4 f) M (nI i) x2 (nI k) (pa_b z) (nI j) = _
    unfold tw_unlikeAt_18b
    rw [if_neg (nI_ge (by omega) (by omega))]
    by_cases cz : z
    · obtain ⟨a0, a1, a2⟩ := pi_5k (x := nI j) (y := nI i) (pi_nI (by omega)) (pi_nI (by omega)) (show j < 2000 by omega) (by omega)
      obtain ⟨b0, b1, b2⟩ := pi_5k (x := nI k) (y := nI i) (pi_nI (by omega)) (pi_nI (by omega)) (show k < 2000 by omega) (by omega)
      rw [pa_b_t cz, if_neg (by decide), px_ld a0 (by omega), px_ld b0 (by omega), a2, b2]
      unfold tw_unlikeAt_58
      simp only [px_let]
      rw [← nI_succ]
      by_cases ce : M 41 (5 * j + i) = M 41 (5 * k + i)
      · rw [if_pos ce, show (0 : Int32) = pa_b False from (pa_b_f (fun y => y)).symm, ih (j + 1) f False (by omega) (by omega)]
        congr 1
        apply pa_b_c
        exact ⟨fun y => y.1.elim, fun y => absurd ce (y.2 j (Nat.le_refl _) (by omega))⟩
      · rw [if_neg ce, show (1 : Int32) = pa_b True from (pa_b_t trivial).symm, ih (j + 1) f True (by omega) (by omega)]
        congr 1
        apply pa_b_c
        refine ⟨fun y => ⟨cz, fun d hd hd2 => ?_⟩, fun y => ⟨trivial, fun d hd hd2 => y.2 d (by omega) hd2⟩⟩
        by_cases e : d = j
        · rw [e]; exact ce
        · exact y.2 d (by omega) hd2
    · rw [pa_b_f cz, if_pos rfl, pa_b_f (fun y => cz y.1)]
theorem tw_unlike_s {N : Nat} {M : cx_M} {i z : Nat} (hN : 700 ≤ N) (hi : i < 5) (hz : z ≤ 199) (h42 : M 60 42 = nI z) : tw_unlikeAt N M (nI i) = some (M, nI (pa_cnt (fun j => M 41 (5 * j + i)) z), 0) := by
  have loop : ∀ (m k f : Nat), k + m = z → m < f → tw_unlikeAt_4 N f M (nI i) (nI (pa_cnt (fun j => M 41 (5 * j + i)) k)) (nI k) = some (M, nI (pa_cnt (fun j => M 41 (5 * j + i)) z), 0) := by
    intro m
    induction m with
    | zero =>
      intro k f hk hf
      obtain ⟨f, rfl⟩ : ∃ q, f = q + 1 := ⟨f - 1, by omega⟩
      show tw_unlikeAt_4b N (tw_unlikeAt_4 N f) M (nI i) _ (nI k) = _
      unfold tw_unlikeAt_4b
      simp only [px_get]
      rw [h42, if_pos (nI_le (by omega) (by omega)), show k = z by omega]
    | succ m ih =>
      intro k f hk hf
      obtain ⟨f, rfl⟩ : ∃ q, f = q + 1 := ⟨f - 1, by omega⟩
      have h2 := ih (k + 1) f (by omega) (by omega)
      show tw_unlikeAt_4b N (tw_unlikeAt_4 N f) M (nI i) _ (nI k) = _
      unfold tw_unlikeAt_4b
      simp only [px_get]
      rw [h42, if_neg (nI_ge (by omega) (by omega)), show (1 : Int32) = pa_b True from (pa_b_t trivial).symm, show (0 : Int32) = nI 0 from rfl, tw_unlike_inner hi (by omega) k 0 N True (by omega) (by omega)]
      have hn : (True ∧ ∀ d, 0 ≤ d → d < k → M 41 (5 * d + i) ≠ M 41 (5 * k + i)) ↔ pa_news (fun j => M 41 (5 * j + i)) k := ⟨fun y m hm => y.2 m (Nat.zero_le _) hm, fun y => ⟨trivial, fun d _ hd => y d hd⟩⟩
      rw [pa_b_c hn]
      unfold tw_unlikeAt_66 tw_unlikeAt_77
      simp only [px_let]
      have hs : pa_cnt (fun j => M 41 (5 * j + i)) (k + 1) = pa_cnt (fun j => M 41 (5 * j + i)) k + @ite Nat (pa_news (fun j => M 41 (5 * j + i)) k) (Classical.propDecidable _) 1 0 := rfl
      rw [hs] at h2
      by_cases c : pa_news (fun j => M 41 (5 * j + i)) k
      · rw [if_pos c, nI_succ] at h2
        rw [pa_b_t c, if_neg (by decide), ← nI_succ k]
        exact h2
      · rw [if_neg c, Nat.add_zero] at h2
        rw [pa_b_f c, if_pos rfl, ← nI_succ k, pi_add0]
        exact h2
  exact loop z 0 N (by omega) (by omega)
def pa_lk (c : Nat → Int32) : Nat → Nat → Int32 × Int32 → Int32 × Int32
  | 0, _, x => x
  | m + 1, i, x => pa_lk c m (i + 1) (if x.2 < c i then (nI (10 * (i + 1)), c i) else x)
noncomputable def pa_lkc (E : ps_E) (S : ps_S) (L : List (Int32 × Int32)) (i : Nat) : Int32 := nI (pa_cnt (fun j => pa_ten E (pa_go S ((pa_fits E S L 199 0).getD j 0)) i) (pa_fits E S L 199 0).length)
noncomputable def pa_look2 (E : ps_E) (S : ps_S) (L : List (Int32 × Int32)) (w : Int32) : Int32 :=
  if w = 0 then (pa_lk (pa_lkc E S L) 5 0 (-1, 0)).1 else (pa_lk (pa_lkc E S L) 5 0 (-1, 0)).2
noncomputable def pa_other (E : ps_E) (S : ps_S) (L : List (Int32 × Int32)) (w : Int32) : Int32 :=
  if w = 2 then pa_b (pa_ntd E S L) else if w = 0 then nI (pa_fits E S L 199 0).length else (pa_fits E S L 199 0).getD 0 100
theorem pa_lk_congr {c d : Nat → Int32} : ∀ m i x, (∀ j, i ≤ j → j < i + m → c j = d j) → pa_lk c m i x = pa_lk d m i x
  | 0, _, _, _ => rfl
  | m + 1, i, x, h => by
    show pa_lk c m (i + 1) _ = pa_lk d m (i + 1) _
    rw [h i (Nat.le_refl _) (by omega), pa_lk_congr m (i + 1) _ (fun j a b => h j (by omega) (by omega))]
theorem tw_look_loop {N : Nat} {M : cx_M} {z : Nat} {w : Int32} (hN : 700 ≤ N) (hz : z ≤ 199) (h42 : M 60 42 = nI z) : ∀ (m i f : Nat) (x : Int32 × Int32), i + m = 5 → m < f →
    tw_look_31 N f M w x.1 x.2 (nI i) = some (M, if w = 0 then (pa_lk (fun i => nI (pa_cnt (fun j => M 41 (5 * j + i)) z)) m i x).1 else (pa_lk (fun i => nI (pa_cnt (fun j => M 41 (5 * j + i)) z)) m i x).2, 0) := by
  intro m
  induction m with
  | zero =>
    intro i f x hi hf
    obtain ⟨f, rfl⟩ : ∃ q, f = q + 1 := ⟨f - 1, by omega⟩
    show tw_look_31b N (tw_look_31 N f) M w x.1 x.2 (nI i) = _
    unfold tw_look_31b
    rw [if_pos (show (5 : Int32) ≤ nI i from nI_le (a := 5) (by omega) (by omega))]
    unfold pa_lk
    split <;> rfl
  | succ m ih =>
    intro i f x hi hf
    obtain ⟨f, rfl⟩ : ∃ q, f = q + 1 := ⟨f - 1, by omega⟩
    have e10 : (10 : Int32) * (nI i + 1) = nI (10 * (i + 1)) := by
      have h10 : (10 : Int32).toInt = 10 := rfl
      rw [← nI_succ, i32_eq, pi_mul (by rw [h10, pi_nI (by omega)]; omega) (by rw [h10, pi_nI (by omega)]; omega), h10, pi_nI (by omega), pi_nI (by omega)]
      omega
    show tw_look_31b N (tw_look_31 N f) M w x.1 x.2 (nI i) = _
    unfold tw_look_31b tw_look_65 pa_lk
    rw [if_neg (show ¬ (5 : Int32) ≤ nI i from nI_ge (a := i) (b := 5) (by omega) (by omega)), px_cal (tw_unlike_s hN (by omega) hz h42)]
    simp only [px_let]
    rw [e10, ← nI_succ]
    by_cases c : x.2 < nI (pa_cnt (fun j => M 41 (5 * j + i)) z)
    · rw [if_pos c, if_pos c]
      exact ih (i + 1) f (nI (10 * (i + 1)), nI (pa_cnt (fun j => M 41 (5 * j + i)) z)) (by omega) (by omega)
    · rw [if_neg c, if_neg c]
      exact ih (i + 1) f x (by omega) (by omega)
theorem pa_lkc_eq {E : ps_E} {S : ps_S} {F : List Int32} {M : cx_M} (gf : ∀ j v, F[j]? = some v → ∀ i, i < 5 → M 41 (5 * j + i) = pa_ten E (pa_go S v) i) {i : Nat} (hi : i < 5) : nI (pa_cnt (fun j => M 41 (5 * j + i)) F.length) = nI (pa_cnt (fun j => pa_ten E (pa_go S (F.getD j 0)) i) F.length) := by
  refine congrArg nI ?_
  apply pa_cnt_congr
  intro j hj
  have hx : F[j]? = some (F.getD j 0) := by
    rw [List.getD_eq_getElem?_getD, List.getElem?_eq_getElem hj]
    rfl
  exact gf j _ hx i hi
theorem tw_look_s {N : Nat} {E : ps_E} {M : cx_M} {A : qA} {w : Int32} (hN : 700 ≤ N) (hA : qAI E A) (h : qr_pre N E M A) :
    tw_ok N E A M (tw_look N M w) (pa_look2 E A.1.1 A.1.2.2.1 w) (if 0 ≤ w.toInt ∧ w.toInt ≤ 1 then 0 else 1) := by
  obtain ⟨M1, e1, hA1, hc1, hF1⟩ := h
  obtain ⟨hE, ⟨⟨T, hT, hI, -⟩, -, -, hL⟩, -⟩ := hA
  unfold tw_ok tw_look tw_look_0
  rw [px_cal e1, px_cal tw_isIn_s]
  by_cases cw : 0 ≤ w.toInt ∧ w.toInt ≤ 1
  · rw [if_pos (show (0 : Int64).toInt ≤ w.toInt ∧ w.toInt ≤ (1 : Int64).toInt from cw), if_neg (by decide), if_pos cw]
    obtain ⟨M2, e2, h2, g42, gf, hF2⟩ := tw_tellFits_s hN hE hI hT hL hA1 hc1
    have hlen := pa_fits_len (E := E) (S := A.1.1) (L := A.1.2.2.1) 199 0
    rw [px_cal e2]
    have e3 := tw_look_loop (w := w) hN hlen g42 5 0 N (-1, 0) (by omega) (by omega)
    refine ⟨M2, _, e3, h2.end, h2.2.2.2, fun _ => ?_, hF1.tr hF2⟩
    unfold pa_look2
    have hcg : ∀ j, 0 ≤ j → j < 0 + 5 → (fun i => nI (pa_cnt (fun j => M2 41 (5 * j + i)) (pa_fits E A.1.1 A.1.2.2.1 199 0).length)) j = pa_lkc E A.1.1 A.1.2.2.1 j := fun i _ hi => pa_lkc_eq (fun j v hv => (gf j v hv).2) (by omega)
    rw [pa_lk_congr 5 0 (-1, 0) hcg]
  · rw [if_neg (show ¬ ((0 : Int64).toInt ≤ w.toInt ∧ w.toInt ≤ (1 : Int64).toInt) from cw), if_pos rfl, if_neg cw]
    obtain ⟨M2, e2, hA2, hc2, hF2⟩ := tw_fail_s (x := 1) hA1
    rw [px_cal e2]
    exact ⟨M2, 0, rfl, hA2, hc2, fun z => absurd z (by decide), hF1.tr hF2⟩
theorem tw_other_s {N : Nat} {E : ps_E} {M : cx_M} {A : qA} {w : Int32} (hN : 700 ≤ N) (hA : qAI E A) (h : qr_pre N E M A) :
    tw_ok N E A M (tw_other N M w) (pa_other E A.1.1 A.1.2.2.1 w) (if 0 ≤ w.toInt ∧ w.toInt ≤ 2 then 0 else 1) := by
  obtain ⟨M1, e1, hA1, hc1, hF1⟩ := h
  obtain ⟨hE, ⟨⟨T, hT, hI, -⟩, -, -, hL⟩, -⟩ := hA
  unfold tw_ok tw_other tw_other_0
  rw [px_cal e1, px_cal tw_isIn_s]
  by_cases cw : 0 ≤ w.toInt ∧ w.toInt ≤ 2
  · rw [if_pos (show (0 : Int64).toInt ≤ w.toInt ∧ w.toInt ≤ (2 : Int64).toInt from cw), if_neg (by decide), if_pos cw]
    unfold pa_other
    by_cases w2 : w = 2
    · rw [if_pos w2, if_pos w2]
      obtain ⟨M2, e2, h2, hF2, -⟩ := qr_T.remember hN hA1 hc1
      obtain ⟨M3, e3, h3, -, -, -, -, hF3⟩ := tw_isAsNoted_s (pl := 0) hN hE hI hT hL (by omega) rfl rfl h2
      rw [px_cal e2, px_cal (show tw_isAsNoted N M2 0 = _ from e3)]
      by_cases c : pa_ntd E A.1.1 A.1.2.2.1
      · rw [pa_b_t c, if_neg (by decide)]
        exact ⟨M3, 1, rfl, h3.end, h3.2.2.2, fun _ => rfl, (hF1.tr hF2).tr hF3⟩
      · rw [pa_b_f c, if_pos rfl]
        exact ⟨M3, 0, rfl, h3.end, h3.2.2.2, fun _ => rfl, (hF1.tr hF2).tr hF3⟩
    · rw [if_neg w2, if_neg w2]
      obtain ⟨M2, e2, h2, g42, gf, hF2⟩ := tw_tellFits_s hN hE hI hT hL hA1 hc1
      rw [px_cal e2]
      simp only [px_get]
      rw [g42]
      by_cases w0 : w = 0
      · rw [if_pos w0, if_pos w0]
        exact ⟨M2, _, rfl, h2.end, h2.2.2.2, fun _ => rfl, hF1.tr hF2⟩
      · rw [if_neg w0, if_neg w0]
        have hlen := pa_fits_len (E := E) (S := A.1.1) (L := A.1.2.2.1) 199 0
        cases hf : pa_fits E A.1.1 A.1.2.2.1 199 0 with
        | nil =>
          rw [if_pos (show nI ([] : List Int32).length = 0 from rfl)]
          exact ⟨M2, _, rfl, h2.end, h2.2.2.2, fun _ => rfl, hF1.tr hF2⟩
        | cons v l =>
          rw [hf] at hlen
          rw [if_neg (nI_ne0 (by rw [List.length_cons]; omega) (by omega))]
          exact ⟨M2, _, rfl, h2.end, h2.2.2.2, fun _ => (gf 0 v (by rw [hf]; rfl)).1, hF1.tr hF2⟩
  · rw [if_neg (show ¬ ((0 : Int64).toInt ≤ w.toInt ∧ w.toInt ≤ (2 : Int64).toInt) from cw), if_pos rfl, if_neg cw]
    obtain ⟨M2, e2, hA2, hc2, hF2⟩ := tw_fail_s (x := 1) hA1
    rw [px_cal e2]
    exact ⟨M2, 0, rfl, hA2, hc2, fun z => absurd z (by decide), hF1.tr hF2⟩
