/-! toGain -/
def pa_gS (S : ps_S) (p i : Int32) : ps_S := cx_up (cx_up S 0 33 p) 0 34 i
def pa_most (E : ps_E) : Nat → ps_T → Int32 → Int32
  | 0, _, far => far
  | m + 1, s, far => pa_most E m (ps_step E s) (if (ps_step E s).1 0 8 = 2 then cx_max far (pa_off E (ps_step E s).1) else far)
def pa_gain (E : ps_E) (S : ps_S) (n p i : Nat) : Int32 := pa_most E n (pa_gS S (nI p) (nI i), []) (-1)
def pa_tb (k v : Int32) (x : Int32 × Int32) : Int32 × Int32 := if v = -1 ∨ (x.1 ≠ -1 ∧ ¬ v < x.2) then x else (k, v)
def pa_gi (E : ps_E) (S : ps_S) (n p : Nat) : Nat → Nat → Int32 × Int32 → Int32 × Int32
  | 0, _, x => x
  | m + 1, i, x => pa_gi E S n p m (i + 1) (pa_tb (nI (10 * p + i)) (pa_gain E S n p i) x)
def pa_gp (E : ps_E) (S : ps_S) (n : Nat) : Nat → Nat → Int32 × Int32 → Int32 × Int32
  | 0, _, x => x
  | m + 1, p, x => pa_gp E S n m (p + 1) (pa_gi E S n p 4 0 x)
def pa_toGain (E : ps_E) (S : ps_S) (n : Nat) (w : Int32) : Int32 :=
  let x := pa_gp E S n 10 0 (-1, -1)
  if w = 0 then x.1 else x.2
theorem pa_gS_33 {S : ps_S} {p i : Int32} : pa_gS S p i 0 33 = p := by unfold pa_gS; rw [px_up, if_neg (by decide), px_up, if_pos ⟨rfl, rfl⟩]
theorem pa_gS_34 {S : ps_S} {p i : Int32} : pa_gS S p i 0 34 = i := by unfold pa_gS; rw [px_up, if_pos ⟨rfl, rfl⟩]
theorem ps_I_gain {E : ps_E} {S : ps_S} {T : Nat} {p i : Int32} (hI : ps_I E S T) : ps_I E (pa_gS S p i) T := qI_up29 (qI_up29 hI (by decide) (by decide) (by decide)) (by decide) (by decide) (by decide)
theorem qr_T.gain {N : Nat} {E : ps_E} {M : cx_M} {A : qA} {s : ps_T} (h : qr_T N E M A s) (k : Nat) (v : Int32) (hk : k = 24 ∨ k = 25) : qr_T N E (cx_up M 60 k v) A (cx_up s.1 0 (k + 9) v, s.2) := by
  have ne : ∀ j, j ≠ k → cx_up M 60 k v 60 j = M 60 j := fun j hj => by rw [px_up, if_neg (fun z => hj z.2)]
  obtain ⟨⟨h1, h2, h3, h4⟩, hR, hr, h60⟩ := h
  refine ⟨⟨?_, ?_, h3.fr (fun c hc => px_upc (fun e => by rw [e] at hc; revert hc; decide)), ?_⟩, by rw [px_upc (by decide)]; exact hR, hr.fr (fun c hc => px_upc (fun e => by rw [e] at hc; revert hc; decide)) (fun j hj => ne j (fun e => by subst e; rcases hk with rfl | rfl <;> revert hj <;> decide)), by rw [ne 2 (by omega)]; exact h60⟩
  · rw [px_upc (by decide)]
    exact h1.free (k + 9) v (by omega)
  · show cx_up M 60 k v 60 24 = cx_up s.1 0 (k + 9) v 0 33 ∧ cx_up M 60 k v 60 25 = cx_up s.1 0 (k + 9) v 0 34
    rcases hk with rfl | rfl
    · refine ⟨?_, ?_⟩
      · rw [px_up, if_pos ⟨rfl, rfl⟩, px_up, if_pos ⟨rfl, rfl⟩]
      · rw [px_up, if_neg (show ¬ ((60 : Nat) = 60 ∧ 25 = 24) by decide), px_up, if_neg (show ¬ ((0 : Nat) = 0 ∧ 34 = 24 + 9) by decide)]
        exact h2.2
    · refine ⟨?_, ?_⟩
      · rw [px_up, if_neg (show ¬ ((60 : Nat) = 60 ∧ 24 = 25) by decide), px_up, if_neg (show ¬ ((0 : Nat) = 0 ∧ 33 = 25 + 9) by decide)]
        exact h2.1
      · rw [px_up, if_pos ⟨rfl, rfl⟩, px_up, if_pos ⟨rfl, rfl⟩]
  · unfold pr_Q at h4 ⊢
    rw [ne 29 (by omega), ne 30 (by omega)]
    exact h4
theorem tw_farOff_s {N : Nat} {E : ps_E} {A : qA} {T z : Nat} {S0 : ps_S} (hN : 700 ≤ N) (hE : ps_EO E) (hT : T ≤ 20000) (hz : z ≤ 400) (hS0 : ∃ p i, S0 = pa_gS A.1.1 p i) : ∀ (m k f : Nat) (M : cx_M) (s : ps_T) (far : Int32), k + m = z → qr_T N E M A s → s.2 = [] → ps_I E s.1 (T + k) → s.1 0 33 = S0 0 33 → s.1 0 34 = S0 0 34 → m < f →
    ∃ M', tw_farOff_4 N f M (nI z) far (nI k) = some (M', pa_most E m s far, 0) ∧ qr_T N E M' A (S0, []) ∧ qr_F M M' ∧ ∀ j, j ≠ 29 → M' 60 j = M 60 j := by
  intro m
  induction m with
  | zero =>
    intro k f M s far hk h hq hI h33 h34 hf
    obtain ⟨f, rfl⟩ : ∃ j, f = j + 1 := ⟨f - 1, by omega⟩
    obtain ⟨p, i, eS⟩ := hS0
    obtain ⟨M1, e1, hV1, ho1⟩ := tw_back_s (S0 := S0) hN h.1 (by rw [eS]; exact (h.2.1.free 33 p (by decide)).free 34 i (by decide)) h33.symm h34.symm far
    rw [hq] at hV1
    refine ⟨M1, ?_, ⟨hV1, by rw [ho1 34 (by decide)]; exact h.2.1, h.2.2.1.fr (fun c hc => ho1 c (fun e => by rw [e] at hc; revert hc; decide)) (fun k _ => by rw [ho1 60 (by decide)]), by rw [ho1 60 (by decide)]; exact h.2.2.2⟩, fun c hc => ho1 c (by omega), fun j _ => by rw [ho1 60 (by decide)]⟩
    show tw_farOff_4b N (tw_farOff_4 N f) M (nI z) far (nI k) = _
    unfold tw_farOff_4b
    rw [if_pos (nI_le (by omega) (by omega)), px_cal e1]
    rfl
  | succ m ih =>
    intro k f M s far hk h hq hI h33 h34 hf
    obtain ⟨f, rfl⟩ : ∃ j, f = j + 1 := ⟨f - 1, by omega⟩
    obtain ⟨M1, e1, h1, hF1⟩ := h.step (T := T + k) hN hE hI (by omega)
    have hI1 : ps_I E (ps_step E s).1 (T + (k + 1)) := ps_step_I (T := T + k) hE hI (by omega)
    have q1 : (ps_step E s).2 = [] := ps_step_q hq
    have g33 : (ps_step E s).1 0 33 = S0 0 33 := by rw [ps_step_0 (by decide)]; exact h33
    have g34 : (ps_step E s).1 0 34 = S0 0 34 := by rw [ps_step_0 (by decide)]; exact h34
    show ∃ M', tw_farOff_4b N (tw_farOff_4 N f) M (nI z) far (nI k) = some (M', pa_most E m (ps_step E s) (if (ps_step E s).1 0 8 = 2 then cx_max far (pa_off E (ps_step E s).1) else far), 0) ∧ _
    generalize ps_step E s = t at h1 hI1 q1 g33 g34 ⊢
    unfold tw_farOff_4b tw_farOff_44
    rw [if_neg (nI_ge (by omega) (by omega)), px_cal e1]
    simp only [px_get, px_let]
    rw [pr_n h1.1.1 8 (by decide), ← nI_succ]
    by_cases c : t.1 0 8 = 2
    · rw [if_pos c, if_pos c, px_cal (tw_level_s (by omega) hE h1.1), pr_n h1.1.1 29 (by decide)]
      obtain ⟨M2, e2, h2, hF2, hj2⟩ := ih (k + 1) f M1 t (cx_max far (pa_off E t.1)) (by omega) h1 q1 hI1 g33 g34 (by omega)
      exact ⟨M2, e2, h2, hF1.q.tr hF2, fun j hj => by rw [hj2 j hj, hF1.2 j hj]⟩
    · rw [if_neg c, if_neg c]
      obtain ⟨M2, e2, h2, hF2, hj2⟩ := ih (k + 1) f M1 t far (by omega) h1 q1 hI1 g33 g34 (by omega)
      exact ⟨M2, e2, h2, hF1.q.tr hF2, fun j hj => by rw [hj2 j hj, hF1.2 j hj]⟩
theorem tw_tryBest_u {N : Nat} {E : ps_E} {M : cx_M} {A : qA} {s : ps_T} {k v : Int32} (h : qr_T N E M A s) (x : Int32 × Int32) (h36 : M 60 36 = x.1) (h37 : M 60 37 = x.2) : ∃ M', tw_tryBest N M k v = some (M', 0, 0) ∧ qr_T N E M' A s ∧ M' 60 36 = (pa_tb k v x).1 ∧ M' 60 37 = (pa_tb k v x).2 ∧ qr_F M M' ∧ (∀ j, j ≠ 36 → j ≠ 37 → M' 60 j = M 60 j) ∧ ∀ c, c ≠ 60 → M' c = M c := by
  have set : ∃ M', tw_tryBest_22 N M k v = some (M', 0, 0) ∧ qr_T N E M' A s ∧ M' 60 36 = k ∧ M' 60 37 = v ∧ qr_F M M' ∧ (∀ j, j ≠ 36 → j ≠ 37 → M' 60 j = M 60 j) ∧ ∀ c, c ≠ 60 → M' c = M c := by
    refine ⟨cx_up (cx_up M 60 36 k) 60 37 v, rfl, (h.put 36 k (by decide)).put 37 v (by decide), ?_, ?_, (qr_F.up (by decide)).tr (qr_F.up (by decide)), fun j a b => ?_, fun c hc => ?_⟩
    · rw [px_up, if_neg (by decide), px_up, if_pos ⟨rfl, rfl⟩]
    · rw [px_up, if_pos ⟨rfl, rfl⟩]
    · rw [px_up, if_neg (fun z => b z.2), px_up, if_neg (fun z => a z.2)]
    · rw [px_upc hc, px_upc hc]
  have keep : ∃ M', some (M, 0, 0) = some (M', (0 : Int32), 0) ∧ qr_T N E M' A s ∧ M' 60 36 = x.1 ∧ M' 60 37 = x.2 ∧ qr_F M M' ∧ (∀ j, j ≠ 36 → j ≠ 37 → M' 60 j = M 60 j) ∧ ∀ c, c ≠ 60 → M' c = M c :=
    ⟨M, rfl, h, h36, h37, qr_F.rf, fun _ _ _ => rfl, fun _ _ => rfl⟩
  unfold tw_tryBest tw_tryBest_0 pa_tb
  simp only [px_get]
  rw [h36, h37]
  by_cases c1 : v = -1
  · rw [if_pos c1, if_pos (Or.inl c1)]
    exact keep
  · rw [if_neg c1]
    by_cases c2 : x.1 = -1
    · rw [if_pos c2, if_neg (fun z => z.elim c1 (fun y => y.1 c2))]
      exact set
    · rw [if_neg c2]
      by_cases c3 : v < x.2
      · rw [if_pos c3, if_neg (show ¬ (v = -1 ∨ (x.1 ≠ -1 ∧ ¬ v < x.2)) from fun z => z.elim c1 (fun y => y.2 c3))]
        exact set
      · rw [if_neg c3, if_pos (show v = -1 ∨ (x.1 ≠ -1 ∧ ¬ v < x.2) from Or.inr ⟨c2, c3⟩)]
        exact keep
theorem tw_gi_loop {N : Nat} {E : ps_E} {A : qA} {T n p : Nat} {w p0 i0 : Int32} (hN : 700 ≤ N) (hE : ps_EO E) (hI : ps_I E A.1.1 T) (hT : T ≤ 20000) (hn : n ≤ 400) (hp : p < 10) (r : cx_M → Int32 → Int32 → Int32 → Int32 → Option cx_R) :
    ∀ (m i f : Nat) (M : cx_M) (x : Int32 × Int32), i + m = 4 → qr_T N E M A (pa_gS A.1.1 (nI p) (nI i), []) → M 60 36 = x.1 → M 60 37 = x.2 → m < f →
    ∃ M', tw_toGain_82 N r f M (nI n) w p0 i0 = r M' (nI n) w p0 i0 ∧ qr_T N E M' A (pa_gS A.1.1 (nI (p + 1)) (nI 4), []) ∧ M' 60 36 = (pa_gi E A.1.1 n p m i x).1 ∧ M' 60 37 = (pa_gi E A.1.1 n p m i x).2 ∧ qr_F M M' := by
  intro m
  induction m with
  | zero =>
    intro i f M x hi h h36 h37 hf
    obtain ⟨f, rfl⟩ : ∃ j, f = j + 1 := ⟨f - 1, by omega⟩
    have ei : i = 4 := by omega
    subst ei
    have g24 : M 60 24 = nI p := h.1.2.1.1.trans (pa_gS_33 (S := A.1.1) (p := nI p) (i := (nI 4)))
    have g25 : M 60 25 = nI 4 := h.1.2.1.2.trans (pa_gS_34 (S := A.1.1) (p := nI p) (i := (nI 4)))
    refine ⟨cx_up M 60 24 (nI (p + 1)), ?_, ?_, by rw [px_up, if_neg (by decide)]; exact h36, by rw [px_up, if_neg (by decide)]; exact h37, qr_F.up (by decide)⟩
    · show tw_toGain_82b N r (tw_toGain_82 N r f) M (nI n) w p0 i0 = _
      unfold tw_toGain_82b
      simp only [px_get, px_put]
      rw [g25, if_pos (show (3 : Int32) < nI 4 by decide), g24, ← nI_succ]
    · have := h.gain 24 (nI (p + 1)) (Or.inl rfl)
      have e : cx_up (pa_gS A.1.1 (nI p) (nI 4)) 0 33 (nI (p + 1)) = pa_gS A.1.1 (nI (p + 1)) (nI 4) := by
        unfold pa_gS
        apply ps_ext2
        intro c k
        simp only [px_up]
        repeat' split
        all_goals first | rfl | omega
      rw [← e]
      exact this
  | succ m ih =>
    intro i f M x hi h h36 h37 hf
    obtain ⟨f, rfl⟩ : ∃ j, f = j + 1 := ⟨f - 1, by omega⟩
    have g24 : M 60 24 = nI p := h.1.2.1.1.trans (pa_gS_33 (S := A.1.1) (p := nI p) (i := (nI i)))
    have g25 : M 60 25 = nI i := h.1.2.1.2.trans (pa_gS_34 (S := A.1.1) (p := nI p) (i := (nI i)))
    obtain ⟨M1, e1, h1, hF1, hj1⟩ := tw_farOff_s (z := n) (S0 := pa_gS A.1.1 (nI p) (nI i)) hN hE hT hn ⟨_, _, rfl⟩ n 0 N M (pa_gS A.1.1 (nI p) (nI i), []) (-1) (by omega) h rfl (ps_I_gain hI) rfl rfl (by omega)
    obtain ⟨M2, e2, h2, a36, a37, hF2, hj2, ho2⟩ := tw_tryBest_u (k := nI (10 * p + i)) (v := pa_gain E A.1.1 n p i) h1 x (by rw [hj1 36 (by decide)]; exact h36) (by rw [hj1 37 (by decide)]; exact h37)
    have g25' : M2 60 25 = nI i := by rw [hj2 25 (by decide) (by decide), hj1 25 (by decide)]; exact g25
    have h3 := h2.gain 25 (nI (i + 1)) (Or.inr rfl)
    have e : cx_up (pa_gS A.1.1 (nI p) (nI i)) 0 34 (nI (i + 1)) = pa_gS A.1.1 (nI p) (nI (i + 1)) := by
      unfold pa_gS
      rw [px_upup]
    have h3' : qr_T N E (cx_up M2 60 25 (nI (i + 1))) A (pa_gS A.1.1 (nI p) (nI (i + 1)), []) := by
      rw [← e]
      exact h3
    obtain ⟨M4, e4, h4, b36, b37, hF4⟩ := ih (i + 1) f _ (pa_tb (nI (10 * p + i)) (pa_gain E A.1.1 n p i) x) (by omega) h3' (by rw [px_up, if_neg (by decide)]; exact a36) (by rw [px_up, if_neg (by decide)]; exact a37) (by omega)
    refine ⟨M4, ?_, h4, b36, b37, ((hF1.tr hF2).tr (qr_F.up (by decide))).tr hF4⟩
    have e10 : (10 : Int32) * nI p + nI i = nI (10 * p + i) := by
      have h10 : (10 : Int32).toInt = 10 := rfl
      have tp := pi_nI (n := p) (by omega)
      have ti := pi_nI (n := i) (by omega)
      have e1 : ((10 : Int32) * nI p).toInt = 10 * p := by rw [pi_mul (by rw [h10]; omega) (by rw [h10]; omega), h10, tp]
      rw [i32_eq, i32_add (by omega) (by omega), e1, ti, pi_nI (by omega)]
      omega
    show tw_toGain_82b N r (tw_toGain_82 N r f) M (nI n) w p0 i0 = _
    unfold tw_toGain_82b
    simp only [px_get, px_put]
    rw [g25, if_neg (show ¬ (3 : Int32) < nI i from nI_nlt (b := i) (a := 3) (by omega) (by omega)), g24, e10, px_cal (show tw_farOff N M (nI n) = some (M1, pa_gain E A.1.1 n p i, 0) from e1), px_cal e2, g25', ← nI_succ]
    exact e4
theorem tw_gp_loop {N : Nat} {E : ps_E} {A : qA} {T n : Nat} {w : Int32} (hN : 700 ≤ N) (hE : ps_EO E) (hI : ps_I E A.1.1 T) (hT : T ≤ 20000) (hn : n ≤ 400) :
    ∀ (m p f : Nat) (M : cx_M) (x : Int32 × Int32) (i : Int32), p + m = 10 → qr_T N E M A (pa_gS A.1.1 (nI p) i, []) → M 60 36 = x.1 → M 60 37 = x.2 → m < f →
    ∃ M', tw_toGain_68 N f M (nI n) w (A.1.1 0 33) (A.1.1 0 34) = some (M', if w = 0 then (pa_gp E A.1.1 n m p x).1 else (pa_gp E A.1.1 n m p x).2, 0) ∧ qr_T N E M' A (A.1.1, []) ∧ qr_F M M' := by
  intro m
  induction m with
  | zero =>
    intro p f M x i hp h h36 h37 hf
    obtain ⟨f, rfl⟩ : ∃ j, f = j + 1 := ⟨f - 1, by omega⟩
    have ep : p = 10 := by omega
    subst ep
    have g24 : M 60 24 = nI 10 := h.1.2.1.1.trans (pa_gS_33 (S := A.1.1) (p := nI 10) (i := i))
    have h1 := (h.gain 24 (A.1.1 0 33) (Or.inl rfl)).gain 25 (A.1.1 0 34) (Or.inr rfl)
    have e : cx_up (cx_up (pa_gS A.1.1 (nI 10) i) 0 33 (A.1.1 0 33)) 0 34 (A.1.1 0 34) = A.1.1 := by
      unfold pa_gS
      apply ps_ext2
      intro c k
      simp only [px_up]
      repeat' split
      all_goals first | rfl | omega | (next z => rw [z.1, z.2]) | (next z _ => rw [z.1, z.2]) | skip
      all_goals (rename_i z; first | (rw [z.1, z.2]) | skip)
    have h1' : qr_T N E (cx_up (cx_up M 60 24 (A.1.1 0 33)) 60 25 (A.1.1 0 34)) A (A.1.1, []) := by
      have := h1
      rw [show ((cx_up ((cx_up (pa_gS A.1.1 (nI 10) i) 0 33 (A.1.1 0 33)) : ps_S) 0 34 (A.1.1 0 34)) : ps_S) = A.1.1 from e] at this
      exact this
    refine ⟨_, ?_, h1', (qr_F.up (by decide)).tr (qr_F.up (by decide))⟩
    show tw_toGain_68b N (tw_toGain_68 N f) M (nI n) w _ _ = _
    unfold tw_toGain_68b
    simp only [px_get, px_put]
    rw [g24, if_pos (show (9 : Int32) < nI 10 by decide)]
    have q36 : cx_up (cx_up M 60 24 (A.1.1 0 33)) 60 25 (A.1.1 0 34) 60 36 = x.1 := by rw [px_up, if_neg (by decide), px_up, if_neg (by decide)]; exact h36
    have q37 : cx_up (cx_up M 60 24 (A.1.1 0 33)) 60 25 (A.1.1 0 34) 60 37 = x.2 := by rw [px_up, if_neg (by decide), px_up, if_neg (by decide)]; exact h37
    rw [q36, q37]
    unfold pa_gp
    split <;> rfl
  | succ m ih =>
    intro p f M x i hp h h36 h37 hf
    obtain ⟨f, rfl⟩ : ∃ j, f = j + 1 := ⟨f - 1, by omega⟩
    have g24 : M 60 24 = nI p := h.1.2.1.1.trans (pa_gS_33 (S := A.1.1) (p := nI p) (i := i))
    have h1 := h.gain 25 0 (Or.inr rfl)
    have e : cx_up (pa_gS A.1.1 (nI p) i) 0 34 0 = pa_gS A.1.1 (nI p) (nI 0) := by
      unfold pa_gS
      rw [px_upup]
      rfl
    have h1' : qr_T N E (cx_up M 60 25 0) A (pa_gS A.1.1 (nI p) (nI 0), []) := by
      rw [← e]
      exact h1
    obtain ⟨M2, e2, h2, a36, a37, hF2⟩ := tw_gi_loop (w := w) (p0 := A.1.1 0 33) (i0 := A.1.1 0 34) hN hE hI hT hn (by omega) (tw_toGain_68 N f) 4 0 N _ x (by omega) h1' (by rw [px_up, if_neg (by decide)]; exact h36) (by rw [px_up, if_neg (by decide)]; exact h37) (by omega)
    obtain ⟨M3, e3, h3, hF3⟩ := ih (p + 1) f M2 _ (nI 4) (by omega) h2 a36 a37 (by omega)
    refine ⟨M3, ?_, h3, ((qr_F.up (by decide)).tr hF2).tr hF3⟩
    show tw_toGain_68b N (tw_toGain_68 N f) M (nI n) w _ _ = _
    unfold tw_toGain_68b
    simp only [px_get, px_put]
    rw [g24, if_neg (show ¬ (9 : Int32) < nI p from nI_nlt (b := p) (a := 9) (by omega) (by omega)), e2, e3]
    rfl
theorem tw_toGain_s {N : Nat} {E : ps_E} {M : cx_M} {A : qA} {n w : Int32} (hN : 700 ≤ N) (hA : qAI E A) (h : qr_pre N E M A) :
    tw_ok N E A M (tw_toGain N M n w) (pa_toGain E A.1.1 (pn n) w) (if 0 ≤ w.toInt ∧ w.toInt ≤ 1 then (if 1 ≤ n.toInt ∧ n.toInt ≤ 400 then 0 else 2) else 1) := by
  obtain ⟨M1, e1, hA1, hc1, hF1⟩ := h
  obtain ⟨hE, ⟨⟨T, hT, hI, -⟩, -⟩, -⟩ := hA
  unfold tw_ok tw_toGain tw_toGain_0
  rw [px_cal e1, px_cal tw_isIn_s]
  by_cases cw : 0 ≤ w.toInt ∧ w.toInt ≤ 1
  · rw [if_pos (show (0 : Int64).toInt ≤ w.toInt ∧ w.toInt ≤ (1 : Int64).toInt from cw), if_neg (by decide), px_cal tw_isIn_s, if_pos cw]
    by_cases cn : 1 ≤ n.toInt ∧ n.toInt ≤ 400
    · rw [if_pos (show (1 : Int64).toInt ≤ n.toInt ∧ n.toInt ≤ (400 : Int64).toInt from cn), if_neg (by decide), if_pos cn]
      simp only [px_put, px_get]
      have en : n = nI (pn n) := pn_nI (by omega)
      have hn : pn n ≤ 400 := by rw [pn_def]; omega
      have c2 : cx_up (cx_up M1 60 36 (-1)) 60 37 (-1) 60 2 = 0 := by rw [px_up, if_neg (by decide), px_up, if_neg (by decide)]; exact hc1
      obtain ⟨M2, e2, h2, hF2, ho2⟩ := qr_T.remember hN ((hA1.put 36 (-1) (by decide)).put 37 (-1) (by decide)) c2
      rw [px_cal e2, hA1.1.2.1.1, hA1.1.2.1.2]
      generalize hnn : pn n = nn at en hn
      subst en
      have h36 : M2 60 36 = -1 := by rw [ho2 60 (by decide), px_up, if_neg (by decide), px_up, if_pos ⟨rfl, rfl⟩]
      have h37 : M2 60 37 = -1 := by rw [ho2 60 (by decide), px_up, if_pos ⟨rfl, rfl⟩]
      have h3 := h2.gain 24 0 (Or.inl rfl)
      have e : cx_up A.1.1 0 33 0 = pa_gS A.1.1 (nI 0) (A.1.1 0 34) := by
        unfold pa_gS
        rw [ps_same (S := cx_up A.1.1 0 33 (nI 0)) (c := 0) (k := 34) (by rw [px_up, if_neg (by decide)])]
        rfl
      have h3' : qr_T N E (cx_up M2 60 24 0) A (pa_gS A.1.1 (nI 0) (A.1.1 0 34), []) := by
        rw [← e]
        exact h3
      obtain ⟨M4, e4, h4, hF4⟩ := tw_gp_loop (w := w) hN hE hI hT hn 10 0 N _ (-1, -1) _ (by omega) h3' (by rw [px_up, if_neg (by decide)]; exact h36) (by rw [px_up, if_neg (by decide)]; exact h37) (by omega)
      exact ⟨M4, _, e4, h4.end, h4.2.2.2, fun _ => rfl, ((((hF1.tr (qr_F.up (by decide))).tr (qr_F.up (by decide))).tr hF2).tr (qr_F.up (by decide))).tr hF4⟩
    · rw [if_neg (show ¬ ((1 : Int64).toInt ≤ n.toInt ∧ n.toInt ≤ (400 : Int64).toInt) from cn), if_pos rfl, if_neg cn]
      obtain ⟨M2, e2, hA2, hc2, hF2⟩ := tw_fail_s (x := 2) hA1
      rw [px_cal e2]
      exact ⟨M2, 0, rfl, hA2, hc2, fun z => absurd z (by decide), hF1.tr hF2⟩
  · rw [if_neg (show ¬ ((0 : Int64).toInt ≤ w.toInt ∧ w.toInt ≤ (1 : Int64).toInt) from cw), if_pos rfl, if_neg cw]
    obtain ⟨M2, e2, hA2, hc2, hF2⟩ := tw_fail_s (x := 1) hA1
    rw [px_cal e2]
    exact ⟨M2, 0, rfl, hA2, hc2, fun z => absurd z (by decide), hF1.tr hF2⟩
