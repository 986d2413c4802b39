/-! TAKING OVER what was told, READY, FEED: the reference -/
/-- the first state -/
def pa_first (E : ps_E) : ps_S := fun c k => if c = 0 then (if k = 29 then E.1 1 else if k = 27 then E.1 5 else if k = 33 then E.1 2 else if k = 34 then E.1 3 else 0) else if c = 4 ∨ c = 5 then -1 else 0
/-- what was told, not yet taken over -/
def pr_K2 (N : Nat) (E : ps_E) (M : cx_M) : Prop :=
  (∀ k, k < 10 → M 3 (10 + k) = E.1 k) ∧ (1 ≤ (E.1 7).toInt ∧ (E.1 7).toInt ≤ 16) ∧ (∀ x : Int32, 0 ≤ x.toInt → (M 4 (16 + pn (cx_rem x (E.1 7))) + x) &&& 255 = E.2.1 x) ∧
  (0 < E.1 8 → ∀ M2 : cx_M, (∀ j, j < 700 → M2 5 j = M 5 (700 + j)) → ∃ st, tw_valueNow N 5 M2 (E.1 8) = some (cx_set M2 23 st, E.2.2.1 (M2 22), 0)) ∧
  (0 < E.1 9 → ∀ M2 : cx_M, (∀ j, j < 700 → M2 6 j = M 6 (700 + j)) → ∃ st, tw_valueNow N 6 M2 (E.1 9) = some (cx_set M2 23 st, E.2.2.2 (M2 22), 0))
theorem tw_takeHalf_s {N c h : Nat} (hc : twLen c = 2 * h) (hh : h ≤ 1000) (h0 : 0 < h) (hd : nI (twLen c) / 2 = nI h) (hN : h < N) : ∀ M : cx_M, ∃ M', tw_takeHalf N c M = some (M', 0, 0) ∧ (∀ d, d ≠ c → M' d = M d) ∧ ∀ q, q < h → M' c q = M c (h + q) := by
  have loop : ∀ (j k n : Nat) (M : cx_M), k + j = h → j < n → ∃ M', tw_takeHalf_2 N c n M (nI k) = some (M', 0, 0) ∧ (∀ d, d ≠ c → M' d = M d) ∧ ∀ q, M' c q = if k ≤ q ∧ q < h then M c (h + q) else M c q := by
    intro j
    induction j with
    | zero =>
      intro k n M hk hn
      obtain ⟨n, rfl⟩ : ∃ m, n = m + 1 := ⟨n - 1, by omega⟩
      refine ⟨M, ?_, fun _ _ => rfl, fun q => by rw [if_neg (by omega)]⟩
      show tw_takeHalf_2b N c (tw_takeHalf_2 N c n) M (nI k) = _
      unfold tw_takeHalf_2b
      rw [hd, if_pos (nI_le (by omega) (by omega))]
    | succ j ih =>
      intro k n M hk hn
      obtain ⟨n, rfl⟩ : ∃ m, n = m + 1 := ⟨n - 1, by omega⟩
      have t := pi_nI (n := k) (by omega)
      have th := pi_nI (n := h) (by omega)
      have t2 := pi_nI (n := h + k) (by omega)
      have e2 : nI h + nI k = nI (h + k) := by
        rw [i32_eq, i32_add (by omega) (by omega), t, th, t2]
        omega
      obtain ⟨M', e, ho, hi⟩ := ih (k + 1) n (cx_up M c k (M c (h + k))) (by omega) (by omega)
      refine ⟨M', ?_, fun d hd => by rw [ho d hd, px_upc hd], fun q => ?_⟩
      · show tw_takeHalf_2b N c (tw_takeHalf_2 N c n) M (nI k) = _
        unfold tw_takeHalf_2b
        simp only [px_let]
        rw [hd, if_neg (nI_ge (by omega) (by omega)), e2, px_ld (by omega) (by omega), px_st (by omega) (by omega), pn_I (by omega), pn_I (by omega), ← nI_succ]
        exact e
      · rw [hi q, px_up, px_up]
        by_cases c1 : q = k
        · rw [if_neg (by omega), if_pos ⟨rfl, c1⟩, if_pos (by omega), c1]
        · rw [if_neg (show ¬ (c = c ∧ q = k) from fun z => c1 z.2), if_neg (show ¬ (c = c ∧ h + q = k) from fun z => by omega)]
          by_cases c2 : k ≤ q ∧ q < h
          · rw [if_pos (by omega), if_pos c2]
          · rw [if_neg (by omega), if_neg c2]
  intro M
  obtain ⟨M', e, ho, hi⟩ := loop h 0 N M (by omega) hN
  exact ⟨M', e, ho, fun q hq => by rw [hi q, if_pos (by omega)]⟩
theorem tw_forgetGiven_s {N : Nat} (hN : 2048 < N) (M : cx_M) : ∃ M', tw_forgetGiven N M = some (M', 0, 0) ∧ (∀ d, d ≠ 28 → M' d = M d) ∧ ∀ q, q < 2048 → M' 28 q = 0 := by
  have loop : ∀ (j k n : Nat) (M : cx_M), k + j = 2048 → j < n → (∀ q, q < k → M 28 q = 0) → ∃ M', tw_forgetGiven_2 N n M (nI k) = some (M', 0, 0) ∧ (∀ d, d ≠ 28 → M' d = M d) ∧ ∀ q, q < 2048 → M' 28 q = 0 := by
    intro j
    induction j with
    | zero =>
      intro k n M hk hn h0
      obtain ⟨n, rfl⟩ : ∃ m, n = m + 1 := ⟨n - 1, by omega⟩
      refine ⟨M, ?_, fun _ _ => rfl, fun q hq => h0 q (by omega)⟩
      show tw_forgetGiven_2b N (tw_forgetGiven_2 N n) M (nI k) = _
      unfold tw_forgetGiven_2b
      rw [if_pos (show (2048 : Int32) ≤ nI k from nI_le (a := 2048) (by omega) (by omega))]
    | succ j ih =>
      intro k n M hk hn h0
      obtain ⟨n, rfl⟩ : ∃ m, n = m + 1 := ⟨n - 1, by omega⟩
      have t := pi_nI (n := k) (by omega)
      obtain ⟨M', e, ho, hi⟩ := ih (k + 1) n (cx_up M 28 k 0) (by omega) (by omega) (fun q hq => by
        rw [px_up]
        by_cases c : q = k
        · rw [if_pos ⟨rfl, c⟩]
        · rw [if_neg (fun z => c z.2)]; exact h0 q (by omega))
      refine ⟨M', ?_, fun d hd => by rw [ho d hd, px_upc hd], hi⟩
      show tw_forgetGiven_2b N (tw_forgetGiven_2 N n) M (nI k) = _
      unfold tw_forgetGiven_2b
      simp only [px_let]
      rw [if_neg (show ¬ (2048 : Int32) ≤ nI k from nI_ge (a := k) (b := 2048) (by omega) (by omega)), px_st (by omega) (by omega), pn_I (by omega), ← nI_succ]
      exact e
  exact loop 2048 0 N M (by omega) hN (fun q hq => absurd hq (by omega))
theorem tw_emptySlots_s {N : Nat} (hN : 64 < N) (M : cx_M) : ∃ M', tw_emptySlots N M = some (M', 0, 0) ∧ (∀ d, d ≠ 8 → M' d = M d) ∧ ∀ q, M' 8 q = if 153 ≤ q ∧ q < 281 then -1 else M 8 q := by
  have loop : ∀ (j k n : Nat) (M : cx_M), k + j = 64 → j < n → ∃ M', tw_emptySlots_2 N n M (nI k) = some (M', 0, 0) ∧ (∀ d, d ≠ 8 → M' d = M d) ∧ ∀ q, M' 8 q = if (153 + k ≤ q ∧ q < 217) ∨ (217 + k ≤ q ∧ q < 281) then -1 else M 8 q := by
    intro j
    induction j with
    | zero =>
      intro k n M hk hn
      obtain ⟨n, rfl⟩ : ∃ m, n = m + 1 := ⟨n - 1, by omega⟩
      refine ⟨M, ?_, fun _ _ => rfl, fun q => by rw [if_neg (by omega)]⟩
      show tw_emptySlots_2b N (tw_emptySlots_2 N n) M (nI k) = _
      unfold tw_emptySlots_2b
      rw [if_pos (show (64 : Int32) ≤ nI k from nI_le (a := 64) (by omega) (by omega))]
    | succ j ih =>
      intro k n M hk hn
      obtain ⟨n, rfl⟩ : ∃ m, n = m + 1 := ⟨n - 1, by omega⟩
      have t := pi_nI (n := k) (by omega)
      have p1 : pn (nI k) = k := pn_I (by omega)
      have e1 : ((153 : Int32) + nI k).toInt = 153 + k := by rw [i32_add (by rw [show (153 : Int32).toInt = 153 from rfl]; omega) (by rw [show (153 : Int32).toInt = 153 from rfl]; omega), t]; rfl
      have e2 : ((217 : Int32) + nI k).toInt = 217 + k := by rw [i32_add (by rw [show (217 : Int32).toInt = 217 from rfl]; omega) (by rw [show (217 : Int32).toInt = 217 from rfl]; omega), t]; rfl
      have q1 : pn ((153 : Int32) + nI k) = 153 + k := by rw [pn_def, e1]; omega
      have q2 : pn ((217 : Int32) + nI k) = 217 + k := by rw [pn_def, e2]; omega
      obtain ⟨M', e, ho, hi⟩ := ih (k + 1) n (cx_up (cx_up M 8 (153 + k) (-1)) 8 (217 + k) (-1)) (by omega) (by omega)
      refine ⟨M', ?_, fun d hd => by rw [ho d hd, px_upc hd, px_upc hd], fun q => ?_⟩
      · show tw_emptySlots_2b N (tw_emptySlots_2 N n) M (nI k) = _
        unfold tw_emptySlots_2b
        simp only [px_let]
        rw [if_neg (show ¬ (64 : Int32) ≤ nI k from nI_ge (a := k) (b := 64) (by omega) (by omega)), px_st (by omega) (by omega), q1, px_st (by omega) (by omega), q2, ← nI_succ]
        exact e
      · rw [hi q, px_up, px_up]
        by_cases c1 : q = 217 + k
        · rw [if_neg (by omega), if_pos ⟨rfl, c1⟩, if_pos (by omega)]
        · rw [if_neg (show ¬ (8 = 8 ∧ q = 217 + k) from fun z => c1 z.2)]
          by_cases c2 : q = 153 + k
          · rw [if_neg (by omega), if_pos ⟨rfl, c2⟩, if_pos (by omega)]
          · rw [if_neg (show ¬ (8 = 8 ∧ q = 153 + k) from fun z => c2 z.2)]
            by_cases c3 : (153 + k ≤ q ∧ q < 217) ∨ (217 + k ≤ q ∧ q < 281)
            · rw [if_pos (by omega), if_pos c3]
            · rw [if_neg (by omega), if_neg c3]
  obtain ⟨M', e, ho, hi⟩ := loop 64 0 N M (by omega) hN
  refine ⟨M', e, ho, fun q => ?_⟩
  rw [hi q]
  by_cases c : 153 ≤ q ∧ q < 281
  · rw [if_pos (by omega), if_pos c]
  · rw [if_neg (by omega), if_neg c]
def pa_new (E : ps_E) (st : Nat → Int32) (tp : Nat × (Nat → Int32)) (d : Int32) : qA := ((pa_first E, [], [], st), none, tp, d)
theorem tw_takeOver_54_s {N : Nat} {M : cx_M} (hN : 700 ≤ N) : ∀ (j k n : Nat) (M : cx_M), k + j = 665 → j < n → (∀ q, q < k → M 8 q = 0) → ∃ M', tw_takeOver_54 N n M (nI k) = some (M', 0, 0) ∧ (∀ d, d ≠ 8 → d ≠ 60 → M' d = M d) ∧ (∀ i, i ≠ 31 → i ≠ 32 → i ≠ 44 → M' 60 i = M 60 i) ∧ (M' 60 31 = 0 ∧ M' 60 32 = 0 ∧ M' 60 44 = 0) ∧ ∀ q, q < 665 → M' 8 q = if q = 27 then M 3 5 else if q = 29 then M 3 1 else if 153 ≤ q ∧ q < 281 then -1 else 0 := by
  intro j
  induction j with
  | zero =>
    intro k n M hk hn h0
    obtain ⟨n, rfl⟩ : ∃ m, n = m + 1 := ⟨n - 1, by omega⟩
    obtain ⟨M1, e1, o1, i1⟩ := tw_emptySlots_s (N := N) (by omega) M
    refine ⟨cx_up (cx_up (cx_up (cx_up (cx_up M1 8 29 (M 3 1)) 8 27 (M 3 5)) 60 31 0) 60 32 0) 60 44 0, ?_, ?_, ?_, ?_, ?_⟩
    · show tw_takeOver_54b N (tw_takeOver_54 N n) M (nI k) = _
      unfold tw_takeOver_54b
      rw [if_pos (show (665 : Int32) ≤ nI k from nI_le (a := 665) (by omega) (by omega)), px_cal e1]
      simp only [px_get, px_put]
      rw [px_upc (show (3 : Nat) ≠ 8 by decide), o1 3 (by decide)]
    · intro d h8 h60
      rw [px_upc h60, px_upc h60, px_upc h60, px_upc h8, px_upc h8, o1 d h8]
    · intro i a b c
      rw [px_up, if_neg (fun z => c z.2), px_up, if_neg (fun z => b z.2), px_up, if_neg (fun z => a z.2), px_upc (by decide), px_upc (by decide), o1 60 (by decide)]
    · refine ⟨?_, ?_, ?_⟩
      · rw [px_up, if_neg (by decide), px_up, if_neg (by decide), px_up, if_pos ⟨rfl, rfl⟩]
      · rw [px_up, if_neg (by decide), px_up, if_pos ⟨rfl, rfl⟩]
      · rw [px_up, if_pos ⟨rfl, rfl⟩]
    · intro q hq
      rw [px_upc (by decide), px_upc (by decide), px_upc (by decide), px_up, px_up, i1 q]
      by_cases c1 : q = 27
      · rw [if_pos ⟨rfl, c1⟩, if_pos c1]
      · rw [if_neg (show ¬ (8 = 8 ∧ q = 27) from fun z => c1 z.2), if_neg c1]
        by_cases c2 : q = 29
        · rw [if_pos ⟨rfl, c2⟩, if_pos c2]
        · rw [if_neg (show ¬ (8 = 8 ∧ q = 29) from fun z => c2 z.2), if_neg c2, h0 q (by omega)]
  | succ j ih =>
    intro k n M hk hn h0
    obtain ⟨n, rfl⟩ : ∃ m, n = m + 1 := ⟨n - 1, by omega⟩
    have t := pi_nI (n := k) (by omega)
    obtain ⟨M', e, ho, hk2, h3, hi⟩ := ih (k + 1) n (cx_up M 8 k 0) (by omega) (by omega) (fun q hq => by
      rw [px_up]
      by_cases c : q = k
      · rw [if_pos ⟨rfl, c⟩]
      · rw [if_neg (fun z => c z.2)]; exact h0 q (by omega))
    refine ⟨M', ?_, fun d h8 h60 => by rw [ho d h8 h60, px_upc h8], fun i a b c => by rw [hk2 i a b c, px_upc (by decide)], h3, fun q hq => by rw [hi q hq, px_upc (by decide)]⟩
    show tw_takeOver_54b N (tw_takeOver_54 N n) M (nI k) = _
    unfold tw_takeOver_54b
    simp only [px_let]
    rw [if_neg (show ¬ (665 : Int32) ≤ nI k from nI_ge (a := k) (b := 665) (by omega) (by omega)), px_st (by omega) (by omega), pn_I (by omega), ← nI_succ]
    exact e
