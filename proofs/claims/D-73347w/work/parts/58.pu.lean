/-! BOOKS kept and undone: the reference -/
def pa_keepL (B : qB) : List ps_S := (if B.2.1.length = 40 then B.2.1.drop 1 else B.2.1) ++ [B.1]
def pa_refB (B : qB) (i : Nat) : qB := (B.1, B.2.1, B.2.2.1, fun j => if j = i then B.2.2.2 j + 1 else B.2.2.2 j)
/-- what an act comes to -/
def tw_act (N : Nat) (E : ps_E) (M : cx_M) (o : Option cx_R) (A : qA) (v code : Int32) : Prop := ∃ M', o = some (M', v, 0) ∧ qr_A N E M' A ∧ M' 60 2 = code ∧ qr_F M M'
theorem pi_665 {a b : Nat} (ha : a ≤ 40) (hb : b < 665) : (665 : Int32) * nI a + nI b = nI (665 * a + b) := by
  have h6 : (665 : Int32).toInt = 665 := rfl
  have ta := pi_nI (n := a) (by omega)
  have tb := pi_nI (n := b) (by omega)
  have e1 : ((665 : Int32) * nI a).toInt = 665 * a := by rw [pi_mul (by rw [h6, ta]; omega) (by rw [h6, ta]; omega), h6, ta]
  rw [i32_eq, i32_add (by rw [e1, tb]; omega) (by rw [e1, tb]; omega), e1, tb, pi_nI (by omega)]
  omega
theorem pn_I {n : Nat} (h : n < 2147483648) : pn (nI n) = n := by rw [pn_def, pi_nI h]; omega
theorem nI_pr1 {n : Nat} (h : n < 2147483647) : nI (n + 1) - 1 = nI n := by
  have h1 : (1 : Int32).toInt = 1 := rfl
  have t := pi_nI (n := n + 1) (by omega)
  rw [i32_eq, i32_sub (by rw [h1, t]; omega) (by rw [h1, t]; omega), h1, t, pi_nI (by omega)]
  omega
theorem tw_keep_shift {N : Nat} : ∀ (j k n : Nat) (M : cx_M), k + j = 26600 → 665 ≤ k → j < n → ∃ M', tw_keep_13 N n M (nI k) = tw_keep_54 N (cx_up M' 60 31 (M' 60 31 - 1)) ∧ (∀ c, c ≠ 33 → M' c = M c) ∧ ∀ q, M' 33 q = if k ≤ q + 665 ∧ q + 665 < 26600 then M 33 (q + 665) else M 33 q := by
  intro j
  induction j with
  | zero =>
    intro k n M hk hk2 hn
    obtain ⟨n, rfl⟩ : ∃ m, n = m + 1 := ⟨n - 1, by omega⟩
    refine ⟨M, ?_, fun _ _ => rfl, fun q => by rw [if_neg (by omega)]⟩
    show tw_keep_13b N (tw_keep_13 N n) M (nI k) = _
    unfold tw_keep_13b
    simp only [px_get, px_put]
    rw [if_pos (show (26600 : Int32) ≤ nI k from nI_le (a := 26600) (by omega) (by omega))]
  | succ j ih =>
    intro k n M hk hk2 hn
    obtain ⟨n, rfl⟩ : ∃ m, n = m + 1 := ⟨n - 1, by omega⟩
    have h6 : (665 : Int32).toInt = 665 := rfl
    have t := pi_nI (n := k) (by omega)
    have e6 : nI k - 665 = nI (k - 665) := by
      rw [i32_eq, i32_sub (by rw [h6, t]; omega) (by rw [h6, t]; omega), h6, t, pi_nI (by omega)]
      omega
    have t2 := pi_nI (n := k - 665) (by omega)
    obtain ⟨M', e, ho, hi⟩ := ih (k + 1) n (cx_up M 33 (k - 665) (M 33 k)) (by omega) (by omega) (by omega)
    refine ⟨M', ?_, fun c hc => by rw [ho c hc, px_upc hc], fun q => ?_⟩
    · show tw_keep_13b N (tw_keep_13 N n) M (nI k) = _
      unfold tw_keep_13b
      simp only [px_let]
      rw [if_neg (show ¬ (26600 : Int32) ≤ nI k from nI_ge (a := k) (b := 26600) (by omega) (by omega)), px_ld (by omega) (by omega), e6, px_st (by omega) (by omega), pn_I (by omega), pn_I (by omega), ← nI_succ]
      exact e
    · rw [hi q, px_up, px_up]
      by_cases c : k = q + 665
      · rw [if_neg (by omega), if_pos ⟨rfl, by omega⟩, if_pos (by omega), c]
      · by_cases c2 : k ≤ q + 665 ∧ q + 665 < 26600
        · rw [if_pos (by omega), if_pos c2, if_neg (show ¬ (33 = 33 ∧ q + 665 = k - 665) from fun z => by omega)]
        · rw [if_neg (by omega), if_neg c2, if_neg (show ¬ (33 = 33 ∧ q = k - 665) from fun z => by omega)]
theorem tw_keep_put {N a : Nat} (ha : a < 40) : ∀ (j k n : Nat) (M : cx_M), k + j = 665 → j < n → M 60 31 = nI a → ∃ M', tw_keep_56 N n M (nI k) = some (M', 0, 0) ∧ (∀ c, c ≠ 33 → c ≠ 60 → M' c = M c) ∧ (∀ i, i ≠ 31 → M' 60 i = M 60 i) ∧ M' 60 31 = nI (a + 1) ∧ ∀ q, M' 33 q = if 665 * a + k ≤ q ∧ q < 665 * a + 665 then M 8 (q - 665 * a) else M 33 q := by
  intro j
  induction j with
  | zero =>
    intro k n M hk hn h31
    obtain ⟨n, rfl⟩ : ∃ m, n = m + 1 := ⟨n - 1, by omega⟩
    refine ⟨cx_up M 60 31 (nI a + 1), ?_, fun c _ h2 => px_upc h2, fun i hi => by rw [px_up, if_neg (fun z => hi z.2)], by rw [px_up, if_pos ⟨rfl, rfl⟩, ← nI_succ], fun q => by rw [px_upc (by decide), if_neg (by omega)]⟩
    show tw_keep_56b N (tw_keep_56 N n) M (nI k) = _
    unfold tw_keep_56b
    simp only [px_get, px_put]
    rw [if_pos (show (665 : Int32) ≤ nI k from nI_le (a := 665) (by omega) (by omega)), h31]
  | succ j ih =>
    intro k n M hk hn h31
    obtain ⟨n, rfl⟩ : ∃ m, n = m + 1 := ⟨n - 1, by omega⟩
    have t := pi_nI (n := k) (by omega)
    have t2 := pi_nI (n := 665 * a + k) (by omega)
    obtain ⟨M', e, ho, hk2, h32, hi⟩ := ih (k + 1) n (cx_up M 33 (665 * a + k) (M 8 k)) (by omega) (by omega) (by rw [px_upc (by decide)]; exact h31)
    refine ⟨M', ?_, fun c hc hc2 => by rw [ho c hc hc2, px_upc hc], fun i hi2 => by rw [hk2 i hi2, px_upc (by decide)], h32, fun q => ?_⟩
    · show tw_keep_56b N (tw_keep_56 N n) M (nI k) = _
      unfold tw_keep_56b
      simp only [px_let, px_get]
      rw [if_neg (show ¬ (665 : Int32) ≤ nI k from nI_ge (a := k) (b := 665) (by omega) (by omega)), px_ld (by omega) (by omega), h31, pi_665 (by omega) (by omega), px_st (by omega) (by omega), pn_I (by omega), pn_I (by omega), ← nI_succ]
      exact e
    · rw [hi q, px_upc (show (8 : Nat) ≠ 33 by decide), px_up]
      by_cases c : q = 665 * a + k
      · rw [if_neg (by omega), if_pos ⟨rfl, c⟩, if_pos (by omega), c, Nat.add_sub_cancel_left]
      · rw [if_neg (show ¬ (33 = 33 ∧ q = 665 * a + k) from fun z => c z.2)]
        by_cases c2 : 665 * a + k ≤ q ∧ q < 665 * a + 665
        · rw [if_pos (by omega), if_pos c2]
        · rw [if_neg (by omega), if_neg c2]
theorem tw_keep_54_s {N a : Nat} {M : cx_M} {L : List ps_S} {S : ps_S} (hN : 700 ≤ N) (ha : a < 40) (hl : L.length = a) (h31 : M 60 31 = nI a) (hL : ∀ j X, L[j]? = some X → pr_R (fun q => M 33 (665 * j + q)) X) (h8 : pr_R (M 8) S) :
    ∃ M', tw_keep_54 N M = some (M', 0, 0) ∧ (∀ c, c ≠ 33 → c ≠ 60 → M' c = M c) ∧ (∀ i, i ≠ 31 → M' 60 i = M 60 i) ∧ M' 60 31 = nI (a + 1) ∧ ∀ j X, (L ++ [S])[j]? = some X → pr_R (fun q => M' 33 (665 * j + q)) X := by
  obtain ⟨M', e, ho, hk, h32, hi⟩ := tw_keep_put (N := N) ha 665 0 N M (by omega) (by omega) h31
  refine ⟨M', e, ho, hk, h32, fun j X hj => ?_⟩
  by_cases c : j < L.length
  · rw [List.getElem?_append_left c] at hj
    intro q hq
    show M' 33 (665 * j + q) = _
    rw [hi, if_neg (by omega)]
    exact hL j X hj q hq
  · rw [List.getElem?_append_right (by omega)] at hj
    cases hd : j - L.length with
    | zero =>
      rw [hd] at hj
      have eS : S = X := Option.some.inj hj
      intro q hq
      show M' 33 (665 * j + q) = _
      have ej : j = a := by omega
      rw [hi, ej, if_pos (by omega), Nat.add_sub_cancel_left, ← eS]
      exact h8 q hq
    | succ d =>
      rw [hd] at hj
      cases hj
theorem tw_keep_s {N : Nat} {E : ps_E} {M : cx_M} {A : qA} (hN : 30000 ≤ N) (hL : A.1.2.1.length ≤ 40) (h : qr_A N E M A) :
    ∃ M', tw_keep N M = some (M', 0, 0) ∧ qr_A N E M' ((A.1.1, pa_keepL A.1, A.1.2.2), A.2) ∧ M' 60 2 = M 60 2 ∧ qr_F M M' ∧ (pa_keepL A.1).length ≤ 40 := by
  obtain ⟨hV, ⟨h31, hp, hb⟩, hr⟩ := h
  have fin : ∀ (M1 M2 : cx_M), (∀ c, c ≠ 33 → c ≠ 60 → M1 c = M c) → (∀ i, i ≠ 31 → M1 60 i = M 60 i) → (∀ c, c ≠ 33 → c ≠ 60 → M2 c = M1 c) → (∀ i, i ≠ 31 → M2 60 i = M1 60 i) → M2 60 31 = nI (pa_keepL A.1).length → (∀ j X, (pa_keepL A.1)[j]? = some X → pr_R (fun q => M2 33 (665 * j + q)) X) →
      qr_A N E M2 ((A.1.1, pa_keepL A.1, A.1.2.2), A.2) ∧ M2 60 2 = M 60 2 ∧ qr_F M M2 := by
    intro M1 M2 a1 b1 a2 b2 g31 gp
    have ac : ∀ c, c ≠ 33 → c ≠ 60 → M2 c = M c := fun c x y => (a2 c x y).trans (a1 c x y)
    have bc : ∀ i, i ≠ 31 → M2 60 i = M 60 i := fun i x => (b2 i x).trans (b1 i x)
    refine ⟨⟨hV.oth2 (fun c hc => ac c (fun e => by rw [e] at hc; revert hc; decide) (fun e => by rw [e] at hc; revert hc; decide)) (fun k hk => bc k (fun e => by rw [e] at hk; revert hk; decide)), ⟨g31, gp, ?_⟩, ?_⟩, bc 2 (by decide), fun c hc => ac c (by omega) (by omega)⟩
    · rw [bc 32 (by decide), ac 38 (by decide) (by decide), ac 39 (by decide) (by decide), ac 7 (by decide) (by decide)]
      exact hb
    · have hr2 : qr_rest M A := ⟨⟨h31, hp, hb⟩, hr⟩
      have hr3 := hr
      unfold qr_im qr_bk at hr3 ⊢
      rw [bc 9 (by decide), bc 44 (by decide), bc 45 (by decide), bc 46 (by decide), bc 12 (by decide), bc 21 (by decide), ac 47 (by decide) (by decide), ac 48 (by decide) (by decide), ac 49 (by decide) (by decide), ac 50 (by decide) (by decide), ac 51 (by decide) (by decide), ac 11 (by decide) (by decide)]
      exact hr3
  unfold tw_keep tw_keep_0
  simp only [px_get]
  by_cases c : A.1.2.1.length = 40
  · have hk : pa_keepL A.1 = A.1.2.1.drop 1 ++ [A.1.1] := by unfold pa_keepL; rw [if_pos c]
    rw [h31, c, if_pos (show nI 40 = 40 from rfl)]
    obtain ⟨M1, e1, o1, i1⟩ := tw_keep_shift (N := N) (26600 - 665) 665 N M (by omega) (by omega) (by omega)
    have g31 : cx_up M1 60 31 (M1 60 31 - 1) 60 31 = nI 39 := by
      rw [px_up, if_pos ⟨rfl, rfl⟩, o1 60 (by decide), h31, c]
      exact nI_pr1 (by omega)
    have hl : (A.1.2.1.drop 1).length = 39 := by rw [List.length_drop]; omega
    obtain ⟨M2, e2, o2, k2, h32, hi2⟩ := tw_keep_54_s (L := A.1.2.1.drop 1) (S := A.1.1) (N := N) (by omega) (by decide) hl g31 (fun j X hj => by
      have hj2 : j < 39 := by
        rcases Nat.lt_or_ge j 39 with q | q
        · exact q
        · rw [List.getElem?_eq_none (by omega)] at hj; cases hj
      rw [List.getElem?_drop] at hj
      intro q hq
      show cx_up M1 60 31 (M1 60 31 - 1) 33 (665 * j + q) = _
      rw [px_upc (by decide), i1, if_pos (by omega)]
      have := hp (1 + j) X hj q hq
      rw [← this]
      show M 33 _ = M 33 _
      congr 1
      omega) (by rw [px_upc (by decide), o1 8 (by decide)]; exact hV.1)
    rw [← hk] at hi2
    obtain ⟨f1, f2, f3⟩ := fin (cx_up M1 60 31 (M1 60 31 - 1)) M2 (fun c hc hc2 => by rw [px_upc hc2, o1 c hc]) (fun i hi => by rw [px_up, if_neg (fun z => hi z.2), o1 60 (by decide)]) o2 k2 (by rw [hk, List.length_append, hl]; exact h32) hi2
    exact ⟨M2, e1.trans e2, f1, f2, f3, by rw [hk, List.length_append, hl, List.length_singleton]; omega⟩
  · have hk : pa_keepL A.1 = A.1.2.1 ++ [A.1.1] := by unfold pa_keepL; rw [if_neg c]
    rw [h31, if_neg (fun z => by
      have := congrArg Int32.toInt z
      rw [pi_nI (by omega), show (40 : Int32).toInt = 40 from rfl] at this
      omega)]
    obtain ⟨M2, e2, o2, k2, h32, hi2⟩ := tw_keep_54_s (L := A.1.2.1) (S := A.1.1) (N := N) (a := A.1.2.1.length) (by omega) (by omega) rfl h31 hp hV.1
    rw [← hk] at hi2
    obtain ⟨f1, f2, f3⟩ := fin M M2 (fun _ _ _ => rfl) (fun _ _ => rfl) o2 k2 (by rw [hk, List.length_append]; exact h32) hi2
    exact ⟨M2, e2, f1, f2, f3, by rw [hk, List.length_append, List.length_singleton]; omega⟩
