/-! ACTS: lose, stall, turn, steps, undo: the reference -/
theorem qr_A.bk {N : Nat} {E : ps_E} {M M' : cx_M} {A : qA} {B : qB} (h : qr_A N E M A) (hV : pr_V N E M' (B.1, [])) (hb : qr_bk M' 33 38 39 7 (M' 60 31) (M' 60 32) B) (hc : ∀ c ∈ [47, 48, 49, 50, 51, 11], M' c = M c) (hk : ∀ k ∈ [9, 12, 21, 44, 45, 46], M' 60 k = M 60 k) : qr_A N E M' (B, A.2) := by
  obtain ⟨-, -, hr⟩ := h
  refine ⟨hV, hb, ?_⟩
  unfold qr_im qr_bk at hr ⊢
  rw [hk 9 (by decide), hk 44 (by decide), hk 45 (by decide), hk 46 (by decide), hk 12 (by decide), hk 21 (by decide), hc 47 (by decide), hc 48 (by decide), hc 49 (by decide), hc 50 (by decide), hc 51 (by decide), hc 11 (by decide)]
  exact hr
theorem tw_refuse_s {N : Nat} {E : ps_E} {M : cx_M} {A : qA} {i : Nat} (hi : i < 3) (h : qr_A N E M A) : tw_act N E M (tw_refuse N M (nI i)) (pa_refB A.1 i, A.2) (-1) (M 60 2) := by
  have t := pi_nI (n := i) (by omega)
  obtain ⟨hV, ⟨h31, hp, h32, hn, hs⟩, hr⟩ := h
  refine ⟨cx_up M 7 i (M 7 i + 1), ?_, qr_A.bk ⟨hV, ⟨h31, hp, h32, hn, hs⟩, hr⟩ (hV.oth (fun c hc => px_upc (fun e => by rw [e] at hc; revert hc; decide))) ⟨?_, ?_, ?_, ?_, ?_⟩ (fun c hc => px_upc (fun e => by rw [e] at hc; revert hc; decide)) (fun k _ => by rw [px_upc (by decide)]), by rw [px_upc (by decide)], qr_F.up (by decide)⟩
  · unfold tw_refuse tw_refuse_0
    rw [px_ld (by omega) (by omega), px_st (by omega) (by omega), pn_I (by omega)]
  · rw [px_upc (by decide)]; exact h31
  · intro j S hj
    rw [px_upc (by decide)]
    exact hp j S hj
  · rw [px_upc (by decide)]; exact h32
  · intro j x hj
    rw [px_upc (by decide), px_upc (by decide)]
    exact hn j x hj
  · intro j hj
    show cx_up M 7 i (M 7 i + 1) 7 j = if j = i then A.1.2.2.2 j + 1 else A.1.2.2.2 j
    rw [px_up]
    by_cases c : j = i
    · rw [if_pos ⟨rfl, c⟩, if_pos c, c, hs i hi]
    · rw [if_neg (fun z => c z.2), if_neg c, hs j hj]
/-- a number of the settings turned -/
def pa_mayTurn (A : qA) (k : Nat) (x lo hi : Int32) : Prop := (lo.toInt ≤ x.toInt ∧ x.toInt ≤ hi.toInt) ∧ x ≠ A.1.1 0 k
noncomputable def pa_turn (A : qA) (k : Nat) (x lo hi d : Int32) : qA × Int32 :=
  @ite (qA × Int32) (pa_mayTurn A k x lo hi) (Classical.propDecidable _) (((cx_up A.1.1 0 k x, pa_keepL A.1, A.1.2.2), A.2), A.1.1 0 k) ((pa_refB A.1 1, A.2), d)
theorem pa_turn_y {A : qA} {k : Nat} {x lo hi d : Int32} (h : pa_mayTurn A k x lo hi) : pa_turn A k x lo hi d = (((cx_up A.1.1 0 k x, pa_keepL A.1, A.1.2.2), A.2), A.1.1 0 k) := if_pos h
theorem pa_turn_n {A : qA} {k : Nat} {x lo hi d : Int32} (h : ¬ pa_mayTurn A k x lo hi) : pa_turn A k x lo hi d = ((pa_refB A.1 1, A.2), d) := if_neg h
theorem tw_turnTo_s {N : Nat} {E : ps_E} {M : cx_M} {A : qA} {k : Nat} {x lo hi d : Int32} (hN : 30000 ≤ N) (hL : A.1.2.1.length ≤ 40) (hk : k < 33) (h : qr_A N E M A) :
    tw_act N E M (tw_turnTo N M (nI k) x lo hi d) (pa_turn A k x lo hi d).1 (pa_turn A k x lo hi d).2 (M 60 2) := by
  have t := pi_nI (n := k) (by omega)
  have hg : M 8 k = A.1.1 0 k := pr_n h.1.1 k hk
  have no : ¬ pa_mayTurn A k x lo hi → tw_act N E M (tw_turnTo_27 N M d) (pa_turn A k x lo hi d).1 (pa_turn A k x lo hi d).2 (M 60 2) := by
    intro z
    rw [pa_turn_n z]
    obtain ⟨M1, e1, h1, g1, F1⟩ := tw_refuse_s (i := 1) (by decide) h
    refine ⟨M1, ?_, h1, g1, F1⟩
    unfold tw_turnTo_27
    rw [px_cal (show tw_refuse N M 1 = _ from e1)]
  unfold tw_turnTo tw_turnTo_0
  rw [px_ld (by omega) (by omega), pn_I (by omega), hg, px_cal tw_isIn_s, pi_64, pi_64]
  by_cases c : lo.toInt ≤ x.toInt ∧ x.toInt ≤ hi.toInt
  · rw [if_pos c, if_neg (by decide)]
    by_cases c2 : x = A.1.1 0 k
    · rw [if_pos c2]
      exact no (fun z => z.2 c2)
    · rw [if_neg c2, pa_turn_y ⟨c, c2⟩]
      obtain ⟨M1, e1, h1, g1, F1, -⟩ := tw_keep_s hN hL h
      rw [px_cal e1, px_st (by omega) (by omega), pn_I (by omega)]
      refine ⟨cx_up M1 8 k x, rfl, ?_, by rw [px_upc (by decide)]; exact g1, F1.tr (qr_F.up (by decide))⟩
      have hV2 : pr_V N E (cx_up M1 8 k x) (cx_up A.1.1 0 k x, []) := by
        obtain ⟨hR, hg, hK, hQ⟩ := h1.1
        refine ⟨pr_up hR k x (by omega) (by unfold ps_c ps_k; rw [if_pos hk, if_pos hk]; exact ⟨rfl, rfl⟩), ?_, hK.fr (fun c hc => px_upc (fun e => by rw [e] at hc; revert hc; decide)), ?_⟩
        · show cx_up M1 8 k x 60 24 = cx_up A.1.1 0 k x 0 33 ∧ cx_up M1 8 k x 60 25 = cx_up A.1.1 0 k x 0 34
          rw [px_upc (by decide), px_up, if_neg (by omega), px_up, if_neg (by omega)]
          exact hg
        · unfold pr_Q at hQ ⊢
          rw [px_upc (by decide)]
          exact hQ
      have hb := h1.2.1
      refine qr_A.bk (A := ((A.1.1, pa_keepL A.1, A.1.2.2), A.2)) (B := (cx_up A.1.1 0 k x, pa_keepL A.1, A.1.2.2)) h1 hV2 ?_ (fun c hc => px_upc (fun e => by rw [e] at hc; revert hc; decide)) (fun k _ => by rw [px_upc (by decide)])
      unfold qr_bk at hb ⊢
      rw [px_upc (by decide), px_upc (by decide), px_upc (by decide), px_upc (by decide), px_upc (by decide)]
      exact hb
  · rw [if_neg c, if_pos rfl]
    exact no (fun z => c z.1)
theorem tw_act.ok {N : Nat} {E : ps_E} {M M1 : cx_M} {A : qA} {o : Option cx_R} {v x : Int32} (hF : qr_F M M1) (h : tw_act N E M1 o A v x) (F : cx_M → Int32 → Option cx_R) : ∃ M', cx_cal o F = F M' v ∧ qr_A N E M' A ∧ M' 60 2 = x ∧ qr_F M M' := by
  obtain ⟨M2, e2, h2, g2, F2⟩ := h
  exact ⟨M2, px_cal e2, h2, g2, hF.tr F2⟩
theorem tw_lose_s {N : Nat} {E : ps_E} {M : cx_M} {A : qA} {x : Int32} (hN : 30000 ≤ N) (hA : qAI E A) (h : qr_pre N E M A) : tw_act N E M (tw_lose N M x) (pa_turn A 25 x 0 20 (-1)).1 (pa_turn A 25 x 0 20 (-1)).2 0 := by
  obtain ⟨M1, e1, hA1, hc1, hF1⟩ := h
  obtain ⟨M2, e2, h2, g2, F2⟩ := (tw_turnTo_s (k := 25) (x := x) (lo := 0) (hi := 20) (d := -1) hN hA.2.1.2.2.1 (by decide) hA1).ok hF1 (fun M2 v3 => some (M2, v3, 0))
  unfold tw_lose tw_lose_0
  rw [px_cal e1]
  exact ⟨M2, e2, h2, g2.trans hc1, F2⟩
theorem tw_stall_s {N : Nat} {E : ps_E} {M : cx_M} {A : qA} {x : Int32} (hN : 30000 ≤ N) (hA : qAI E A) (h : qr_pre N E M A) : tw_act N E M (tw_stall N M x) (pa_turn A 26 x 0 30 (-1)).1 (pa_turn A 26 x 0 30 (-1)).2 0 := by
  obtain ⟨M1, e1, hA1, hc1, hF1⟩ := h
  obtain ⟨M2, e2, h2, g2, F2⟩ := (tw_turnTo_s (k := 26) (x := x) (lo := 0) (hi := 30) (d := -1) hN hA.2.1.2.2.1 (by decide) hA1).ok hF1 (fun M2 v3 => some (M2, v3, 0))
  unfold tw_stall tw_stall_0
  rw [px_cal e1]
  exact ⟨M2, e2, h2, g2.trans hc1, F2⟩
/-- what turn comes to -/
noncomputable def pa_turns (A : qA) (w x : Int32) : qA × Int32 :=
  if w = 0 then pa_turn A 27 x (-99) 99 10000 else if w = 1 then pa_turn A 28 x 0 2 10000 else pa_turn A 29 x 1 64 10000
theorem tw_turn_s {N : Nat} {E : ps_E} {M : cx_M} {A : qA} {w x : Int32} (hN : 30000 ≤ N) (hA : qAI E A) (h : qr_pre N E M A) :
    (0 ≤ w.toInt ∧ w.toInt ≤ 2 → tw_act N E M (tw_turn N M w x) (pa_turns A w x).1 (pa_turns A w x).2 0) ∧ (¬ (0 ≤ w.toInt ∧ w.toInt ≤ 2) → tw_act N E M (tw_turn N M w x) A 0 1) := by
  obtain ⟨M1, e1, hA1, hc1, hF1⟩ := h
  have go (k : Nat) (lo hi : Int32) (hk : k < 33) := (tw_turnTo_s (k := k) (x := x) (lo := lo) (hi := hi) (d := 10000) hN hA.2.1.2.2.1 hk hA1).ok hF1 (fun M2 v3 => some (M2, v3, 0))
  unfold tw_turn tw_turn_0 cx_sw
  rw [px_cal e1]
  constructor
  · intro c
    rw [if_neg (fun z => by
      simp only [List.length_cons, List.length_nil] at z
      omega)]
    have hw : w = nI (pn w) := pn_nI c.1
    have hp : pn w < 3 := by rw [pn_def]; omega
    unfold pa_turns
    generalize pn w = k at hw hp
    subst hw
    match k, hp with
    | 0, _ =>
      rw [if_pos (show nI 0 = 0 from rfl)]
      obtain ⟨M2, e2, h2, g2, F2⟩ := go 27 (-99) 99 (by decide)
      exact ⟨M2, e2, h2, g2.trans hc1, F2⟩
    | 1, _ =>
      rw [if_neg (by decide), if_pos (show nI 1 = 1 from rfl)]
      obtain ⟨M2, e2, h2, g2, F2⟩ := go 28 0 2 (by decide)
      exact ⟨M2, e2, h2, g2.trans hc1, F2⟩
    | 2, _ =>
      rw [if_neg (by decide), if_neg (by decide)]
      obtain ⟨M2, e2, h2, g2, F2⟩ := go 29 1 64 (by decide)
      exact ⟨M2, e2, h2, g2.trans hc1, F2⟩
  · intro c
    rw [if_pos (by
      simp only [List.length_cons, List.length_nil]
      omega)]
    obtain ⟨M2, e2, hA2, hc2, hF2⟩ := tw_fail_s (x := 1) hA1
    rw [px_cal e2]
    exact ⟨M2, rfl, hA2, hc2, hF1.tr hF2⟩
/-- steps on -/
def pa_mayStep (A : qA) (n : Int32) : Prop := (1 ≤ n.toInt ∧ n.toInt ≤ 50) ∧ (A.1.1 0 0).toInt + n.toInt ≤ 20000
noncomputable def pa_stepsOn (E : ps_E) (A : qA) (n : Int32) : qA × Int32 :=
  @ite (qA × Int32) (pa_mayStep A n) (Classical.propDecidable _) ((((ps_steps E (pn n) (A.1.1, [])).1, pa_keepL A.1, A.1.2.2), A.2), (ps_steps E (pn n) (A.1.1, [])).1 0 0) ((pa_refB A.1 1, A.2), -1)
theorem pa_stepsOn_y {E : ps_E} {A : qA} {n : Int32} (h : pa_mayStep A n) : pa_stepsOn E A n = ((((ps_steps E (pn n) (A.1.1, [])).1, pa_keepL A.1, A.1.2.2), A.2), (ps_steps E (pn n) (A.1.1, [])).1 0 0) := if_pos h
theorem pa_stepsOn_n {E : ps_E} {A : qA} {n : Int32} (h : ¬ pa_mayStep A n) : pa_stepsOn E A n = ((pa_refB A.1 1, A.2), -1) := if_neg h
theorem tw_steps_s {N : Nat} {E : ps_E} {M : cx_M} {A : qA} {n : Int32} (hN : 30000 ≤ N) (hA : qAI E A) (h : qr_pre N E M A) : tw_act N E M (tw_steps N M n) (pa_stepsOn E A n).1 (pa_stepsOn E A n).2 0 := by
  obtain ⟨M1, e1, hA1, hc1, hF1⟩ := h
  obtain ⟨hE, ⟨⟨T, hT, hI, -⟩, -, hL, -⟩, -⟩ := hA
  have hT0 : A.1.1 0 0 = nI T := hI.2.1
  have tT := pi_nI (n := T) (by omega)
  have no : ¬ pa_mayStep A n → tw_act N E M (tw_steps_30 N M1) (pa_stepsOn E A n).1 (pa_stepsOn E A n).2 0 := by
    intro z
    rw [pa_stepsOn_n z]
    obtain ⟨M2, e2, h2, g2, F2⟩ := tw_refuse_s (i := 1) (by decide) hA1
    refine ⟨M2, ?_, h2, g2.trans hc1, hF1.tr F2⟩
    unfold tw_steps_30
    rw [px_cal (show tw_refuse N M1 1 = _ from e2)]
  unfold tw_steps tw_steps_0
  rw [px_cal e1, px_cal tw_isIn_s]
  by_cases c : 1 ≤ n.toInt ∧ n.toInt ≤ 50
  · rw [if_pos (show (1 : Int64).toInt ≤ n.toInt ∧ n.toInt ≤ (50 : Int64).toInt from c), if_neg (by decide)]
    simp only [px_get]
    rw [pr_n hA1.1.1 0 (by decide)]
    show tw_act N E M (if A.1.1 0 0 + n ≤ 20000 then _ else _) _ _ _
    have es : (A.1.1 0 0 + n).toInt = (A.1.1 0 0).toInt + n.toInt := i32_add (by rw [hT0, tT]; omega) (by rw [hT0, tT]; omega)
    by_cases c2 : A.1.1 0 0 + n ≤ 20000
    · have c3 : (A.1.1 0 0).toInt + n.toInt ≤ 20000 := by
        have := Int32.le_iff_toInt_le.mp c2
        rw [es] at this
        exact this
      rw [if_pos c2, pa_stepsOn_y ⟨c, c3⟩]
      obtain ⟨M2, e2, h2, g2, F2, -⟩ := tw_keep_s hN hL hA1
      have en : n = nI (pn n) := pn_nI (by omega)
      rw [hT0, tT] at c3
      have hpn : pn n ≤ 50 ∧ T + pn n ≤ 20000 := by rw [pn_def]; omega
      obtain ⟨M3, e3, hV3, hF3⟩ := tw_goOn_n (n := pn n) (T := T) (by omega) hE h2.1 hI (by omega) (by omega)
      rw [← en] at e3
      have hq := ps_steps_q (E := E) (s := (A.1.1, [])) rfl (pn n)
      rw [px_cal e2, px_cal e3]
      have h3 : qr_A N E M3 (((ps_steps E (pn n) (A.1.1, [])).1, pa_keepL A.1, A.1.2.2), A.2) := by
        refine qr_A.bk (A := ((A.1.1, pa_keepL A.1, A.1.2.2), A.2)) (B := ((ps_steps E (pn n) (A.1.1, [])).1, pa_keepL A.1, A.1.2.2)) h2 ?_ ?_ (fun c hc => hF3.1 c ((by decide : ∀ c ∈ [47, 48, 49, 50, 51, 11], c ∉ [8, 22, 23, 26, 27, 28, 60]) c hc)) (fun k hk => hF3.2 k ((by decide : ∀ k ∈ [9, 12, 21, 44, 45, 46], k ≠ 29) k hk))
        · have hV4 : pr_V N E M3 (ps_steps E (pn n) (A.1.1, [])) := hV3
          have e4 : ps_steps E (pn n) (A.1.1, []) = ((ps_steps E (pn n) (A.1.1, [])).1, []) := Prod.ext rfl hq
          rw [e4] at hV4
          exact hV4
        · have hb := h2.2.1
          unfold qr_bk at hb ⊢
          rw [hF3.1 33 (by decide), hF3.1 38 (by decide), hF3.1 39 (by decide), hF3.1 7 (by decide), hF3.2 31 (by decide), hF3.2 32 (by decide)]
          exact hb
      refine ⟨M3, ?_, h3, by rw [hF3.2 2 (by decide), g2]; exact hc1, (hF1.tr F2).tr hF3.q⟩
      rw [pr_n h3.1.1 0 (by decide)]
    · rw [if_neg c2]
      refine no (fun z => c2 (Int32.le_iff_toInt_le.mpr ?_))
      rw [es]
      exact z.2
  · rw [if_neg (show ¬ ((1 : Int64).toInt ≤ n.toInt ∧ n.toInt ≤ (50 : Int64).toInt) from c), if_pos rfl]
    exact no (fun z => c z.1)
/-- undone -/
def pa_undo (A : qA) : qA × Int32 :=
  if A.1.2.1.length = 0 then (A, -1) else (((A.1.2.1.getD (A.1.2.1.length - 1) A.1.1, A.1.2.1.take (A.1.2.1.length - 1), A.1.2.2), A.2), nI (A.1.2.1.length - 1))
theorem tw_undo_get {N a : Nat} (ha : a < 40) : ∀ (j k n : Nat) (M : cx_M), k + j = 665 → j < n → M 60 31 = nI a → ∃ M', tw_undo_25 N n M (nI k) = some (M', nI a, 0) ∧ (∀ c, c ≠ 8 → M' c = M c) ∧ ∀ q, q < 665 → M' 8 q = if k ≤ q then M 33 (665 * a + q) else M 8 q := by
  intro j
  induction j with
  | zero =>
    intro k n M hk hn h31
    obtain ⟨n, rfl⟩ : ∃ m, n = m + 1 := ⟨n - 1, by omega⟩
    refine ⟨M, ?_, fun _ _ => rfl, fun q hq => by rw [if_neg (by omega)]⟩
    show tw_undo_25b N (tw_undo_25 N n) M (nI k) = _
    unfold tw_undo_25b
    simp only [px_get]
    rw [if_pos (show (665 : Int32) ≤ nI k from nI_le (a := 665) (by omega) (by omega)), h31]
  | succ j ih =>
    intro k n M hk hn h31
    obtain ⟨n, rfl⟩ : ∃ m, n = m + 1 := ⟨n - 1, by omega⟩
    have t := pi_nI (n := k) (by omega)
    have t2 := pi_nI (n := 665 * a + k) (by omega)
    obtain ⟨M', e, ho, hi⟩ := ih (k + 1) n (cx_up M 8 k (M 33 (665 * a + k))) (by omega) (by omega) (by rw [px_upc (by decide)]; exact h31)
    refine ⟨M', ?_, fun c hc => by rw [ho c hc, px_upc hc], fun q hq => ?_⟩
    · show tw_undo_25b N (tw_undo_25 N n) M (nI k) = _
      unfold tw_undo_25b
      simp only [px_let, px_get]
      rw [if_neg (show ¬ (665 : Int32) ≤ nI k from nI_ge (a := k) (b := 665) (by omega) (by omega)), h31, pi_665 (by omega) (by omega), px_ld (by omega) (by omega), px_st (by omega) (by omega), pn_I (by omega), pn_I (by omega), ← nI_succ]
      exact e
    · rw [hi q hq, px_upc (show (33 : Nat) ≠ 8 by decide), px_up]
      by_cases c : q = k
      · rw [if_neg (by omega), if_pos ⟨rfl, c⟩, if_pos (by omega), c]
      · rw [if_neg (show ¬ (8 = 8 ∧ q = k) from fun z => c z.2)]
        by_cases c2 : k ≤ q
        · rw [if_pos (by omega), if_pos c2]
        · rw [if_neg (by omega), if_neg c2]
theorem tw_undo_s {N : Nat} {E : ps_E} {M : cx_M} {A : qA} (hN : 30000 ≤ N) (hA : qAI E A) (h : qr_pre N E M A) : tw_act N E M (tw_undo N M) (pa_undo A).1 (pa_undo A).2 0 := by
  obtain ⟨M1, e1, hA1, hc1, hF1⟩ := h
  obtain ⟨hE, ⟨⟨T, hT, hI, g33, g34⟩, hP, hL, -⟩, -⟩ := hA
  obtain ⟨h31, hp, hb⟩ := hA1.2.1
  unfold tw_undo tw_undo_0
  rw [px_cal e1]
  simp only [px_get, px_put]
  unfold pa_undo
  by_cases c : A.1.2.1.length = 0
  · rw [if_pos c, h31, c, if_pos (show nI 0 = 0 from rfl)]
    exact ⟨M1, rfl, hA1, hc1, hF1⟩
  · rw [if_neg c]
    obtain ⟨a, ea⟩ : ∃ a, A.1.2.1.length = a + 1 := ⟨A.1.2.1.length - 1, by omega⟩
    rw [ea, Nat.add_sub_cancel]
    rw [ea] at h31
    have hx : A.1.2.1[a]? = some (A.1.2.1.getD a A.1.1) := by
      rw [List.getD_eq_getElem?_getD, List.getElem?_eq_getElem (by omega)]
      rfl
    generalize A.1.2.1.getD a A.1.1 = X at hx ⊢
    have hX := hP X (List.mem_of_getElem? hx)
    rw [h31, if_neg (nI_ne0 (by omega) (by omega)), nI_pr1 (by omega)]
    obtain ⟨M2, e2, o2, i2⟩ := tw_undo_get (N := N) (a := a) (by omega) 665 0 N (cx_up M1 60 31 (nI a)) (by omega) (by omega) (by rw [px_up, if_pos ⟨rfl, rfl⟩])
    have ac : ∀ c, c ≠ 8 → c ≠ 60 → M2 c = M1 c := fun c x y => by rw [o2 c x, px_upc y]
    have bc : ∀ k, k ≠ 31 → M2 60 k = M1 60 k := fun k z => by rw [o2 60 (by decide), px_up, if_neg (fun y => z y.2)]
    have b31 : M2 60 31 = nI a := by rw [o2 60 (by decide), px_up, if_pos ⟨rfl, rfl⟩]
    refine ⟨M2, e2, ?_, by rw [bc 2 (by decide)]; exact hc1, hF1.tr (fun c hc => ac c (by omega) (by omega))⟩
    refine qr_A.bk (A := A) (B := (X, A.1.2.1.take a, A.1.2.2)) hA1 ?_ ?_ (fun c hc => ac c (fun e => by rw [e] at hc; revert hc; decide) (fun e => by rw [e] at hc; revert hc; decide)) (fun k hk => bc k (fun e => by rw [e] at hk; revert hk; decide))
    · obtain ⟨hR, hg, hK, hQ⟩ := hA1.1
      refine ⟨fun q hq => ?_, ?_, hK.fr (fun c hc => ac c (fun e => by rw [e] at hc; revert hc; decide) (fun e => by rw [e] at hc; revert hc; decide)), ?_⟩
      · rw [i2 q hq, if_pos (by omega), px_upc (by decide)]
        exact hp a X hx q hq
      · show M2 60 24 = X 0 33 ∧ M2 60 25 = X 0 34
        obtain ⟨T2, -, -, k33, k34⟩ := hX
        have hg2 : M1 60 24 = A.1.1 0 33 ∧ M1 60 25 = A.1.1 0 34 := hg
        rw [bc 24 (by decide), bc 25 (by decide), hg2.1, hg2.2, g33, g34, k33, k34]
        exact ⟨rfl, rfl⟩
      · unfold pr_Q at hQ ⊢
        rw [bc 29 (by decide), bc 30 (by decide)]
        exact hQ
    · refine ⟨?_, fun j S hj => ?_, ?_⟩
      · show M2 60 31 = nI (A.1.2.1.take a).length
        rw [b31, List.length_take, ea, Nat.min_eq_left (by omega)]
      · have hj2 : A.1.2.1[j]? = some S := by
          have hj' : (A.1.2.1.take a)[j]? = some S := hj
          rw [List.getElem?_take] at hj'
          by_cases z : j < a
          · rw [if_pos z] at hj'; exact hj'
          · rw [if_neg z] at hj'; cases hj'
        rw [ac 33 (by decide) (by decide)]
        exact hp j S hj2
      · rw [bc 32 (by decide), ac 38 (by decide) (by decide), ac 39 (by decide) (by decide), ac 7 (by decide) (by decide)]
        exact hb
