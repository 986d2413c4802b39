/-! THE REFERENCE'S ASKS -/
/-- while something is asked: the row goes on, it is kept at 34 -/
def qr_T (N : Nat) (E : ps_E) (M : cx_M) (A : qA) (s : ps_T) : Prop := pr_V N E M s ∧ pr_R (M 34) A.1.1 ∧ qr_rest M A ∧ M 60 2 = 0
theorem qr_T.remember {N : Nat} {E : ps_E} {M : cx_M} {A : qA} (hN : 700 ≤ N) (h : qr_A N E M A) (h2 : M 60 2 = 0) : ∃ M', tw_rememberNow N M = some (M', 0, 0) ∧ qr_T N E M' A (A.1.1, []) ∧ qr_F M M' ∧ ∀ c, c ≠ 34 → M' c = M c := by
  obtain ⟨M', e, ho, hR⟩ := tw_remember_s (E := E) hN h.1
  exact ⟨M', e, ⟨h.1.oth (fun c hc => ho c (fun e => by rw [e] at hc; revert hc; decide)), hR, h.2.fr (fun c hc => ho c (fun e => by rw [e] at hc; revert hc; decide)) (fun k _ => by rw [ho 60 (by decide)]), by rw [ho 60 (by decide)]; exact h2⟩, fun c hc => ho c (by omega), ho⟩
theorem qr_T.fr {N : Nat} {E : ps_E} {M M' : cx_M} {A : qA} {s t : ps_T} (h : qr_T N E M A s) (hV : pr_V N E M' t) (hF : pr_F M M') : qr_T N E M' A t :=
  ⟨hV, by rw [hF.1 34 (by decide)]; exact h.2.1, h.2.2.1.step hF, by rw [hF.2 2 (by decide)]; exact h.2.2.2⟩
theorem qr_T.step {N : Nat} {E : ps_E} {M : cx_M} {A : qA} {s : ps_T} {T : Nat} (hN : 700 ≤ N) (hE : ps_EO E) (h : qr_T N E M A s) (hI : ps_I E s.1 T) (hT : T + 1 ≤ 22000) : ∃ M', tw_aStep N M = some (M', 0, 0) ∧ qr_T N E M' A (ps_step E s) ∧ pr_F M M' := by
  obtain ⟨M', e, hV, hF⟩ := tw_aStep_s (by omega) hE h.1 hI hT
  exact ⟨M', e, h.fr hV hF, hF⟩
theorem qr_T.goOn {N : Nat} {E : ps_E} {M : cx_M} {A : qA} {s : ps_T} {n T : Nat} (hN : 700 ≤ N) (hE : ps_EO E) (h : qr_T N E M A s) (hI : ps_I E s.1 T) (hT : T + n ≤ 22000) (hn : n ≤ 640) : ∃ M', tw_goOn N M (nI n) = some (M', 0, 0) ∧ qr_T N E M' A (ps_steps E n s) ∧ pr_F M M' := by
  obtain ⟨M', e, hV, hF⟩ := tw_goOn_n hN hE h.1 hI hT hn
  exact ⟨M', e, h.fr hV hF, hF⟩
theorem qr_T.back {N : Nat} {E : ps_E} {M : cx_M} {A : qA} {s : ps_T} (hN : 700 ≤ N) (h : qr_T N E M A s) (h33 : s.1 0 33 = A.1.1 0 33) (h34 : s.1 0 34 = A.1.1 0 34) (v : Int32) : ∃ M', tw_back N M v = some (M', v, 0) ∧ qr_T N E M' A (A.1.1, s.2) ∧ ∀ c, c ≠ 8 → M' c = M c := by
  obtain ⟨M', e, hV, ho⟩ := tw_back_s hN h.1 h.2.1 h33.symm h34.symm v
  exact ⟨M', e, ⟨hV, by rw [ho 34 (by decide)]; exact h.2.1, h.2.2.1.fr (fun c hc => ho c (fun e => by rw [e] at hc; revert hc; decide)) (fun k _ => by rw [ho 60 (by decide)]), by rw [ho 60 (by decide)]; exact h.2.2.2⟩, ho⟩
theorem qr_T.end {N : Nat} {E : ps_E} {M : cx_M} {A : qA} (h : qr_T N E M A (A.1.1, [])) : qr_A N E M A := ⟨h.1, h.2.2.1⟩
theorem qr_T.row {N : Nat} {E : ps_E} {M : cx_M} {A : qA} {s : ps_T} (h : qr_T N E M A s) (k : Nat) (v : Int32) (hk : k < 33) : qr_T N E (cx_up M 8 k v) A (cx_up s.1 0 k v, s.2) := by
  have hc : ps_c k = 0 ∧ ps_k k = k := by unfold ps_c ps_k; rw [if_pos hk, if_pos hk]; exact ⟨rfl, rfl⟩
  exact h.fr (h.1.up k v (by omega) hc) (pr_F.up (by decide))
/-- a cell that no one asks for -/
theorem qr_T.far {N : Nat} {E : ps_E} {M M' : cx_M} {A : qA} {s : ps_T} (h : qr_T N E M A s) (ho : ∀ c, c ≠ 35 → c ≠ 40 → c ≠ 41 → M' c = M c) : qr_T N E M' A s :=
  ⟨h.1.oth (fun c hc => ho c (fun e => by rw [e] at hc; revert hc; decide) (fun e => by rw [e] at hc; revert hc; decide) (fun e => by rw [e] at hc; revert hc; decide)), by rw [ho 34 (by decide) (by decide) (by decide)]; exact h.2.1,
    h.2.2.1.fr (fun c hc => ho c (fun e => by rw [e] at hc; revert hc; decide) (fun e => by rw [e] at hc; revert hc; decide) (fun e => by rw [e] at hc; revert hc; decide)) (fun k _ => by rw [ho 60 (by decide) (by decide) (by decide)]), by rw [ho 60 (by decide) (by decide) (by decide)]; exact h.2.2.2⟩
/-- a number of the reference's that stands for nothing else -/
theorem qr_T.put {N : Nat} {E : ps_E} {M : cx_M} {A : qA} {s : ps_T} (h : qr_T N E M A s) (k : Nat) (v : Int32) (hk : k ∉ [2, 9, 12, 21, 31, 32, 44, 45, 46, 24, 25, 29, 30]) : qr_T N E (cx_up M 60 k v) A s := by
  have ne : ∀ j ∈ [2, 9, 12, 21, 31, 32, 44, 45, 46, 24, 25, 29, 30], cx_up M 60 k v 60 j = M 60 j := by
    intro j hj
    rw [px_up, if_neg]
    intro z
    exact hk (z.2 ▸ hj)
  refine ⟨h.1.oth2 (fun c hc => px_upc (fun e => by rw [e] at hc; revert hc; decide)) (fun j hj => ne j ((by decide : ∀ j ∈ [24, 25, 29, 30], j ∈ [2, 9, 12, 21, 31, 32, 44, 45, 46, 24, 25, 29, 30]) j hj)), by rw [px_upc (by decide)]; exact h.2.1, h.2.2.1.fr (fun c hc => px_upc (fun e => by rw [e] at hc; revert hc; decide)) (fun j hj => ne j ((by decide : ∀ j ∈ [9, 12, 21, 31, 32, 44, 45, 46], j ∈ [2, 9, 12, 21, 31, 32, 44, 45, 46, 24, 25, 29, 30]) j hj)), by rw [ne 2 (by decide)]; exact h.2.2.2⟩
/-- the first from k on, of m -/
def pa_find (P : Nat → Prop) [DecidablePred P] : Nat → Nat → Int32
  | 0, _ => -1
  | m + 1, k => if P k then nI k else pa_find P m (k + 1)
def pa_once (S0 : ps_S) (w : Int32) (S : ps_S) : Prop := if w = 0 then S 0 8 = 2 else if w = 1 then ¬ S 0 7 ≤ S0 0 7 else if w = 2 then ¬ S 0 4 + S 0 5 ≤ S0 0 4 + S0 0 5 else ¬ S 0 12 ≤ S0 0 12
def pa_onceD (S0 : ps_S) (w : Int32) (S : ps_S) : Decidable (pa_once S0 w S) := by
  unfold pa_once
  exact inferInstance
def pa_when (E : ps_E) (S : ps_S) (w : Int32) : Int32 := @pa_find (fun k => pa_once S w (ps_steps E k (S, [])).1) (fun k => pa_onceD S w (ps_steps E k (S, [])).1) 401 0
theorem tw_isOnce_s {N : Nat} {E : ps_E} {M : cx_M} {A : qA} {s : ps_T} {w : Int32} (h : qr_T N E M A s) : tw_isOnce N M w = some (M, @ite Int32 (pa_once A.1.1 w s.1) (pa_onceD _ _ _) 1 0, 0) := by
  have n (k : Nat) (hk : k < 33) : M 8 k = s.1 0 k := pr_n h.1.1 k hk
  have m (k : Nat) (hk : k < 33) : M 34 k = A.1.1 0 k := pr_n h.2.1 k hk
  have key : ∀ (p : Prop) (d : Decidable p) (o : Option cx_R), (p → o = some (M, 1, 0)) → (¬ p → o = some (M, 0, 0)) → o = some (M, @ite Int32 p d 1 0, 0) := by
    intro p d o h1 h0
    by_cases c : p
    · rw [h1 c, if_pos c]
    · rw [h0 c, if_neg c]
  unfold tw_isOnce tw_isOnce_0
  simp only [px_get]
  rw [n 8 (by decide), n 7 (by decide), m 7 (by decide), n 4 (by decide), n 5 (by decide), m 4 (by decide), m 5 (by decide), n 12 (by decide), m 12 (by decide)]
  apply key
  · intro z
    unfold pa_once at z
    by_cases w0 : w = 0
    · rw [if_pos w0] at z ⊢; rw [if_pos z]
    · rw [if_neg w0] at z ⊢
      by_cases w1 : w = 1
      · rw [if_pos w1] at z ⊢; rw [if_neg z]
      · rw [if_neg w1] at z ⊢
        by_cases w2 : w = 2
        · rw [if_pos w2] at z ⊢; rw [if_neg z]
        · rw [if_neg w2] at z ⊢; rw [if_neg z]
  · intro z
    unfold pa_once at z
    by_cases w0 : w = 0
    · rw [if_pos w0] at z ⊢; rw [if_neg z]
    · rw [if_neg w0] at z ⊢
      by_cases w1 : w = 1
      · rw [if_pos w1] at z ⊢; rw [if_pos (Decidable.not_not.mp z)]
      · rw [if_neg w1] at z ⊢
        by_cases w2 : w = 2
        · rw [if_pos w2] at z ⊢; rw [if_pos (Decidable.not_not.mp z)]
        · rw [if_neg w2] at z ⊢; rw [if_pos (Decidable.not_not.mp z)]
theorem tw_when_loop {N : Nat} {E : ps_E} {A : qA} {w : Int32} {T : Nat} (hN : 700 ≤ N) (hE : ps_EO E) (hI : ps_I E A.1.1 T) (hT : T ≤ 20000) (P : Nat → Prop) (D : DecidablePred P) (hP : P = fun k => pa_once A.1.1 w (ps_steps E k (A.1.1, [])).1) :
    ∀ (m k n : Nat) (M : cx_M), k + m = 401 → qr_T N E M A (ps_steps E k (A.1.1, [])) → m < n → ∃ M', tw_when_28 N n M w (nI k) = some (M', @pa_find P D m k, 0) ∧ qr_A N E M' A ∧ M' 60 2 = 0 ∧ qr_F M M' := by
  have stop : ∀ (k : Nat) (M : cx_M) (v : Int32), qr_T N E M A (ps_steps E k (A.1.1, [])) → ∃ M', tw_back N M v = some (M', v, 0) ∧ qr_A N E M' A ∧ M' 60 2 = 0 ∧ qr_F M M' := by
    intro k M v h
    obtain ⟨M1, e1, h1, ho1⟩ := h.back hN (by rw [ps_steps_0 (by decide)]) (by rw [ps_steps_0 (by decide)]) v
    rw [ps_steps_q rfl] at h1
    exact ⟨M1, e1, h1.end, h1.2.2.2, fun c hc => ho1 c (by omega)⟩
  intro m
  induction m with
  | zero =>
    intro k n M hk h hn
    obtain ⟨n, rfl⟩ : ∃ j, n = j + 1 := ⟨n - 1, by omega⟩
    obtain ⟨M1, e1, r1⟩ := stop k M (-1) h
    refine ⟨M1, ?_, r1⟩
    show tw_when_28b N (tw_when_28 N n) M w (nI k) = _
    unfold tw_when_28b
    rw [if_pos (show (400 : Int32) < nI k from nI_lt (a := 400) (by omega) (by omega)), px_cal e1]
    rfl
  | succ m ih =>
    intro k n M hk h hn
    obtain ⟨n, rfl⟩ : ∃ j, n = j + 1 := ⟨n - 1, by omega⟩
    show ∃ M', tw_when_28b N (tw_when_28 N n) M w (nI k) = _ ∧ _
    unfold tw_when_28b pa_find
    rw [if_neg (show ¬ (400 : Int32) < nI k from nI_nlt (b := k) (a := 400) (by omega) (by omega)), px_cal (tw_isOnce_s h)]
    simp only [px_let]
    have hPk : P k ↔ pa_once A.1.1 w (ps_steps E k (A.1.1, [])).1 := by rw [hP]
    by_cases c : P k
    · rw [if_pos (hPk.mp c), if_neg (by decide), if_pos c]
      obtain ⟨M1, e1, r1⟩ := stop k M (nI k) h
      refine ⟨M1, ?_, r1⟩
      rw [px_cal e1]
    · rw [if_neg (fun z => c (hPk.mpr z)), if_pos rfl, if_neg c]
      obtain ⟨M1, e1, h1, hF1⟩ := h.step hN hE (ps_steps_I hE hI k (by omega)) (by omega)
      rw [px_cal e1, ← nI_succ]
      obtain ⟨M2, e2, a2, b2, c2⟩ := ih (k + 1) n M1 (by omega) h1 (by omega)
      exact ⟨M2, e2, a2, b2, hF1.q.tr c2⟩
theorem tw_when_s {N : Nat} {E : ps_E} {M : cx_M} {A : qA} {w : Int32} (hN : 700 ≤ N) (hA : qAI E A) (h : qr_pre N E M A) :
    tw_ok N E A M (tw_when N M w) (pa_when E A.1.1 w) (if 0 ≤ w.toInt ∧ w.toInt ≤ 3 then 0 else 1) := by
  obtain ⟨M1, e1, hA1, hc1, hF1⟩ := h
  obtain ⟨hE, ⟨⟨T, hT, hI, -⟩, -⟩, -⟩ := hA
  unfold tw_ok tw_when tw_when_0
  rw [px_cal e1, px_cal tw_isIn_s]
  by_cases cw : 0 ≤ w.toInt ∧ w.toInt ≤ 3
  · rw [if_pos (show (0 : Int64).toInt ≤ w.toInt ∧ w.toInt ≤ (3 : Int64).toInt from cw), if_neg (by decide), if_pos cw]
    obtain ⟨M2, e2, h2, hF2, -⟩ := qr_T.remember hN hA1 hc1
    rw [px_cal e2]
    obtain ⟨M3, e3, a3, b3, c3⟩ := tw_when_loop (w := w) hN hE hI hT _ (fun k => pa_onceD A.1.1 w (ps_steps E k (A.1.1, [])).1) rfl 401 0 N M2 (by omega) h2 (by omega)
    exact ⟨M3, _, e3, a3, b3, fun _ => rfl, (hF1.tr hF2).tr c3⟩
  · rw [if_neg (show ¬ ((0 : Int64).toInt ≤ w.toInt ∧ w.toInt ≤ (3 : Int64).toInt) from cw), if_pos rfl, if_neg cw]
    obtain ⟨M2, e2, hA2, hc2, hF2⟩ := tw_fail_s (x := 1) hA1
    rw [px_cal e2]
    exact ⟨M2, 0, rfl, hA2, hc2, fun z => absurd z (by decide), hF1.tr hF2⟩
/-! settles -/
def pa_off (E : ps_E) (S : ps_S) : Int32 := cx_abs (ps_level E S - S 0 29)
def pa_near (E : ps_E) (S : ps_S) : Prop := ¬ 2 < pa_off E S
def pa_nearD (E : ps_E) (S : ps_S) : Decidable (pa_near E S) := by
  unfold pa_near
  exact inferInstance
/-- by how calm it has been -/
def pa_calm (P R : Nat → Prop) [DecidablePred P] [DecidablePred R] : Nat → Nat → Nat → Int32
  | 0, _, _ => -1
  | m + 1, k, c => let d := if R k then c + 1 else 0
    if 40 ≤ d ∧ P (k - 40) then nI (k - 40) else pa_calm P R m (k + 1) d
def pa_settles (E : ps_E) (S : ps_S) : Int32 := @pa_calm (fun k => (ps_steps E k (S, [])).1 0 8 = 2) (fun k => pa_near E (ps_steps E k (S, [])).1) inferInstance (fun k => pa_nearD E (ps_steps E k (S, [])).1) 440 1 0
theorem tw_isNear_s {N : Nat} {E : ps_E} {M : cx_M} {A : qA} {s : ps_T} (hN : 700 ≤ N) (hE : ps_EO E) (h : qr_T N E M A s) : tw_isNear N M = some (M, @ite Int32 (pa_near E s.1) (pa_nearD _ _) 1 0, 0) := by
  unfold tw_isNear tw_isNear_0
  rw [px_cal (tw_level_s (by omega) hE h.1)]
  simp only [px_get]
  rw [pr_n h.1.1 29 (by decide)]
  by_cases c : pa_near E s.1
  · have c' := c
    unfold pa_near pa_off at c'
    rw [if_neg c', if_pos c]
  · have c' := c
    unfold pa_near pa_off at c'
    rw [if_pos (Decidable.not_not.mp c'), if_neg c]
theorem tw_settles_loop {N : Nat} {E : ps_E} {A : qA} {T : Nat} (hN : 700 ≤ N) (hE : ps_EO E) (hI : ps_I E A.1.1 T) (hT : T ≤ 20000) (P R : Nat → Prop) (D : DecidablePred P) (F : DecidablePred R) (hP : P = fun k => (ps_steps E k (A.1.1, [])).1 0 8 = 2) (hR : R = fun k => pa_near E (ps_steps E k (A.1.1, [])).1) :
    ∀ (m k c n : Nat) (M : cx_M), k + m = 441 → 1 ≤ k → c < k → qr_T N E M A (ps_steps E (k - 1) (A.1.1, [])) → (∀ j, j < k → M 35 j = if P j then 1 else 0) → m < n → ∃ M', tw_settles_34 N n M (nI c) (nI k) = some (M', @pa_calm P R D F m k c, 0) ∧ qr_A N E M' A ∧ M' 60 2 = 0 ∧ qr_F M M' := by
  have stop : ∀ (k : Nat) (M : cx_M) (v : Int32), qr_T N E M A (ps_steps E k (A.1.1, [])) → ∃ M', tw_back N M v = some (M', v, 0) ∧ qr_A N E M' A ∧ M' 60 2 = 0 ∧ qr_F M M' := by
    intro k M v h
    obtain ⟨M1, e1, h1, ho1⟩ := h.back hN (by rw [ps_steps_0 (by decide)]) (by rw [ps_steps_0 (by decide)]) v
    rw [ps_steps_q rfl] at h1
    exact ⟨M1, e1, h1.end, h1.2.2.2, fun c hc => ho1 c (by omega)⟩
  intro m
  induction m with
  | zero =>
    intro k c n M hk h1k hck h h35 hn
    obtain ⟨n, rfl⟩ : ∃ j, n = j + 1 := ⟨n - 1, by omega⟩
    obtain ⟨M1, e1, r1⟩ := stop _ M (-1) h
    refine ⟨M1, ?_, r1⟩
    show tw_settles_34b N (tw_settles_34 N n) M (nI c) (nI k) = _
    unfold tw_settles_34b
    rw [if_pos (show (440 : Int32) < nI k from nI_lt (a := 440) (by omega) (by omega)), px_cal e1]
    rfl
  | succ m ih =>
    intro k c n M hk h1k hck h h35 hn
    obtain ⟨n, rfl⟩ : ∃ j, n = j + 1 := ⟨n - 1, by omega⟩
    obtain ⟨k, rfl⟩ : ∃ j, k = j + 1 := ⟨k - 1, by omega⟩
    rw [Nat.add_sub_cancel] at h
    obtain ⟨M1, e1, h1, hF1⟩ := h.step hN hE (ps_steps_I hE hI k (by omega)) (by omega)
    have h1' : qr_T N E M1 A (ps_steps E (k + 1) (A.1.1, [])) := h1
    have tk := pi_nI (n := k + 1) (by omega)
    have pk : pn (nI (k + 1)) = k + 1 := by rw [pn_def, tk]; omega
    have hPk : P (k + 1) ↔ (ps_steps E (k + 1) (A.1.1, [])).1 0 8 = 2 := by rw [hP]
    have hRk : R (k + 1) ↔ pa_near E (ps_steps E (k + 1) (A.1.1, [])).1 := by rw [hR]
    show ∃ M', tw_settles_34b N (tw_settles_34 N n) M (nI c) (nI (k + 1)) = _ ∧ _
    unfold tw_settles_34b
    rw [if_neg (show ¬ (440 : Int32) < nI (k + 1) from nI_nlt (b := k + 1) (a := 440) (by omega) (by omega)), px_cal e1]
    simp only [px_get]
    rw [pr_n h1'.1.1 8 (by decide)]
    have h66 : ∀ z : Int32, z = (if P (k + 1) then 1 else 0) → ∃ M', tw_settles_66 N (tw_settles_34 N n) M1 (nI c) (nI (k + 1)) (nI (k + 1)) z = some (M', @pa_calm P R D F (m + 1) (k + 1) c, 0) ∧ qr_A N E M' A ∧ M' 60 2 = 0 ∧ qr_F M M' := by
      intro z hz
      unfold tw_settles_66
      rw [px_st (by omega) (by omega), pk]
      have ho2 : ∀ c, c ≠ 35 → cx_up M1 35 (k + 1) z c = M1 c := fun c hc => px_upc hc
      have h2 : qr_T N E (cx_up M1 35 (k + 1) z) A (ps_steps E (k + 1) (A.1.1, [])) := h1'.far (fun c a _ _ => ho2 c a)
      have h35' : ∀ j, j < k + 2 → cx_up M1 35 (k + 1) z 35 j = if P j then 1 else 0 := by
        intro j hj
        rw [px_up]
        by_cases ej : j = k + 1
        · rw [if_pos ⟨rfl, ej⟩, ej, hz]
        · rw [if_neg (fun y => ej y.2), hF1.1 35 (by decide)]
          exact h35 j (by omega)
      have hFm : qr_F M (cx_up M1 35 (k + 1) z) := hF1.q.tr (qr_F.up (by decide))
      generalize cx_up M1 35 (k + 1) z = M2 at h2 h35' hFm ⊢
      rw [px_cal (tw_isNear_s hN hE h2)]
      unfold pa_calm
      try dsimp only
      have h81 : ∀ d : Nat, d ≤ k + 1 → ∃ M', tw_settles_81 N (tw_settles_34 N n) M2 (nI (k + 1)) (nI d) = some (M', if 40 ≤ d ∧ P (k + 1 - 40) then nI (k + 1 - 40) else @pa_calm P R D F m (k + 1 + 1) d, 0) ∧ qr_A N E M' A ∧ M' 60 2 = 0 ∧ qr_F M M' := by
        intro d hd
        unfold tw_settles_81 tw_settles_110
        simp only [px_let]
        have next : ∃ M', tw_settles_34 N n M2 (nI d) (nI (k + 1) + 1) = some (M', @pa_calm P R D F m (k + 1 + 1) d, 0) ∧ qr_A N E M' A ∧ M' 60 2 = 0 ∧ qr_F M M' := by
          rw [← nI_succ]
          obtain ⟨M3, e3, a3, b3, c3⟩ := ih (k + 1 + 1) d n M2 (by omega) (by omega) (by omega) h2 h35' (by omega)
          exact ⟨M3, e3, a3, b3, hFm.tr c3⟩
        by_cases c40 : d < 40
        · rw [if_pos (show nI d < (40 : Int32) from nI_lt (b := 40) c40 (by omega)), if_neg (fun y => by omega)]
          exact next
        · have e40 : nI (k + 1) - 40 = nI (k + 1 - 40) := by
            have h40 : (40 : Int32).toInt = 40 := rfl
            rw [i32_eq, i32_sub (by omega) (by omega), tk, h40, pi_nI (by omega)]
            omega
          have t4 := pi_nI (n := k + 1 - 40) (by omega)
          have p4 : pn (nI (k + 1 - 40)) = k + 1 - 40 := by rw [pn_def, t4]; omega
          rw [if_neg (show ¬ nI d < (40 : Int32) from nI_nlt (b := 40) (by omega) (by omega)), e40, px_ld (by omega) (by omega), p4, h35' _ (by omega)]
          by_cases cP : P (k + 1 - 40)
          · rw [if_pos cP, if_pos rfl, if_pos ⟨by omega, cP⟩]
            obtain ⟨M3, e3, a3, b3, c3⟩ := stop _ M2 (nI (k + 1 - 40)) h2
            rw [px_cal e3]
            exact ⟨M3, rfl, a3, b3, hFm.tr c3⟩
          · rw [if_neg cP, if_neg (by decide), if_neg (fun y => cP y.2)]
            exact next
      by_cases cR : R (k + 1)
      · rw [if_pos (hRk.mp cR), if_neg (by decide), if_pos cR, ← nI_succ]
        exact h81 (c + 1) (by omega)
      · rw [if_neg (fun y => cR (hRk.mpr y)), if_pos rfl, if_neg cR]
        exact h81 0 (by omega)
    by_cases cP : P (k + 1)
    · rw [if_pos (hPk.mp cP)]
      exact h66 1 (by rw [if_pos cP])
    · rw [if_neg (fun y => cP (hPk.mpr y))]
      exact h66 0 (by rw [if_neg cP])
theorem tw_settles_s {N : Nat} {E : ps_E} {M : cx_M} {A : qA} (hN : 700 ≤ N) (hA : qAI E A) (h : qr_pre N E M A) : tw_ok N E A M (tw_settles N M) (pa_settles E A.1.1) 0 := by
  obtain ⟨M1, e1, hA1, hc1, hF1⟩ := h
  obtain ⟨hE, ⟨⟨T, hT, hI, -⟩, -⟩, -⟩ := hA
  unfold tw_ok tw_settles tw_settles_0
  rw [px_cal e1]
  obtain ⟨M2, e2, h2, hF2, -⟩ := qr_T.remember hN hA1 hc1
  rw [px_cal e2]
  simp only [px_get]
  rw [pr_n h2.1.1 8 (by decide)]
  have h29 : ∀ z : Int32, z = (if A.1.1 0 8 = 2 then 1 else 0) → ∃ M' v', tw_settles_29 N M2 0 z = some (M', v', 0) ∧ qr_A N E M' A ∧ M' 60 2 = 0 ∧ (True → v' = pa_settles E A.1.1) ∧ qr_F M M' := by
    intro z hz
    unfold tw_settles_29
    rw [px_st (by decide) (by decide)]
    have h3 : qr_T N E (cx_up M2 35 (pn 0) z) A (ps_steps E 0 (A.1.1, [])) := h2.far (fun c a _ _ => px_upc a)
    obtain ⟨M3, e3, a3, b3, c3⟩ := tw_settles_loop hN hE hI hT (fun k => (ps_steps E k (A.1.1, [])).1 0 8 = 2) (fun k => pa_near E (ps_steps E k (A.1.1, [])).1) inferInstance (fun k => pa_nearD E (ps_steps E k (A.1.1, [])).1) rfl rfl 440 1 0 N _ (by omega) (by omega) (by omega) h3 (by
      intro j hj
      have : j = 0 := by omega
      subst this
      rw [px_up, if_pos ⟨rfl, rfl⟩]
      exact hz) (by omega)
    exact ⟨M3, _, e3, a3, b3, fun _ => rfl, ((hF1.tr hF2).tr (qr_F.up (by decide))).tr c3⟩
  by_cases c : A.1.1 0 8 = 2
  · rw [if_pos c]; exact h29 1 (by rw [if_pos c])
  · rw [if_neg c]; exact h29 0 (by rw [if_neg c])
