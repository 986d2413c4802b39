/-! toAim, toGain -/
theorem pr_R.free {f : Nat → Int32} {S : ps_S} (h : pr_R f S) (k : Nat) (v : Int32) (hk : 33 ≤ k) : pr_R f (cx_up S 0 k v) := by
  intro q hq
  rw [h q hq, px_up, if_neg]
  intro x
  have h1 := x.2
  have h0 := x.1
  unfold ps_c at h0
  unfold ps_k at h1
  by_cases h33 : q < 33
  · rw [if_pos h33] at h1; omega
  · rw [if_neg h33] at h0
    revert h0
    split
    · omega
    · split
      · decide
      · split
        · decide
        · split
          · decide
          · split <;> decide
def pa_aim (E : ps_E) (S : ps_S) (n : Nat) (a : Int32) : Int32 := (ps_steps E n (cx_up S 0 29 a, [])).1 0 7 - S 0 7
def pa_sb (k v : Int32) (x : Int32 × Int32) : Int32 × Int32 := if v < x.2 then (k, v) else x
def pa_aims (E : ps_E) (S : ps_S) (n : Nat) : Nat → Nat → Int32 × Int32 → Int32 × Int32
  | 0, _, x => x
  | m + 1, k, x => pa_aims E S n m (k + 1) (pa_sb (nI k) (pa_aim E S n (nI k)) x)
def pa_toAim (E : ps_E) (S : ps_S) (n : Nat) (w : Int32) : Int32 :=
  let x := pa_aims E S n 63 2 (1, pa_aim E S n 1)
  if w = 0 then x.1 else x.2
theorem pa_aim_b {E : ps_E} {S : ps_S} {n T : Nat} {a : Int32} (hE : ps_EO E) (hI : ps_I E S T) (hT : T ≤ 20000) (hn : n ≤ 400) : 0 ≤ (pa_aim E S n a).toInt ∧ (pa_aim E S n a).toInt < 999999 := by
  have hI2 : ps_I E (cx_up S 0 29 a) T := by
    obtain ⟨hJ, h0, h1, h22, h23⟩ := hI
    exact ⟨ps_J_up _ (by decide) hJ, by rw [px_up, if_neg (by decide)]; exact h0, h1, by rw [px_up, if_neg (by decide)]; exact h22, by rw [px_up, px_up, if_neg (by decide), if_neg (by decide)]; exact h23⟩
  have hm := (ps_steps_mono (s := (cx_up S 0 29 a, [])) hE hI2 n (by omega)).1
  have hI3 := ps_steps_I (s := (cx_up S 0 29 a, [])) hE hI2 n (by omega)
  have h1 := hI.1.1
  have h3 := hI3.1.1
  unfold ps_Jn at h1 h3
  have e7 : cx_up S 0 29 a 0 7 = S 0 7 := by rw [px_up, if_neg (by decide)]
  have hm' : (S 0 7).toInt ≤ ((ps_steps E n (cx_up S 0 29 a, [])).1 0 7).toInt := by
    have : ((cx_up S 0 29 a, ([] : List Bool)) : ps_T).1 0 7 = S 0 7 := e7
    rw [this] at hm
    exact hm
  unfold pa_aim
  rw [i32_sub (by omega) (by omega)]
  omega
theorem tw_tryBest_s {N : Nat} {E : ps_E} {M : cx_M} {A : qA} {s : ps_T} {k v : Int32} (h : qr_T N E M A s) (x : Int32 × Int32) (h36 : M 60 36 = x.1) (h37 : x.1 ≠ -1 → M 60 37 = x.2) : ∃ M', tw_tryBest N M k v = some (M', 0, 0) ∧ qr_T N E M' A s ∧
    (M' 60 36 = if v = -1 ∨ (x.1 ≠ -1 ∧ ¬ v < x.2) then x.1 else k) ∧ ((if v = -1 ∨ (x.1 ≠ -1 ∧ ¬ v < x.2) then x.1 else k) ≠ -1 → M' 60 37 = if v = -1 ∨ (x.1 ≠ -1 ∧ ¬ v < x.2) then x.2 else v) ∧ qr_F M M' ∧ (∀ j, j ≠ 36 → j ≠ 37 → M' 60 j = M 60 j) ∧ ∀ c, c ≠ 60 → M' c = M c := by
  have set : ∀ o, o = tw_tryBest_22 N M k v → ∃ M', o = some (M', 0, 0) ∧ qr_T N E M' A s ∧ M' 60 36 = k ∧ M' 60 37 = v ∧ qr_F M M' ∧ (∀ j, j ≠ 36 → j ≠ 37 → M' 60 j = M 60 j) ∧ ∀ c, c ≠ 60 → M' c = M c := by
    intro o ho
    subst ho
    refine ⟨cx_up (cx_up M 60 36 k) 60 37 v, rfl, (h.put 36 k (by decide)).put 37 v (by decide), ?_, ?_, (qr_F.up (by decide)).tr (qr_F.up (by decide)), fun j a b => ?_, fun c hc => ?_⟩
    · rw [px_up, if_neg (by decide), px_up, if_pos ⟨rfl, rfl⟩]
    · rw [px_up, if_pos ⟨rfl, rfl⟩]
    · rw [px_up, if_neg (fun z => b z.2), px_up, if_neg (fun z => a z.2)]
    · rw [px_upc hc, px_upc hc]
  unfold tw_tryBest tw_tryBest_0
  simp only [px_get]
  rw [h36]
  by_cases c1 : v = -1
  · simp only [c1, if_true, true_or]
    exact ⟨M, rfl, h, h36, h37, qr_F.rf, fun _ _ _ => rfl, fun _ _ => rfl⟩
  · rw [if_neg c1]
    by_cases c2 : x.1 = -1
    · rw [if_pos c2]
      have cc : ¬ (v = -1 ∨ (x.1 ≠ -1 ∧ ¬ v < x.2)) := fun z => z.elim c1 (fun y => y.1 c2)
      simp only [if_neg cc]
      obtain ⟨M', e, a, b, c, d⟩ := set _ rfl
      exact ⟨M', e, a, b, fun _ => c, d⟩
    · rw [if_neg c2, h37 c2]
      by_cases c3 : v < x.2
      · rw [if_pos c3]
        have cc : ¬ (v = -1 ∨ (x.1 ≠ -1 ∧ ¬ v < x.2)) := fun z => z.elim c1 (fun y => y.2 c3)
        simp only [if_neg cc]
        obtain ⟨M', e, a, b, c, d⟩ := set _ rfl
        exact ⟨M', e, a, b, fun _ => c, d⟩
      · rw [if_neg c3]
        have cc : v = -1 ∨ (x.1 ≠ -1 ∧ ¬ v < x.2) := Or.inr ⟨c2, c3⟩
        simp only [if_pos cc]
        exact ⟨M, rfl, h, h36, h37, qr_F.rf, fun _ _ _ => rfl, fun _ _ => rfl⟩
theorem qI_up29 {E : ps_E} {S : ps_S} {T k : Nat} {a : Int32} (hI : ps_I E S T) (hk : k ∉ ps_used) (h22 : k ≠ 22) (h23 : k ≠ 23) : ps_I E (cx_up S 0 k a) T := by
  have h0k : k ≠ 0 := fun e => hk (by rw [e]; decide)
  have h8k : k ≠ 8 := fun e => hk (by rw [e]; decide)
  obtain ⟨hJ, h0, h1, g22, g23⟩ := hI
  exact ⟨ps_J_up _ hk hJ, by rw [px_up, if_neg (by omega)]; exact h0, h1, by rw [px_up, if_neg (by omega)]; exact g22, by rw [px_up, px_up, if_neg (by omega), if_neg (by omega)]; exact g23⟩
theorem tw_toAim_body {N : Nat} {E : ps_E} {A : qA} {T n : Nat} (hN : 700 ≤ N) (hE : ps_EO E) (hI : ps_I E A.1.1 T) (hT : T ≤ 20000) (hn : n ≤ 400) {M : cx_M} {k : Nat} (hk : k < 100) (h : qr_T N E M A (A.1.1, [])) : ∃ M1, (∀ F : cx_M → Int32 → Option cx_R, (cx_put M 8 29 (nI k) fun M3 => cx_cal (tw_goOn N M3 (nI n)) fun M4 _ => cx_get M4 8 7 fun v5 => cx_get M4 34 7 fun v6 => cx_let (v5 - v6) fun v7 => cx_cal (tw_back N M4 0) fun M8 _ => F M8 v7) = F M1 (pa_aim E A.1.1 n (nI k))) ∧ qr_T N E M1 A (A.1.1, []) ∧ qr_F M M1 ∧ (∀ j, j ≠ 29 → M1 60 j = M 60 j) := by
  have h1 := h.row 29 (nI k) (by decide)
  obtain ⟨M2, e2, h2, hF2⟩ := h1.goOn (n := n) hN hE (qI_up29 hI (by decide) (by decide) (by decide)) (by omega) (by omega)
  obtain ⟨M3, e3, h3, ho3⟩ := h2.back hN (by rw [ps_steps_0 (by decide)]; show cx_up A.1.1 0 29 (nI k) 0 33 = _; rw [px_up, if_neg (by decide)]) (by rw [ps_steps_0 (by decide)]; show cx_up A.1.1 0 29 (nI k) 0 34 = _; rw [px_up, if_neg (by decide)]) 0
  rw [ps_steps_q rfl] at h3
  refine ⟨M3, fun F => ?_, h3, ?_, fun j hj => ?_⟩
  · simp only [px_put]
    rw [px_cal e2]
    simp only [px_get, px_let]
    rw [px_cal e3, pr_n h2.1.1 7 (by decide), pr_n h2.2.1 7 (by decide)]
    rfl
  · exact ((qr_F.up (by decide)).tr hF2.q).tr (fun c hc => ho3 c (by omega))
  · rw [ho3 60 (by decide), hF2.2 j hj, px_upc (by decide)]
theorem tw_toAim_loop {N : Nat} {E : ps_E} {A : qA} {T n : Nat} {w : Int32} (hN : 700 ≤ N) (hE : ps_EO E) (hI : ps_I E A.1.1 T) (hT : T ≤ 20000) (hn : n ≤ 400) :
    ∀ (m k f : Nat) (M : cx_M) (x : Int32 × Int32), k + m = 65 → 2 ≤ k → qr_T N E M A (A.1.1, []) → M 60 36 = x.1 → M 60 37 = x.2 → x.1 ≠ -1 → m < f → ∃ M', tw_toAim_49 N f M (nI n) w (nI k) = some (M', if w = 0 then (pa_aims E A.1.1 n m k x).1 else (pa_aims E A.1.1 n m k x).2, 0) ∧ qr_A N E M' A ∧ M' 60 2 = 0 ∧ qr_F M M' := by
  intro m
  induction m with
  | zero =>
    intro k f M x hk h2k h h36 h37 hx hf
    obtain ⟨f, rfl⟩ : ∃ j, f = j + 1 := ⟨f - 1, by omega⟩
    refine ⟨M, ?_, h.end, h.2.2.2, qr_F.rf⟩
    show tw_toAim_49b N (tw_toAim_49 N f) M (nI n) w (nI k) = _
    unfold tw_toAim_49b
    simp only [px_get]
    rw [if_pos (show (64 : Int32) < nI k from nI_lt (a := 64) (by omega) (by omega)), h36, h37]
    unfold pa_aims
    split <;> rfl
  | succ m ih =>
    intro k f M x hk h2k h h36 h37 hx hf
    obtain ⟨f, rfl⟩ : ∃ j, f = j + 1 := ⟨f - 1, by omega⟩
    obtain ⟨M1, e1, h1, hF1, hj1⟩ := tw_toAim_body (k := k) hN hE hI hT hn (by omega) h
    have hb := pa_aim_b (a := nI k) hE hI hT hn
    have hne : pa_aim E A.1.1 n (nI k) ≠ -1 := by
      intro e
      rw [e] at hb
      revert hb
      decide
    obtain ⟨M2, e2, h2, a36, a37, hF2, hj2, ho2⟩ := tw_tryBest_s (k := nI k) (v := pa_aim E A.1.1 n (nI k)) h1 x (by rw [hj1 36 (by decide)]; exact h36) (fun _ => by rw [hj1 37 (by decide)]; exact h37)
    have hsb : (if pa_aim E A.1.1 n (nI k) = -1 ∨ (x.1 ≠ -1 ∧ ¬ pa_aim E A.1.1 n (nI k) < x.2) then x.1 else nI k) = (pa_sb (nI k) (pa_aim E A.1.1 n (nI k)) x).1 ∧ (if pa_aim E A.1.1 n (nI k) = -1 ∨ (x.1 ≠ -1 ∧ ¬ pa_aim E A.1.1 n (nI k) < x.2) then x.2 else pa_aim E A.1.1 n (nI k)) = (pa_sb (nI k) (pa_aim E A.1.1 n (nI k)) x).2 := by
      unfold pa_sb
      by_cases c : pa_aim E A.1.1 n (nI k) < x.2
      · have cc : ¬ (pa_aim E A.1.1 n (nI k) = -1 ∨ (x.1 ≠ -1 ∧ ¬ pa_aim E A.1.1 n (nI k) < x.2)) := fun z => z.elim hne (fun y => y.2 c)
        rw [if_neg cc, if_neg cc, if_pos c]
        exact ⟨rfl, rfl⟩
      · have cc : pa_aim E A.1.1 n (nI k) = -1 ∨ (x.1 ≠ -1 ∧ ¬ pa_aim E A.1.1 n (nI k) < x.2) := Or.inr ⟨hx, c⟩
        rw [if_pos cc, if_pos cc, if_neg c]
        exact ⟨rfl, rfl⟩
    have hk1 : nI k ≠ -1 := by
      intro e
      have := congrArg Int32.toInt e
      rw [pi_nI (by omega)] at this
      have h2 : (-1 : Int32).toInt = -1 := rfl
      omega
    have hx2 : (pa_sb (nI k) (pa_aim E A.1.1 n (nI k)) x).1 ≠ -1 := by
      unfold pa_sb
      split
      · exact hk1
      · exact hx
    rw [hsb.1] at a36
    rw [hsb.1, hsb.2] at a37
    obtain ⟨M3, e3, a3, b3, c3⟩ := ih (k + 1) f M2 (pa_sb (nI k) (pa_aim E A.1.1 n (nI k)) x) (by omega) (by omega) h2 a36 (a37 hx2) hx2 (by omega)
    refine ⟨M3, ?_, a3, b3, (hF1.tr hF2).tr c3⟩
    show tw_toAim_49b N (tw_toAim_49 N f) M (nI n) w (nI k) = _
    unfold tw_toAim_49b
    rw [if_neg (show ¬ (64 : Int32) < nI k from nI_nlt (b := k) (a := 64) (by omega) (by omega)), e1, px_cal e2]
    simp only [px_let]
    rw [← nI_succ]
    exact e3
theorem tw_toAim_s {N : Nat} {E : ps_E} {M : cx_M} {A : qA} {n w : Int32} (hN : 700 ≤ N) (hA : qAI E A) (h : qr_pre N E M A) :
    tw_ok N E A M (tw_toAim N M n w) (pa_toAim E A.1.1 (pn n) w) (if 0 ≤ w.toInt ∧ w.toInt ≤ 1 then (if 1 ≤ n.toInt ∧ n.toInt ≤ 400 then 0 else 2) else 1) := by
  obtain ⟨M1, e1, hA1, hc1, hF1⟩ := h
  obtain ⟨hE, ⟨⟨T, hT, hI, -⟩, -⟩, -⟩ := hA
  unfold tw_ok tw_toAim tw_toAim_0
  rw [px_cal e1, px_cal tw_isIn_s]
  by_cases cw : 0 ≤ w.toInt ∧ w.toInt ≤ 1
  · rw [if_pos (show (0 : Int64).toInt ≤ w.toInt ∧ w.toInt ≤ (1 : Int64).toInt from cw), if_neg (by decide), px_cal tw_isIn_s, if_pos cw]
    by_cases cn : 1 ≤ n.toInt ∧ n.toInt ≤ 400
    · rw [if_pos (show (1 : Int64).toInt ≤ n.toInt ∧ n.toInt ≤ (400 : Int64).toInt from cn), if_neg (by decide), if_pos cn]
      simp only [px_put]
      have en : n = nI (pn n) := pn_nI (by omega)
      have hn : pn n ≤ 400 := by rw [pn_def]; omega
      have c2 : cx_up M1 60 36 (-1) 60 2 = 0 := by rw [px_up, if_neg (by decide)]; exact hc1
      obtain ⟨M2, e2, h2, hF2, ho2⟩ := qr_T.remember hN (hA1.put 36 (-1) (by decide)) c2
      rw [px_cal e2]
      generalize hnn : pn n = nn at en hn
      subst en
      have h36 : M2 60 36 = -1 := by rw [ho2 60 (by decide), px_up, if_pos ⟨rfl, rfl⟩]
      obtain ⟨f, hf⟩ : ∃ f, N = f + 1 := ⟨N - 1, by omega⟩
      obtain ⟨M3, e3, h3, hF3, hj3⟩ := tw_toAim_body (k := 1) hN hE hI hT hn (by omega) h2
      have hb := pa_aim_b (a := nI 1) hE hI hT hn
      have hne : pa_aim E A.1.1 nn (nI 1) ≠ -1 := by
        intro e
        rw [e] at hb
        revert hb
        decide
      obtain ⟨M4, e4, h4, a36, a37, hF4, hj4, ho4⟩ := tw_tryBest_s (k := nI 1) (v := pa_aim E A.1.1 nn (nI 1)) h3 (-1, 0) (by rw [hj3 36 (by decide)]; exact h36) (fun z => absurd rfl z)
      have cc : ¬ (pa_aim E A.1.1 nn (nI 1) = -1 ∨ ((-1 : Int32) ≠ -1 ∧ ¬ pa_aim E A.1.1 nn (nI 1) < 0)) := fun z => z.elim hne (fun y => y.1 rfl)
      simp only [if_neg cc] at a36 a37
      obtain ⟨M5, e5, a5, b5, c5⟩ := tw_toAim_loop (w := w) hN hE hI hT hn 63 2 f M4 (1, pa_aim E A.1.1 nn 1) (by omega) (by omega) h4 a36 (a37 (show (nI 1 : Int32) ≠ -1 by decide)) (show (1 : Int32) ≠ -1 by decide) (by omega)
      refine ⟨M5, _, ?_, a5, b5, fun _ => rfl, ((((hF1.tr (qr_F.up (by decide))).tr hF2).tr hF3).tr hF4).tr c5⟩
      have hu : ∀ g, g = f + 1 → tw_toAim_49 N g M2 (nI nn) w 1 = tw_toAim_49b N (tw_toAim_49 N f) M2 (nI nn) w (nI 1) := by
        intro g hg
        subst hg
        rfl
      rw [hu N hf]
      unfold tw_toAim_49b
      rw [if_neg (show ¬ (64 : Int32) < nI 1 by decide), e3, px_cal e4]
      simp only [px_let]
      exact e5
    · rw [if_neg (show ¬ ((1 : Int64).toInt ≤ n.toInt ∧ n.toInt ≤ (400 : Int64).toInt) from cn), if_pos rfl, if_neg cn]
      obtain ⟨M2, e2, hA2, hc2, hF2⟩ := tw_fail_s (x := 2) hA1
      rw [px_cal e2]
      exact ⟨M2, 0, rfl, hA2, hc2, fun z => absurd z (by decide), hF1.tr hF2⟩
  · rw [if_neg (show ¬ ((0 : Int64).toInt ≤ w.toInt ∧ w.toInt ≤ (1 : Int64).toInt) from cw), if_pos rfl, if_neg cw]
    obtain ⟨M2, e2, hA2, hc2, hF2⟩ := tw_fail_s (x := 1) hA1
    rw [px_cal e2]
    exact ⟨M2, 0, rfl, hA2, hc2, fun z => absurd z (by decide), hF1.tr hF2⟩
