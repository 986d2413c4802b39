/-! THE CLASS: when, settles -/
/-- while something is tried: the trial's state at 1100 -/
def qc_T (N : cx_N) (E : ps_E) (M : cx_M) (A : qA) (s : ps_T) : Prop := qc_A N E M A ∧ pc_V N E M 1100 s (fun _ => False)
/-- but for the trial's state (and what is asked of rules) nothing was changed -/
def qc_Fr (M M' : cx_M) : Prop := ∀ c, c < 1100 ∨ 1143 < c → c ≠ 8011 → c ≠ 9001 → c ≠ 9002 → M' c = M c
theorem qc_T.goes {N : cx_N} {E : ps_E} {M : cx_M} {A : qA} {s : ps_T} {n T : Nat} (hN : 700 ≤ N.1) (hA : qAI E A) (h : qc_T N E M A s) (hI : ps_I E s.1 T) (hT : T + n ≤ 22000) (hn : n ≤ 640) :
    ∃ M', cCc_goes N 1100 M (nI n) = some (M', 0, 0) ∧ qc_T N E M' A (ps_steps E n s) ∧ qc_F M M' ∧ qc_Fr M M' := by
  have k45 := h.1.2.2.2.2.2.2
  obtain ⟨M2, e2, hV2, hF2⟩ := cCc_goes_s (T := T) hN hA.1 (by decide) h.2 (fun z => absurd k45 z) hI hT hn
  have fr : qc_Fr M M2 := fun c a b1 b2 b3 => hF2.1 c (by omega) b1 b2 b3
  exact ⟨M2, e2, ⟨qc_A.try hA h.1 hV2.1.U (by rw [hF2.2]; exact k45) fr, hV2⟩, fun c hc => fr c (by omega) (by omega) (by omega) (by omega), fr⟩
theorem qc_T.tries {N : cx_N} {E : ps_E} {M : cx_M} {A : qA} {n T : Nat} (hN : 700 ≤ N.1) (hA : qAI E A) (h : qc_A N E M A) (hI : ps_I E A.1.1 T) (hT : T + n ≤ 22000) (hn : n ≤ 640) :
    ∃ M' v, cCc_tries N M (nI n) = some (M', 0, 0) ∧ qc_T N E M' A (ps_steps E n (cx_up A.1.1 0 35 v, [])) ∧ qc_F M M' ∧ qc_Fr M M' := by
  obtain ⟨π, -, -, -, -, ⟨v, hv⟩, -⟩ := h.2.1
  have h31 := qI_31 hA.2.1.1
  obtain ⟨M1, e1, s1, z43, -, z45, f1⟩ := cSt_like_s (N := N) (b := 1100) (b2 := 1000) (by omega) hv h.2.2.2.2.2.1 (by omega) (by rw [px_up, if_neg (by decide)]; exact h31)
  rw [px_upup] at s1
  generalize M 1100 42 = v2 at s1
  have k45 : M1 1100 45 = 0 := by rw [z45]; exact h.2.2.2.2.2.2
  have hV1 : pc_V N E M1 1100 (cx_up A.1.1 0 35 v2, []) (fun _ => False) := ⟨s1, h.1.fr (f1 8000 (by omega)), ⟨z43, by show 0 ≤ 8; decide, fun z => absurd z (by show ¬ 0 < 0; decide)⟩, Or.inl k45⟩
  obtain ⟨M2, e2, hV2, hF2⟩ := cCc_goes_s (T := T) hN hA.1 (by decide) hV1 (fun z => absurd k45 z) (qI_up29 hI (by decide) (by decide) (by decide)) hT hn
  have fr : qc_Fr M M2 := fun c a b1 b2 b3 => by rw [hF2.1 c (by omega) b1 b2 b3, f1 c (by omega)]
  refine ⟨M2, v2, ?_, ⟨qc_A.try hA h hV2.1.U (by rw [hF2.2]; exact k45) fr, hV2⟩, fun c hc => fr c (by omega) (by omega) (by omega) (by omega), fr⟩
  unfold cCc_tries cCc_tries_0
  rw [px_cal e1, px_cal e2]
theorem qc_T.n {N : cx_N} {E : ps_E} {M : cx_M} {A : qA} {s : ps_T} (h : qc_T N E M A s) (i : Nat) {j : Nat} (hi : i < 34 ∨ i = 42) (hj : pc_F i = j) : M 1100 i = s.1 0 j := pc_n h.2.1 i hi hj
theorem qc_T.off {N : cx_N} {E : ps_E} {M : cx_M} {A : qA} {s : ps_T} {T : Nat} (hN : 65 ≤ N.1) (hE : ps_EO E) (h : qc_T N E M A s) (hI : ps_I E s.1 T) : cCc_off N 1100 M = some (M, pa_off E s.1, 0) := by
  unfold cCc_off cCc_off_0
  rw [px_cal (cSt_level_s hN hE h.2 hI.1)]
  simp only [px_get]
  rw [h.n 30 (Or.inl (by decide)) rfl]
  rfl
theorem ps_run_n {E : ps_E} {S : ps_S} {v : Int32} {j : Nat} (hj : j ≠ 35) (n : Nat) : (ps_steps E n (cx_up S 0 35 v, [])).1 0 j = (ps_steps E n (S, [])).1 0 j := by
  by_cases c : n = 0
  · rw [c]
    show cx_up S 0 35 v 0 j = S 0 j
    rw [px_up, if_neg (fun z => hj z.2)]
  · rw [ps_steps_35 _ _ _ _ _ (by omega)]
theorem ps_run_I {E : ps_E} {S : ps_S} {T : Nat} (hE : ps_EO E) (hI : ps_I E S T) (v : Int32) (n : Nat) (h : T + n ≤ 22000) : ps_I E (ps_steps E n (cx_up S 0 35 v, [])).1 (T + n) :=
  ps_steps_I (s := (cx_up S 0 35 v, [])) hE (qI_up29 hI (by decide) (by decide) (by decide)) n h
theorem pa_find_eq {P Q : Nat → Prop} (D : DecidablePred P) (F : DecidablePred Q) : ∀ (m k : Nat), (∀ i, k ≤ i → i < k + m → (∀ j, k ≤ j → j < i → ¬ Q j) → (P i ↔ Q i)) → @pa_find P D m k = @pa_find Q F m k
  | 0, _, _ => rfl
  | m + 1, k, h => by
    unfold pa_find
    have h0 := h k (Nat.le_refl _) (by omega) (fun j a b => absurd a (by omega))
    by_cases c : Q k
    · rw [if_pos c, if_pos (h0.mpr c)]
    · rw [if_neg c, if_neg (fun z => c (h0.mp z))]
      exact pa_find_eq D F m (k + 1) (fun i a b g => h i (by omega) (by omega) (fun j a2 b2 => by
        by_cases e : j = k
        · rw [e]; exact c
        · exact g j (by omega) b2))
theorem pa_find_t {P : Nat → Prop} {D : DecidablePred P} {m k : Nat} (h : P k) : @pa_find P D (m + 1) k = nI k := if_pos h
theorem pa_find_f {P : Nat → Prop} {D : DecidablePred P} {m k : Nat} (h : ¬ P k) : @pa_find P D (m + 1) k = @pa_find P D m (k + 1) := if_neg h
/-- what the class looks for: a rise in one step -/
def pw_R (w : Int32) (a b : ps_S) : Prop := if w = 0 then b 0 8 = 2 else if w = 1 then ¬ b 0 7 ≤ a 0 7 else if w = 2 then b 0 35 = 1 else ¬ b 0 12 ≤ a 0 12
def pw_RD (w : Int32) (a b : ps_S) : Decidable (pw_R w a b) := by
  unfold pw_R
  exact inferInstance
theorem pw_le {x y : Int32} : ¬ x ≤ y ↔ y.toInt < x.toInt := by rw [Int32.le_iff_toInt_le]; omega
theorem pw_D {E : ps_E} {S : ps_S} {T : Nat} (h : ps_I E S T) : (S 0 4 + S 0 5).toInt = ps_D S := by
  have h1 := h.1.1
  have hT := h.2.2.1
  unfold ps_Jn at h1
  exact i32_add (by omega) (by omega)
theorem pw_iff {E : ps_E} {S : ps_S} {T : Nat} {w v : Int32} (hE : ps_EO E) (hI : ps_I E S T) (hT : T + 401 ≤ 22000) (n : Nat) (hn : n < 400) (h : ∀ j, 1 ≤ j → j < n + 1 → ¬ pa_once S w (ps_steps E j (S, [])).1) :
    pw_R w (ps_steps E n (cx_up S 0 35 v, [])).1 (ps_steps E (n + 1) (S, [])).1 ↔ pa_once S w (ps_steps E (n + 1) (S, [])).1 := by
  have hs : ps_steps E (n + 1) (S, []) = ps_step E (ps_steps E n (cx_up S 0 35 v, [])) := (ps_steps_35 E S [] v (n + 1) (by omega)).symm
  have hIa := ps_run_I hE hI v n (by omega)
  have m1 := ps_steps_mono (s := (S, [])) hE hI n (by omega)
  have e4 := ps_run_n (E := E) (S := S) (v := v) (j := 4) (by decide) n
  have e5 := ps_run_n (E := E) (S := S) (v := v) (j := 5) (by decide) n
  have e7 := ps_run_n (E := E) (S := S) (v := v) (j := 7) (by decide) n
  have e12 := ps_run_n (E := E) (S := S) (v := v) (j := 12) (by decide) n
  have m2 := ps_step_mono hE hIa (by omega)
  have hIb := ps_steps_I (s := (S, [])) hE hI (n + 1) (by omega)
  have hI2 := ps_steps_I (s := (S, [])) hE hI n (by omega)
  rw [← hs] at m2
  have eD : ps_D (ps_steps E n (cx_up S 0 35 v, [])).1 = ps_D (ps_steps E n (S, [])).1 := by unfold ps_D; rw [e4, e5]
  rw [eD, e7, e12] at m2
  have hw : w ≠ 0 → ¬ pa_once S w (ps_steps E n (S, [])).1 := by
    intro w0
    by_cases c : n = 0
    · rw [c]
      show ¬ pa_once S w S
      unfold pa_once
      rw [if_neg w0]
      split
      · exact fun z => z (Int32.le_refl _)
      · split
        · exact fun z => z (Int32.le_refl _)
        · exact fun z => z (Int32.le_refl _)
    · exact h n (by omega) (by omega)
  unfold pa_once at hw
  unfold pa_once pw_R
  by_cases w0 : w = 0
  · rw [if_pos w0, if_pos w0]
  · have hw := hw w0
    rw [if_neg w0] at hw
    rw [if_neg w0, if_neg w0]
    by_cases w1 : w = 1
    · rw [if_pos w1] at hw
      rw [if_pos w1, if_pos w1, e7, pw_le, pw_le]
      rw [pw_le] at hw
      have := m1.1
      dsimp only at this
      omega
    · rw [if_neg w1] at hw
      rw [if_neg w1, if_neg w1]
      by_cases w2 : w = 2
      · rw [if_pos w2] at hw
        rw [if_pos w2, if_pos w2, pw_le, pw_D hIb, pw_D hI]
        rw [pw_le, pw_D hI2, pw_D hI] at hw
        have m3 := m1.2.2
        dsimp only at m3
        rcases m2.2.2 with d | d
        · rw [d.2, d.1]
          exact ⟨fun z => absurd z (by decide), fun z => by omega⟩
        · exact ⟨fun _ => by omega, fun _ => d.2⟩
      · rw [if_neg w2] at hw
        rw [if_neg w2, if_neg w2, e12, pw_le, pw_le]
        rw [pw_le] at hw
        have := m1.2.1
        dsimp only at this
        omega
theorem pa_when_class {E : ps_E} {S : ps_S} {T : Nat} {w v : Int32} (hE : ps_EO E) (hI : ps_I E S T) (hT : T + 401 ≤ 22000) (hw : ¬ (w = 0 ∧ S 0 8 = 2)) :
    pa_when E S w = @pa_find (fun k => pw_R w (ps_steps E (k - 1) (cx_up S 0 35 v, [])).1 (ps_steps E k (S, [])).1) (fun _ => pw_RD _ _ _) 400 1 := by
  unfold pa_when
  have h0 : ¬ pa_once S w (ps_steps E 0 (S, [])).1 := by
    show ¬ pa_once S w S
    unfold pa_once
    split
    · next c => exact fun z => hw ⟨c, z⟩
    · split
      · exact fun z => z (Int32.le_refl _)
      · split
        · exact fun z => z (Int32.le_refl _)
        · exact fun z => z (Int32.le_refl _)
  refine (pa_find_f (m := 400) (k := 0) h0).trans ?_
  refine (pa_find_eq _ _ 400 1 (fun i hi1 hi2 g => ?_)).symm
  obtain ⟨n, rfl⟩ : ∃ n, i = n + 1 := ⟨i - 1, by omega⟩
  rw [Nat.add_sub_cancel]
  exact pw_iff hE hI hT n (by omega) g
theorem cCc_waits_loop {f : Nat} {ev : Nat → (Nat → Int32) → Int32} {E : ps_E} {A : qA} {w v : Int32} {T kL kW : Nat} (hN : 700 ≤ f) (hA : qAI E A) (hI : ps_I E A.1.1 T) (hT : T ≤ 20000)
    (hW : ∀ M s, qc_T (vN f ev) E M A s → ∃ x, cLk_at (vN f ev) kL 1100 M = some (M, x, 0) ∧ ∀ M' t, qc_T (vN f ev) E M' A t → (t.1 0 35 = 0 ∨ t.1 0 35 = 1) → cWt_is (vN f ev) kW 1100 M' x = some (M', @ite Int32 (pw_R w s.1 t.1) (pw_RD _ _ _) 1 0, 0)) (P : Nat → Prop) (D : DecidablePred P)
    (hP : P = fun k => pw_R w (ps_steps E (k - 1) (cx_up A.1.1 0 35 v, [])).1 (ps_steps E k (A.1.1, [])).1) :
    ∀ (m k n : Nat) (M : cx_M), k + m = 401 → 1 ≤ k → qc_T (vN f ev) E M A (ps_steps E (k - 1) (cx_up A.1.1 0 35 v, [])) → m < n → ∃ M', cCc_waits_7 (vN f ev) kL kW n M (nI k) = some (M', @pa_find P D m k, 0) ∧ qc_A (vN f ev) E M' A ∧ qc_F M M' := by
  intro m
  induction m with
  | zero =>
    intro k n M hk h1k h hn
    obtain ⟨n, rfl⟩ : ∃ j, n = j + 1 := ⟨n - 1, by omega⟩
    refine ⟨M, ?_, h.1, qc_F.rf⟩
    show cCc_waits_7b (vN f ev) kL kW (cCc_waits_7 (vN f ev) kL kW n) M (nI k) = _
    unfold cCc_waits_7b
    rw [if_pos (show (400 : Int32) < nI k from nI_lt (a := 400) (by omega) (by omega))]
    rfl
  | succ m ih =>
    intro k n M hk h1k h hn
    obtain ⟨n, rfl⟩ : ∃ j, n = j + 1 := ⟨n - 1, by omega⟩
    obtain ⟨k, rfl⟩ : ∃ j, k = j + 1 := ⟨k - 1, by omega⟩
    rw [Nat.add_sub_cancel] at h
    obtain ⟨x, eL, hx⟩ := hW M _ h
    have hIk := ps_run_I hA.1 hI v k (by omega)
    obtain ⟨M1, e1, h1, F1, -⟩ := h.goes (n := 1) (T := T + k) hN hA hIk (by omega) (by omega)
    have hs : ps_steps E 1 (ps_steps E k (cx_up A.1.1 0 35 v, [])) = ps_steps E (k + 1) (A.1.1, []) := ps_steps_35 E A.1.1 [] v (k + 1) (by omega)
    have h1' := h1
    rw [hs] at h1
    have m35 : (ps_steps E (k + 1) (A.1.1, [])).1 0 35 = 0 ∨ (ps_steps E (k + 1) (A.1.1, [])).1 0 35 = 1 := by
      have := ps_step_mono hA.1 hIk (by omega)
      rw [← hs]
      rcases this.2.2 with d | d
      · exact Or.inl d.2
      · exact Or.inr d.2
    have eW := hx M1 _ h1 m35
    have hPk : P (k + 1) ↔ pw_R w (ps_steps E k (cx_up A.1.1 0 35 v, [])).1 (ps_steps E (k + 1) (A.1.1, [])).1 := by rw [hP]; exact Iff.rfl
    show ∃ M', cCc_waits_7b (vN f ev) kL kW (cCc_waits_7 (vN f ev) kL kW n) M (nI (k + 1)) = _ ∧ _
    unfold cCc_waits_7b
    rw [if_neg (show ¬ (400 : Int32) < nI (k + 1) from nI_nlt (b := k + 1) (a := 400) (by omega) (by omega)), px_cal eL, px_cal (show cCc_goes (vN f ev) 1100 M 1 = some (M1, 0, 0) from e1), px_cal eW]
    unfold pa_find
    by_cases c : P (k + 1)
    · rw [if_pos (hPk.mp c), if_neg (by decide), if_pos c]
      exact ⟨M1, rfl, h1.1, F1⟩
    · rw [if_neg (fun z => c (hPk.mpr z)), if_pos rfl, if_neg c]
      simp only [px_let]
      rw [← nI_succ]
      have h2 : qc_T (vN f ev) E M1 A (ps_steps E (k + 1 + 1 - 1) (cx_up A.1.1 0 35 v, [])) := h1'
      obtain ⟨M2, e2, a2, F2⟩ := ih (k + 1 + 1) n M1 (by omega) (by omega) h2 (by omega)
      exact ⟨M2, e2, a2, F1.tr F2⟩
theorem cCc_waits_s {f : Nat} {ev : Nat → (Nat → Int32) → Int32} {E : ps_E} {M : cx_M} {A : qA} {w : Int32} {kL kW : Nat} (hN : 700 ≤ f) (hA : qAI E A) (h : qc_A (vN f ev) E M A) (hw : ¬ (w = 0 ∧ A.1.1 0 8 = 2))
    (hW : ∀ M s, qc_T (vN f ev) E M A s → ∃ x, cLk_at (vN f ev) kL 1100 M = some (M, x, 0) ∧ ∀ M' t, qc_T (vN f ev) E M' A t → (t.1 0 35 = 0 ∨ t.1 0 35 = 1) → cWt_is (vN f ev) kW 1100 M' x = some (M', @ite Int32 (pw_R w s.1 t.1) (pw_RD _ _ _) 1 0, 0)) :
    ∃ M', cCc_waits (vN f ev) kL kW M = some (M', pa_when E A.1.1 w, 0) ∧ qc_A (vN f ev) E M' A ∧ qc_F M M' := by
  obtain ⟨T, hT, hI, -⟩ := hA.2.1.1
  obtain ⟨M1, v, e1, h1, F1, -⟩ := qc_T.tries (N := vN f ev) (n := 0) (T := T) hN hA h hI (by omega) (by omega)
  obtain ⟨M2, e2, h2, F2⟩ := cCc_waits_loop (kL := kL) (kW := kW) (w := w) (v := v) hN hA hI hT hW _ (fun _ => pw_RD _ _ _) rfl 400 1 f M1 rfl (by omega) h1 (by omega)
  refine ⟨M2, ?_, h2, F1.tr F2⟩
  rw [pa_when_class (v := v) hA.1 hI (by omega) hw]
  unfold cCc_waits cCc_waits_0
  rw [px_cal (show cCc_tries (vN f ev) M 0 = some (M1, 0, 0) from e1)]
  exact e2
theorem dCc_whenD_s {f : Nat} {ev : Nat → (Nat → Int32) → Int32} {adr : Nat → Nat} {E : ps_E} {M : cx_M} {P : dP} {L : dL} {A : qA} {w : Int32} {bc bs : Nat} {Q : cd_Qt} (hN : 700 ≤ f) (hA : qAI E A) (h : qc_A (vN f ev) E M A) (hb : 1 ≤ bc) (hs : 6 ≤ bs)
    (hy : 0 ≤ w.toInt ∧ w.toInt ≤ 3 → ∀ M', qc_A (vN f ev) E M' A → qc_F M M' → Q M' P L (pa_when E A.1.1 w) none 0 0 0)
    (hn : ¬ (0 ≤ w.toInt ∧ w.toInt ≤ 3) → Q M P L 0 none 1 1 6) : dCc_whenD (vN f ev, adr) bc bs M P L w Q := by
  unfold dCc_whenD dCc_whenD_0
  rw [pq_cal cCc_within_s]
  by_cases c : 0 ≤ w.toInt ∧ w.toInt ≤ 3
  · rw [if_pos (show (0 : Int32).toInt ≤ w.toInt ∧ w.toInt ≤ (3 : Int32).toInt from c)]
    refine cd_thr_s hb hs (fun z => absurd z (by decide)) (fun _ => ⟨fun z => absurd rfl z, fun _ => ?_⟩)
    have hy := hy c
    have go : ∀ (w' : Int32) (kL kW : Nat), w = w' → ¬ (w = 0 ∧ A.1.1 0 8 = 2) → (∀ M s, qc_T (vN f ev) E M A s → ∃ x, cLk_at (vN f ev) kL 1100 M = some (M, x, 0) ∧ ∀ M' t, qc_T (vN f ev) E M' A t → (t.1 0 35 = 0 ∨ t.1 0 35 = 1) → cWt_is (vN f ev) kW 1100 M' x = some (M', @ite Int32 (pw_R w' s.1 t.1) (pw_RD _ _ _) 1 0, 0)) →
        cq_cal (cCc_waits (vN f ev) kL kW M) (fun M1 v => Q M1 P L v none 0 0 0) := by
      intro w' kL kW e hw hW
      obtain ⟨M1, e1, a1, F1⟩ := cCc_waits_s (w := w') hN hA h (by rw [← e]; exact hw) hW
      rw [pq_cal e1, ← e]
      exact hy M1 a1 F1
    have sw : ¬ (w = 0 ∧ A.1.1 0 8 = 2) → dCc_whenD_26 (vN f ev, adr) bc bs Q M P L 0 0 w := by
      intro hw
      have w4 : w = 0 ∨ w = 1 ∨ w = 2 ∨ w = 3 := by
        have t0 : (0 : Int32).toInt = 0 := rfl
        have t1 : (1 : Int32).toInt = 1 := rfl
        have t2 : (2 : Int32).toInt = 2 := rfl
        have t3 : (3 : Int32).toInt = 3 := rfl
        rw [i32_eq, i32_eq, i32_eq, i32_eq]
        omega
      rcases w4 with e | e | e | e
      · subst e
        refine go 0 6 0 rfl hw (fun M s hs => ⟨0, rfl, fun M' t ht _ => ?_⟩)
        show (if M' 1100 8 = 2 then some (M', (1 : Int32), 0) else some (M', 0, 0)) = _
        rw [ht.n 8 (Or.inl (by decide)) (show pc_F 8 = 8 from rfl)]
        by_cases z : t.1 0 8 = 2
        · rw [if_pos z, if_pos (show pw_R 0 s.1 t.1 from z)]
        · rw [if_neg z, if_neg (show ¬ pw_R 0 s.1 t.1 from z)]
      · subst e
        refine go 1 7 1 rfl hw (fun M s hs => ⟨M 1100 7, rfl, fun M' t ht _ => ?_⟩)
        show (if M' 1100 7 ≤ M 1100 7 then some (M', (0 : Int32), 0) else some (M', 1, 0)) = _
        rw [ht.n 7 (Or.inl (by decide)) (show pc_F 7 = 7 from rfl), hs.n 7 (Or.inl (by decide)) (show pc_F 7 = 7 from rfl)]
        by_cases z : t.1 0 7 ≤ s.1 0 7
        · rw [if_pos z, if_neg (show ¬ pw_R 1 s.1 t.1 from fun y => y z)]
        · rw [if_neg z, if_pos (show pw_R 1 s.1 t.1 from z)]
      · subst e
        refine go 2 8 2 rfl hw (fun M s hs => ⟨0, rfl, fun M' t ht h35 => ?_⟩)
        show cx_bl (M' 1100 42) (some (M', M' 1100 42, 0)) = _
        rw [ht.n 42 (Or.inr rfl) (show pc_F 42 = 35 from rfl)]
        unfold cx_bl
        rw [if_pos h35]
        by_cases z : t.1 0 35 = 1
        · rw [if_pos (show pw_R 2 s.1 t.1 from z), z]
        · rw [if_neg (show ¬ pw_R 2 s.1 t.1 from z), h35.resolve_right z]
      · subst e
        refine go 3 9 3 rfl hw (fun M s hs => ⟨M 1100 22, rfl, fun M' t ht _ => ?_⟩)
        show (if M' 1100 22 ≤ M 1100 22 then some (M', (0 : Int32), 0) else some (M', 1, 0)) = _
        rw [ht.n 22 (Or.inl (by decide)) (show pc_F 22 = 12 from rfl), hs.n 22 (Or.inl (by decide)) (show pc_F 22 = 12 from rfl)]
        by_cases z : t.1 0 12 ≤ s.1 0 12
        · rw [if_pos z, if_neg (show ¬ pw_R 3 s.1 t.1 from fun y => y z)]
        · rw [if_neg z, if_pos (show pw_R 3 s.1 t.1 from z)]
    show if w = 0 then cq_get M 1000 8 (fun v => if v = 2 then Q M P L 0 none 0 0 0 else dCc_whenD_26 (vN f ev, adr) bc bs Q M P L 0 0 w) else dCc_whenD_26 (vN f ev, adr) bc bs Q M P L 0 0 w
    by_cases w0 : w = 0
    · rw [if_pos w0]
      show if M 1000 8 = 2 then Q M P L 0 none 0 0 0 else dCc_whenD_26 (vN f ev, adr) bc bs Q M P L 0 0 w
      have g := h.n 8 (Or.inl (by decide)) (show pc_F 8 = 8 from rfl) (by decide)
      rw [g]
      by_cases z : A.1.1 0 8 = 2
      · rw [if_pos z]
        have q := hy M h qc_F.rf
        have e : pa_when E A.1.1 w = 0 := by
          unfold pa_when
          refine pa_find_t (m := 400) (k := 0) ?_
          show pa_once A.1.1 w A.1.1
          unfold pa_once
          rw [if_pos w0]
          exact z
        rw [e] at q
        exact q
      · rw [if_neg z]
        exact sw (fun y => z y.2)
    · rw [if_neg w0]
      exact sw (fun y => w0 y.1)
  · rw [if_neg (show ¬ ((0 : Int32).toInt ≤ w.toInt ∧ w.toInt ≤ (3 : Int32).toInt) from c)]
    exact cd_thr_s hb hs (fun _ => ⟨fun _ => hn c, fun z => absurd z (by decide)⟩) (fun z => absurd rfl z)
/-- the first of lo .. hi with P, or -1 -/
def pw_x (P : Nat → Prop) (lo hi : Nat) (x : Int32) : Prop := (x = -1 ∧ ∀ j, lo ≤ j → j ≤ hi → ¬ P j) ∨ ∃ i, x = nI i ∧ lo ≤ i ∧ i ≤ hi ∧ P i ∧ ∀ j, lo ≤ j → j < i → ¬ P j
theorem pw_inj {a b : Nat} (ha : a < 2147483648) (hb : b < 2147483648) (h : nI a = nI b) : a = b := by
  have := i32_eq.mp h
  rw [pi_nI ha, pi_nI hb] at this
  omega
theorem nI_m1 {i : Nat} (h : i < 2147483648) : nI i ≠ -1 := by
  intro z
  have := i32_eq.mp z
  rw [pi_nI h, show (-1 : Int32).toInt = -1 from rfl] at this
  omega
theorem cCc_settles_69_s {N : cx_N} {r : cx_M → Int32 → Int32 → Option cx_R} {M : cx_M} {P : Nat → Prop} {k lo : Nat} {x : Int32} (D : Decidable (P k)) (hk : k < 1000) (h8 : M 1100 8 = 2 ↔ P k) (hlo : lo ≤ k) (hx : (x = -1 ∧ ∀ j, lo ≤ j → j < k → ¬ P j) ∨ ∃ i, x = nI i ∧ lo ≤ i ∧ i < k ∧ P i ∧ ∀ j, lo ≤ j → j < i → ¬ P j) :
    ∃ y, cCc_settles_69 N r M x (nI k) = r M y (nI (k + 1)) ∧ pw_x P lo k y ∧ (x ≠ -1 → y = x) ∧ (x = -1 → y = -1 ∨ y = nI k) := by
  unfold cCc_settles_69 cCc_settles_87
  simp only [px_let, px_get]
  rw [← nI_succ]
  rcases hx with ⟨e, hn⟩ | ⟨i, e, h1, h2, h3, h4⟩
  · rw [if_pos e]
    by_cases c : P k
    · rw [if_pos (h8.mpr c)]
      exact ⟨nI k, rfl, Or.inr ⟨k, rfl, hlo, Nat.le_refl _, c, hn⟩, fun z => absurd e z, fun _ => Or.inr rfl⟩
    · rw [if_neg (fun z => c (h8.mp z))]
      refine ⟨x, rfl, Or.inl ⟨e, fun j a b => ?_⟩, fun _ => rfl, fun z => Or.inl z⟩
      by_cases ej : j = k
      · rw [ej]; exact c
      · exact hn j a (by omega)
  · rw [if_neg (by rw [e]; exact nI_m1 (by omega))]
    exact ⟨x, rfl, Or.inr ⟨i, e, h1, by omega, h3, h4⟩, fun _ => rfl, fun z => absurd z (by rw [e]; exact nI_m1 (by omega))⟩
theorem cCc_settles_loop {N : cx_N} {E : ps_E} {A : qA} {T : Nat} {v : Int32} (hN : 700 ≤ N.1) (hA : qAI E A) (hI : ps_I E A.1.1 T) (hT : T ≤ 20000) (P R : Nat → Prop) (D : DecidablePred P) (F : DecidablePred R) (hP : P = fun k => (ps_steps E k (A.1.1, [])).1 0 8 = 2) (hR : R = fun k => pa_near E (ps_steps E k (A.1.1, [])).1) :
    ∀ (m k c n : Nat) (M : cx_M) (x : Int32), k + m = 441 → 1 ≤ k → c < k → pw_x P (k - 1 - c) (k - 1) x → (∀ i : Nat, x = nI i → i < k → k ≤ i + 40) → qc_T N E M A (ps_steps E (k - 1) (cx_up A.1.1 0 35 v, [])) → m < n →
      ∃ M', cCc_settles_24 N n M x (nI k) = some (M', @pa_calm P R D F m k c, 0) ∧ qc_A N E M' A ∧ qc_F M M' := by
  intro m
  induction m with
  | zero =>
    intro k c n M x hk h1k hc hx h40 h hn
    obtain ⟨n, rfl⟩ : ∃ j, n = j + 1 := ⟨n - 1, by omega⟩
    refine ⟨M, ?_, h.1, qc_F.rf⟩
    show cCc_settles_24b N (cCc_settles_24 N n) M x (nI k) = _
    unfold cCc_settles_24b
    rw [if_pos (show (440 : Int32) < nI k from nI_lt (a := 440) (by omega) (by omega))]
    rfl
  | succ m ih =>
    intro k c n M x hk h1k hc hx h40 h hn
    obtain ⟨n, rfl⟩ : ∃ j, n = j + 1 := ⟨n - 1, by omega⟩
    obtain ⟨k, rfl⟩ : ∃ j, k = j + 1 := ⟨k - 1, by omega⟩
    rw [Nat.add_sub_cancel] at h hx
    have hIk := ps_run_I hA.1 hI v k (by omega)
    obtain ⟨M1, e1, h1, F1, -⟩ := h.goes (n := 1) (T := T + k) hN hA hIk (by omega) (by omega)
    have hs : ps_steps E 1 (ps_steps E k (cx_up A.1.1 0 35 v, [])) = ps_steps E (k + 1) (A.1.1, []) := ps_steps_35 E A.1.1 [] v (k + 1) (by omega)
    have h1' := h1
    rw [hs] at h1
    have hI1 := ps_steps_I (s := (A.1.1, [])) hA.1 hI (k + 1) (by omega)
    have eo := h1.off (by omega) hA.1 hI1
    have h8 : M1 1100 8 = 2 ↔ P (k + 1) := by rw [h1.n 8 (Or.inl (by decide)) (show pc_F 8 = 8 from rfl), hP]
    have hRk : pa_off E (ps_steps E (k + 1) (A.1.1, [])).1 ≤ 2 ↔ R (k + 1) := by
      rw [hR]
      show _ ↔ ¬ (2 : Int32) < _
      rw [i32_le, i32_lt]
      omega
    show ∃ M', cCc_settles_24b N (cCc_settles_24 N n) M x (nI (k + 1)) = _ ∧ _
    unfold cCc_settles_24b pa_calm
    dsimp only
    rw [if_neg (show ¬ (440 : Int32) < nI (k + 1) from nI_nlt (b := k + 1) (a := 440) (by omega) (by omega)), px_cal (show cCc_goes N 1100 M 1 = some (M1, 0, 0) from e1), px_cal eo]
    have next : ∀ (d : Nat) (x' : Int32), d < k + 1 + 1 → ((x' = -1 ∧ ∀ j, k + 1 - d ≤ j → j < k + 1 → ¬ P j) ∨ ∃ i, x' = nI i ∧ k + 1 - d ≤ i ∧ i < k + 1 ∧ P i ∧ ∀ j, k + 1 - d ≤ j → j < i → ¬ P j) → (∀ i : Nat, x' = nI i → i < k + 1 → k + 2 ≤ i + 40) →
        ∃ M', cCc_settles_69 N (cCc_settles_24 N n) M1 x' (nI (k + 1)) = some (M', @pa_calm P R D F m (k + 1 + 1) d, 0) ∧ qc_A N E M' A ∧ qc_F M M' := by
      intro d x' hd hx' h40'
      obtain ⟨y, ey, hy, y1, y2⟩ := cCc_settles_69_s (N := N) (r := cCc_settles_24 N n) (k := k + 1) (lo := k + 1 - d) (D (k + 1)) (by omega) h8 (by omega) hx'
      have hy40 : ∀ i : Nat, y = nI i → i < k + 1 + 1 → k + 1 + 1 ≤ i + 40 := by
        intro i ei hi
        by_cases e : x' = -1
        · rcases y2 e with z | z
          · exact absurd (ei.symm.trans z) (nI_m1 (by omega))
          · have : i = k + 1 := pw_inj (by omega) (by omega) (ei.symm.trans z)
            omega
        · rw [y1 e] at ei
          by_cases hik : i < k + 1
          · have := h40' i ei hik
            omega
          · omega
      obtain ⟨M2, e2, a2, F2⟩ := ih (k + 1 + 1) d n M1 y (by omega) (by omega) hd (by rw [Nat.add_sub_cancel]; exact hy) hy40 h1' (by omega)
      exact ⟨M2, ey.trans e2, a2, F1.tr F2⟩
    by_cases cR : R (k + 1)
    · rw [if_pos (hRk.mpr cR), if_pos cR]
      unfold cCc_settles_54
      rcases hx with ⟨e, hn1⟩ | ⟨i, e, i1, i2, i3, i4⟩
      · rw [if_pos e, if_neg]
        · refine next (c + 1) x (by omega) (Or.inl ⟨e, fun j a b => ?_⟩) (fun i ei hi => absurd (ei.symm.trans e) (nI_m1 (by omega)))
          exact hn1 j (by omega) (by omega)
        · intro z
          exact hn1 (k + 1 - 40) (by omega) (by omega) z.2
      · rw [if_neg (by rw [e]; exact nI_m1 (by omega))]
        have hle := h40 i e (by omega)
        have es : nI (k + 1) - x = nI (k + 1 - i) := by
          rw [e, i32_eq, i32_sub (by rw [pi_nI (by omega), pi_nI (by omega)]; omega) (by rw [pi_nI (by omega), pi_nI (by omega)]; omega), pi_nI (by omega), pi_nI (by omega), pi_nI (by omega)]
          omega
        rw [es]
        by_cases c40 : k + 1 - i = 40
        · rw [if_pos (by rw [c40]; rfl), if_pos ⟨by omega, by rw [show k + 1 - 40 = i by omega]; exact i3⟩, show k + 1 - 40 = i by omega, e]
          exact ⟨M1, rfl, h1.1, F1⟩
        · rw [if_neg (show ¬ nI (k + 1 - i) = 40 from fun z => c40 (pw_inj (b := 40) (by omega) (by omega) z)), if_neg]
          · exact next (c + 1) x (by omega) (Or.inr ⟨i, e, by omega, by omega, i3, fun j a b => i4 j (by omega) b⟩) (fun i' ei' hi' => by
              have := pw_inj (by omega) (by omega) (ei'.symm.trans e)
              omega)
          · intro z
            exact i4 (k + 1 - 40) (by omega) (by omega) z.2
    · rw [if_neg (fun z => cR (hRk.mp z)), if_neg cR, if_neg (by omega)]
      unfold cCc_settles_54
      rw [if_pos rfl]
      exact next 0 (-1) (by omega) (Or.inl ⟨rfl, fun j a b => absurd a (by omega)⟩) (fun i ei hi => absurd ei.symm (nI_m1 (by omega)))
theorem cCc_settles_s {N : cx_N} {E : ps_E} {M : cx_M} {A : qA} (hN : 700 ≤ N.1) (hA : qAI E A) (h : qc_A N E M A) : ∃ M', cCc_settles N M = some (M', pa_settles E A.1.1, 0) ∧ qc_A N E M' A ∧ qc_F M M' := by
  obtain ⟨T, hT, hI, -⟩ := hA.2.1.1
  obtain ⟨M1, v, e1, h1, F1, -⟩ := qc_T.tries (N := N) (n := 0) (T := T) hN hA h hI (by omega) (by omega)
  have go : ∀ x : Int32, pw_x (fun k => (ps_steps E k (A.1.1, [])).1 0 8 = 2) 0 0 x → ∃ M', cCc_settles_21 N M1 x = some (M', pa_settles E A.1.1, 0) ∧ qc_A N E M' A ∧ qc_F M M' := by
    intro x hx
    obtain ⟨M2, e2, a2, F2⟩ := cCc_settles_loop (v := v) hN hA hI hT (fun k => (ps_steps E k (A.1.1, [])).1 0 8 = 2) (fun k => pa_near E (ps_steps E k (A.1.1, [])).1) inferInstance (fun k => pa_nearD E (ps_steps E k (A.1.1, [])).1) rfl rfl 440 1 0 N.1 M1 x rfl (by omega) (by omega) hx (fun i _ hi => by omega) h1 (by omega)
    exact ⟨M2, e2, a2, F1.tr F2⟩
  unfold cCc_settles cCc_settles_0
  rw [px_cal (show cCc_tries N M 0 = some (M1, 0, 0) from e1)]
  simp only [px_get]
  have g : M1 1100 8 = A.1.1 0 8 := by
    rw [h1.n 8 (Or.inl (by decide)) (show pc_F 8 = 8 from rfl), ps_run_n (by decide)]
    rfl
  rw [g]
  by_cases c : A.1.1 0 8 = 2
  · rw [if_pos c]
    exact go 0 (Or.inr ⟨0, rfl, Nat.le_refl _, Nat.le_refl _, c, fun j _ b => absurd b (by omega)⟩)
  · rw [if_neg c]
    exact go (-1) (Or.inl ⟨rfl, fun j _ b => by rw [show j = 0 by omega]; exact c⟩)
