/-! THE CLASS: other, look -/
/-- the cells on which what holds between calls hangs -/
def qc_K (c : Nat) : Prop := c = 500 ∨ c = 509 ∨ (600 ≤ c ∧ c ≤ 605) ∨ (700 ≤ c ∧ c ≤ 705) ∨ (1000 ≤ c ∧ c ≤ 1143) ∨ (1200 ≤ c ∧ c < 5200) ∨ (6000 ≤ c ∧ c ≤ 6043) ∨ c = 8000 ∨ (20000 ≤ c ∧ c < 24000)
theorem qc_A.cells {N : cx_N} {E : ps_E} {M M' : cx_M} {A : qA} (hA : qAI E A) (h : qc_A N E M A) (fr : ∀ c, qc_K c → M' c = M c) : qc_A N E M' A := by
  have l6 : qc_lo 600 = 1200 ∧ cBk_st 600 = 1000 := ⟨rfl, rfl⟩
  have l7 : qc_lo 700 = 20000 ∧ cBk_st 700 = 6000 := ⟨rfl, rfl⟩
  unfold qc_K at fr
  obtain ⟨hK, hb, h3, hi, ⟨t1, t2, t3⟩, hU, h45⟩ := h
  refine ⟨hK.fr (fr 8000 (by omega)), hb.frm (Or.inl rfl) hA.2.1.2.2.1 (fun c hc => fr c (by omega)), by rw [fr 1000 (by omega)]; exact h3, ?_, ⟨by rw [fr 500 (by omega)]; exact t1, by rw [fr 509 (by omega)]; exact t2, by rw [fr 500 (by omega)]; exact t3⟩, hU.fr (fun c h1 h2 => fr c (by omega)), by rw [fr 1100 (by omega)]; exact h45⟩
  unfold qc_im at hi ⊢
  cases hI : A.2.1 with
  | none =>
    rw [hI] at hi
    exact ⟨by rw [fr 500 (by omega)]; exact hi.1, hi.2.fr (Or.inr rfl) (fun c hc => fr c (by omega))⟩
  | some I =>
    rw [hI] at hi
    exact ⟨by rw [fr 500 (by omega)]; exact hi.1, hi.2.frm (Or.inr rfl) (hA.2.2.1 I hI).2.2.1 (fun c hc => fr c (by omega))⟩
theorem qc_T.scr {N : cx_N} {E : ps_E} {M : cx_M} {A : qA} {s : ps_T} (hA : qAI E A) (h : qc_T N E M A s) (c k : Nat) (v : Int32) (hc : 510 ≤ c ∧ c < 600) : qc_T N E (cx_up M c k v) A s := by
  have e : ∀ d, d < 510 ∨ 600 ≤ d → cx_up M c k v d = M d := fun d hd => px_upc (by omega)
  exact ⟨qc_A.cells hA h.1 (fun d hd => e d (by unfold qc_K at hd; omega)), pc_S.fr h.2.1 (fun d a b => e d (by omega)), h.2.2.1.fr (e 8000 (by omega)), h.2.2.2.1.fr (by rw [e 1100 (by omega)]) (by rw [e 1100 (by omega)]), h.2.2.2.2.fr (by rw [e 1100 (by omega)]) (e 9000 (by omega)) (e 9001 (by omega)) (e 9002 (by omega))⟩
theorem qc_T.set {N : cx_N} {E : ps_E} {M : cx_M} {A : qA} {s : ps_T} (hA : qAI E A) (h : qc_T N E M A s) (k : Nat) {j : Nat} (v : Int32) (hk : k < 34) (hj : pc_F k = j) (h31 : j ≠ 31) (h35 : j ≠ 35) (h632 : j ≠ 6 ∧ j ≠ 32 := by decide) : qc_T N E (cx_up M 1100 k v) A (cx_up s.1 0 j v, s.2) := by
  have n (i : Nat) (hi : i ≠ k) : cx_up M 1100 k v 1100 i = M 1100 i := by rw [px_up, if_neg (fun z => hi z.2)]
  have hS : pc_S (cx_up M 1100 k v) 1100 (cx_up s.1 0 j v) := pc_up h.2.1 k v (Or.inl hk) hj h31 (fun z => absurd z h35) h632
  exact ⟨qc_A.try hA h.1 hS.U (by rw [n 45 (by omega)]; exact h.1.2.2.2.2.2.2) (fun c a _ _ _ => px_upc (by omega)), hS, h.2.2.1.fr (px_upc (by decide)), h.2.2.2.1.fr (n 43 (by omega)) (n 44 (by omega)), h.2.2.2.2.fr (n 45 (by omega)) (px_upc (by decide)) (px_upc (by decide)) (px_upc (by decide))⟩
theorem ps_level_run {E : ps_E} {S : ps_S} {v : Int32} (n : Nat) : ps_level E (ps_steps E n (cx_up S 0 35 v, [])).1 = ps_level E (ps_steps E n (S, [])).1 := by
  by_cases c : n = 0
  · rw [c]
    exact pa_level_35
  · rw [ps_steps_35 _ _ _ _ _ (by omega)]
/-- the notes of n are as the level lv -/
def qn_ok (L : List (Int32 × Int32)) (k : Nat) (n lv : Int32) : Prop := ∀ j x, k ≤ j → L[j]? = some x → x.1 = n → x.2 = lv
noncomputable def qn_tail (N : cx_N) (r_2 : cx_M → Int32 → Option cx_R) (M : cx_M) (x1 x2 : Int32) : Option cx_R :=
  if cx_rem x1 10 = 0 then (if x1 ≤ 0 then cCc_isNoted_96 N r_2 M x1 else if 60 ≤ x1 then cCc_isNoted_96 N r_2 M x1 else cx_st M 515 5 ((x1 / 10) - 1) x2 fun M2 => cCc_isNoted_96 N r_2 M2 x1) else cCc_isNoted_96 N r_2 M x1
theorem cCc_noted_inner {N : cx_N} {M : cx_M} {L : List (Int32 × Int32)} {r_2 : cx_M → Int32 → Option cx_R} {x1 x2 : Int32} (hL : L.length ≤ 8) (h6 : M 600 6 = nI L.length) (hn : ∀ j x, L[j]? = some x → M 603 j = x.1 ∧ M 604 j = x.2) :
    ∀ (m k f : Nat), k + m = L.length → m < f → (qn_ok L k x1 x2 → cCc_isNoted_22 N r_2 f M x1 x2 (nI k) = qn_tail N r_2 M x1 x2) ∧ (¬ qn_ok L k x1 x2 → cCc_isNoted_22 N r_2 f M x1 x2 (nI k) = some (M, 0, 0)) := by
  intro m
  induction m with
  | zero =>
    intro k f hk hf
    obtain ⟨f, rfl⟩ : ∃ q, f = q + 1 := ⟨f - 1, by omega⟩
    have hno : qn_ok L k x1 x2 := by
      intro j x hj hx
      rw [List.getElem?_eq_none (by omega)] at hx
      exact absurd hx (by simp)
    refine ⟨fun _ => ?_, fun z => absurd hno z⟩
    show cCc_isNoted_22b N r_2 (cCc_isNoted_22 N r_2 f) M x1 x2 (nI k) = _
    unfold cCc_isNoted_22b
    simp only [px_get]
    rw [h6, if_pos (nI_le (by omega) (by omega))]
    rfl
  | succ m ih =>
    intro k f hk hf
    obtain ⟨f, rfl⟩ : ∃ q, f = q + 1 := ⟨f - 1, by omega⟩
    have hx : L[k]? = some L[k] := List.getElem?_eq_getElem (by omega)
    obtain ⟨n1, n2⟩ := hn k _ hx
    generalize L[k]'(by omega) = x at hx n1 n2
    have tk := pi_nI (n := k) (by omega)
    have pk : pn (nI k) = k := by rw [pn_def, tk]; omega
    obtain ⟨i1, i2⟩ := ih (k + 1) f (by omega) (by omega)
    have split : qn_ok L k x1 x2 ↔ (x.1 = x1 → x.2 = x2) ∧ qn_ok L (k + 1) x1 x2 := by
      constructor
      · exact fun z => ⟨z k x (Nat.le_refl _) hx, fun j y hj hy => z j y (by omega) hy⟩
      · rintro ⟨z1, z2⟩ j y hj hy
        by_cases e : j = k
        · subst e
          rw [hx] at hy
          rw [← Option.some.inj hy]
          exact z1
        · exact z2 j y (by omega) hy
    have key : ∀ R, (R = if x.1 = x1 then (if x2 = x.2 then cCc_isNoted_22 N r_2 f M x1 x2 (nI (k + 1)) else some (M, 0, 0)) else cCc_isNoted_22 N r_2 f M x1 x2 (nI (k + 1))) → (qn_ok L k x1 x2 → R = qn_tail N r_2 M x1 x2) ∧ (¬ qn_ok L k x1 x2 → R = some (M, 0, 0)) := by
      intro R hR
      rw [hR, split]
      by_cases c1 : x.1 = x1
      · rw [if_pos c1]
        by_cases c2 : x2 = x.2
        · rw [if_pos c2]
          exact ⟨fun z => i1 z.2, fun z => i2 (fun y => z ⟨fun _ => c2.symm, y⟩)⟩
        · rw [if_neg c2]
          exact ⟨fun z => absurd (z.1 c1).symm c2, fun _ => rfl⟩
      · rw [if_neg c1]
        exact ⟨fun z => i1 z.2, fun z => i2 (fun y => z ⟨fun w => absurd w c1, y⟩)⟩
    apply key
    show cCc_isNoted_22b N r_2 (cCc_isNoted_22 N r_2 f) M x1 x2 (nI k) = _
    unfold cCc_isNoted_22b cCc_isNoted_61
    simp only [px_get, px_let]
    rw [h6, if_neg (nI_ge (by omega) (by omega)), px_ld (by omega) (by omega), px_ld (by omega) (by omega), pk, n1, n2, ← nI_succ]
theorem cCc_noted_outer {N : cx_N} {E : ps_E} {A : qA} {T : Nat} {S : ps_S} {v : Int32} (hN : 700 ≤ N.1) (hA : qAI E A) (hI : ps_I E S T) (hT : T ≤ 20000) :
    ∀ (m n f : Nat) (M : cx_M), n + m = 61 → m < f → qc_T N E M A (ps_steps E n (cx_up S 0 35 v, [])) → (∀ i, i < 5 → 10 * (i + 1) < n → M 515 i = pa_ten E S i) →
      ∃ M', cCc_isNoted_2 N f M (nI n) = some (M', pa_b (∀ k, n ≤ k → k ≤ 60 → ∀ x ∈ A.1.2.2.1, x.1 = nI k → x.2 = ps_level E (ps_steps E k (S, [])).1), 0) ∧ qc_A N E M' A ∧ qc_F M M' ∧ M' 516 = M 516 ∧
        ((∀ k, n ≤ k → k ≤ 60 → ∀ x ∈ A.1.2.2.1, x.1 = nI k → x.2 = ps_level E (ps_steps E k (S, [])).1) → ∀ i, i < 5 → M' 515 i = pa_ten E S i) := by
  intro m
  induction m with
  | zero =>
    intro n f M hn hf h hC
    obtain ⟨f, rfl⟩ : ∃ q, f = q + 1 := ⟨f - 1, by omega⟩
    refine ⟨M, ?_, h.1, qc_F.rf, rfl, fun _ i hi => hC i hi (by omega)⟩
    rw [pa_b_t (fun k a b => absurd a (by omega))]
    show cCc_isNoted_2b N (cCc_isNoted_2 N f) M (nI n) = _
    unfold cCc_isNoted_2b
    rw [if_pos (show (60 : Int32) < nI n from nI_lt (a := 60) (by omega) (by omega))]
  | succ m ih =>
    intro n f M hn hf h hC
    obtain ⟨f, rfl⟩ : ∃ q, f = q + 1 := ⟨f - 1, by omega⟩
    have hIn := ps_run_I hA.1 hI v n (by omega)
    have tn := pi_nI (n := n) (by omega)
    have t10 : (10 : Int32).toInt = 10 := rfl
    have el := cSt_level_s (N := N) (by omega) hA.1 h.2 hIn.1
    rw [ps_level_run] at el
    obtain ⟨q6, qn, -⟩ := (show qc_nos M 600 A.1 from by obtain ⟨π, -, -, -, z, -⟩ := h.1.2.1; exact z)
    obtain ⟨i1, i2⟩ := cCc_noted_inner (N := N) (r_2 := cCc_isNoted_2 N f) (x1 := nI n) (x2 := ps_level E (ps_steps E n (S, [])).1) hA.2.1.2.2.2 q6 qn A.1.2.2.1.length 0 N.1 (by omega) (by have := hA.2.1.2.2.2; omega)
    have hsplit : (∀ k, n ≤ k → k ≤ 60 → ∀ x ∈ A.1.2.2.1, x.1 = nI k → x.2 = ps_level E (ps_steps E k (S, [])).1) ↔ qn_ok A.1.2.2.1 0 (nI n) (ps_level E (ps_steps E n (S, [])).1) ∧ ∀ k, n + 1 ≤ k → k ≤ 60 → ∀ x ∈ A.1.2.2.1, x.1 = nI k → x.2 = ps_level E (ps_steps E k (S, [])).1 := by
      constructor
      · exact fun z => ⟨fun j x _ hx => z n (Nat.le_refl _) (by omega) x (List.mem_of_getElem? hx), fun k a b => z k (by omega) b⟩
      · rintro ⟨z1, z2⟩ k a b x hx
        by_cases e : k = n
        · subst e
          obtain ⟨j, hj⟩ := List.getElem?_of_mem hx
          exact z1 j x (Nat.zero_le _) hj
        · exact z2 k (by omega) b x hx
    rw [hsplit]
    show ∃ M', cCc_isNoted_2b N (cCc_isNoted_2 N f) M (nI n) = _ ∧ _
    unfold cCc_isNoted_2b
    rw [if_neg (show ¬ (60 : Int32) < nI n from nI_nlt (b := n) (a := 60) (by omega) (by omega)), px_cal el]
    by_cases ok : qn_ok A.1.2.2.1 0 (nI n) (ps_level E (ps_steps E n (S, [])).1)
    · rw [show cCc_isNoted_22 N (cCc_isNoted_2 N f) N.1 M (nI n) (ps_level E (ps_steps E n (S, [])).1) 0 = _ from i1 ok]
      rw [pa_b_c (show (_ ∧ _) ↔ _ from ⟨fun z => z.2, fun z => ⟨ok, z⟩⟩)]
      have go : ∀ M1, qc_T N E M1 A (ps_steps E n (cx_up S 0 35 v, [])) → qc_F M M1 → M1 516 = M 516 → (∀ i, i < 5 → 10 * (i + 1) < n + 1 → M1 515 i = pa_ten E S i) →
          ∃ M', cCc_isNoted_96 N (cCc_isNoted_2 N f) M1 (nI n) = some (M', pa_b (∀ k, n + 1 ≤ k → k ≤ 60 → ∀ x ∈ A.1.2.2.1, x.1 = nI k → x.2 = ps_level E (ps_steps E k (S, [])).1), 0) ∧ qc_A N E M' A ∧ qc_F M M' ∧ M' 516 = M 516 ∧
            (qn_ok A.1.2.2.1 0 (nI n) (ps_level E (ps_steps E n (S, [])).1) ∧ (∀ k, n + 1 ≤ k → k ≤ 60 → ∀ x ∈ A.1.2.2.1, x.1 = nI k → x.2 = ps_level E (ps_steps E k (S, [])).1) → ∀ i, i < 5 → M' 515 i = pa_ten E S i) := by
        intro M1 h1 F1 e516 hC1
        obtain ⟨M2, e2, V2, hF2⟩ := cCc_goes_s (n := 1) (T := T + n) hN hA.1 (by decide) h1.2 (fun z => absurd h1.1.2.2.2.2.2.2 z) hIn (by omega) (by omega)
        have h2 : qc_T N E M2 A (ps_steps E (n + 1) (cx_up S 0 35 v, [])) := ⟨qc_A.try hA h1.1 V2.1.U (by rw [hF2.2]; exact h1.1.2.2.2.2.2.2) (fun c a b1 b2 b3 => hF2.1 c (by omega) b1 b2 b3), V2⟩
        obtain ⟨M3, e3, a3, F3, g3, c3⟩ := ih (n + 1) f M2 (by omega) (by omega) h2 (fun i hi hi2 => by rw [hF2.1 515 (by omega) (by omega) (by omega) (by omega)]; exact hC1 i hi hi2)
        refine ⟨M3, ?_, a3, (F1.tr (fun c hc => hF2.1 c (by omega) (by omega) (by omega) (by omega))).tr F3, by rw [g3, hF2.1 516 (by omega) (by omega) (by omega) (by omega), e516], fun z => c3 z.2⟩
        unfold cCc_isNoted_96
        rw [px_cal (show cCc_goes N 1100 M1 1 = some (M2, 0, 0) from e2)]
        simp only [px_let]
        rw [← nI_succ]
        exact e3
      unfold qn_tail
      have er : cx_rem (nI n) 10 = nI (n % 10) := by
        rw [i32_eq, pi_remk t10 (by omega) (by omega), tn, pi_nI (by omega)]
        omega
      rw [er]
      by_cases c0 : n % 10 = 0
      · rw [if_pos (by rw [c0]; rfl)]
        by_cases cn : n = 0
        · rw [if_pos (show nI n ≤ 0 by rw [cn]; exact Int32.le_refl _)]
          exact go M h qc_F.rf rfl (fun i hi hi2 => by omega)
        · rw [if_neg (show ¬ nI n ≤ 0 by rw [i32_le, tn, pi_0]; omega)]
          by_cases c60 : 60 ≤ n
          · rw [if_pos (show (60 : Int32) ≤ nI n from nI_le (a := 60) (by omega) (by omega))]
            exact go M h qc_F.rf rfl (fun i hi hi2 => hC i hi (by omega))
          · rw [if_neg (show ¬ (60 : Int32) ≤ nI n by rw [i32_le, tn, show (60 : Int32).toInt = 60 from rfl]; omega)]
            have ei : (nI n / 10 - 1).toInt = (n / 10 - 1 : Nat) := by
              have ed : (nI n / 10).toInt = n / 10 := by rw [pi_div (by omega) (by omega), tn, t10]
              rw [i32_sub (by rw [ed, i32_1]; omega) (by rw [ed, i32_1]; omega), ed, i32_1]
              omega
            rw [px_st (by omega) (by omega), show pn (nI n / 10 - 1) = n / 10 - 1 by rw [pn_def, ei]; omega]
            refine go _ (h.scr hA 515 _ _ (by omega)) (qc_F.up (by decide)) (px_upc (by decide)) (fun i hi hi2 => ?_)
            rw [px_up]
            by_cases e : i = n / 10 - 1
            · rw [if_pos ⟨rfl, e⟩]
              unfold pa_ten
              rw [show 10 * (i + 1) = n by omega]
            · rw [if_neg (fun z => e z.2)]
              exact hC i hi (by omega)
      · rw [if_neg (show ¬ nI (n % 10) = 0 from fun z => c0 (pw_inj (b := 0) (by omega) (by omega) z))]
        exact go M h qc_F.rf rfl (fun i hi hi2 => hC i hi (by omega))
    · rw [show cCc_isNoted_22 N (cCc_isNoted_2 N f) N.1 M (nI n) (ps_level E (ps_steps E n (S, [])).1) 0 = _ from i2 ok, pa_b_f (fun z => ok z.1)]
      exact ⟨M, rfl, h.1, qc_F.rf, rfl, fun z => absurd z.1 ok⟩
theorem cCc_isNoted_s {N : cx_N} {E : ps_E} {A : qA} {T : Nat} {S : ps_S} {v : Int32} {M : cx_M} (hN : 700 ≤ N.1) (hA : qAI E A) (hI : ps_I E S T) (hT : T ≤ 20000) (h : qc_T N E M A (cx_up S 0 35 v, [])) :
    ∃ M', cCc_isNoted N M = some (M', pa_b (pa_ntd E S A.1.2.2.1), 0) ∧ qc_A N E M' A ∧ qc_F M M' ∧ M' 516 = M 516 ∧ (pa_ntd E S A.1.2.2.1 → ∀ i, i < 5 → M' 515 i = pa_ten E S i) := by
  obtain ⟨M1, e1, a1, F1, g1, c1⟩ := cCc_noted_outer (v := v) hN hA hI hT 61 0 N.1 M rfl (by omega) h (fun i _ hi => absurd hi (by omega))
  have e : pa_ntd E S A.1.2.2.1 ↔ ∀ k, 0 ≤ k → k ≤ 60 → ∀ x ∈ A.1.2.2.1, x.1 = nI k → x.2 = ps_level E (ps_steps E k (S, [])).1 := ⟨fun z k _ hk => z k hk, fun z k hk => z k (Nat.zero_le _) hk⟩
  rw [← e] at e1 c1
  exact ⟨M1, e1, a1, F1, g1, c1⟩
theorem cCc_isGuess_s {N : cx_N} {E : ps_E} {M : cx_M} {A : qA} {x : Int32} (hN : 700 ≤ N.1) (hA : qAI E A) (h : qc_A N E M A) (hx : -99 ≤ x.toInt ∧ x.toInt ≤ 99) :
    ∃ M', cCc_isGuess N M x = some (M', pa_b (x ≠ A.1.1 0 27 ∧ pa_ntd E (pa_go A.1.1 x) A.1.2.2.1), 0) ∧ qc_A N E M' A ∧ qc_F M M' ∧ M' 516 = M 516 ∧ (x ≠ A.1.1 0 27 ∧ pa_ntd E (pa_go A.1.1 x) A.1.2.2.1 → ∀ i, i < 5 → M' 515 i = pa_ten E (pa_go A.1.1 x) i) := by
  obtain ⟨T, hT, hI, -⟩ := hA.2.1.1
  unfold cCc_isGuess cCc_isGuess_0
  simp only [px_get, px_put]
  rw [h.n 28 (Or.inl (by decide)) (show pc_F 28 = 27 from rfl) (by decide)]
  by_cases c : x = A.1.1 0 27
  · rw [if_pos c, pa_b_f (fun z => z.1 c)]
    exact ⟨M, rfl, h, qc_F.rf, rfl, fun z => absurd c z.1⟩
  · rw [if_neg c]
    obtain ⟨M1, v, e1, h1, F1, R1⟩ := qc_T.tries (N := N) (n := 0) (T := T) hN hA h hI (by omega) (by omega)
    have h2 := h1.set hA 28 x (by decide) (show pc_F 28 = 27 from rfl) (by decide) (by decide)
    have h2' : qc_T N E (cx_up M1 1100 28 x) A (cx_up (pa_go A.1.1 x) 0 35 v, []) := by
      have es : cx_up (pa_go A.1.1 x) 0 35 v = cx_up (cx_up A.1.1 0 35 v) 0 27 x := by
        unfold pa_go
        rw [px_comm (Or.inr (by decide))]
      rw [es]
      exact h2
    obtain ⟨M3, e3, a3, F3, g3, c3⟩ := cCc_isNoted_s hN hA (ps_I_go hI hx) hT h2'
    rw [px_cal (show cCc_tries N M 0 = some (M1, 0, 0) from e1), px_cal e3]
    refine ⟨M3, ?_, a3, (F1.tr (qc_F.up (by decide))).tr F3, by rw [g3, px_upc (by decide), R1 516 (by omega) (by omega) (by omega) (by omega)], fun z => c3 z.2⟩
    rw [pa_b_c (show (x ≠ A.1.1 0 27 ∧ pa_ntd E (pa_go A.1.1 x) A.1.2.2.1) ↔ pa_ntd E (pa_go A.1.1 x) A.1.2.2.1 from ⟨fun z => z.2, fun z => ⟨c, z⟩⟩)]
    have b := pa_b_01 (pa_ntd E (pa_go A.1.1 x) A.1.2.2.1)
    generalize pa_b (pa_ntd E (pa_go A.1.1 x) A.1.2.2.1) = y at b ⊢
    unfold cx_bl
    rw [if_pos b]
theorem pn_99 {k : Nat} (hk : k ≤ 199) : (nI k - 99).toInt = (k : Int) - 99 ∧ nI k - 100 = nI k - 99 - 1 := by
  have t := pi_nI (n := k) (by omega)
  have t99 : (99 : Int32).toInt = 99 := rfl
  have e : (nI k - 99).toInt = (k : Int) - 99 := by rw [i32_sub (by omega) (by omega), t, t99]
  refine ⟨e, ?_⟩
  rw [i32_eq, i32_sub (by rw [t, show (100 : Int32).toInt = 100 from rfl]; omega) (by rw [t, show (100 : Int32).toInt = 100 from rfl]; omega), i32_sub (by rw [e, i32_1]; omega) (by rw [e, i32_1]; omega), e, t, i32_1, show (100 : Int32).toInt = 100 from rfl]
  omega
theorem dCc_otherD_loop {N : dNx} {E : ps_E} {P : dP} {L : dL} {A : qA} {w : Int32} {bc bs : Nat} {Q : cd_Qt} (hN : 700 ≤ N.1.1) (hA : qAI E A) (M0 : cx_M)
    (hy : ∀ M', qc_A N.1 E M' A → qc_F M0 M' → Q M' P L (if w = 0 then nI (pa_fits E A.1.1 A.1.2.2.1 199 0).length else (pa_fits E A.1.1 A.1.2.2.1 199 0).getD 0 100) none 0 0 0) :
    ∀ (k f : Nat) (M : cx_M), k ≤ 199 → k < f → qc_A N.1 E M A → qc_F M0 M → dCc_otherD_41 N bc bs Q f M P L 0 0 w (nI (pa_fits E A.1.1 A.1.2.2.1 (199 - k) k).length) ((pa_fits E A.1.1 A.1.2.2.1 (199 - k) k).getD 0 100) (nI k - 100) := by
  intro k
  induction k with
  | zero =>
    intro f M _ hf h F
    obtain ⟨f, rfl⟩ : ∃ q, f = q + 1 := ⟨f - 1, by omega⟩
    have q := hy M h F
    show dCc_otherD_41b N bc bs Q (dCc_otherD_41 N bc bs Q f) M P L 0 0 w _ _ (nI 0 - 100)
    unfold dCc_otherD_41b
    rw [if_pos (show nI 0 - 100 < -99 by decide)]
    by_cases c : w = 0
    · rw [if_pos c] at q ⊢
      exact q
    · rw [if_neg c] at q ⊢
      exact q
  | succ k ih =>
    intro f M hk hf h F
    obtain ⟨f, rfl⟩ : ∃ q, f = q + 1 := ⟨f - 1, by omega⟩
    obtain ⟨t, t2⟩ := pn_99 (k := k) (by omega)
    obtain ⟨t3, t4⟩ := pn_99 (k := k + 1) (by omega)
    have ex : nI (k + 1) - 100 = nI k - 99 := by
      rw [t4, i32_eq, i32_sub (by rw [t3, i32_1]; omega) (by rw [t3, i32_1]; omega), t3, t, i32_1]
      omega
    obtain ⟨M1, e1, h1, F1, -, -⟩ := cCc_isGuess_s (x := nI k - 99) hN hA h (by omega)
    have es : 199 - k = (199 - (k + 1)) + 1 := by omega
    show dCc_otherD_41b N bc bs Q (dCc_otherD_41 N bc bs Q f) M P L 0 0 w _ _ (nI (k + 1) - 100)
    unfold dCc_otherD_41b
    rw [ex, if_neg (show ¬ nI k - 99 < -99 by rw [i32_lt, t, show (-99 : Int32).toInt = -99 from rfl]; omega), pq_cal e1]
    have next := ih f M1 (by omega) (by omega) h1 (F.tr F1)
    rw [es] at next
    by_cases c : nI k - 99 ≠ A.1.1 0 27 ∧ pa_ntd E (pa_go A.1.1 (nI k - 99)) A.1.2.2.1
    · rw [pa_fits_yes c, List.length_cons, nI_succ, t2] at next
      rw [pa_b_t c, if_neg (by decide)]
      exact next
    · rw [pa_fits_no c, t2] at next
      rw [pa_b_f c, if_pos rfl]
      exact next
theorem dCc_otherD_s {N : dNx} {E : ps_E} {M : cx_M} {P : dP} {L : dL} {A : qA} {w : Int32} {bc bs : Nat} {Q : cd_Qt} (hN : 700 ≤ N.1.1) (hA : qAI E A) (h : qc_A N.1 E M A) (hb : 1 ≤ bc) (hs : 6 ≤ bs)
    (hy : 0 ≤ w.toInt ∧ w.toInt ≤ 2 → ∀ M', qc_A N.1 E M' A → qc_F M M' → Q M' P L (pa_other E A.1.1 A.1.2.2.1 w) none 0 0 0)
    (hn : ¬ (0 ≤ w.toInt ∧ w.toInt ≤ 2) → Q M P L 0 none 1 1 6) : dCc_otherD N bc bs M P L w Q := by
  obtain ⟨T, hT, hI, -⟩ := hA.2.1.1
  unfold dCc_otherD dCc_otherD_0
  rw [pq_cal cCc_within_s]
  by_cases c : 0 ≤ w.toInt ∧ w.toInt ≤ 2
  · rw [if_pos (show (0 : Int32).toInt ≤ w.toInt ∧ w.toInt ≤ (2 : Int32).toInt from c)]
    refine cd_thr_s hb hs (fun z => absurd z (by decide)) (fun _ => ⟨fun z => absurd rfl z, fun _ => ?_⟩)
    have hy := hy c
    unfold pa_other at hy
    show if w = 2 then cq_cal (cCc_tries N.1 M 0) (fun M12 _ => cq_cal (cCc_isNoted N.1 M12) fun M13 v14 => if v14 = 0 then Q M13 P L 0 none 0 0 0 else Q M13 P L 1 none 0 0 0) else dCc_otherD_41 N bc bs Q N.1.1 M P L 0 0 w 0 100 99
    by_cases w2 : w = 2
    · rw [if_pos w2] at hy ⊢
      obtain ⟨M1, v, e1, h1, F1, -⟩ := qc_T.tries (N := N.1) (n := 0) (T := T) hN hA h hI (by omega) (by omega)
      obtain ⟨M2, e2, h2, F2, -, -⟩ := cCc_isNoted_s hN hA hI hT h1
      rw [pq_cal (show cCc_tries N.1 M 0 = some (M1, 0, 0) from e1), pq_cal e2]
      have q := hy M2 h2 (F1.tr F2)
      by_cases z : pa_ntd E A.1.1 A.1.2.2.1
      · rw [pa_b_t z] at q ⊢
        rw [if_neg (by decide)]
        exact q
      · rw [pa_b_f z] at q ⊢
        rw [if_pos rfl]
        exact q
    · rw [if_neg w2] at hy ⊢
      have g := dCc_otherD_loop (P := P) (L := L) (w := w) (bc := bc) (bs := bs) (Q := Q) hN hA M hy 199 N.1.1 M (Nat.le_refl _) (by omega) h qc_F.rf
      exact g
  · rw [if_neg (show ¬ ((0 : Int32).toInt ≤ w.toInt ∧ w.toInt ≤ (2 : Int32).toInt) from c)]
    exact cd_thr_s hb hs (fun _ => ⟨fun _ => hn c, fun z => absurd z (by decide)⟩) (fun z => absurd rfl z)
theorem cCc_unlike_inner {N : cx_N} {M : cx_M} {r_5 : cx_M → Int32 → Int32 → Int32 → Int32 → Option cx_R} {i k : Nat} {x2 x3 : Int32} (hi : i < 5) (hk : k < 199) : ∀ (m j f : Nat), j + m = k → m < f →
    cCc_unlike_14 N r_5 f M (nI i) x2 x3 (nI k) (nI j) = @ite (Option cx_R) (∀ d, j ≤ d → d < k → M 516 (5 * d + i) ≠ M 516 (5 * k + i)) (Classical.propDecidable _) (r_5 M (nI i) x2 (x3 + 1) (nI k + 1)) (r_5 M (nI i) x2 x3 (nI k + 1)) := by
  intro m
  induction m with
  | zero =>
    intro j f hj hf
    obtain ⟨f, rfl⟩ : ∃ q, f = q + 1 := ⟨f - 1, by omega⟩
    rw [if_pos (fun d a b => by omega)]
    show cCc_unlike_14b N r_5 (cCc_unlike_14 N r_5 f) M (nI i) x2 x3 (nI k) (nI j) = _
    unfold cCc_unlike_14b cCc_unlike_52 cCc_unlike_62
    rw [if_pos (nI_le (by omega) (by omega)), if_pos (by rw [show j = k by omega])]
    simp only [px_let]
  | succ m ih =>
    intro j f hj hf
    obtain ⟨f, rfl⟩ : ∃ q, f = q + 1 := ⟨f - 1, by omega⟩
    obtain ⟨a0, a1, a2⟩ := pi_5k (x := nI j) (y := nI i) (pi_nI (by omega)) (pi_nI (by omega)) (show j < 2000 by omega) (by omega)
    obtain ⟨b0, b1, b2⟩ := pi_5k (x := nI k) (y := nI i) (pi_nI (by omega)) (pi_nI (by omega)) (show k < 2000 by omega) (by omega)
    show cCc_unlike_14b N r_5 (cCc_unlike_14 N r_5 f) M (nI i) x2 x3 (nI k) (nI j) = _
    unfold cCc_unlike_14b cCc_unlike_52 cCc_unlike_62
    rw [if_neg (nI_ge (by omega) (by omega)), px_ld a0 (by omega), px_ld b0 (by omega), a2, b2]
    simp only [px_let]
    by_cases ce : M 516 (5 * j + i) = M 516 (5 * k + i)
    · rw [if_pos ce, if_neg (fun z => by have := pw_inj (by omega) (by omega) z; omega), if_neg (fun z => z j (Nat.le_refl _) (by omega) ce)]
    · rw [if_neg ce, ← nI_succ, ih (j + 1) f (by omega) (by omega)]
      by_cases cn : ∀ d, j + 1 ≤ d → d < k → M 516 (5 * d + i) ≠ M 516 (5 * k + i)
      · rw [if_pos cn, if_pos (fun d a b => by
          by_cases e : d = j
          · rw [e]; exact ce
          · exact cn d (by omega) b)]
      · rw [if_neg cn, if_neg (fun z => cn (fun d a b => z d (by omega) b))]
theorem cCc_unlike_s {N : cx_N} {M : cx_M} {i z : Nat} (hN : 700 ≤ N.1) (hi : i < 5) (hz : z ≤ 199) : cCc_unlike N M (nI i) (nI z) = some (M, nI (pa_cnt (fun j => M 516 (5 * j + i)) z), 0) := by
  have loop : ∀ (m k f : Nat), k + m = z → m < f → cCc_unlike_5 N f M (nI i) (nI z) (nI (pa_cnt (fun j => M 516 (5 * j + i)) k)) (nI k) = some (M, nI (pa_cnt (fun j => M 516 (5 * j + i)) z), 0) := by
    intro m
    induction m with
    | zero =>
      intro k f hk hf
      obtain ⟨f, rfl⟩ : ∃ q, f = q + 1 := ⟨f - 1, by omega⟩
      show cCc_unlike_5b N (cCc_unlike_5 N f) M (nI i) (nI z) _ (nI k) = _
      unfold cCc_unlike_5b
      rw [if_pos (nI_le (by omega) (by omega)), show k = z by omega]
    | succ m ih =>
      intro k f hk hf
      obtain ⟨f, rfl⟩ : ∃ q, f = q + 1 := ⟨f - 1, by omega⟩
      have h2 := ih (k + 1) f (by omega) (by omega)
      show cCc_unlike_5b N (cCc_unlike_5 N f) M (nI i) (nI z) _ (nI k) = _
      unfold cCc_unlike_5b
      rw [if_neg (nI_ge (by omega) (by omega)), show (0 : Int32) = nI 0 from rfl, cCc_unlike_inner hi (by omega) k 0 N.1 (by omega) (by omega), ← nI_succ k]
      have hn : (∀ d, 0 ≤ d → d < k → M 516 (5 * d + i) ≠ M 516 (5 * k + i)) ↔ pa_news (fun j => M 516 (5 * j + i)) k := ⟨fun y m hm => y m (Nat.zero_le _) hm, fun y d _ hd => y d hd⟩
      have hs : pa_cnt (fun j => M 516 (5 * j + i)) (k + 1) = pa_cnt (fun j => M 516 (5 * j + i)) k + @ite Nat (pa_news (fun j => M 516 (5 * j + i)) k) (Classical.propDecidable _) 1 0 := rfl
      rw [hs] at h2
      by_cases c : pa_news (fun j => M 516 (5 * j + i)) k
      · rw [if_pos c, nI_succ] at h2
        rw [if_pos (hn.mpr c)]
        exact h2
      · rw [if_neg c, Nat.add_zero] at h2
        rw [if_neg (fun y => c (hn.mp y))]
        exact h2
  exact loop z 0 N.1 (by omega) (by omega)
theorem dCc_lookD_end {N : dNx} {M : cx_M} {P : dP} {L : dL} {z : Nat} {w : Int32} {bc bs : Nat} {Q : cd_Qt} (hN : 700 ≤ N.1.1) (hz : z ≤ 199) : ∀ (m i f : Nat) (x : Int32 × Int32), i + m = 5 → m < f →
    Q M P L (if w = 0 then (pa_lk (fun i => nI (pa_cnt (fun j => M 516 (5 * j + i)) z)) m i x).1 else (pa_lk (fun i => nI (pa_cnt (fun j => M 516 (5 * j + i)) z)) m i x).2) none 0 0 0 →
    dCc_lookD_64 N bc bs Q f M P L 0 0 w (nI z) x.1 x.2 (nI i) := by
  intro m
  induction m with
  | zero =>
    intro i f x hi hf q
    obtain ⟨f, rfl⟩ : ∃ q, f = q + 1 := ⟨f - 1, by omega⟩
    show dCc_lookD_64b N bc bs Q (dCc_lookD_64 N bc bs Q f) M P L 0 0 w (nI z) x.1 x.2 (nI i)
    unfold dCc_lookD_64b
    rw [if_pos (show (5 : Int32) ≤ nI i from nI_le (a := 5) (by omega) (by omega))]
    unfold pa_lk at q
    by_cases c : w = 0
    · rw [if_pos c] at q ⊢
      exact q
    · rw [if_neg c] at q ⊢
      exact q
  | succ m ih =>
    intro i f x hi hf q
    obtain ⟨f, rfl⟩ : ∃ q, f = q + 1 := ⟨f - 1, by omega⟩
    have e10 : (10 : Int32) * (nI i + 1) = nI (10 * (i + 1)) := by
      have h10 : (10 : Int32).toInt = 10 := rfl
      rw [← nI_succ, i32_eq, pi_mul (by rw [h10, pi_nI (by omega)]; omega) (by rw [h10, pi_nI (by omega)]; omega), h10, pi_nI (by omega), pi_nI (by omega)]
      omega
    show dCc_lookD_64b N bc bs Q (dCc_lookD_64 N bc bs Q f) M P L 0 0 w (nI z) x.1 x.2 (nI i)
    unfold dCc_lookD_64b dCc_lookD_101
    unfold pa_lk at q
    rw [if_neg (show ¬ (5 : Int32) ≤ nI i from nI_ge (a := i) (b := 5) (by omega) (by omega)), pq_cal (cCc_unlike_s hN (by omega) hz), e10]
    show if x.2 < nI (pa_cnt (fun j => M 516 (5 * j + i)) z) then dCc_lookD_64 N bc bs Q f M P L 0 0 w (nI z) (nI (10 * (i + 1))) (nI (pa_cnt (fun j => M 516 (5 * j + i)) z)) (nI i + 1) else dCc_lookD_64 N bc bs Q f M P L 0 0 w (nI z) x.1 x.2 (nI i + 1)
    rw [← nI_succ]
    by_cases c : x.2 < nI (pa_cnt (fun j => M 516 (5 * j + i)) z)
    · rw [if_pos c] at q ⊢
      exact ih (i + 1) f (nI (10 * (i + 1)), nI (pa_cnt (fun j => M 516 (5 * j + i)) z)) (by omega) (by omega) q
    · rw [if_neg c] at q ⊢
      exact ih (i + 1) f x (by omega) (by omega) q
theorem pl_lkc_eq {E : ps_E} {S : ps_S} {F : List Int32} {M : cx_M} (gf : ∀ j v, F[j]? = some v → ∀ i, i < 5 → M 516 (5 * j + i) = pa_ten E (pa_go S v) i) {i : Nat} (hi : i < 5) : nI (pa_cnt (fun j => M 516 (5 * j + i)) F.length) = nI (pa_cnt (fun j => pa_ten E (pa_go S (F.getD j 0)) i) F.length) := by
  refine congrArg nI ?_
  apply pa_cnt_congr
  intro j hj
  have hx : F[j]? = some (F.getD j 0) := by
    rw [List.getD_eq_getElem?_getD, List.getElem?_eq_getElem hj]
    rfl
  exact gf j _ hx i hi
theorem dCc_lookD_loop {N : dNx} {E : ps_E} {P : dP} {L : dL} {A : qA} {w : Int32} {bc bs : Nat} {Q : cd_Qt} (hN : 700 ≤ N.1.1) (hA : qAI E A) (M0 : cx_M) (F0 : List Int32) (hF0 : F0 = pa_fits E A.1.1 A.1.2.2.1 199 0)
    (hy : ∀ M', qc_A N.1 E M' A → qc_F M0 M' → (∀ j v, F0[j]? = some v → ∀ i, i < 5 → M' 516 (5 * j + i) = pa_ten E (pa_go A.1.1 v) i) → dCc_lookD_64 N bc bs Q N.1.1 M' P L 0 0 w (nI F0.length) (-1) 0 0) :
    ∀ (m k f : Nat) (M : cx_M) (pre : List Int32), k + m = 199 → m < f → qc_A N.1 E M A → qc_F M0 M → pre.length ≤ k → F0 = pre ++ pa_fits E A.1.1 A.1.2.2.1 m k → (∀ j v, pre[j]? = some v → ∀ i, i < 5 → M 516 (5 * j + i) = pa_ten E (pa_go A.1.1 v) i) →
      dCc_lookD_14 N bc bs Q f M P L 0 0 w (nI pre.length) (nI k - 99) := by
  intro m
  induction m with
  | zero =>
    intro k f M pre hk hf h F hl he hc
    obtain ⟨f, rfl⟩ : ∃ q, f = q + 1 := ⟨f - 1, by omega⟩
    have he' : F0 = pre := he.trans (List.append_nil pre)
    obtain ⟨t, -⟩ := pn_99 (k := k) (by omega)
    show dCc_lookD_14b N bc bs Q (dCc_lookD_14 N bc bs Q f) M P L 0 0 w (nI pre.length) (nI k - 99)
    unfold dCc_lookD_14b
    rw [if_pos (show (99 : Int32) < nI k - 99 by rw [i32_lt, t, show (99 : Int32).toInt = 99 from rfl]; omega)]
    have q := hy M h F (by rw [he']; exact hc)
    rw [he'] at q
    exact q
  | succ m ih =>
    intro k f M pre hk hf h F hl he hc
    obtain ⟨f, rfl⟩ : ∃ q, f = q + 1 := ⟨f - 1, by omega⟩
    obtain ⟨t, -⟩ := pn_99 (k := k) (by omega)
    obtain ⟨t', -⟩ := pn_99 (k := k + 1) (by omega)
    have nx : nI k - 99 + 1 = nI (k + 1) - 99 := by
      rw [i32_eq, i32_add (by rw [t, i32_1]; omega) (by rw [t, i32_1]; omega), t, t', i32_1]
      omega
    obtain ⟨M1, e1, h1, F1, g1, c1⟩ := cCc_isGuess_s (x := nI k - 99) hN hA h (by omega)
    show dCc_lookD_14b N bc bs Q (dCc_lookD_14 N bc bs Q f) M P L 0 0 w (nI pre.length) (nI k - 99)
    unfold dCc_lookD_14b dCc_lookD_50
    rw [if_neg (show ¬ (99 : Int32) < nI k - 99 by rw [i32_lt, t, show (99 : Int32).toInt = 99 from rfl]; omega), pq_cal e1]
    by_cases c : nI k - 99 ≠ A.1.1 0 27 ∧ pa_ntd E (pa_go A.1.1 (nI k - 99)) A.1.2.2.1
    · rw [pa_b_t c, if_neg (by decide)]
      rw [pa_fits_yes c] at he
      have he2 : F0 = (pre ++ [nI k - 99]) ++ pa_fits E A.1.1 A.1.2.2.1 m (k + 1) := by rw [he, List.append_assoc]; rfl
      have tl := pi_nI (n := pre.length) (by omega)
      have h5 : (5 : Int32).toInt = 5 := rfl
      have e5 : ((5 : Int32) * nI pre.length).toInt = 5 * pre.length := by rw [pi_mul (by rw [h5, tl]; omega) (by rw [h5, tl]; omega), h5, tl]
      have p5 : ((5 : Int32) * nI pre.length).toNatClampNeg = 5 * pre.length := by rw [i32_nat, e5]; omega
      have hl0 := pi_0
      show cq_cpy M1 515 5 516 10000 0 ((5 : Int32) * nI pre.length) 5 (fun M3 => dCc_lookD_14 N bc bs Q f M3 P L 0 0 w (nI pre.length + 1) (nI k - 99 + 1))
      unfold cq_cpy
      rw [if_neg (by
        rintro (z | z | z | z | z)
        · exact absurd z (by decide)
        · rw [i32_lt, e5, pi_0] at z; omega
        · exact absurd z (by decide)
        · exact absurd z (by decide)
        · rw [p5] at z
          have : (5 : Int32).toNatClampNeg = 5 := rfl
          omega), p5, nx, ← nI_succ]
      have el : (pre ++ [nI k - 99]).length = pre.length + 1 := by rw [List.length_append]; rfl
      have fr : ∀ d, d ≠ 516 → cx_cpm M1 515 516 (0 : Int32).toNatClampNeg (5 * pre.length) (5 : Int32).toNatClampNeg d = M1 d := fun d hd => px_setc hd
      have at516 : ∀ q, cx_cpm M1 515 516 (0 : Int32).toNatClampNeg (5 * pre.length) (5 : Int32).toNatClampNeg 516 q = if 5 * pre.length ≤ q ∧ q < 5 * pre.length + 5 then M1 515 (q - 5 * pre.length) else M1 516 q := by
        intro q
        show cx_set M1 516 (va_cpy (M1 515) (M1 516) 0 (5 * pre.length) 5) 516 q = _
        rw [px_sets]
        show (if 5 * pre.length ≤ q ∧ q < 5 * pre.length + 5 then M1 515 (0 + (q - 5 * pre.length)) else M1 516 q) = _
        rw [Nat.zero_add]
      generalize cx_cpm M1 515 516 (0 : Int32).toNatClampNeg (5 * pre.length) (5 : Int32).toNatClampNeg = M2 at fr at516 ⊢
      rw [← el]
      refine ih (k + 1) f M2 (pre ++ [nI k - 99]) (by omega) (by omega) (qc_A.cells hA h1 (fun d hd => fr d (by unfold qc_K at hd; omega))) ((F.tr F1).tr (fun d hd => fr d (by omega))) (by omega) he2 (fun j v hj i hi => ?_)
      rw [at516]
      by_cases ej : j < pre.length
      · rw [if_neg (by omega), g1]
        rw [List.getElem?_append_left ej] at hj
        exact hc j v hj i hi
      · have hjl : j < (pre ++ [nI k - 99]).length := by
          rcases Nat.lt_or_ge j (pre ++ [nI k - 99]).length with z | z
          · exact z
          · rw [List.getElem?_eq_none z] at hj
            exact absurd hj (by simp)
        have ej2 : j = pre.length := by omega
        subst ej2
        rw [List.getElem?_append_right (Nat.le_refl _), Nat.sub_self] at hj
        have ev : nI k - 99 = v := Option.some.inj hj
        rw [if_pos (by omega), show 5 * pre.length + i - 5 * pre.length = i by omega, ← ev]
        exact c1 c i hi
    · rw [pa_b_f c, if_pos rfl]
      rw [pa_fits_no c] at he
      show dCc_lookD_14 N bc bs Q f M1 P L 0 0 w (nI pre.length) (nI k - 99 + 1)
      rw [nx]
      exact ih (k + 1) f M1 pre (by omega) (by omega) h1 (F.tr F1) (by omega) he (by rw [g1]; exact hc)
theorem dCc_lookD_s {N : dNx} {E : ps_E} {M : cx_M} {P : dP} {L : dL} {A : qA} {w : Int32} {bc bs : Nat} {Q : cd_Qt} (hN : 700 ≤ N.1.1) (hA : qAI E A) (h : qc_A N.1 E M A) (hb : 1 ≤ bc) (hs : 6 ≤ bs)
    (hy : 0 ≤ w.toInt ∧ w.toInt ≤ 1 → ∀ M', qc_A N.1 E M' A → qc_F M M' → Q M' P L (pa_look2 E A.1.1 A.1.2.2.1 w) none 0 0 0)
    (hn : ¬ (0 ≤ w.toInt ∧ w.toInt ≤ 1) → Q M P L 0 none 1 1 6) : dCc_lookD N bc bs M P L w Q := by
  unfold dCc_lookD dCc_lookD_0
  rw [pq_cal cCc_within_s]
  by_cases c : 0 ≤ w.toInt ∧ w.toInt ≤ 1
  · rw [if_pos (show (0 : Int32).toInt ≤ w.toInt ∧ w.toInt ≤ (1 : Int32).toInt from c)]
    refine cd_thr_s hb hs (fun z => absurd z (by decide)) (fun _ => ⟨fun z => absurd rfl z, fun _ => ?_⟩)
    have hy := hy c
    have hlen := pa_fits_len (E := E) (S := A.1.1) (L := A.1.2.2.1) 199 0
    show dCc_lookD_14 N bc bs Q N.1.1 M P L 0 0 w (nI ([] : List Int32).length) (nI 0 - 99)
    refine dCc_lookD_loop hN hA M _ rfl (fun M' h' F' gf => ?_) 199 0 N.1.1 M [] rfl (by omega) h qc_F.rf (Nat.le_refl _) rfl (fun j v hj => absurd hj (by simp))
    have q := hy M' h' F'
    unfold pa_look2 at q
    have hcg : ∀ j, 0 ≤ j → j < 0 + 5 → (fun i => nI (pa_cnt (fun j => M' 516 (5 * j + i)) (pa_fits E A.1.1 A.1.2.2.1 199 0).length)) j = pa_lkc E A.1.1 A.1.2.2.1 j := fun i _ hi => pl_lkc_eq gf (by omega)
    exact dCc_lookD_end (N := N) (bc := bc) (bs := bs) hN hlen 5 0 N.1.1 (-1, 0) (by omega) (by omega) (by rw [pa_lk_congr 5 0 (-1, 0) hcg]; exact q)
  · rw [if_neg (show ¬ ((0 : Int32).toInt ≤ w.toInt ∧ w.toInt ≤ (1 : Int32).toInt) from c)]
    exact cd_thr_s hb hs (fun _ => ⟨fun _ => hn c, fun z => absurd z (by decide)⟩) (fun z => absurd rfl z)
