/-! THE CLASS: years -/
theorem qc_A.p500 {N : cx_N} {E : ps_E} {M : cx_M} {A : qA} {k : Nat} {v : Int32} (hA : qAI E A) (h : qc_A N E M A) (hk : k ≠ 7 ∧ k ≠ 9 ∧ k ≠ 10) : qc_A N E (cx_up M 500 k v) A := by
  have l6 : qc_lo 600 = 1200 ∧ cBk_st 600 = 1000 := ⟨rfl, rfl⟩
  have l7 : qc_lo 700 = 20000 ∧ cBk_st 700 = 6000 := ⟨rfl, rfl⟩
  have fr : ∀ c, c ≠ 500 → cx_up M 500 k v c = M c := fun c hc => px_upc hc
  have n : ∀ i, i ≠ k → cx_up M 500 k v 500 i = M 500 i := fun i hi => by rw [px_up, if_neg (fun z => hi z.2)]
  obtain ⟨hK, hb, h3, hi, ⟨t1, t2, t3⟩, hU, h45⟩ := h
  refine ⟨hK.fr (fr 8000 (by omega)), hb.frm (Or.inl rfl) hA.2.1.2.2.1 (fun c hc => fr c (by omega)), by rw [fr 1000 (by omega)]; exact h3, ?_, ⟨by rw [n 9 (by omega)]; exact t1, by rw [fr 509 (by omega)]; exact t2, by rw [n 10 (by omega)]; exact t3⟩, hU.fr (fun c h1 h2 => fr c (by omega)), by rw [fr 1100 (by omega)]; exact h45⟩
  unfold qc_im at hi ⊢
  cases hI : A.2.1 with
  | none =>
    rw [hI] at hi
    exact ⟨by rw [n 7 (by omega)]; exact hi.1, hi.2.fr (Or.inr rfl) (fun c hc => fr c (by omega))⟩
  | some I =>
    rw [hI] at hi
    exact ⟨by rw [n 7 (by omega)]; exact hi.1, hi.2.frm (Or.inr rfl) (hA.2.2.1 I hI).2.2.1 (fun c hc => fr c (by omega))⟩
theorem qc_T.p500 {N : cx_N} {E : ps_E} {M : cx_M} {A : qA} {s : ps_T} {k : Nat} {v : Int32} (hA : qAI E A) (h : qc_T N E M A s) (hk : k ≠ 7 ∧ k ≠ 9 ∧ k ≠ 10) : qc_T N E (cx_up M 500 k v) A s := by
  have e : ∀ d, d ≠ 500 → cx_up M 500 k v d = M d := fun d hd => px_upc hd
  exact ⟨h.1.p500 hA hk, pc_S.fr h.2.1 (fun d a b => e d (by omega)), h.2.2.1.fr (e 8000 (by omega)), h.2.2.2.1.fr (by rw [e 1100 (by omega)]) (by rw [e 1100 (by omega)]), h.2.2.2.2.fr (by rw [e 1100 (by omega)]) (e 9000 (by omega)) (e 9001 (by omega)) (e 9002 (by omega))⟩
theorem px_self {M : cx_M} {c k : Nat} : cx_up M c k (M c k) = M := by
  funext a b
  rw [px_up]
  by_cases h : a = c ∧ b = k
  · rw [if_pos h, h.1, h.2]
  · rw [if_neg h]
def pc_dro (N : cx_N) (d : Int32 → Int32) (v : Int32 → Int32 → Int32) : Prop := ∀ (M : cx_M) (m x : Int32), M 500 16 = x → m ≠ 0 → cCc_draw N M m = some (cx_up M 500 16 (d x), v (d x) m, 0)
theorem pc_dro_s {N : cx_N} : pc_dro N pa_dr pa_dv := by
  intro M m x h43 hm
  unfold cCc_draw cCc_draw_0 pa_dv pa_dr
  simp only [px_get, px_put]
  rw [h43, px_nz hm, px_up, if_pos ⟨rfl, rfl⟩]
theorem px_sw0 {A B C D : Option cx_R} : cx_sw 0 0 [A, B, C] D = A := by
  have h : ¬ ((0 : Int32).toInt < 0 ∨ 0 + ([A, B, C].length : Int) ≤ (0 : Int32).toInt) := show ¬ ((0 : Int) < 0 ∨ (0 : Int) + 3 ≤ 0) by decide
  exact if_neg h
theorem px_sw1 {A B C D : Option cx_R} : cx_sw 1 0 [A, B, C] D = B := by
  have h : ¬ ((1 : Int32).toInt < 0 ∨ 0 + ([A, B, C].length : Int) ≤ (1 : Int32).toInt) := show ¬ ((1 : Int) < 0 ∨ (0 : Int) + 3 ≤ 1) by decide
  exact if_neg h
theorem px_sw2 {A B C D : Option cx_R} : cx_sw 2 0 [A, B, C] D = C := by
  have h : ¬ ((2 : Int32).toInt < 0 ∨ 0 + ([A, B, C].length : Int) ≤ (2 : Int32).toInt) := show ¬ ((2 : Int) < 0 ∨ (0 : Int) + 3 ≤ 2) by decide
  exact if_neg h
theorem px_sw3 {v : Int32} {A B C D : Option cx_R} (h : 3 ≤ v.toInt) : cx_sw v 0 [A, B, C] D = D := by
  have h' : v.toInt < 0 ∨ 0 + ([A, B, C].length : Int) ≤ v.toInt := Or.inr (show (0 : Int) + 3 ≤ v.toInt by omega)
  exact if_pos h'
section yearsC
variable {E : ps_E} {A : qA} {d : Int32 → Int32} {v : Int32 → Int32 → Int32}
theorem pa_hap_35 {S : ps_S} {x u : Int32} : (pa_hap d v x (cx_up S 0 35 u)).1 = (pa_hap d v x S).1 ∧ (pa_hap d v x (cx_up S 0 35 u)).2 = cx_up (pa_hap d v x S).2 0 35 u := by
  unfold pa_hap
  try dsimp only
  by_cases c0 : v (d x) 5 = 0
  · rw [if_pos c0, if_pos c0]
    exact ⟨rfl, px_comm (Or.inr (by decide))⟩
  · rw [if_neg c0, if_neg c0]
    by_cases c1 : v (d x) 5 = 1
    · rw [if_pos c1, if_pos c1]
      exact ⟨rfl, px_comm (Or.inr (by decide))⟩
    · rw [if_neg c1, if_neg c1]
      by_cases c2 : v (d x) 5 = 2
      · rw [if_pos c2, if_pos c2]
        exact ⟨rfl, px_comm (Or.inr (by decide))⟩
      · rw [if_neg c2, if_neg c2]
        exact ⟨rfl, rfl⟩
theorem cCc_happens_s {N : cx_N} {M : cx_M} {S : ps_S} {x : Int32} (hd : pc_dro N d v) (hv : pa_dvs v) (hA : qAI E A) (h : qc_T N E M A (S, [])) (h16 : M 500 16 = x) :
    ∃ M', cCc_happens N M = some (M', 0, 0) ∧ qc_T N E M' A ((pa_hap d v x S).2, []) ∧ M' 500 16 = (pa_hap d v x S).1 ∧ qc_F M M' := by
  have e1 := hd M 5 x h16 (by decide)
  have h1 := h.p500 (k := 16) (v := d x) hA (by decide)
  have g1 : cx_up M 500 16 (d x) 500 16 = d x := by rw [px_up, if_pos ⟨rfl, rfl⟩]
  have F1 : qc_F M (cx_up M 500 16 (d x)) := qc_F.up (by decide)
  have b := hv (d x) 5 (by decide)
  unfold cCc_happens cCc_happens_0
  rw [px_cal e1]
  generalize cx_up M 500 16 (d x) = M1 at h1 g1 F1 ⊢
  have e5 : (5 : Int32).toInt = 5 := rfl
  have more : ∀ (m : Int32) (k j : Nat) (f : Int32 → Int32), m ≠ 0 → k < 34 → pc_F k = j → j ≠ 31 → j ≠ 35 → (j ≠ 6 ∧ j ≠ 32) → ∃ M', (cx_cal (cCc_draw N M1 m) fun M3 v4 => cx_put M3 1100 k (f v4) fun M5 => some (M5, 0, 0)) = some (M', 0, 0) ∧ qc_T N E M' A (cx_up S 0 j (f (v (d (d x)) m)), []) ∧ M' 500 16 = d (d x) ∧ qc_F M M' := by
    intro m k j f hm hk hj h31 h35 h632
    have e2 := hd M1 m (d x) g1 hm
    have h2 := h1.p500 (k := 16) (v := d (d x)) hA (by decide)
    refine ⟨cx_up (cx_up M1 500 16 (d (d x))) 1100 k (f (v (d (d x)) m)), ?_, h2.set hA k _ hk hj h31 h35 h632, by rw [px_upc (by decide), px_up, if_pos ⟨rfl, rfl⟩], (F1.tr (qc_F.up (by decide))).tr (qc_F.up (by decide))⟩
    rw [px_cal e2, px_put]
  unfold pa_hap
  try dsimp only
  by_cases c0 : v (d x) 5 = 0
  · rw [if_pos c0, c0, px_sw0]
    exact more 4 26 25 (fun z => z) (by decide) (by decide) rfl (by decide) (by decide) (by decide)
  · rw [if_neg c0]
    by_cases c1 : v (d x) 5 = 1
    · rw [if_pos c1, c1, px_sw1]
      exact more 12 27 26 (fun z => z) (by decide) (by decide) rfl (by decide) (by decide) (by decide)
    · rw [if_neg c1]
      by_cases c2 : v (d x) 5 = 2
      · rw [if_pos c2, c2, px_sw2]
        exact more 41 28 27 (fun z => z - 20) (by decide) (by decide) rfl (by decide) (by decide) (by decide)
      · rw [if_neg c2, px_sw3]
        · exact ⟨M1, rfl, h1, g1, F1⟩
        · have t0 : (0 : Int32).toInt = 0 := rfl
          have t1 : (1 : Int32).toInt = 1 := rfl
          have t2 : (2 : Int32).toInt = 2 := rfl
          rw [i32_eq] at c0 c1 c2
          omega
theorem dCc_yearsD_loop {N : dNx} {P : dP} {L : dL} {T z : Nat} {w r : Int32} {bc bs : Nat} {Q : cd_Qt} {M0 : cx_M} (hd : pc_dro N.1 d v) (hv : pa_dvs v) (hN : 700 ≤ N.1.1) (hA : qAI E A) (hT : T ≤ 20000) (hz : z ≤ 60) (hy : ∀ M', qc_A N.1 E M' A → qc_F M0 M' → Q M' P L r none 0 0 0) :
    ∀ (m k f : Nat) (M : cx_M) (S : ps_S) (x t u : Int32), k + m = z → m < f → qc_T N.1 E M A (cx_up S 0 35 u, []) → ps_I E S (T + 10 * k) → M 500 16 = x → qc_F M0 M →
      (if w = 0 then (pa_yrs d v E m x S t).1 0 7 - A.1.1 0 7 else if w = 1 then (pa_yrs d v E m x S t).1 0 12 - A.1.1 0 12 else (pa_yrs d v E m x S t).2) = r → dCc_yearsD_35 N bc bs Q f M P L 0 0 (nI z) w t (nI k) := by
  intro m
  induction m with
  | zero =>
    intro k f M S x t u hk hf h hI hx F hr
    obtain ⟨f, rfl⟩ : ∃ q, f = q + 1 := ⟨f - 1, by omega⟩
    have q := hy M h.1 F
    rw [← hr] at q
    have g7 : M 1100 7 = S 0 7 := by rw [h.n 7 (Or.inl (by decide)) (show pc_F 7 = 7 from rfl)]; show cx_up S 0 35 u 0 7 = _; rw [px_up, if_neg (by decide)]
    have g12 : M 1100 22 = S 0 12 := by rw [h.n 22 (Or.inl (by decide)) (show pc_F 22 = 12 from rfl)]; show cx_up S 0 35 u 0 12 = _; rw [px_up, if_neg (by decide)]
    have n7 : M 1000 7 = A.1.1 0 7 := h.1.n 7 (Or.inl (by decide)) rfl (by decide)
    have n12 : M 1000 22 = A.1.1 0 12 := h.1.n 22 (Or.inl (by decide)) rfl (by decide)
    show dCc_yearsD_35b N bc bs Q (dCc_yearsD_35 N bc bs Q f) M P L 0 0 (nI z) w t (nI k)
    unfold dCc_yearsD_35b
    rw [if_pos (nI_le (by omega) (by omega))]
    show if w = 0 then Q M P L (M 1100 7 - M 1000 7) none 0 0 0 else if w = 1 then Q M P L (M 1100 22 - M 1000 22) none 0 0 0 else Q M P L t none 0 0 0
    rw [g7, g12, n7, n12]
    by_cases c : w = 0
    · rw [if_pos c] at q ⊢
      exact q
    · rw [if_neg c] at q ⊢
      by_cases c1 : w = 1
      · rw [if_pos c1] at q ⊢
        exact q
      · rw [if_neg c1] at q ⊢
        exact q
  | succ m ih =>
    intro k f M S x t u hk hf h hI hx F hr
    obtain ⟨f, rfl⟩ : ∃ q, f = q + 1 := ⟨f - 1, by omega⟩
    obtain ⟨M1, e1, h1, g1, F1⟩ := cCc_happens_s hd hv hA h hx
    obtain ⟨q1, q2⟩ := pa_hap_35 (d := d) (v := v) (S := S) (x := x) (u := u)
    rw [q1] at g1
    rw [q2] at h1
    obtain ⟨hI1, -, -⟩ := pa_hap_I (d := d) (v := v) (x := x) hv hI
    have hr' : (if w = 0 then (pa_yrs d v E m (pa_hap d v x S).1 (ps_steps E 10 ((pa_hap d v x S).2, [])).1 (cx_max t (ps_level E (ps_steps E 10 ((pa_hap d v x S).2, [])).1))).1 0 7 - A.1.1 0 7 else if w = 1 then (pa_yrs d v E m (pa_hap d v x S).1 (ps_steps E 10 ((pa_hap d v x S).2, [])).1 (cx_max t (ps_level E (ps_steps E 10 ((pa_hap d v x S).2, [])).1))).1 0 12 - A.1.1 0 12 else (pa_yrs d v E m (pa_hap d v x S).1 (ps_steps E 10 ((pa_hap d v x S).2, [])).1 (cx_max t (ps_level E (ps_steps E 10 ((pa_hap d v x S).2, [])).1))).2) = r := hr
    generalize (pa_hap d v x S).2 = S1 at h1 hI1 hr'
    generalize (pa_hap d v x S).1 = x1 at g1 hr'
    obtain ⟨M2, e2, h2, F2, R2⟩ := h1.goes (n := 10) (T := T + 10 * k) hN hA (qI_up29 hI1 (by decide) (by decide) (by decide)) (by omega) (by omega)
    have hI2 : ps_I E (ps_steps E 10 (S1, [])).1 (T + 10 * (k + 1)) := ps_steps_I (s := (S1, [])) hA.1 hI1 10 (by omega)
    rw [ps_steps_35 _ _ _ _ _ (by decide), ps_T_eta (ps_steps_q (E := E) (s := (S1, [])) rfl 10)] at h2
    generalize (ps_steps E 10 (S1, [])).1 = S2 at h2 hI2 hr'
    have el := cSt_level_s (N := N.1) (by omega) hA.1 h2.2 hI2.1
    have h3 : qc_T N.1 E M2 A (cx_up S2 0 35 (S2 0 35), []) := by
      rw [show cx_up S2 0 35 (S2 0 35) = S2 from px_self]
      exact h2
    have g2 : M2 500 16 = x1 := by rw [R2 500 (by omega) (by omega) (by omega) (by omega)]; exact g1
    have next := ih (k + 1) f M2 S2 x1 (cx_max t (ps_level E S2)) (S2 0 35) (by omega) (by omega) h3 hI2 g2 ((F.tr F1).tr F2) hr'
    show dCc_yearsD_35b N bc bs Q (dCc_yearsD_35 N bc bs Q f) M P L 0 0 (nI z) w t (nI k)
    unfold dCc_yearsD_35b
    rw [if_neg (nI_ge (by omega) (by omega)), pq_cal e1, pq_cal (show cCc_goes N.1 1100 M1 10 = some (M2, 0, 0) from e2), pq_cal el]
    show dCc_yearsD_35 N bc bs Q f M2 P L 0 0 (nI z) w (cx_max t (ps_level E S2)) (nI k + 1)
    rw [← nI_succ]
    exact next
end yearsC
theorem dCc_yearsD_s {N : dNx} {E : ps_E} {M : cx_M} {P : dP} {L : dL} {A : qA} {x n w : Int32} {bc bs : Nat} {Q : cd_Qt} (hN : 700 ≤ N.1.1) (hA : qAI E A) (h : qc_A N.1 E M A) (hb : 1 ≤ bc) (hs : 6 ≤ bs)
    (hy : 0 ≤ w.toInt ∧ w.toInt ≤ 2 → 0 ≤ n.toInt ∧ n.toInt ≤ 60 → ∀ M', qc_A N.1 E M' A → qc_F M M' → Q M' P L (pa_years pa_dr pa_dv E A.1.1 x (pn n) w) none 0 0 0)
    (h2 : 0 ≤ w.toInt ∧ w.toInt ≤ 2 → ¬ (0 ≤ n.toInt ∧ n.toInt ≤ 60) → Q M P L 0 none 2 1 6) (h1 : ¬ (0 ≤ w.toInt ∧ w.toInt ≤ 2) → Q M P L 0 none 1 1 6) : dCc_yearsD N bc bs M P L x n w Q := by
  obtain ⟨T, hT, hI, -⟩ := hA.2.1.1
  unfold dCc_yearsD dCc_yearsD_0
  rw [pq_cal cCc_within_s]
  by_cases c : 0 ≤ w.toInt ∧ w.toInt ≤ 2
  · rw [if_pos (show (0 : Int32).toInt ≤ w.toInt ∧ w.toInt ≤ (2 : Int32).toInt from c)]
    refine cd_thr_s hb hs (fun z => absurd z (by decide)) (fun _ => ⟨fun z => absurd rfl z, fun _ => ?_⟩)
    refine pd_add ?_
    rw [pq_cal cCc_within_s]
    by_cases c2 : 0 ≤ n.toInt ∧ n.toInt ≤ 60
    · rw [if_pos (show (0 : Int32).toInt ≤ n.toInt ∧ n.toInt ≤ (60 : Int32).toInt from c2)]
      refine cd_thr_s hb hs (fun z => absurd z (by decide)) (fun _ => ⟨fun z => absurd rfl z, fun _ => ?_⟩)
      have hn : pn n ≤ 60 := by rw [pn_def]; omega
      have hy2 := hy c c2
      obtain ⟨M1, v, e1, h1', F1, -⟩ := qc_T.tries (N := N.1) (n := 0) (T := T) hN hA h hI (by omega) (by omega)
      show cq_cal (cCc_tries N.1 M 0) (fun M23 _ => dCc_yearsD_35 N bc bs Q N.1.1 (cx_up M23 500 16 x) P L 0 0 n w 0 0)
      rw [pq_cal (show cCc_tries N.1 M 0 = some (M1, 0, 0) from e1)]
      have en : n = nI (pn n) := pn_nI (by omega)
      unfold pa_years at hy2
      try dsimp only at hy2
      generalize pn n = nn at en hn hy2
      subst en
      exact dCc_yearsD_loop (M0 := M) pc_dro_s pa_dv_b hN hA hT hn hy2 nn 0 N.1.1 _ A.1.1 x 0 v (by omega) (by omega) (h1'.p500 hA (by decide)) hI (by rw [px_up, if_pos ⟨rfl, rfl⟩]) (F1.tr (qc_F.up (by decide))) rfl
    · rw [if_neg (show ¬ ((0 : Int32).toInt ≤ n.toInt ∧ n.toInt ≤ (60 : Int32).toInt) from c2)]
      exact cd_thr_s hb hs (fun _ => ⟨fun _ => h2 c c2, fun z => absurd z (by decide)⟩) (fun z => absurd rfl z)
  · rw [if_neg (show ¬ ((0 : Int32).toInt ≤ w.toInt ∧ w.toInt ≤ (2 : Int32).toInt) from c)]
    exact cd_thr_s hb hs (fun _ => ⟨fun _ => h1 c, fun z => absurd z (by decide)⟩) (fun z => absurd rfl z)
