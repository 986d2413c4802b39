/-! THE CLASS: toGain -/
theorem pa_most_35 {E : ps_E} {S : ps_S} {v far : Int32} : ∀ m : Nat, pa_most E m (cx_up S 0 35 v, []) far = pa_most E m (S, []) far
  | 0 => rfl
  | m + 1 => by
    unfold pa_most
    rw [ps_step_35]
theorem cCc_mostOff_loop {N : cx_N} {E : ps_E} {A : qA} {G : ps_S → Prop} {T z : Nat} (hN : 700 ≤ N.1) (hA : qAI E A) (hT : T ≤ 20000) (hz : z ≤ 400) :
    ∀ (m k f : Nat) (M : cx_M) (s : ps_T) (far : Int32), k + m = z → m < f → qc_C N E M A G → pc_V N E M 1100 s G → (∀ i, i < m → ∀ X, ps_ev E (ps_steps E i s) X → G X) → ps_I E s.1 (T + k) →
      ∃ M', cCc_mostOff_4 N f M (nI z) far (nI k) = some (M', pa_most E m s far, 0) ∧ qc_C N E M' A G ∧ qc_F M M' := by
  intro m
  induction m with
  | zero =>
    intro k f M s far hk hf h hV hG hI
    obtain ⟨f, rfl⟩ : ∃ j, f = j + 1 := ⟨f - 1, by omega⟩
    refine ⟨M, ?_, h, qc_F.rf⟩
    show cCc_mostOff_4b N (cCc_mostOff_4 N f) M (nI z) far (nI k) = _
    unfold cCc_mostOff_4b
    rw [if_pos (nI_le (by omega) (by omega))]
    rfl
  | succ m ih =>
    intro k f M s far hk hf h hV hG hI
    obtain ⟨f, rfl⟩ : ∃ j, f = j + 1 := ⟨f - 1, by omega⟩
    obtain ⟨M1, e1, h1, V1, -, F1⟩ := h.goes (n := 1) (T := T + k) hN hA hV (fun i hi X hX => hG i (by omega) X hX) hI (by omega) (by omega)
    have hI1 : ps_I E (ps_step E s).1 (T + (k + 1)) := ps_step_I (T := T + k) hA.1 hI (by omega)
    have V1' : pc_V N E M1 1100 (ps_step E s) G := V1
    have hG1 : ∀ i, i < m → ∀ X, ps_ev E (ps_steps E i (ps_step E s)) X → G X := by
      intro i hi X hX
      rw [← ps_steps_succ] at hX
      exact hG (i + 1) (by omega) X hX
    show ∃ M', cCc_mostOff_4b N (cCc_mostOff_4 N f) M (nI z) far (nI k) = some (M', pa_most E m (ps_step E s) (if (ps_step E s).1 0 8 = 2 then cx_max far (pa_off E (ps_step E s).1) else far), 0) ∧ _
    generalize ps_step E s = t at V1' hI1 hG1 ⊢
    unfold cCc_mostOff_4b cCc_mostOff_42
    rw [if_neg (nI_ge (by omega) (by omega)), px_cal (show cCc_goes N 1100 M 1 = some (M1, 0, 0) from e1)]
    simp only [px_get, px_let]
    rw [pc_n V1'.1 8 (Or.inl (by decide)) (show pc_F 8 = 8 from rfl), ← nI_succ]
    have eo : cCc_off N 1100 M1 = some (M1, pa_off E t.1, 0) := by
      unfold cCc_off cCc_off_0
      rw [px_cal (cSt_level_s (by omega) hA.1 V1' hI1.1)]
      simp only [px_get]
      rw [pc_n V1'.1 30 (Or.inl (by decide)) (show pc_F 30 = 29 from rfl)]
      rfl
    by_cases c : t.1 0 8 = 2
    · rw [if_pos c, if_pos c, px_cal eo]
      obtain ⟨M2, e2, h2, F2⟩ := ih (k + 1) f M1 t (cx_max far (pa_off E t.1)) (by omega) (by omega) h1 V1' hG1 hI1
      exact ⟨M2, e2, h2, F1.tr F2⟩
    · rw [if_neg c, if_neg c]
      obtain ⟨M2, e2, h2, F2⟩ := ih (k + 1) f M1 t far (by omega) (by omega) h1 V1' hG1 hI1
      exact ⟨M2, e2, h2, F1.tr F2⟩
def pa_gc (E : ps_E) (S : ps_S) (n : Nat) : Nat → Nat → Int32 × Int32 → Int32 × Int32
  | 0, _, x => x
  | m + 1, k, x => pa_gc E S n m (k + 1) (if k % 10 ≤ 3 then pa_tb (nI k) (pa_gain E S n (k / 10) (k % 10)) x else x)
theorem pa_gc_10 {E : ps_E} {S : ps_S} {n : Nat} (m p : Nat) (x : Int32 × Int32) : pa_gc E S n (m + 10) (10 * p) x = pa_gc E S n m (10 * p + 10) (pa_gi E S n p 4 0 x) := by
  have y : ∀ (m i : Nat) (x : Int32 × Int32), i ≤ 3 → pa_gc E S n (m + 1) (10 * p + i) x = pa_gc E S n m (10 * p + (i + 1)) (pa_tb (nI (10 * p + i)) (pa_gain E S n p i) x) := by
    intro m i x hi
    show pa_gc E S n m (10 * p + i + 1) (if (10 * p + i) % 10 ≤ 3 then pa_tb (nI (10 * p + i)) (pa_gain E S n ((10 * p + i) / 10) ((10 * p + i) % 10)) x else x) = _
    rw [show (10 * p + i) % 10 = i by omega, show (10 * p + i) / 10 = p by omega, if_pos hi]
    rfl
  have no : ∀ (m i : Nat) (x : Int32 × Int32), 3 < i → i < 10 → pa_gc E S n (m + 1) (10 * p + i) x = pa_gc E S n m (10 * p + (i + 1)) x := by
    intro m i x h1 h2
    show pa_gc E S n m (10 * p + i + 1) (if (10 * p + i) % 10 ≤ 3 then _ else x) = _
    rw [show (10 * p + i) % 10 = i by omega, if_neg (by omega)]
    rfl
  have y0 : pa_gc E S n (m + 10) (10 * p) x = pa_gc E S n (m + 9) (10 * p + 1) (pa_tb (nI (10 * p)) (pa_gain E S n p 0) x) := y (m + 9) 0 x (by omega)
  rw [y0, y (m + 8) 1 _ (by omega), y (m + 7) 2 _ (by omega), y (m + 6) 3 _ (by omega), no (m + 5) 4 _ (by omega) (by omega), no (m + 4) 5 _ (by omega) (by omega), no (m + 3) 6 _ (by omega) (by omega), no (m + 2) 7 _ (by omega) (by omega), no (m + 1) 8 _ (by omega) (by omega), no m 9 _ (by omega) (by omega)]
  rfl
theorem pa_gc_gp {E : ps_E} {S : ps_S} {n : Nat} : ∀ (m p : Nat) (x : Int32 × Int32), pa_gc E S n (10 * m) (10 * p) x = pa_gp E S n m p x
  | 0, _, _ => rfl
  | m + 1, p, x => by
    rw [show 10 * (m + 1) = 10 * m + 10 by omega, pa_gc_10, show 10 * p + 10 = 10 * (p + 1) by omega, pa_gc_gp m (p + 1)]
    rfl
theorem pa_tb_1 {k : Nat} {v : Int32} {x : Int32 × Int32} (hk : k < 1000) (h : x.1 = -1 ↔ x.2 = -1) : (pa_tb (nI k) v x).1 = -1 ↔ (pa_tb (nI k) v x).2 = -1 := by
  unfold pa_tb
  by_cases c : v = -1 ∨ (x.1 ≠ -1 ∧ ¬ v < x.2)
  · rw [if_pos c]; exact h
  · rw [if_neg c]
    exact ⟨fun z => absurd z (nI_m1 (by omega)), fun z => absurd (Or.inl z) c⟩
theorem dCc_toGainD_loop {N : dNx} {E : ps_E} {P : dP} {L : dL} {A : qA} {w : Int32} {bc bs T z : Nat} {Q : cd_Qt} (hN : 700 ≤ N.1.1) (hA : qAI E A) (hI : ps_I E A.1.1 T) (hT : T ≤ 20000) (hz : z ≤ 400) (M0 : cx_M) (r : Int32 × Int32)
    (hy : ∀ M', qc_A N.1 E M' A → qc_F M0 M' → Q M' P L (if w = 0 then r.1 else r.2) none 0 0 0) :
    ∀ (m k f : Nat) (M : cx_M) (x : Int32 × Int32), k + m = 100 → m < f → qc_C N.1 E M A (pf_G E A.1.1 z) → qc_F M0 M → (x.1 = -1 ↔ x.2 = -1) → pa_gc E A.1.1 z m k x = r → dCc_toGainD_43 N bc bs Q f M P L 0 0 (nI z) w x.1 x.2 (nI k) := by
  intro m
  induction m with
  | zero =>
    intro k f M x hk hf h F _ hx
    obtain ⟨f, rfl⟩ : ∃ j, f = j + 1 := ⟨f - 1, by omega⟩
    show dCc_toGainD_43b N bc bs Q (dCc_toGainD_43 N bc bs Q f) M P L 0 0 (nI z) w x.1 x.2 (nI k)
    unfold dCc_toGainD_43b
    rw [if_pos (show (100 : Int32) ≤ nI k from nI_le (a := 100) (by omega) (by omega))]
    have q := hy (cx_up M 1100 45 0) h.end (F.tr (qc_F.up (by decide)))
    rw [← hx] at q
    show if w = 0 then Q (cx_up M 1100 45 0) P L x.1 none 0 0 0 else Q (cx_up M 1100 45 0) P L x.2 none 0 0 0
    by_cases c : w = 0
    · rw [if_pos c] at q ⊢
      exact q
    · rw [if_neg c] at q ⊢
      exact q
  | succ m ih =>
    intro k f M x hk hf h F h12 hx
    obtain ⟨f, rfl⟩ : ∃ j, f = j + 1 := ⟨f - 1, by omega⟩
    have tk := pi_nI (n := k) (by omega)
    have t10 : (10 : Int32).toInt = 10 := rfl
    have er : cx_rem (nI k) 10 = nI (k % 10) := by
      rw [i32_eq, pi_remk t10 (by omega) (by omega), tk, pi_nI (by omega)]
      omega
    have ed : nI k / 10 = nI (k / 10) := by
      rw [i32_eq, pi_div (by omega) (by omega), tk, t10, pi_nI (by omega)]
      omega
    show dCc_toGainD_43b N bc bs Q (dCc_toGainD_43 N bc bs Q f) M P L 0 0 (nI z) w x.1 x.2 (nI k)
    unfold dCc_toGainD_43b
    rw [if_neg (show ¬ (100 : Int32) ≤ nI k by rw [i32_le, tk, show (100 : Int32).toInt = 100 from rfl]; omega), er, ed]
    unfold pa_gc at hx
    by_cases c3 : k % 10 ≤ 3
    · rw [if_pos c3] at hx
      rw [if_pos (show nI (k % 10) ≤ 3 by rw [i32_le, pi_nI (by omega), show (3 : Int32).toInt = 3 from rfl]; omega)]
      obtain ⟨M1, v, e1, h1, V1, -, F1⟩ := h.tries hN hA
      obtain ⟨h2, V2⟩ := h1.set hA V1 31 (nI (k / 10)) (by decide) (show pc_F 31 = 33 from rfl) (by decide) (by decide)
      obtain ⟨h3, V3⟩ := h2.set hA V2 32 (nI (k % 10)) (by decide) (show pc_F 32 = 34 from rfl) (by decide) (by decide)
      have eS : cx_up (cx_up (cx_up A.1.1 0 35 v) 0 33 (nI (k / 10))) 0 34 (nI (k % 10)) = cx_up (pa_gS A.1.1 (nI (k / 10)) (nI (k % 10))) 0 35 v := by
        unfold pa_gS
        rw [px_comm (c := 0) (k := 35) (d := 0) (j := 33) (Or.inr (by decide)), px_comm (c := 0) (k := 35) (d := 0) (j := 34) (Or.inr (by decide))]
      have V3' : pc_V N.1 E (cx_up (cx_up M1 1100 31 (nI (k / 10))) 1100 32 (nI (k % 10))) 1100 (cx_up (pa_gS A.1.1 (nI (k / 10)) (nI (k % 10))) 0 35 v, []) (pf_G E A.1.1 z) := by
        rw [← eS]
        exact V3
      have hpf : pf_e A.1.1 (cx_up (pa_gS A.1.1 (nI (k / 10)) (nI (k % 10))) 0 35 v) := ((pf_e.rf.up2 _ (by decide)).up2 _ (by decide)).up2 v (by decide)
      obtain ⟨M4, e4, h4, F4⟩ := cCc_mostOff_loop (T := T) (G := pf_G E A.1.1 z) hN hA hT hz z 0 N.1.1 _ _ (-1) (by omega) (by omega) h3 V3' (fun i hi X hX => pf_G_run hA.1 hI (by omega) hpf i hi X hX) (qI_up29 (ps_I_gain hI) (by decide) (by decide) (by decide))
      rw [pa_most_35] at e4
      have Fm : qc_F M0 M4 := (((F.tr F1).tr (qc_F.up (by decide))).tr (qc_F.up (by decide))).tr F4
      rw [pq_cal e1]
      refine pq_put (pq_put ?_)
      rw [pq_cal (show cCc_mostOff N.1 (cx_up (cx_up M1 1100 31 (nI (k / 10))) 1100 32 (nI (k % 10))) (nI z) = some (M4, pa_gain E A.1.1 z (k / 10) (k % 10), 0) from e4)]
      have h12' := pa_tb_1 (k := k) (v := pa_gain E A.1.1 z (k / 10) (k % 10)) (by omega) h12
      generalize pa_gain E A.1.1 z (k / 10) (k % 10) = g at hx h12' ⊢
      have fin : ∀ x', x' = pa_tb (nI k) g x → dCc_toGainD_127 N bc bs Q (dCc_toGainD_43 N bc bs Q f) M4 P L 0 0 (nI z) w x'.1 x'.2 (nI k) := by
        intro x' ex
        rw [← ex] at hx h12'
        unfold dCc_toGainD_127
        show dCc_toGainD_43 N bc bs Q f M4 P L 0 0 (nI z) w x'.1 x'.2 (nI k + 1)
        rw [← nI_succ]
        exact ih (k + 1) f M4 x' (by omega) (by omega) h4 Fm h12' hx
      unfold pa_tb at fin
      by_cases c1 : g = -1
      · rw [if_pos c1]
        exact fin x (by rw [if_pos (Or.inl c1)])
      · rw [if_neg c1]
        by_cases c2 : x.2 = -1
        · rw [if_pos c2]
          exact fin (nI k, g) (by rw [if_neg]; rintro (y | y); exact c1 y; exact y.1 (h12.mpr c2))
        · rw [if_neg c2]
          by_cases c4 : g < x.2
          · rw [if_pos c4]
            exact fin (nI k, g) (by rw [if_neg]; rintro (y | y); exact c1 y; exact y.2 c4)
          · rw [if_neg c4]
            exact fin x (by rw [if_pos (Or.inr ⟨fun y => c2 (h12.mp y), c4⟩)])
    · rw [if_neg c3] at hx
      rw [if_neg (show ¬ nI (k % 10) ≤ 3 by rw [i32_le, pi_nI (by omega), show (3 : Int32).toInt = 3 from rfl]; omega)]
      unfold dCc_toGainD_127
      show dCc_toGainD_43 N bc bs Q f M P L 0 0 (nI z) w x.1 x.2 (nI k + 1)
      rw [← nI_succ]
      exact ih (k + 1) f M x (by omega) (by omega) h F h12 hx
theorem dCc_toGainD_s {N : dNx} {E : ps_E} {M : cx_M} {P : dP} {L : dL} {A : qA} {m w : Int32} {bc bs : Nat} {Q : cd_Qt} (hN : 700 ≤ N.1.1) (hA : qAI E A) (h : qc_A N.1 E M A) (hb : 1 ≤ bc) (hs : 6 ≤ bs)
    (hy : 0 ≤ w.toInt ∧ w.toInt ≤ 1 → 1 ≤ m.toInt ∧ m.toInt ≤ 400 → ∀ M', qc_A N.1 E M' A → qc_F M M' → Q M' P L (pa_toGain E A.1.1 (pn m) w) none 0 0 0)
    (h2 : 0 ≤ w.toInt ∧ w.toInt ≤ 1 → ¬ (1 ≤ m.toInt ∧ m.toInt ≤ 400) → Q M P L 0 none 2 1 6) (h1 : ¬ (0 ≤ w.toInt ∧ w.toInt ≤ 1) → Q M P L 0 none 1 1 6) : dCc_toGainD N bc bs M P L m w Q := by
  obtain ⟨T, hT, hI, -⟩ := hA.2.1.1
  unfold dCc_toGainD dCc_toGainD_0
  rw [pq_cal cCc_within_s]
  by_cases c : 0 ≤ w.toInt ∧ w.toInt ≤ 1
  · rw [if_pos (show (0 : Int32).toInt ≤ w.toInt ∧ w.toInt ≤ (1 : Int32).toInt from c)]
    refine cd_thr_s hb hs (fun z => absurd z (by decide)) (fun _ => ⟨fun z => absurd rfl z, fun _ => ?_⟩)
    show dCc_soonD N (bc - 0) (bs - 0) M P L m 1 _
    unfold dCc_soonD dCc_soonD_0
    rw [pq_cal cCc_within_s]
    by_cases c2 : 1 ≤ m.toInt ∧ m.toInt ≤ 400
    · rw [if_pos (show (1 : Int32).toInt ≤ m.toInt ∧ m.toInt ≤ (400 : Int32).toInt from c2)]
      refine cd_thr_s hb hs (fun z => absurd z (by decide)) (fun _ => ⟨fun z => absurd rfl z, fun _ => ⟨fun z => absurd rfl z, fun _ => ?_⟩⟩)
      have hi : pn m ≤ 400 := by rw [pn_def]; omega
      obtain ⟨M1, e1, h1, F1⟩ := qc_C.begins (n := pn m) hN hA h hI (by omega)
      show cq_cal (cCo_begins N.1 M (M 1000 2)) (fun M22 v23 => dCc_toGainD_43 N bc bs Q N.1.1 (cx_up M22 1100 45 1) P L 0 0 m w (-1) (-1) 0)
      rw [pq_cal e1]
      have hy' := hy c c2
      unfold pa_toGain at hy'
      dsimp only at hy'
      rw [← pa_gc_gp 10 0] at hy'
      rw [pn_nI (x := m) (by omega)]
      exact dCc_toGainD_loop hN hA hI hT hi M _ hy' 100 0 N.1.1 _ (-1, -1) rfl (by omega) h1 (F1.tr (qc_F.up (by decide))) ⟨fun z => z, fun z => z⟩ rfl
    · rw [if_neg (show ¬ ((1 : Int32).toInt ≤ m.toInt ∧ m.toInt ≤ (400 : Int32).toInt) from c2)]
      exact cd_thr_s hb hs (fun _ => ⟨fun _ => ⟨fun _ => h2 c c2, fun z => absurd z (by decide)⟩, fun z => absurd z (by decide)⟩) (fun z => absurd rfl z)
  · rw [if_neg (show ¬ ((0 : Int32).toInt ≤ w.toInt ∧ w.toInt ≤ (1 : Int32).toInt) from c)]
    exact cd_thr_s hb hs (fun _ => ⟨fun _ => h1 c, fun z => absurd z (by decide)⟩) (fun z => absurd rfl z)
