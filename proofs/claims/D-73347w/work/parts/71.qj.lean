/-! THE CLASS: feed -/
theorem pi_byte (x : Int32) : cx_nb (cx_byte x) &&& 255 = x &&& 255 := by
  unfold cx_nb cx_byte
  show (x.toInt8.toInt32.toInt8.toInt32 : Int32) &&& 255 = x &&& 255
  apply Int32.toBitVec_inj.mp
  rw [Int32.toBitVec_and, Int32.toBitVec_and]
  rw [Int8.toBitVec_toInt32, Int32.toBitVec_toInt8, Int8.toBitVec_toInt32, Int32.toBitVec_toInt8]
  generalize x.toBitVec = b
  show _ &&& (255#32) = _ &&& (255#32)
  apply BitVec.eq_of_getLsbD_eq
  intro i hi
  rw [BitVec.getLsbD_and, BitVec.getLsbD_and]
  by_cases c : i < 8
  · have c32 : i < 32 := hi
    simp only [BitVec.getLsbD_signExtend, c, c32, decide_true, Bool.true_and, if_true, ↓reduceIte]
  · rw [(by decide : ∀ i, i < 32 → ¬ i < 8 → (255#32).getLsbD i = false) i hi c, Bool.and_false, Bool.and_false]
def qc_s (r : Nat) : Int32 := (24 : Int32) - nI (8 * r)
theorem qc_s_r : ∀ r, r < 4 → qc_s r + (-8) = qc_s (r + 1) ∧ ¬ qc_s r < 0 := by decide +kernel
theorem qc_s_j : ∀ j, j < 20 → ((24 : Int32) - ((8 : Int32) * (cx_rem (nI j) 4))) &&& 31 = qc_s (j % 4) &&& 31 := by decide +kernel
theorem cCc_lay_loop {N : cx_N} {x : Int32} : ∀ (m r f n : Nat) (M : cx_M), r + m = 4 → m < f → M 500 9 = nI n → n + m ≤ 700 →
    ∃ M', cCc_lay_3 N f M x (qc_s r) = some (M', 0, 0) ∧ M' 500 9 = nI (n + m) ∧ (∀ i, i < m → M' 509 (n + i) = cx_nb (cx_byte (x >>> (qc_s (r + i) &&& 31)))) ∧ (∀ q, q < n → M' 509 q = M 509 q) ∧ (∀ k, k ≠ 9 → M' 500 k = M 500 k) ∧ ∀ c, c ≠ 500 → c ≠ 509 → M' c = M c := by
  intro m
  induction m with
  | zero =>
    intro r f n M hr hf h9 hn
    obtain ⟨f, rfl⟩ : ∃ q, f = q + 1 := ⟨f - 1, by omega⟩
    refine ⟨M, ?_, h9, fun i hi => absurd hi (by omega), fun _ _ => rfl, fun _ _ => rfl, fun _ _ _ => rfl⟩
    have hr4 : r = 4 := by omega
    subst hr4
    show cCc_lay_3b N (cCc_lay_3 N f) M x (qc_s 4) = _
    unfold cCc_lay_3b
    rw [if_pos (by decide)]
  | succ m ih =>
    intro r f n M hr hf h9 hn
    obtain ⟨f, rfl⟩ : ∃ q, f = q + 1 := ⟨f - 1, by omega⟩
    have t := pi_nI (n := n) (by omega)
    obtain ⟨s1, s2⟩ := qc_s_r r (by omega)
    have g9 : cx_up (cx_up M 509 n (cx_nb (cx_byte (x >>> (qc_s r &&& 31))))) 500 9 (nI n + 1) 500 9 = nI (n + 1) := by rw [px_up, if_pos ⟨rfl, rfl⟩, ← nI_succ]
    have gk : ∀ k, k ≠ 9 → cx_up (cx_up M 509 n (cx_nb (cx_byte (x >>> (qc_s r &&& 31))))) 500 9 (nI n + 1) 500 k = M 500 k := fun k hk => by rw [px_up, if_neg (fun z => hk z.2), px_upc (by decide)]
    have gt : ∀ q, cx_up (cx_up M 509 n (cx_nb (cx_byte (x >>> (qc_s r &&& 31))))) 500 9 (nI n + 1) 509 q = if q = n then cx_nb (cx_byte (x >>> (qc_s r &&& 31))) else M 509 q := fun q => by
      rw [px_upc (by decide), px_up]
      by_cases c : q = n
      · rw [if_pos ⟨rfl, c⟩, if_pos c]
      · rw [if_neg (fun z => c z.2), if_neg c]
    have gc : ∀ c, c ≠ 500 → c ≠ 509 → cx_up (cx_up M 509 n (cx_nb (cx_byte (x >>> (qc_s r &&& 31))))) 500 9 (nI n + 1) c = M c := fun c a b => by rw [px_upc a, px_upc b]
    have e0 : cCc_lay_3 N (f + 1) M x (qc_s r) = cCc_lay_3 N f (cx_up (cx_up M 509 n (cx_nb (cx_byte (x >>> (qc_s r &&& 31))))) 500 9 (nI n + 1)) x (qc_s (r + 1)) := by
      show cCc_lay_3b N (cCc_lay_3 N f) M x (qc_s r) = _
      unfold cCc_lay_3b
      simp only [px_get, px_let, px_put]
      rw [if_neg s2, h9, px_st (by omega) (by omega), pn_I (by omega), px_upc (show (500 : Nat) ≠ 509 by decide), h9, s1]
    generalize cx_up (cx_up M 509 n (cx_nb (cx_byte (x >>> (qc_s r &&& 31))))) 500 9 (nI n + 1) = M1 at g9 gk gt gc e0
    obtain ⟨M', e, a9, ai, aq, ak, ac⟩ := ih (r + 1) f (n + 1) M1 (by omega) (by omega) g9 (by omega)
    refine ⟨M', e0.trans e, by rw [a9, show n + 1 + m = n + (m + 1) by omega], fun i hi => ?_, fun q hq => by rw [aq q (by omega), gt, if_neg (by omega)], fun k hk => by rw [ak k hk, gk k hk], fun c a b => by rw [ac c a b, gc c a b]⟩
    by_cases c : i = 0
    · rw [c, Nat.add_zero, Nat.add_zero, aq n (by omega), gt, if_pos rfl]
    · have := ai (i - 1) (by omega)
      rw [show n + 1 + (i - 1) = n + i by omega, show r + 1 + (i - 1) = r + i by omega] at this
      exact this
theorem cCc_lay_s {N : cx_N} {M : cx_M} {x : Int32} {n : Nat} (hN : 65 ≤ N.1) (h9 : M 500 9 = nI n) (hn : n + 4 ≤ 700) :
    ∃ M', cCc_lay N M x = some (M', 0, 0) ∧ M' 500 9 = nI (n + 4) ∧ (∀ i, i < 4 → M' 509 (n + i) &&& 255 = (x >>> (qc_s i &&& 31)) &&& 255) ∧ (∀ q, q < n → M' 509 q = M 509 q) ∧ (∀ k, k ≠ 9 → M' 500 k = M 500 k) ∧ ∀ c, c ≠ 500 → c ≠ 509 → M' c = M c := by
  obtain ⟨M', e, a9, ai, aq, ak, ac⟩ := cCc_lay_loop (N := N) (x := x) 4 0 N.1 n M (by omega) (by omega) h9 (by omega)
  exact ⟨M', e, a9, fun i hi => by rw [ai i hi, Nat.zero_add, pi_byte], aq, ak, ac⟩
theorem cCc_feed_s {N : cx_N} {E : ps_E} {M : cx_M} {A : qA} {x1 x2 x3 x4 x5 : Int32} (hN : 65 ≤ N.1) (hA : qAI E A) (h : qc_A N E M A) :
    qc_act N E M (cCc_feed N M x1 x2 x3 x4 x5) (A.1, A.2.1, (pa_feed A.2.2.1 x1 x2 x3 x4 x5).1, A.2.2.2) (pa_feed A.2.2.1 x1 x2 x3 x4 x5).2 := by
  obtain ⟨hK, hb, h3, hi, ⟨t1, t2, t3⟩, hU, h45⟩ := h
  have h7 := hA.2.2.2
  generalize A.2.2.1 = tp at t1 t2 h7 ⊢
  have t := pi_nI (n := tp.1) (by omega)
  have t20 := pi_nI (n := tp.1 + 20) (by omega)
  have h20 : (20 : Int32).toInt = 20 := rfl
  have e20 : nI tp.1 + 20 = nI (tp.1 + 20) := by
    rw [i32_eq, i32_add (by rw [t, h20]; omega) (by rw [t, h20]; omega), t, t20, h20]
    omega
  unfold cCc_feed cCc_feed_0 pa_feed
  simp only [px_get]
  rw [t1, e20]
  by_cases c : tp.1 + 20 ≤ 700
  · rw [if_pos c, if_pos (show nI (tp.1 + 20) ≤ 700 from Int32.le_iff_toInt_le.mpr (by rw [t20, show (700 : Int32).toInt = 700 from rfl]; omega))]
    obtain ⟨M1, e1, n1, i1, q1, k1, c1⟩ := cCc_lay_s (N := N) (M := M) (x := x1) (n := tp.1) hN t1 (by omega)
    obtain ⟨M2, e2, n2, i2, q2, k2, c2⟩ := cCc_lay_s (N := N) (M := M1) (x := x2) (n := tp.1 + 4) hN n1 (by omega)
    obtain ⟨M3, e3, n3, i3, q3, k3, c3⟩ := cCc_lay_s (N := N) (M := M2) (x := x3) (n := tp.1 + 4 + 4) hN n2 (by omega)
    obtain ⟨M4, e4, n4, i4, q4, k4, c4⟩ := cCc_lay_s (N := N) (M := M3) (x := x4) (n := tp.1 + 4 + 4 + 4) hN n3 (by omega)
    obtain ⟨M5, e5, n5, i5, q5, k5, c5⟩ := cCc_lay_s (N := N) (M := M4) (x := x5) (n := tp.1 + 4 + 4 + 4 + 4) hN n4 (by omega)
    have cc : ∀ c, c ≠ 500 → c ≠ 509 → M5 c = M c := fun c a b => by rw [c5 c a b, c4 c a b, c3 c a b, c2 c a b, c1 c a b]
    have kk : ∀ k, k ≠ 9 → M5 500 k = M 500 k := fun k a => by rw [k5 k a, k4 k a, k3 k a, k2 k a, k1 k a]
    have n20 : M5 500 9 = nI (tp.1 + 20) := n5
    rw [px_cal e1, px_cal e2, px_cal e3, px_cal e4, px_cal e5]
    refine ⟨M5, by rw [n20], ⟨hK.fr (cc 8000 (by decide) (by decide)), hb.frm (Or.inl rfl) hA.2.1.2.2.1 (fun c hc => cc c (by
      have l6 : qc_lo 600 = 1200 ∧ cBk_st 600 = 1000 := ⟨rfl, rfl⟩
      omega) (by
      have l6 : qc_lo 600 = 1200 ∧ cBk_st 600 = 1000 := ⟨rfl, rfl⟩
      omega)), by rw [cc 1000 (by decide) (by decide)]; exact h3, ?_, ⟨n20, fun j hj => ?_, by rw [kk 10 (by decide)]; exact t3⟩, hU.fr (fun c h1 h2 => cc c (by omega) (by omega)), by rw [cc 1100 (by decide) (by decide)]; exact h45⟩, fun c hc => cc c (by omega) (by omega)⟩
    · have l7 : qc_lo 700 = 20000 ∧ cBk_st 700 = 6000 := ⟨rfl, rfl⟩
      unfold qc_im at hi ⊢
      show (match A.2.1 with | none => _ | some I => _)
      cases hI : A.2.1 with
      | none =>
        rw [hI] at hi
        exact ⟨by rw [kk 7 (by decide)]; exact hi.1, hi.2.fr (Or.inr rfl) (fun c hc => cc c (by omega) (by omega))⟩
      | some I =>
        rw [hI] at hi
        exact ⟨by rw [kk 7 (by decide)]; exact hi.1, hi.2.frm (Or.inr rfl) (hA.2.2.1 I hI).2.2.1 (fun c hc => cc c (by omega) (by omega))⟩
    · show M5 509 j &&& 255 = if tp.1 ≤ j ∧ j < tp.1 + 20 then pa_fb x1 x2 x3 x4 x5 (j - tp.1) else tp.2 j
      have hj20 : j < tp.1 + 20 := hj
      by_cases cj : tp.1 ≤ j
      · rw [if_pos ⟨cj, hj20⟩]
        obtain ⟨i, rfl⟩ : ∃ i, j = tp.1 + i := ⟨j - tp.1, by omega⟩
        have hi20 : i < 20 := by omega
        rw [Nat.add_sub_cancel_left]
        unfold pa_fb pa_w5
        rw [qc_s_j i hi20]
        by_cases a4 : i < 4
        · rw [if_pos a4, q5 _ (by omega), q4 _ (by omega), q3 _ (by omega), q2 _ (by omega), i1 i a4, Nat.mod_eq_of_lt a4]
        · rw [if_neg a4]
          by_cases a8 : i < 8
          · have := i2 (i - 4) (by omega)
            rw [show tp.1 + 4 + (i - 4) = tp.1 + i by omega] at this
            rw [if_pos a8, q5 _ (by omega), q4 _ (by omega), q3 _ (by omega), this, show i % 4 = i - 4 by omega]
          · rw [if_neg a8]
            by_cases a12 : i < 12
            · have := i3 (i - 8) (by omega)
              rw [show tp.1 + 4 + 4 + (i - 8) = tp.1 + i by omega] at this
              rw [if_pos a12, q5 _ (by omega), q4 _ (by omega), this, show i % 4 = i - 8 by omega]
            · rw [if_neg a12]
              by_cases a16 : i < 16
              · have := i4 (i - 12) (by omega)
                rw [show tp.1 + 4 + 4 + 4 + (i - 12) = tp.1 + i by omega] at this
                rw [if_pos a16, q5 _ (by omega), this, show i % 4 = i - 12 by omega]
              · have := i5 (i - 16) (by omega)
                rw [show tp.1 + 4 + 4 + 4 + 4 + (i - 16) = tp.1 + i by omega] at this
                rw [if_neg a16, this, show i % 4 = i - 16 by omega]
      · rw [if_neg (fun z => cj z.1), q5 _ (by omega), q4 _ (by omega), q3 _ (by omega), q2 _ (by omega), q1 _ (by omega)]
        exact t2 j (by omega)
  · rw [if_neg c, if_neg (show ¬ nI (tp.1 + 20) ≤ 700 from fun z => by
      have := Int32.le_iff_toInt_le.mp z
      rw [t20, show (700 : Int32).toInt = 700 from rfl] at this
      omega)]
    exact ⟨M, rfl, ⟨hK, hb, h3, hi, ⟨t1, t2, t3⟩, hU, h45⟩, qc_F.rf⟩
