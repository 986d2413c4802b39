/-! THE CLASS'S STEP: the whole -/
theorem ps_put_13 {E : ps_E} {S : ps_S} {o w x : Int32} {is : Bool} : ps_put E (cx_up S 0 13 x) o w is = ps_put E S o w is := by
  unfold ps_put
  have e (k : Nat) (h : k ≠ 13) : cx_up S 0 13 x 0 k = S 0 k := by rw [px_up, if_neg (fun z => h z.2)]
  rw [e 7 (by decide), e 30 (by decide), e 6 (by decide), e 14 (by decide), px_upup]
theorem ps_put_23 {E : ps_E} {S : ps_S} {o w v : Int32} {is : Bool} : ps_put E (cx_up S 0 23 v) o w is = cx_up (ps_put E S o w is) 0 23 v := by
  unfold ps_put
  have e (k : Nat) (h : k ≠ 23) : cx_up S 0 23 v 0 k = S 0 k := by rw [px_up, if_neg (fun z => h z.2)]
  rw [e 7 (by decide), e 30 (by decide), e 6 (by decide), e 14 (by decide)]
  apply ps_ext2
  intro c j
  simp only [px_up]
  repeat' split
  all_goals first | rfl | omega
theorem ps_empty_up {S : ps_S} {k : Nat} {v : Int32} : ps_empty (cx_up S 0 k v) = cx_up (ps_empty S) 0 k v := by
  apply ps_ext2
  intro c j
  unfold ps_empty
  simp only [px_up]
  repeat' split
  all_goals first | rfl | omega
theorem ps_end_23 {S : ps_S} {v : Int32} : ps_end (cx_up S 0 23 v) = cx_up (ps_end S) 0 23 v := by
  unfold ps_end
  have e (k : Nat) (h : k ≠ 23) : cx_up S 0 23 v 0 k = S 0 k := by rw [px_up, if_neg (fun z => h z.2)]
  rw [e 30 (by decide), e 12 (by decide)]
  split
  · rfl
  · rw [← ps_empty_up]
    congr 1
    apply ps_ext2
    intro c j
    simp only [px_up]
    repeat' split
    all_goals first | rfl | omega
theorem ps_play_23 {E : ps_E} {S : ps_S} {v : Int32} : ps_play E (cx_up S 0 23 v) = cx_up (ps_play E S) 0 23 v := by
  have e (k : Nat) (h : k ≠ 23) : cx_up S 0 23 v 0 k = S 0 k := by rw [px_up, if_neg (fun z => h z.2)]
  have ec (c : Nat) (h : c ≠ 0) : cx_up S 0 23 v c = S c := px_upc h
  have hb : ∀ n, ps_back (cx_up S 0 23 v) n = ps_back S n := by
    intro n
    unfold ps_back
    rw [e 6 (by decide), ec 7 (by decide)]
  have hf : ps_fill E (cx_up S 0 23 v) = ps_fill E S := by
    unfold ps_fill
    rw [e 28 (by decide), hb]
  have hi : ps_is E (cx_up S 0 23 v) ↔ ps_is E S := by
    unfold ps_is
    rw [e 14 (by decide), ec 4 (by decide), ec 5 (by decide)]
  have ho : ps_o E (cx_up S 0 23 v) = ps_o E S := by
    unfold ps_o
    by_cases c : ps_is E S
    · rw [if_pos c, if_pos (hi.mpr c), e 14 (by decide), ec 4 (by decide)]
    · rw [if_neg c, if_neg (fun z => c (hi.mp z)), hf]
  have hw : ps_w E (cx_up S 0 23 v) = ps_w E S := by
    have h2 : E.2.1 (cx_up S 0 23 v 0 16 * E.1 0 + cx_up S 0 23 v 0 14 - cx_up S 0 23 v 0 15) = E.2.1 (S 0 16 * E.1 0 + S 0 14 - S 0 15) := by rw [e 16 (by decide), e 14 (by decide), e 15 (by decide)]
    unfold ps_w
    by_cases c : ps_is E S ∧ ps_o E S ≠ E.2.1 (S 0 16 * E.1 0 + S 0 14 - S 0 15)
    · rw [if_pos c, if_pos ⟨hi.mpr c.1, by rw [ho, h2]; exact c.2⟩, e 13 (by decide)]
    · rw [if_neg c, if_neg (fun z => c ⟨hi.mp z.1, by rw [← ho, ← h2]; exact z.2⟩), e 13 (by decide)]
  have hd : decide (ps_is E (cx_up S 0 23 v)) = decide (ps_is E S) := by
    by_cases c : ps_is E S
    · rw [decide_eq_true c, decide_eq_true (hi.mpr c)]
    · rw [decide_eq_false c, decide_eq_false (fun z => c (hi.mp z))]
  unfold ps_play
  rw [ho, hw, hd, ps_put_23, ps_end_23]
theorem cSt_plays_75_s {N : cx_N} {E : ps_E} {M : cx_M} {b how : Nat} {s : ps_T} {G : ps_S → Prop} {a p c : Int} {x5 : Int32} (hN : 65 ≤ N.1) (hE : ps_EO E) (hb : b + 43 < 8000) (hV : pc_V N E M b s G) (hJ : ps_J E s.1 a p c) (hx : (x5 = 0 ∧ ¬ ps_is E s.1) ∨ (x5 = 1 ∧ ps_is E s.1)) :
    ∃ M', cSt_plays_75 N b how M x5 (ps_o E s.1) = some (M', 0, 0) ∧ pc_V N E M' b (ps_play E s.1, s.2) G ∧ pc_Fr b M M' := by
  have hn0 := hJ.1
  unfold ps_Jn at hn0
  obtain ⟨⟨hE1, hE2⟩, -⟩ := id hE
  unfold cSt_plays_75 ps_play
  rcases hx with ⟨rfl, hi⟩ | ⟨rfl, hi⟩
  · rw [if_pos rfl, decide_eq_false hi]
    have hw : ps_w E s.1 = s.1 0 13 := by unfold ps_w; rw [if_neg (fun z => hi z.1)]
    rw [hw]
    exact cSt_plays_120_s (a := a) (p := p) (c := c) (E := E) hN hb hV (by omega) (by decide)
  · have hm := pi_mulb (a := (s.1 0 16).toInt) (b := (E.1 0).toInt) (A := 90000) (B := 8) (by omega) (by omega) (by omega) (by omega)
    have e1 : (s.1 0 16 * E.1 0).toInt = (s.1 0 16).toInt * (E.1 0).toInt := pi_mul (by omega) (by omega)
    have e2 : (s.1 0 16 * E.1 0 + s.1 0 14).toInt = (s.1 0 16).toInt * (E.1 0).toInt + (s.1 0 14).toInt := by rw [i32_add (by omega) (by omega), e1]
    have e3 : (s.1 0 16 * E.1 0 + s.1 0 14 - s.1 0 15).toInt = (s.1 0 16).toInt * (E.1 0).toInt + (s.1 0 14).toInt - (s.1 0 15).toInt := by rw [i32_sub (by omega) (by omega), e2]
    rw [if_neg (by decide), decide_eq_true hi]
    simp only [px_get, px_put]
    rw [pc_n hV.1 16 (Or.inl (by decide)) (show pc_F 16 = 16 from rfl), hV.2.1.1, pc_n hV.1 14 (Or.inl (by decide)) (show pc_F 14 = 14 from rfl), pc_n hV.1 15 (Or.inl (by decide)) (show pc_F 15 = 15 from rfl), px_cal (hV.2.1.2.2.2.2.2.2.2 M _ (by omega) (by omega))]
    by_cases ho : ps_o E s.1 = E.2.1 (s.1 0 16 * E.1 0 + s.1 0 14 - s.1 0 15)
    · rw [if_pos ho]
      have hw : ps_w E s.1 = s.1 0 13 := by unfold ps_w; rw [if_neg (fun z => z.2 ho)]
      rw [hw]
      exact cSt_plays_120_s (a := a) (p := p) (c := c) (E := E) hN hb hV (by omega) (by decide)
    · rw [if_neg ho]
      have hw : ps_w E s.1 = s.1 0 13 + 1 := by unfold ps_w; rw [if_pos ⟨hi, ho⟩]
      rw [pc_n hV.1 23 (Or.inl (by decide)) (show pc_F 23 = 13 from rfl)]
      have h1 := hV.up hb 23 (s.1 0 13 + 1) (j := 13) (Or.inl (by decide)) rfl (by decide) (fun z => absurd z (by decide))
      have q6 : cx_up s.1 0 13 (s.1 0 13 + 1) 0 6 = s.1 0 6 := by rw [px_up, if_neg (by decide)]
      have q13 : cx_up s.1 0 13 (s.1 0 13 + 1) 0 13 = s.1 0 13 + 1 := by rw [px_up, if_pos ⟨rfl, rfl⟩]
      obtain ⟨M2, e2, hV2, hF2⟩ := cSt_plays_120_s (a := a) (p := p) (c := c) (how := how) (x5 := 1) (o := ps_o E s.1) (is := true) hN hb h1 (by show 0 ≤ (cx_up s.1 0 13 (s.1 0 13 + 1) 0 6).toInt; rw [q6]; omega) (by decide)
      refine ⟨M2, e2, hV2.cast (Prod.ext ?_ rfl), (pc_Fr.up (by omega) (by omega)).tr hF2⟩
      show ps_end (ps_put E (cx_up s.1 0 13 (s.1 0 13 + 1)) (ps_o E s.1) (cx_up s.1 0 13 (s.1 0 13 + 1) 0 13) true) = ps_end (ps_put E s.1 (ps_o E s.1) (ps_w E s.1) true)
      rw [q13, ps_put_13, hw]
theorem cSt_plays_s {N : cx_N} {E : ps_E} {M : cx_M} {b how : Nat} {s : ps_T} {G : ps_S → Prop} {a p c : Int} (hN : 65 ≤ N.1) (hE : ps_EO E) (hb : b + 43 < 8000) (hV : pc_V N E M b s G) (hJ : ps_J E s.1 a p c) (hh : s.1 0 28 = nI how) (h3 : how < 3) :
    ∃ M', cSt_plays N b how M = some (M', 0, 0) ∧ pc_V N E M' b (ps_play E s.1, s.2) G ∧ pc_Fr b M M' := by
  have hn0 := hJ.1
  unfold ps_Jn at hn0
  obtain ⟨⟨hE1, hE2⟩, -⟩ := id hE
  have hE0 : E.1 0 ≠ 0 := by
    intro e
    rw [e] at hE1
    revert hE1
    decide
  have hd : (s.1 0 14 / E.1 0).toInt = (s.1 0 14).toInt / (E.1 0).toInt := pi_div (by omega) (by omega)
  have hd0 : 0 ≤ (s.1 0 14).toInt / (E.1 0).toInt := Int.ediv_nonneg (by omega) (by omega)
  have hr := pi_rem64 (x := s.1 0 14 / E.1 0) (by omega)
  have hp64 : pn (cx_rem (s.1 0 14 / E.1 0) 64) < 64 := by rw [pn_def]; omega
  obtain ⟨r5, r4⟩ := hV.1.2.2.2.1 _ hp64
  unfold cSt_plays cSt_plays_0
  simp only [px_get, px_let]
  rw [pc_n hV.1 14 (Or.inl (by decide)) (show pc_F 14 = 14 from rfl), hV.2.1.1, px_nz hE0, px_ld (by omega) (by omega), r5]
  unfold cSt_plays_32
  simp only [px_get]
  by_cases c5 : s.1 5 (pn (cx_rem (s.1 0 14 / E.1 0) 64)) = s.1 0 14 / E.1 0
  · have hm1 : (-1 : Int32).toInt = -1 := rfl
    have h5 : s.1 5 (pn (cx_rem (s.1 0 14 / E.1 0) 64)) ≠ -1 := by
      intro e
      rw [e] at c5
      have := congrArg Int32.toInt c5
      omega
    have hsl := (hJ.2.2.1.1 _ hp64).resolve_left (fun z => h5 z.2)
    have h4 : s.1 4 (pn (cx_rem (s.1 0 14 / E.1 0) 64)) ≠ -1 := by
      intro e
      rw [e] at hsl
      omega
    have hi : ps_is E s.1 := ⟨h4, c5⟩
    have hm := pi_mulb (a := (s.1 4 (pn (cx_rem (s.1 0 14 / E.1 0) 64))).toInt) (b := (E.1 0).toInt) (A := 90000) (B := 8) (by omega) (by omega) (by omega) (by omega)
    have e1 : (s.1 4 (pn (cx_rem (s.1 0 14 / E.1 0) 64)) * E.1 0).toInt = (s.1 4 (pn (cx_rem (s.1 0 14 / E.1 0) 64))).toInt * (E.1 0).toInt := pi_mul (by omega) (by omega)
    have hr2 := pi_rem (x := s.1 0 14) (y := E.1 0) (by omega) (by omega)
    have hr3 := Int.emod_nonneg (s.1 0 14).toInt (show (E.1 0).toInt ≠ 0 by omega)
    have hr4 := Int.emod_lt_of_pos (s.1 0 14).toInt (show 0 < (E.1 0).toInt by omega)
    have e2 : (s.1 4 (pn (cx_rem (s.1 0 14 / E.1 0) 64)) * E.1 0 + cx_rem (s.1 0 14) (E.1 0)).toInt = (s.1 4 (pn (cx_rem (s.1 0 14 / E.1 0) 64))).toInt * (E.1 0).toInt + (s.1 0 14).toInt % (E.1 0).toInt := by rw [i32_add (by omega) (by omega), e1, hr2]
    rw [if_pos c5, if_neg (by decide), px_ld (by omega) (by omega), r4 h5, hV.2.1.1, px_nz hE0, pc_n hV.1 14 (Or.inl (by decide)) (show pc_F 14 = 14 from rfl), px_cal (hV.2.1.2.2.2.2.2.2.2 M _ (by omega) (by omega))]
    have ho : ps_o E s.1 = E.2.1 (s.1 4 (pn (cx_rem (s.1 0 14 / E.1 0) 64)) * E.1 0 + cx_rem (s.1 0 14) (E.1 0)) := by unfold ps_o; rw [if_pos hi]
    rw [← ho]
    exact cSt_plays_75_s hN hE hb hV hJ (Or.inr ⟨rfl, hi⟩)
  · have hi : ¬ ps_is E s.1 := fun z => c5 z.2
    rw [if_neg c5, if_pos trivial, px_cal (cFi_of_s hE hV (by omega) hh h3)]
    have ho : ps_o E s.1 = ps_fill E s.1 := by unfold ps_o; rw [if_neg hi]
    rw [← ho]
    exact cSt_plays_75_s hN hE hb hV hJ (Or.inl ⟨rfl, hi⟩)
theorem cSt_goes_233_s {N : cx_N} {E : ps_E} {M : cx_M} {b how : Nat} {s : ps_T} {G : ps_S → Prop} (hb : b + 43 < 8000) (hV : pc_V N E M b s G) : ∃ M', cSt_goes_233 N b how M = some (M', 0, 0) ∧ pc_V N E M' b (cx_up s.1 0 0 (s.1 0 0 + 1), s.2) G ∧ pc_Fr b M M' := by
  unfold cSt_goes_233
  simp only [px_get, px_put]
  rw [pc_n hV.1 0 (Or.inl (by decide)) (show pc_F 0 = 0 from rfl)]
  exact ⟨_, rfl, hV.up hb 0 (s.1 0 0 + 1) (j := 0) (Or.inl (by decide)) rfl (by decide) (fun z => absurd z (by decide)), pc_Fr.up (by omega) (by omega)⟩
theorem cSt_goes_194_s {N : cx_N} {E : ps_E} {b how : Nat} {G : ps_S → Prop} {a c : Int} (hN : 65 ≤ N.1) (hE : ps_EO E) (hb : b + 43 < 8000) (h3 : how < 3) : ∀ (n m : Nat) (M : cx_M) (s : ps_T) (p : Int), pc_V N E M b s G → ps_J E s.1 a p c → s.1 0 28 = nI how → p + n ≤ 90000 → 0 ≤ (s.1 0 23).toInt → (s.1 0 23).toInt < 1000 * (n + 1) → n < m →
    ∃ M', cSt_goes_194 N b how m M = some (M', 0, 0) ∧ pc_V N E M' b (cx_up (ps_plays E n s.1) 0 0 (ps_plays E n s.1 0 0 + 1), s.2) G ∧ pc_Fr b M M' := by
  have hk : (1000 : Int32).toInt = 1000 := rfl
  have stop : ∀ (m : Nat) (M : cx_M) (s : ps_T), pc_V N E M b s G → ¬ (¬ s.1 0 23 < 1000 ∧ s.1 0 8 = 2) → cSt_goes_194 N b how (m + 1) M = cSt_goes_233 N b how M := by
    intro m M s hV h
    show cSt_goes_194b N b how (cSt_goes_194 N b how m) M = _
    unfold cSt_goes_194b
    simp only [px_get]
    rw [pc_n hV.1 10 (Or.inl (by decide)) (show pc_F 10 = 23 from rfl), pc_n hV.1 8 (Or.inl (by decide)) (show pc_F 8 = 8 from rfl)]
    by_cases c1 : s.1 0 23 < 1000
    · rw [if_pos c1]
    · rw [if_neg c1, if_neg (fun z => h ⟨c1, z⟩)]
  intro n
  induction n with
  | zero =>
    intro m M s p hV hJ h28 hp h0 h1 hm
    obtain ⟨m, rfl⟩ : ∃ k, m = k + 1 := ⟨m - 1, by omega⟩
    rw [stop m M s hV (fun z => z.1 (by rw [i32_lt, hk]; omega))]
    exact cSt_goes_233_s hb hV
  | succ n ih =>
    intro m M s p hV hJ h28 hp h0 h1 hm
    obtain ⟨m, rfl⟩ : ∃ k, m = k + 1 := ⟨m - 1, by omega⟩
    by_cases h : ¬ s.1 0 23 < 1000 ∧ s.1 0 8 = 2
    · have h' := h.1
      rw [i32_lt, hk] at h'
      have e23 : (s.1 0 23 - 1000).toInt = (s.1 0 23).toInt - 1000 := by have := i32_rng (s.1 0 23); rw [i32_sub (by omega) (by omega), hk]
      obtain ⟨M1, e1, hV1, hF1⟩ := cSt_plays_s hN hE hb hV hJ h28 h3
      have g10 : M1 b 10 = s.1 0 23 := by
        rw [pc_n hV1.1 10 (Or.inl (by decide)) (show pc_F 10 = 23 from rfl)]
        exact ps_play_0 (by decide)
      have hA := hV1.up hb 10 (s.1 0 23 - 1000) (j := 23) (Or.inl (by decide)) rfl (by decide) (fun z => absurd z (by decide))
      have hA2 := hA.cast (t := (ps_play E (cx_up s.1 0 23 (s.1 0 23 - 1000)), s.2)) (Prod.ext ps_play_23.symm rfl)
      have hJA : ps_J E (cx_up s.1 0 23 (s.1 0 23 - 1000)) a p c := ps_J_up _ (by decide) hJ
      have h8 : cx_up s.1 0 23 (s.1 0 23 - 1000) 0 8 = 2 := by
        rw [px_up, if_neg (by decide)]
        exact h.2
      have q23 : ps_play E (cx_up s.1 0 23 (s.1 0 23 - 1000)) 0 23 = s.1 0 23 - 1000 := by
        rw [ps_play_0 (by decide), px_up, if_pos ⟨rfl, rfl⟩]
      have q28 : ps_play E (cx_up s.1 0 23 (s.1 0 23 - 1000)) 0 28 = nI how := by
        rw [ps_play_0 (by decide), px_up, if_neg (by decide)]
        exact h28
      obtain ⟨M2, e2, hV2, hF2⟩ := ih m _ _ (p + 1) hA2 (ps_play_J hJA (by omega) h8) q28 (by omega) (by show 0 ≤ (ps_play E (cx_up s.1 0 23 (s.1 0 23 - 1000)) 0 23).toInt; rw [q23, e23]; omega) (by show (ps_play E (cx_up s.1 0 23 (s.1 0 23 - 1000)) 0 23).toInt < _; rw [q23, e23]; omega) (by omega)
      refine ⟨M2, ?_, ?_, (hF1.tr (pc_Fr.up (by omega) (by omega))).tr hF2⟩
      · show cSt_goes_194b N b how (cSt_goes_194 N b how m) M = _
        unfold cSt_goes_194b
        simp only [px_get, px_put]
        rw [pc_n hV.1 10 (Or.inl (by decide)) (show pc_F 10 = 23 from rfl), pc_n hV.1 8 (Or.inl (by decide)) (show pc_F 8 = 8 from rfl), if_neg h.1, if_pos h.2, px_cal e1, g10]
        exact e2
      · unfold ps_plays
        rw [if_pos h]
        exact hV2
    · rw [stop m M s hV h]
      unfold ps_plays
      rw [if_neg h]
      exact cSt_goes_233_s hb hV
theorem cSt_goes_151_s {N : cx_N} {E : ps_E} {M : cx_M} {b how : Nat} {s : ps_T} {G : ps_S → Prop} {a p c : Int} (hN : 65 ≤ N.1) (hE : ps_EO E) (hb : b + 43 < 8000) (h3 : how < 3) (hV : pc_V N E M b s G) (hJ : ps_J E s.1 a p c) (hp : p + 3 ≤ 90000) (h28 : s.1 0 28 = nI how) (h23 : s.1 0 8 = 2 → 0 ≤ (s.1 0 23).toInt ∧ (s.1 0 23).toInt < 1000) :
    ∃ M', cSt_goes_151 N b how M = some (M', 0, 0) ∧ pc_V N E M' b (cx_up (ps_near E s.1) 0 0 (ps_near E s.1 0 0 + 1), s.2) G ∧ pc_Fr b M M' := by
  have n (k : Nat) {j : Nat} (hk : k < 34) (hj : pc_F k = j) : M b k = s.1 0 j := pc_n hV.1 k (Or.inl hk) hj
  unfold cSt_goes_151 ps_near
  simp only [px_get, px_put]
  rw [n 8 (by decide) (show pc_F 8 = 8 from rfl)]
  by_cases c8 : s.1 0 8 = 2
  · simp only [if_pos c8]
    have bd := h23 c8
    have hk : (1000 : Int32).toInt = 1000 := rfl
    have hn := hJ.1
    unfold ps_Jn at hn
    have a1 : ((1000 : Int32) + s.1 0 9).toInt = 1000 + (s.1 0 9).toInt := by rw [i32_add (by omega) (by omega), hk]
    have a2 : (s.1 0 23 + ((1000 : Int32) + s.1 0 9)).toInt = (s.1 0 23).toInt + (1000 + (s.1 0 9).toInt) := by rw [i32_add (by omega) (by omega), a1]
    rw [n 13 (by decide) (show pc_F 13 = 11 from rfl), n 28 (by decide) (show pc_F 28 = 27 from rfl), n 12 (by decide) (show pc_F 12 = 9 from rfl)]
    have h1 := hV.up hb 13 (s.1 0 11 + (s.1 0 27 - s.1 0 9)) (j := 11) (Or.inl (by decide)) rfl (by decide) (fun z => absurd z (by decide))
    have q10 : cx_up M b 13 (s.1 0 11 + (s.1 0 27 - s.1 0 9)) b 10 = s.1 0 23 := by rw [px_up, if_neg (by omega)]; exact n 10 (by decide) (show pc_F 10 = 23 from rfl)
    have q12 : cx_up M b 13 (s.1 0 11 + (s.1 0 27 - s.1 0 9)) b 12 = s.1 0 9 := by rw [px_up, if_neg (by omega)]; exact n 12 (by decide) (show pc_F 12 = 9 from rfl)
    rw [q10, q12]
    have h2 := h1.up hb 10 (s.1 0 23 + ((1000 : Int32) + s.1 0 9)) (j := 23) (Or.inl (by decide)) rfl (by decide) (fun z => absurd z (by decide))
    have h2c := h2.cast (t := (cx_up (cx_up s.1 0 23 (s.1 0 23 + (1000 + s.1 0 9))) 0 11 (s.1 0 11 + (s.1 0 27 - s.1 0 9)), s.2)) (Prod.ext (px_comm (Or.inr (by decide))) rfl)
    obtain ⟨M4, e4, hV4, hF4⟩ := cSt_goes_194_s hN hE hb h3 3 N.1 _ _ p h2c (ps_J_up _ (by decide) (ps_J_up _ (by decide) hJ)) (by show cx_up (cx_up s.1 0 23 (s.1 0 23 + (1000 + s.1 0 9))) 0 11 (s.1 0 11 + (s.1 0 27 - s.1 0 9)) 0 28 = _; rw [px_up, if_neg (by decide), px_up, if_neg (by decide)]; exact h28) (by omega) (by simp (decide := true) only [px_up, false_and, and_false, true_and, and_true, ↓reduceIte]; omega) (by simp (decide := true) only [px_up, false_and, and_false, true_and, and_true, ↓reduceIte]; omega) (by omega)
    exact ⟨M4, e4, hV4, ((pc_Fr.up (by omega) (by omega)).tr (pc_Fr.up (by omega) (by omega))).tr hF4⟩
  · simp only [if_neg c8]
    exact cSt_goes_233_s hb hV
theorem cSt_goes_126_s {N : cx_N} {E : ps_E} {M : cx_M} {b how : Nat} {s : ps_T} {G : ps_S → Prop} {a p c : Int} {l : Int32} (hN : 65 ≤ N.1) (hE : ps_EO E) (hb : b + 43 < 8000) (h3 : how < 3) (hV : pc_V N E M b s G) (hJ : ps_J E s.1 a p c) (hp : p + 4 ≤ 90000) (h28 : s.1 0 28 = nI how) (h23 : s.1 0 8 = 2 → 0 ≤ (s.1 0 23).toInt ∧ (s.1 0 23).toInt < 1000) (S1 : ps_S) (hS : S1 = if s.1 0 8 = 2 ∧ cx_rem (s.1 0 0) (E.1 4) = 0 then ps_turn s.1 l else s.1) :
    ∃ M', cSt_goes_126 N b how M l = some (M', 0, 0) ∧ pc_V N E M' b (cx_up (ps_near E S1) 0 0 (ps_near E S1 0 0 + 1), s.2) G ∧ pc_Fr b M M' := by
  have n (k : Nat) {j : Nat} (hk : k < 34) (hj : pc_F k = j) : M b k = s.1 0 j := pc_n hV.1 k (Or.inl hk) hj
  have hE4 : E.1 4 ≠ 0 := by
    intro e
    have h1 := hE.2.1.1
    rw [e] at h1
    revert h1
    decide
  have hn := hJ.1
  unfold ps_Jn at hn
  unfold cSt_goes_126
  simp only [px_get]
  rw [n 8 (by decide) (show pc_F 8 = 8 from rfl)]
  by_cases c8 : s.1 0 8 = 2
  · rw [if_pos c8, n 0 (by decide) (show pc_F 0 = 0 from rfl), hV.2.1.2.1, px_nz hE4]
    by_cases c0 : cx_rem (s.1 0 0) (E.1 4) = 0
    · rw [if_pos ⟨c8, c0⟩] at hS
      subst hS
      obtain ⟨M1, e1, hV1, hF1⟩ := cSt_steers_s (l := l) hb hV hJ
      rw [if_pos c0, px_cal e1]
      obtain ⟨M2, e2, hV2, hF2⟩ := cSt_goes_151_s hN hE hb h3 hV1 (ps_turn_J (l := l) hJ (by omega)) (by omega) (by show ps_turn s.1 l 0 28 = _; rw [ps_turn_0 (by decide)]; exact h28) (by show ps_turn s.1 l 0 8 = 2 → 0 ≤ (ps_turn s.1 l 0 23).toInt ∧ (ps_turn s.1 l 0 23).toInt < 1000; rw [ps_turn_0 (by decide), ps_turn_0 (by decide)]; exact h23)
      exact ⟨M2, e2, hV2, hF1.tr hF2⟩
    · rw [if_neg (fun z => c0 z.2)] at hS
      subst hS
      rw [if_neg c0]
      exact cSt_goes_151_s hN hE hb h3 hV hJ (by omega) h28 h23
  · rw [if_neg (fun z => c8 z.1)] at hS
    subst hS
    rw [if_neg c8]
    exact cSt_goes_151_s hN hE hb h3 hV hJ (by omega) h28 h23
theorem pe_tail_s {N : cx_N} {E : ps_E} {M : cx_M} {b how : Nat} {s : ps_T} {G : ps_S → Prop} {a p c : Int} (hN : 65 ≤ N.1) (hE : ps_EO E) (hb : b + 43 < 8000) (h3 : how < 3) (hV : pc_V N E M b s G) (hJ : ps_J E s.1 a p c) (hp : p + 4 ≤ 90000) (hc : c + 40 ≤ 2000000) (h28 : s.1 0 28 = nI how) (h23 : s.1 0 8 = 2 → 0 ≤ (s.1 0 23).toInt ∧ (s.1 0 23).toInt < 1000) :
    ∃ M', pe_tail N b how M = some (M', 0, 0) ∧ pc_V N E M' b (cx_up (ps_near E (ps_steer E (ps_recv E (pn (s.1 0 31)) 0 0 s.1))) 0 0 (ps_near E (ps_steer E (ps_recv E (pn (s.1 0 31)) 0 0 s.1)) 0 0 + 1), s.2) G ∧ pc_Fr b M M' := by
  have hn0 := hJ.1
  unfold ps_Jn at hn0
  have h40 : pn (s.1 0 31) ≤ 40 := by rw [pn_def]; omega
  obtain ⟨M1, e1, hV1, hF1⟩ := cSt_come_s (by omega) hE hb hV hJ hc
  have J1 := ps_recv_J hE (pn (s.1 0 31)) 0 0 s.1 c hJ (by omega) (by omega) (by omega)
  have r28 : ps_recv E (pn (s.1 0 31)) 0 0 s.1 0 28 = nI how := by rw [ps_recv_0 (by decide)]; exact h28
  have r23 : ps_recv E (pn (s.1 0 31)) 0 0 s.1 0 8 = 2 → 0 ≤ (ps_recv E (pn (s.1 0 31)) 0 0 s.1 0 23).toInt ∧ (ps_recv E (pn (s.1 0 31)) 0 0 s.1 0 23).toInt < 1000 := by
    intro e
    have e2 := ps_recv_8 _ _ _ _ e
    rw [ps_recv_0 (by decide)]
    exact h23 e2
  unfold pe_tail
  rw [px_cal e1]
  generalize ps_recv E (pn (s.1 0 31)) 0 0 s.1 = R at hV1 J1 r28 r23 ⊢
  rw [px_cal (cSt_level_s hN hE hV1 J1)]
  simp only [px_get, px_put]
  rw [pc_n hV1.1 8 (Or.inl (by decide)) (show pc_F 8 = 8 from rfl), pc_n hV1.1 30 (Or.inl (by decide)) (show pc_F 30 = 29 from rfl)]
  show ∃ M', (if R 0 8 = 1 then if ps_level E R < R 0 29 then _ else _ else _) = _ ∧ _
  unfold ps_steer
  try dsimp only
  generalize ps_level E R = l
  by_cases c1 : R 0 8 = 1
  · rw [if_pos c1]
    by_cases c2 : l < R 0 29
    · have hb' : ps_begin R l = R := by unfold ps_begin; rw [if_neg (fun z => z.2 c2)]
      rw [if_pos c2, hb']
      obtain ⟨M2, e2, hV2, hF2⟩ := cSt_goes_126_s (l := l) hN hE hb h3 hV1 J1 hp r28 r23 _ rfl
      exact ⟨M2, e2, hV2, hF1.tr hF2⟩
    · have hb' : ps_begin R l = cx_up (cx_up (cx_up (cx_up (cx_up R 0 8 2) 0 23 0) 0 10 0) 0 9 0) 0 11 0 := by unfold ps_begin; rw [if_pos ⟨c1, c2⟩]
      rw [if_neg c2]
      have d1 := hV1.up hb 8 2 (j := 8) (Or.inl (by decide)) rfl (by decide) (fun z => absurd z (by decide))
      have d2 := d1.up hb 13 0 (j := 11) (Or.inl (by decide)) rfl (by decide) (fun z => absurd z (by decide))
      have d3 := d2.up hb 12 0 (j := 9) (Or.inl (by decide)) rfl (by decide) (fun z => absurd z (by decide))
      have d4 := d3.up hb 11 0 (j := 10) (Or.inl (by decide)) rfl (by decide) (fun z => absurd z (by decide))
      have d5 := d4.up hb 10 0 (j := 23) (Or.inl (by decide)) rfl (by decide) (fun z => absurd z (by decide))
      have d6 := d5.cast (t := (ps_begin R l, s.2)) (by
        rw [hb']
        refine Prod.ext ?_ rfl
        apply ps_ext2
        intro c j
        simp only [px_up]
        repeat' split
        all_goals first | rfl | omega)
      have hF : pc_Fr b M (cx_up (cx_up (cx_up (cx_up (cx_up M1 b 8 2) b 13 0) b 12 0) b 11 0) b 10 0) := ((((hF1.tr (pc_Fr.up (by omega) (by omega))).tr (pc_Fr.up (by omega) (by omega))).tr (pc_Fr.up (by omega) (by omega))).tr (pc_Fr.up (by omega) (by omega))).tr (pc_Fr.up (by omega) (by omega))
      have s23 : ps_begin R l 0 8 = 2 → 0 ≤ (ps_begin R l 0 23).toInt ∧ (ps_begin R l 0 23).toInt < 1000 := by
        intro _
        rw [hb']
        simp (decide := true) only [px_up, false_and, and_false, true_and, and_true, ↓reduceIte]
      obtain ⟨M2, e2, hV2, hF2⟩ := cSt_goes_126_s (l := l) hN hE hb h3 d6 (ps_begin_J (l := l) J1) hp (by show ps_begin R l 0 28 = _; rw [ps_begin_0 (by decide)]; exact r28) s23 _ rfl
      exact ⟨M2, e2, hV2, hF.tr hF2⟩
  · have hb' : ps_begin R l = R := by unfold ps_begin; rw [if_neg (fun z => c1 z.1)]
    rw [if_neg c1, hb']
    obtain ⟨M2, e2, hV2, hF2⟩ := cSt_goes_126_s (l := l) hN hE hb h3 hV1 J1 hp r28 r23 _ rfl
    exact ⟨M2, e2, hV2, hF1.tr hF2⟩
theorem cSt_goes_s {N : cx_N} {E : ps_E} {M : cx_M} {b how T : Nat} {s : ps_T} {G : ps_S → Prop} (hN : 65 ≤ N.1) (hE : ps_EO E) (hb : b + 43 < 8000) (h3 : how < 3) (hV : pc_V N E M b s G) (hG : M b 45 ≠ 0 → ∀ X, ps_ev E s X → G X) (hI : ps_I E s.1 T) (hT : T + 1 ≤ 22000) (h28 : s.1 0 28 = nI how) :
    ∃ M', cSt_goes N b how M = some (M', 0, 0) ∧ pc_V N E M' b (ps_step E s) G ∧ pc_Fr b M M' := by
  obtain ⟨hJ, h0, -, h22, h23⟩ := hI
  have hn0 := hJ.1
  unfold ps_Jn at hn0
  have hk : (1000 : Int32).toInt = 1000 := rfl
  have hJ0 : ps_J E (cx_up s.1 0 35 0) (3 * T) (4 * T) (40 * T) := ps_J_up _ (by decide) hJ
  have J1 := ps_far_J (s := (cx_up s.1 0 35 0, s.2)) hJ0 (by omega)
  have g23 : (ps_far E (cx_up s.1 0 35 0, s.2)).1 0 23 = s.1 0 23 := by rw [ps_far_0 (by decide)]; simp (decide := true) only [px_up, false_and, and_false, true_and, and_true, ↓reduceIte]
  have g8 : (ps_far E (cx_up s.1 0 35 0, s.2)).1 0 8 = s.1 0 8 := by rw [ps_far_0 (by decide)]; simp (decide := true) only [px_up, false_and, and_false, true_and, and_true, ↓reduceIte]
  have g28 : (ps_far E (cx_up s.1 0 35 0, s.2)).1 0 28 = s.1 0 28 := by rw [ps_far_0 (by decide)]; simp (decide := true) only [px_up, false_and, and_false, true_and, and_true, ↓reduceIte]
  unfold cSt_goes cSt_goes_0 ps_step
  simp only [px_get, px_put]
  have h1 := hV.up hb 42 0 (j := 35) (Or.inr rfl) rfl (by decide) (fun _ => Or.inl rfl)
  have q9 : cx_up M b 42 0 b 9 = s.1 0 22 := by rw [px_up, if_neg (by omega)]; exact pc_n hV.1 9 (Or.inl (by decide)) (show pc_F 9 = 22 from rfl)
  have q28 : cx_up M b 42 0 b 28 = s.1 0 27 := by rw [px_up, if_neg (by omega)]; exact pc_n hV.1 28 (Or.inl (by decide)) (show pc_F 28 = 27 from rfl)
  rw [q9, q28]
  have h2 := h1.up hb 9 (s.1 0 22 + (1000 + s.1 0 27)) (j := 22) (Or.inl (by decide)) rfl (by decide) (fun z => absurd z (by decide))
  have a1 : ((1000 : Int32) + s.1 0 27).toInt = 1000 + (s.1 0 27).toInt := by rw [i32_add (by omega) (by omega), hk]
  have a2 : (s.1 0 22 + ((1000 : Int32) + s.1 0 27)).toInt = (s.1 0 22).toInt + (1000 + (s.1 0 27).toInt) := by rw [i32_add (by omega) (by omega), a1]
  obtain ⟨M1, e1, hV1, hF1⟩ := cSt_make_s (how := how) hE hb 3 N.1 _ _ (3 * T) h2 (fun z X hX => hG (by rw [px_up, if_neg (by omega), px_up, if_neg (by omega)] at z; exact z) X hX) (ps_J_up _ (by decide) hJ0) (by omega) (by simp (decide := true) only [px_up, false_and, and_false, true_and, and_true, ↓reduceIte]; omega) (by simp (decide := true) only [px_up, false_and, and_false, true_and, and_true, ↓reduceIte]; omega) (by omega)
  have efar : ps_make E 3 (cx_up (cx_up s.1 0 35 0) 0 22 (s.1 0 22 + (1000 + s.1 0 27)), s.2) = ps_far E (cx_up s.1 0 35 0, s.2) := by
    unfold ps_far
    have w1 : cx_up s.1 0 35 0 0 22 = s.1 0 22 := by rw [px_up, if_neg (by decide)]
    have w2 : cx_up s.1 0 35 0 0 27 = s.1 0 27 := by rw [px_up, if_neg (by decide)]
    show _ = ps_make E 3 (cx_up (cx_up s.1 0 35 0) 0 22 (cx_up s.1 0 35 0 0 22 + (1000 + cx_up s.1 0 35 0 0 27)), s.2)
    rw [w1, w2]
  rw [efar] at hV1
  rw [e1]
  try dsimp only
  generalize ps_far E (cx_up s.1 0 35 0, s.2) = t at J1 g23 g8 g28 hV1 ⊢
  obtain ⟨M2, e2, hV2, hF2⟩ := pe_tail_s hN hE hb h3 hV1 J1 (by omega) (by omega) (by rw [g28]; exact h28) (by rw [g8, g23]; exact h23)
  exact ⟨M2, e2, hV2, (((pc_Fr.up (by omega) (by omega)).tr (pc_Fr.up (by omega) (by omega))).tr hF1).tr hF2⟩
