/-! THE CLASS'S STEP: level, steering, playing -/
theorem cSt_level_s {N : cx_N} {E : ps_E} {M : cx_M} {b : Nat} {s : ps_T} {G : ps_S → Prop} {a p c : Int} (hN : 65 ≤ N.1) (hE : ps_EO E) (hV : pc_V N E M b s G) (hJ : ps_J E s.1 a p c) : cSt_level N b M = some (M, ps_level E s.1, 0) := by
  have hn0 := hJ.1
  unfold ps_Jn at hn0
  obtain ⟨⟨hE1, hE2⟩, -⟩ := id hE
  have hE0 : E.1 0 ≠ 0 := by
    intro e
    have h1 := hE.1.1
    rw [e] at h1
    revert h1
    decide
  have hd : (s.1 0 14 / E.1 0).toInt = (s.1 0 14).toInt / (E.1 0).toInt := pi_div (by omega) (by omega)
  have hd0 : 0 ≤ (s.1 0 14).toInt / (E.1 0).toInt := Int.ediv_nonneg (by omega) (by omega)
  unfold cSt_level cSt_level_0 ps_level
  simp only [px_get]
  rw [pc_n hV.1 8 (Or.inl (by decide)) (show pc_F 8 = 8 from rfl)]
  by_cases c8 : s.1 0 8 = 0
  · rw [if_pos c8, if_pos (Or.inl c8)]
  · rw [if_neg c8]
    generalize hsp : s.1 0 14 / E.1 0 = sp at hd
    have loop : ∀ (j k n : Nat), j + k = 64 → j < n → cSt_level_13 N b n M (ps_top s.1 sp k) (nI k) = some (M, if ps_top s.1 sp 64 = -1 then 0 else (ps_top s.1 sp 64 + 1) * E.1 0 - s.1 0 14, 0) := by
      intro j
      induction j with
      | zero =>
        intro k n hk hn
        obtain ⟨n, rfl⟩ : ∃ m, n = m + 1 := ⟨n - 1, by omega⟩
        have : k = 64 := by omega
        subst this
        show cSt_level_13b N b (cSt_level_13 N b n) M _ (nI 64) = _
        unfold cSt_level_13b
        simp only [px_get]
        rw [if_pos (by decide), hV.2.1.1, pc_n hV.1 14 (Or.inl (by decide)) (show pc_F 14 = 14 from rfl)]
        split <;> rfl
      | succ j ih =>
        intro k n hk hn
        obtain ⟨n, rfl⟩ : ∃ m, n = m + 1 := ⟨n - 1, by omega⟩
        have nx : nI k + 1 = nI (k + 1) := (nI_succ k).symm
        have t1 := pi_nI (n := k) (by omega)
        have p1 : pn (nI k) = k := by rw [pn_def, t1]; omega
        have r1 := (hV.1.2.2.2.1 k (by omega)).1
        show cSt_level_13b N b (cSt_level_13 N b n) M _ (nI k) = _
        unfold cSt_level_13b cSt_level_48
        simp only [px_get, px_let]
        rw [if_neg (show ¬ (64 : Int32) ≤ nI k from nI_ge (a := k) (b := 64) (by omega) (by omega)), px_ld (by omega) (by omega), p1, r1, pc_n hV.1 14 (Or.inl (by decide)) (show pc_F 14 = 14 from rfl), hV.2.1.1, px_nz hE0, hsp, nx]
        have h2 := ih (k + 1) n (by omega) (by omega)
        have ht : ps_top s.1 sp (k + 1) = if s.1 4 k = -1 ∨ s.1 5 k < sp then ps_top s.1 sp k else cx_max (ps_top s.1 sp k) (s.1 5 k) := rfl
        by_cases c5 : s.1 5 k < sp
        · rw [if_pos c5]
          rw [ht, if_pos (Or.inr c5)] at h2
          exact h2
        · rw [if_neg c5, px_ld (by omega) (by omega), p1, r1]
          rw [ht, if_neg] at h2
          · exact h2
          · intro z
            rcases z with z | z
            · rcases hJ.2.2.1.1 k (by omega) with y | y
              · apply c5
                rw [y.2, i32_lt, hd]
                have : (-1 : Int32).toInt = -1 := rfl
                omega
              · rw [z] at y
                have : (-1 : Int32).toInt = -1 := rfl
                omega
            · exact c5 z
    have h : cSt_level_13 N b N.1 M (-1) 0 = some (M, if ps_top s.1 sp 64 = -1 then 0 else (ps_top s.1 sp 64 + 1) * E.1 0 - s.1 0 14, 0) := loop 64 0 N.1 rfl (by omega)
    rw [h]
    by_cases ct : ps_top s.1 sp 64 = -1
    · rw [if_pos ct, if_pos (Or.inr ct)]
    · rw [if_neg ct, if_neg]
      intro z
      rcases z with z | z
      · exact c8 z
      · exact ct z
/-- a place of samples, octets -/
theorem pc_row {N : cx_N} {E : ps_E} {M : cx_M} {b : Nat} {s : ps_T} {G : ps_S → Prop} {c k : Nat} {v : Int32} (hb : b + 43 < 8000) (hV : pc_V N E M b s G) (hc : c = 40 ∨ c = 41) : pc_V N E (cx_up M (b + c) k v) b (cx_up s.1 (47 - c) k v, s.2) G := by
  obtain ⟨⟨h1, h2, h3, h4, h5, h6⟩, hK, hQ, hO⟩ := hV
  have ec : ∀ d, d ≠ b + c → cx_up M (b + c) k v d = M d := fun d h => px_upc h
  have es : ∀ d, d ≠ 47 - c → cx_up s.1 (47 - c) k v d = s.1 d := fun d h => px_upc h
  refine ⟨⟨?_, ?_, ?_, ?_, ?_, ?_⟩, hK.fr (ec _ (by omega)), hQ.fr (by rw [ec b (by omega)]) (by rw [ec b (by omega)]), hO.fr (by rw [ec b (by omega)]) (ec _ (by omega)) (ec _ (by omega)) (ec _ (by omega))⟩
  · show ∀ i, pc_d i → _ = cx_up s.1 (47 - c) k v 0 _
    rw [ec b (by omega), es 0 (by omega)]
    exact h1
  · show cx_up s.1 (47 - c) k v 0 35 = 0 ∨ cx_up s.1 (47 - c) k v 0 35 = 1
    rw [es 0 (by omega)]
    exact h2
  · show ∀ i, i < pn (cx_up s.1 (47 - c) k v 0 31) → _ = cx_up s.1 (47 - c) k v 1 i ∧ _ = cx_up s.1 (47 - c) k v 2 i ∧ _ = cx_up s.1 (47 - c) k v 3 i
    rw [es 0 (by omega), es 1 (by omega), es 2 (by omega), es 3 (by omega), ec _ (by omega), ec _ (by omega), ec _ (by omega)]
    exact h3
  · show ∀ i, i < 64 → _ = cx_up s.1 (47 - c) k v 5 i ∧ (cx_up s.1 (47 - c) k v 5 i ≠ -1 → _ = cx_up s.1 (47 - c) k v 4 i)
    rw [es 5 (by omega), es 4 (by omega), ec _ (by omega), ec _ (by omega)]
    exact h4
  · show ∀ i : Nat, i < 128 → ((i : Int) < (cx_up s.1 (47 - c) k v 0 6).toInt → _ = cx_up s.1 (47 - c) k v 7 i) ∧ ((i : Int) < (cx_up s.1 (47 - c) k v 0 32).toInt → _ = cx_up s.1 (47 - c) k v 6 i)
    rw [es 0 (by omega)]
    intro i hi
    have := h5 i hi
    simp only [px_up]
    by_cases e : i = k
    · rcases hc with rfl | rfl
      · refine ⟨fun z => ?_, fun z => ?_⟩ <;> (repeat' split) <;> first | rfl | exact this.1 z | exact this.2 z | omega
      · refine ⟨fun z => ?_, fun z => ?_⟩ <;> (repeat' split) <;> first | rfl | exact this.1 z | exact this.2 z | omega
    · refine ⟨fun z => ?_, fun z => ?_⟩ <;> (repeat' split) <;> first | exact this.1 z | exact this.2 z | omega
  · exact h6.fr (ec _ (by omega)) (ec _ (by omega)) (by show cx_up s.1 (47 - c) k v 0 6 = _; rw [es 0 (by omega)]) (es 8 (by omega))
theorem pi_sc {x : Int32} : (x + 1).toInt ≤ x.toInt + 1 := by
  have h1 : (1 : Int32).toInt = 1 := rfl
  have b1 := x.toInt_lt
  have b2 := x.le_toInt
  have b3 := (x + 1).toInt_lt
  by_cases c : x.toInt < 2147483647
  · rw [i32_add (by omega) (by omega), h1]; omega
  · omega
/-- one more place counts: the one just written -/
theorem pi_live {x : Int32} {i : Nat} (h0 : 0 ≤ x.toInt) (hi : i < 128) (h : (i : Int) < (x + 1).toInt) : (i : Int) < x.toInt ∨ i = pn (cx_rem x 128) := by
  have := pi_sc (x := x)
  have hr := pi_rem128 h0
  by_cases c : (i : Int) < x.toInt
  · exact Or.inl c
  · right
    rw [pn_def]
    omega
theorem cSt_steers_s {N : cx_N} {E : ps_E} {M : cx_M} {b : Nat} {s : ps_T} {G : ps_S → Prop} {a p c : Int} {l : Int32} (hb : b + 43 < 8000) (hV : pc_V N E M b s G) (hJ : ps_J E s.1 a p c) : ∃ M', cSt_steers N b M l = some (M', 0, 0) ∧ pc_V N E M' b (ps_turn s.1 l, s.2) G ∧ pc_Fr b M M' := by
  have hn0 := hJ.1
  unfold ps_Jn at hn0
  have n (k : Nat) {j : Nat} (hk : k < 34) (hj : pc_F k = j) : M b k = s.1 0 j := pc_n hV.1 k (Or.inl hk) hj
  unfold cSt_steers cSt_steers_0
  simp only [px_get, px_put, px_let]
  rw [n 30 (by decide) (show pc_F 30 = 29 from rfl), n 11 (by decide) (show pc_F 11 = 10 from rfl), n 32 (by decide) (show pc_F 32 = 34 from rfl)]
  generalize hg : cx_max (-3200) (cx_min 3200 (s.1 0 10 + s.1 0 34 * (l - s.1 0 29))) = g
  have h1 := hV.up hb 11 g (j := 10) (Or.inl (by decide)) rfl (by decide) (fun z => absurd z (by decide))
  have q31 : cx_up M b 11 g b 31 = s.1 0 33 := by rw [px_up, if_neg (by omega)]; exact n 31 (by decide) (show pc_F 31 = 33 from rfl)
  have q11 : cx_up M b 11 g b 11 = g := by rw [px_up, if_pos ⟨rfl, rfl⟩]
  rw [q31, q11]
  generalize hv : cx_max (-200) (cx_min 200 ((s.1 0 33 * (l - s.1 0 29) + g) / 16)) = v
  have h2 := h1.up hb 12 v (j := 9) (Or.inl (by decide)) rfl (by decide) (fun z => absurd z (by decide))
  have q24 : cx_up (cx_up M b 11 g) b 12 v b 24 = s.1 0 32 := by rw [px_up, if_neg (by omega), px_up, if_neg (by omega)]; exact n 24 (by decide) (show pc_F 24 = 32 from rfl)
  have q13 : cx_up (cx_up M b 11 g) b 12 v b 13 = s.1 0 11 := by rw [px_up, if_neg (by omega), px_up, if_neg (by omega)]; exact n 13 (by decide) (show pc_F 13 = 11 from rfl)
  have hr := pi_rem128 (x := s.1 0 32) (by omega)
  rw [q24, q13, px_st (by omega) (by omega)]
  have h3 := pc_row (c := 41) (k := pn (cx_rem (s.1 0 32) 128)) (v := s.1 0 11) hb h2 (Or.inr rfl)
  have r24 : cx_up (cx_up (cx_up M b 11 g) b 12 v) (b + 41) (pn (cx_rem (s.1 0 32) 128)) (s.1 0 11) b 24 = s.1 0 32 := by rw [px_upc (by omega)]; exact q24
  rw [r24]
  have h4 := h3.upL hb 24 (s.1 0 32 + 1) (j := 32) (Or.inl (by decide)) rfl (by decide) (fun z => absurd z (by decide)) (fun i hi => ⟨fun z => ?_, fun z => ?_⟩) ?_
  rotate_left 1
  · rw [px_up, if_neg (by decide)] at z
    exact (h3.1.2.2.2.2.1 i hi).1 z
  · rw [px_up, if_pos ⟨rfl, rfl⟩] at z
    rcases pi_live (by omega) hi z with q | q
    · exact (h3.1.2.2.2.2.1 i hi).2 q
    · show cx_up _ _ _ _ _ _ = cx_up _ 6 _ _ 6 i
      rw [q, px_up, if_pos ⟨rfl, rfl⟩, px_up, if_pos ⟨rfl, rfl⟩]
  · obtain ⟨f, hf, hl⟩ := h3.1.2.2.2.2.2
    exact ⟨f, hf, fun i hi z => hl i hi (by rw [px_up, if_neg (by decide)] at z; exact z)⟩
  refine ⟨_, rfl, ?_, (((pc_Fr.up (by omega) (by omega)).tr (pc_Fr.up (by omega) (by omega))).tr (pc_Fr.up (by omega) (by omega))).tr (pc_Fr.up (by omega) (by omega))⟩
  unfold ps_turn
  simp only [hg, hv]
  exact h4
theorem cSt_empties_s {N : cx_N} {b : Nat} : ∀ (j k n : Nat) (M : cx_M), j + k = 64 → j < n → ∃ M', cSt_empties_2 N b n M (nI k) = some (M', 0, 0) ∧ (∀ c, c ≠ b + 38 → M' c = M c) ∧ ∀ i, i < 64 → M' (b + 38) i = if k ≤ i then -1 else M (b + 38) i := by
  intro j
  induction j with
  | zero =>
    intro k n M hk hn
    obtain ⟨n, rfl⟩ : ∃ m, n = m + 1 := ⟨n - 1, by omega⟩
    refine ⟨M, ?_, fun _ _ => rfl, fun i hi => by rw [if_neg (by omega)]⟩
    show cSt_empties_2b N b (cSt_empties_2 N b n) M (nI k) = _
    unfold cSt_empties_2b
    rw [if_pos (show (64 : Int32) ≤ nI k from nI_le (a := 64) (by omega) (by omega))]
  | succ j ih =>
    intro k n M hk hn
    obtain ⟨n, rfl⟩ : ∃ m, n = m + 1 := ⟨n - 1, by omega⟩
    have t1 := pi_nI (n := k) (by omega)
    have p1 : pn (nI k) = k := by rw [pn_def, t1]; omega
    obtain ⟨M', e, ho, hi⟩ := ih (k + 1) n (cx_up M (b + 38) k (-1)) (by omega) (by omega)
    refine ⟨M', ?_, fun c hc => by rw [ho c hc, px_upc hc], fun i h => ?_⟩
    · show cSt_empties_2b N b (cSt_empties_2 N b n) M (nI k) = _
      unfold cSt_empties_2b
      simp only [px_let]
      rw [if_neg (show ¬ (64 : Int32) ≤ nI k from nI_ge (a := k) (b := 64) (by omega) (by omega)), px_st (by omega) (by omega), p1, ← nI_succ]
      exact e
    · rw [hi i h, px_up]
      repeat' split
      all_goals first | rfl | omega
theorem pc_empty {N : cx_N} {E : ps_E} {M : cx_M} {b : Nat} {s : ps_T} {G : ps_S → Prop} (hN : 65 ≤ N.1) (hb : b + 43 < 8000) (hV : pc_V N E M b s G) : ∃ M', cSt_empties N b M = some (M', 0, 0) ∧ pc_V N E M' b (ps_empty s.1, s.2) G ∧ pc_Fr b M M' := by
  obtain ⟨M', e, ho, hi⟩ := cSt_empties_s (N := N) (b := b) 64 0 N.1 M rfl (by omega)
  have es : ∀ c, c ≠ 4 → c ≠ 5 → ps_empty s.1 c = s.1 c := fun c h4 h5 => ps_empty_0 h4 h5
  obtain ⟨⟨h1, h2, h3, h4, h5, h6⟩, hK, hQ, hO⟩ := hV
  refine ⟨M', e, ⟨⟨?_, ?_, ?_, ?_, ?_, ?_⟩, hK.fr (ho _ (by omega)), hQ.fr (by rw [ho b (by omega)]) (by rw [ho b (by omega)]), hO.fr (by rw [ho b (by omega)]) (ho _ (by omega)) (ho _ (by omega)) (ho _ (by omega))⟩, ⟨fun c hc _ _ _ => ho c (by omega), by rw [ho b (by omega)]⟩⟩
  · show ∀ i, pc_d i → _ = ps_empty s.1 0 _
    rw [ho b (by omega), es 0 (by omega) (by omega)]
    exact h1
  · show ps_empty s.1 0 35 = 0 ∨ ps_empty s.1 0 35 = 1
    rw [es 0 (by omega) (by omega)]
    exact h2
  · show ∀ i, i < pn (ps_empty s.1 0 31) → _ = ps_empty s.1 1 i ∧ _ = ps_empty s.1 2 i ∧ _ = ps_empty s.1 3 i
    rw [es 0 (by omega) (by omega), es 1 (by omega) (by omega), es 2 (by omega) (by omega), es 3 (by omega) (by omega), ho _ (by omega), ho _ (by omega), ho _ (by omega)]
    exact h3
  · intro i h
    show _ = ps_empty s.1 5 i ∧ (ps_empty s.1 5 i ≠ -1 → _ = ps_empty s.1 4 i)
    have e5 : ps_empty s.1 5 i = -1 := by unfold ps_empty; rw [if_pos (by omega)]
    rw [hi i h, if_pos (by omega), e5]
    exact ⟨rfl, fun z => absurd rfl z⟩
  · show ∀ i : Nat, i < 128 → ((i : Int) < (ps_empty s.1 0 6).toInt → _ = ps_empty s.1 7 i) ∧ ((i : Int) < (ps_empty s.1 0 32).toInt → _ = ps_empty s.1 6 i)
    rw [es 0 (by omega) (by omega), es 7 (by omega) (by omega), es 6 (by omega) (by omega), ho _ (by omega), ho _ (by omega)]
    exact h5
  · exact h6.fr (ho _ (by omega)) (ho _ (by omega)) (by show ps_empty s.1 0 6 = _; rw [es 0 (by omega) (by omega)]) (es 8 (by omega) (by omega))
theorem cFi_bk_s {N : cx_N} {E : ps_E} {M : cx_M} {b : Nat} {s : ps_T} {G : ps_S → Prop} {n : Int32} (hV : pc_V N E M b s G) (h6 : 0 ≤ (s.1 0 6).toInt ∧ (s.1 0 6).toInt ≤ 90000) (hn : 1 ≤ n.toInt) : cFi_bk b M n = some (M, ps_back s.1 n, 0) := by
  unfold cFi_bk ps_back
  rw [pc_n hV.1 6 (Or.inl (by decide)) (show pc_F 6 = 6 from rfl)]
  by_cases c : n ≤ s.1 0 6
  · have c' : ¬ s.1 0 6 < n := by rw [i32_le] at c; rw [i32_lt]; omega
    rw [if_neg c', if_pos c]
    rw [i32_le] at c
    have e : (s.1 0 6 - n).toInt = (s.1 0 6).toInt - n.toInt := i32_sub (by omega) (by omega)
    have hr := pi_rem128 (x := s.1 0 6 - n) (by omega)
    rw [px_ld (by omega) (by omega), (hV.1.2.2.2.2.1 _ (by rw [pn_def]; omega)).1 (by rw [pn_def]; omega)]
  · have c' : s.1 0 6 < n := by rw [i32_le] at c; rw [i32_lt]; omega
    rw [if_pos c', if_neg c]
theorem cFi_of_s {N : cx_N} {E : ps_E} {M : cx_M} {b how : Nat} {s : ps_T} {G : ps_S → Prop} (hE : ps_EO E) (hV : pc_V N E M b s G) (h6 : 0 ≤ (s.1 0 6).toInt ∧ (s.1 0 6).toInt ≤ 90000) (hh : s.1 0 28 = nI how) (h3 : how < 3) : cFi_of N how b M = some (M, ps_fill E s.1, 0) := by
  have h1 := hE.2.2.1.1
  unfold cFi_of ps_fill
  rw [hh]
  match how, h3 with
  | 0, _ => rw [if_neg (by decide), if_pos rfl, if_neg (by decide), if_pos (show nI 0 = (0 : Int32) from rfl)]; exact cFi_bk_s hV h6 (by decide)
  | 1, _ => rw [if_pos rfl, if_pos (show nI 1 = (1 : Int32) from rfl)]
  | 2, _ => rw [if_neg (by decide), if_neg (by decide), if_neg (by decide), if_neg (by decide), hV.2.1.2.2.1]; exact cFi_bk_s hV h6 (by omega)
/-- whether a place is filled, laid down -/
theorem pc_lack {N : cx_N} {E : ps_E} {M : cx_M} {b : Nat} {s : ps_T} {G : ps_S → Prop} {k : Nat} {v : Int32} (hN : 3 < N.1) (hb : b + 43 < 8000) (hV : pc_V N E M b s G) (hk : k < 128) (hv : v = 0 ∨ v = 1) : ∃ M', jBs_set N (b + 42) M (nI k) v = some (M', 0, 0) ∧ pc_V N E M' b (cx_up s.1 8 k v, s.2) G ∧ pc_Fr b M M' ∧ (∀ c, c ≠ b + 42 → c ≠ b + 42 + 1 → M' c = M c) ∧ ∃ f, pc_B M' (b + 42) f ∧ f k = v ∧ ∀ i : Nat, i < 128 → (i : Int) < (s.1 0 6).toInt → f i = cx_up s.1 8 k v 8 i := by
  obtain ⟨⟨h1, h2, h3, h4, h5, f, hf, hl⟩, hK, hQ, hO⟩ := hV
  obtain ⟨M', e, hB, ho, -⟩ := pc_set hN hf hk hv
  have hl' : ∀ i : Nat, i < 128 → (i : Int) < (s.1 0 6).toInt → upd f k v i = cx_up s.1 8 k v 8 i := fun i hi z => by
    rw [px_up]
    unfold upd
    by_cases q : i = k
    · rw [if_pos q, if_pos ⟨rfl, q⟩]
    · rw [if_neg q, if_neg (fun z => q z.2)]; exact hl i hi z
  have es : ∀ c, c ≠ 8 → cx_up s.1 8 k v c = s.1 c := fun c h => px_upc h
  refine ⟨M', e, ⟨⟨?_, ?_, ?_, ?_, ?_, ?_⟩, hK.fr (ho _ (by omega) (by omega)), hQ.fr (by rw [ho b (by omega) (by omega)]) (by rw [ho b (by omega) (by omega)]), hO.fr (by rw [ho b (by omega) (by omega)]) (ho _ (by omega) (by omega)) (ho _ (by omega) (by omega)) (ho _ (by omega) (by omega))⟩, ⟨fun c hc _ _ _ => ho c (by omega) (by omega), by rw [ho b (by omega) (by omega)]⟩, ho, upd f k v, hB, by unfold upd; rw [if_pos rfl], hl'⟩
  · show ∀ i, pc_d i → _ = cx_up s.1 8 k v 0 _
    rw [ho b (by omega) (by omega), es 0 (by omega)]
    exact h1
  · show cx_up s.1 8 k v 0 35 = 0 ∨ cx_up s.1 8 k v 0 35 = 1
    rw [es 0 (by omega)]
    exact h2
  · show ∀ i, i < pn (cx_up s.1 8 k v 0 31) → _ = cx_up s.1 8 k v 1 i ∧ _ = cx_up s.1 8 k v 2 i ∧ _ = cx_up s.1 8 k v 3 i
    rw [es 0 (by omega), es 1 (by omega), es 2 (by omega), es 3 (by omega), ho _ (by omega) (by omega), ho _ (by omega) (by omega), ho _ (by omega) (by omega)]
    exact h3
  · show ∀ i, i < 64 → _ = cx_up s.1 8 k v 5 i ∧ (cx_up s.1 8 k v 5 i ≠ -1 → _ = cx_up s.1 8 k v 4 i)
    rw [es 5 (by omega), es 4 (by omega), ho _ (by omega) (by omega), ho _ (by omega) (by omega)]
    exact h4
  · show ∀ i : Nat, i < 128 → ((i : Int) < (cx_up s.1 8 k v 0 6).toInt → _ = cx_up s.1 8 k v 7 i) ∧ ((i : Int) < (cx_up s.1 8 k v 0 32).toInt → _ = cx_up s.1 8 k v 6 i)
    rw [es 0 (by omega), es 7 (by omega), es 6 (by omega), ho _ (by omega) (by omega), ho _ (by omega) (by omega)]
    exact h5
  · exact ⟨_, hB, fun i hi z => hl' i hi (by
      have e0 : cx_up s.1 8 k v 0 6 = s.1 0 6 := by rw [es 0 (by omega)]
      rw [← e0]; exact z)⟩
theorem cSt_plays_120_s {N : cx_N} {E : ps_E} {M : cx_M} {b how : Nat} {s : ps_T} {G : ps_S → Prop} {a p c : Int} {x5 o : Int32} {is : Bool} (hN : 65 ≤ N.1) (hb : b + 43 < 8000) (hV : pc_V N E M b s G) (h6 : 0 ≤ (s.1 0 6).toInt) (hx : x5 = 0 ↔ is = false) :
    ∃ M', cSt_plays_120 N b how M x5 o = some (M', 0, 0) ∧ pc_V N E M' b (ps_end (ps_put E s.1 o (s.1 0 13) is), s.2) G ∧ pc_Fr b M M' := by
  have hr := pi_rem128 h6
  have hk : pn (cx_rem (s.1 0 6) 128) < 128 := by rw [pn_def]; omega
  have hkn : cx_rem (s.1 0 6) 128 = nI (pn (cx_rem (s.1 0 6) 128)) := pn_nI (by omega)
  unfold cSt_plays_120
  simp only [px_get]
  rw [pc_n hV.1 6 (Or.inl (by decide)) (show pc_F 6 = 6 from rfl), px_st (by omega) (by omega)]
  generalize hkk : pn (cx_rem (s.1 0 6) 128) = k at hk hkn ⊢
  have h1 := pc_row (c := 40) (k := k) (v := o) hb hV (Or.inl rfl)
  have q6 : cx_up M (b + 40) k o b 6 = s.1 0 6 := by rw [px_upc (by omega)]; exact pc_n hV.1 6 (Or.inl (by decide)) (show pc_F 6 = 6 from rfl)
  rw [q6, hkn]
  have fin : ∀ (v x : Int32), (v = 0 ∨ v = 1) → ps_end (ps_put E s.1 o (s.1 0 13) is) = (if is = false then (if x < 64 then cx_up (cx_up (cx_up (cx_up (cx_up (cx_up s.1 7 k o) 8 k v) 0 6 (s.1 0 6 + 1)) 0 14 (s.1 0 14 + 1)) 0 30 x) 0 7 (s.1 0 7 + 1) else ps_empty (cx_up (cx_up (cx_up (cx_up (cx_up (cx_up (cx_up (cx_up (cx_up s.1 7 k o) 8 k v) 0 6 (s.1 0 6 + 1)) 0 14 (s.1 0 14 + 1)) 0 30 x) 0 7 (s.1 0 7 + 1)) 0 30 0) 0 12 (s.1 0 12 + 1)) 0 8 0)) else cx_up (cx_up (cx_up (cx_up (cx_up s.1 7 k o) 8 k v) 0 6 (s.1 0 6 + 1)) 0 14 (s.1 0 14 + 1)) 0 30 x) → True := fun _ _ _ _ => trivial
  clear fin
  unfold cSt_plays_157 cSt_plays_196
  have hk2 : ∀ v, (v = 0 ∨ v = 1) → ∃ M1, jBs_set N (b + 42) (cx_up M (b + 40) k o) (nI k) v = some (M1, 0, 0) ∧ pc_V N E (cx_up (cx_up M1 b 6 (s.1 0 6 + 1)) b 14 (s.1 0 14 + 1)) b (cx_up (cx_up (cx_up (cx_up s.1 7 k o) 8 k v) 0 6 (s.1 0 6 + 1)) 0 14 (s.1 0 14 + 1), s.2) G ∧ pc_Fr b M (cx_up (cx_up M1 b 6 (s.1 0 6 + 1)) b 14 (s.1 0 14 + 1)) ∧ M1 b 6 = s.1 0 6 ∧ cx_up M1 b 6 (s.1 0 6 + 1) b 14 = s.1 0 14 := by
    intro v hv
    obtain ⟨M1, e1, hV1, hF1, ho1, f1, hB1, hf1, hl1⟩ := pc_lack (N := N) (by omega) hb h1 hk hv
    have g (i : Nat) {j : Nat} (hi : i < 34) (hj : pc_F i = j) : M1 b i = s.1 0 j := by
      rw [pc_n hV1.1 i (Or.inl hi) hj]
      show cx_up (cx_up s.1 7 k o) 8 k v 0 j = _
      rw [px_upc (by decide), px_upc (by decide)]
    have e06 : cx_up (cx_up s.1 7 k o) 8 k v 0 6 = s.1 0 6 := by rw [px_upc (by decide), px_upc (by decide)]
    have c1 := hV1.upL hb 6 (s.1 0 6 + 1) (j := 6) (Or.inl (by decide)) rfl (by decide) (fun z => absurd z (by decide)) (fun i hi => ⟨fun z => ?_, fun z => ?_⟩) ⟨f1, hB1, fun i hi z => ?_⟩
    rotate_left 1
    · rw [px_up, if_pos ⟨rfl, rfl⟩] at z
      rcases pi_live h6 hi z with q | q
      · exact (hV1.1.2.2.2.2.1 i hi).1 (by show _ < (cx_up (cx_up s.1 7 k o) 8 k v 0 6).toInt; rw [e06]; exact q)
      · rw [hkk] at q
        show M1 (b + 40) i = cx_up (cx_up s.1 7 k o) 8 k v 7 i
        rw [ho1 _ (by omega) (by omega), px_upc (show (7 : Nat) ≠ 8 by decide), q, px_up, if_pos ⟨rfl, rfl⟩, px_up, if_pos ⟨rfl, rfl⟩]
    · rw [px_up, if_neg (by decide)] at z
      exact (hV1.1.2.2.2.2.1 i hi).2 z
    · rw [px_up, if_pos ⟨rfl, rfl⟩] at z
      rcases pi_live h6 hi z with q | q
      · exact hl1 i hi (by show _ < (cx_up s.1 7 k o 0 6).toInt; rw [px_upc (show (0 : Nat) ≠ 7 by decide)]; exact q)
      · rw [hkk] at q
        show f1 i = cx_up (cx_up s.1 7 k o) 8 k v 8 i
        rw [q, hf1, px_up, if_pos ⟨rfl, rfl⟩]
    have c2 := c1.up hb 14 (s.1 0 14 + 1) (j := 14) (Or.inl (by decide)) rfl (by decide) (fun z => absurd z (by decide))
    refine ⟨M1, e1, c2, (((pc_Fr.up (by omega) (by omega)).tr hF1).tr (pc_Fr.up (by omega) (by omega))).tr (pc_Fr.up (by omega) (by omega)), g 6 (by decide) (show pc_F 6 = 6 from rfl), ?_⟩
    rw [px_up, if_neg (by omega)]
    exact g 14 (by decide) (show pc_F 14 = 14 from rfl)
  have h64 : (64 : Int32).toInt = 64 := rfl
  cases is with
  | true =>
    have hx0 : ¬ x5 = 0 := fun e => by have := hx.mp e; revert this; decide
    simp only [if_neg hx0, px_get, px_put]
    obtain ⟨M1, e1, hV2, hF2, g6, g14⟩ := hk2 0 (Or.inl rfl)
    rw [px_cal e1, g6, g14]
    have c3 := hV2.up hb 21 0 (j := 30) (Or.inl (by decide)) rfl (by decide) (fun z => absurd z (by decide))
    refine ⟨_, rfl, c3.cast (Prod.ext ?_ rfl), hF2.tr (pc_Fr.up (by omega) (by omega))⟩
    show cx_up (cx_up (cx_up (cx_up (cx_up s.1 7 k o) 8 k 0) 0 6 (s.1 0 6 + 1)) 0 14 (s.1 0 14 + 1)) 0 30 0 = ps_end (ps_put E s.1 o (s.1 0 13) true)
    have e30 : ps_put E s.1 o (s.1 0 13) true 0 30 = 0 := by
      unfold ps_put
      simp (decide := true) only [px_up, false_and, and_false, true_and, and_true, ↓reduceIte]
    unfold ps_end
    rw [e30, if_pos (by decide)]
    unfold ps_put
    rw [hkk, ps_same (show s.1 0 13 = s.1 0 13 from rfl)]
    simp only [if_true]
    rw [ps_same (show s.1 0 7 = s.1 0 7 from rfl)]
    apply ps_ext2
    intro c j
    simp only [px_up]
    repeat' split
    all_goals first | rfl | omega
  | false =>
    have hx0 : x5 = 0 := hx.mpr rfl
    simp only [if_pos hx0, px_get, px_put]
    obtain ⟨M1, e1, hV2, hF2, g6, g14⟩ := hk2 1 (Or.inr rfl)
    rw [px_cal e1, g6, g14]
    generalize cx_up (cx_up M1 b 6 (s.1 0 6 + 1)) b 14 (s.1 0 14 + 1) = M2 at hV2 hF2 ⊢
    have g (i : Nat) {j : Nat} (hi : i < 34) (hj : pc_F i = j) (h6 : j ≠ 6) (h14 : j ≠ 14) : M2 b i = s.1 0 j := by
      rw [pc_n hV2.1 i (Or.inl hi) hj]
      show cx_up (cx_up (cx_up (cx_up s.1 7 k o) 8 k 1) 0 6 (s.1 0 6 + 1)) 0 14 (s.1 0 14 + 1) 0 j = _
      rw [px_up, if_neg (by omega), px_up, if_neg (by omega), px_upc (by decide), px_upc (by decide)]
    rw [g 21 (by decide) (show pc_F 21 = 30 from rfl) (by decide) (by decide)]
    have c3 := hV2.up hb 21 (s.1 0 30 + 1) (j := 30) (Or.inl (by decide)) rfl (by decide) (fun z => absurd z (by decide))
    have q7 : cx_up M2 b 21 (s.1 0 30 + 1) b 7 = s.1 0 7 := by rw [px_up, if_neg (by omega)]; exact g 7 (by decide) (show pc_F 7 = 7 from rfl) (by decide) (by decide)
    rw [q7]
    have c4 := c3.up hb 7 (s.1 0 7 + 1) (j := 7) (Or.inl (by decide)) rfl (by decide) (fun z => absurd z (by decide))
    have q21 : cx_up (cx_up M2 b 21 (s.1 0 30 + 1)) b 7 (s.1 0 7 + 1) b 21 = s.1 0 30 + 1 := by rw [px_up, if_neg (by omega), px_up, if_pos ⟨rfl, rfl⟩]
    rw [q21]
    have e30 : ps_put E s.1 o (s.1 0 13) false 0 30 = s.1 0 30 + 1 := by
      unfold ps_put
      simp (decide := true) only [px_up, false_and, and_false, true_and, and_true, ↓reduceIte]
    have hS : cx_up (cx_up (cx_up (cx_up (cx_up (cx_up s.1 7 k o) 8 k 1) 0 6 (s.1 0 6 + 1)) 0 14 (s.1 0 14 + 1)) 0 30 (s.1 0 30 + 1)) 0 7 (s.1 0 7 + 1) = ps_put E s.1 o (s.1 0 13) false := by
      unfold ps_put
      rw [hkk, ps_same (show s.1 0 13 = s.1 0 13 from rfl)]
      simp only [Bool.false_eq_true, if_false]
      apply ps_ext2
      intro c j
      simp only [px_up]
      repeat' split
      all_goals first | rfl | omega
    have c5 := c4.cast (t := (ps_put E s.1 o (s.1 0 13) false, s.2)) (Prod.ext hS rfl)
    have hF5 : pc_Fr b M (cx_up (cx_up M2 b 21 (s.1 0 30 + 1)) b 7 (s.1 0 7 + 1)) := (hF2.tr (pc_Fr.up (by omega) (by omega))).tr (pc_Fr.up (by omega) (by omega))
    unfold ps_end
    rw [e30]
    by_cases cr : s.1 0 30 + 1 < 64
    · have cr' : ¬ (64 : Int32) ≤ s.1 0 30 + 1 := by rw [i32_lt] at cr; rw [i32_le]; omega
      rw [if_neg cr', if_pos cr]
      exact ⟨_, rfl, c5, hF5⟩
    · have cr' : (64 : Int32) ≤ s.1 0 30 + 1 := by rw [i32_lt] at cr; rw [i32_le]; omega
      rw [if_pos cr', if_neg cr]
      generalize hP : ps_put E s.1 o (s.1 0 13) false = P at c5 ⊢
      generalize cx_up (cx_up M2 b 21 (s.1 0 30 + 1)) b 7 (s.1 0 7 + 1) = M5 at c5 hF5 ⊢
      have c6 := c5.up hb 21 0 (j := 30) (Or.inl (by decide)) rfl (by decide) (fun z => absurd z (by decide))
      have q22 : cx_up M5 b 21 0 b 22 = P 0 12 := by rw [px_up, if_neg (by omega)]; exact pc_n c5.1 22 (Or.inl (by decide)) (show pc_F 22 = 12 from rfl)
      rw [q22]
      have c7 := c6.up hb 22 (P 0 12 + 1) (j := 12) (Or.inl (by decide)) rfl (by decide) (fun z => absurd z (by decide))
      have c8 := c7.up hb 8 0 (j := 8) (Or.inl (by decide)) rfl (by decide) (fun z => absurd z (by decide))
      obtain ⟨M9, e9, hV9, hF9⟩ := pc_empty hN hb c8
      rw [px_cal e9]
      refine ⟨M9, rfl, hV9.cast (Prod.ext ?_ rfl), (((hF5.tr (pc_Fr.up (by omega) (by omega))).tr (pc_Fr.up (by omega) (by omega))).tr (pc_Fr.up (by omega) (by omega))).tr hF9⟩
      show ps_empty (cx_up (cx_up (cx_up P 0 30 0) 0 12 (P 0 12 + 1)) 0 8 0) = ps_empty (cx_up (cx_up (cx_up P 0 30 0) 0 8 0) 0 12 (P 0 12 + 1))
      rw [px_comm (c := 0) (k := 12) (d := 0) (j := 8) (Or.inr (by decide))]
