/-! THE CLASS'S STEP: what comes -/
theorem pc_V.cast {N : cx_N} {E : ps_E} {M : cx_M} {b : Nat} {s t : ps_T} {G : ps_S → Prop} (h : pc_V N E M b s G) (e : s = t) : pc_V N E M b t G := e ▸ h
/-- an array of the state that only grows by one place -/
theorem pc_slot {N : cx_N} {E : ps_E} {M : cx_M} {b : Nat} {s : ps_T} {G : ps_S → Prop} {n : Nat} {x y : Int32} (hb : b + 43 < 8000) (hV : pc_V N E M b s G) (hn : n < 64) :
    pc_V N E (cx_up (cx_up M (b + 38) n x) (b + 39) n y) b (cx_up (cx_up s.1 4 n y) 5 n x, s.2) G := by
  obtain ⟨⟨h1, h2, h3, h4, h5, h6⟩, hK, hQ, hO⟩ := hV
  have ec : ∀ c, c ≠ b + 38 → c ≠ b + 39 → cx_up (cx_up M (b + 38) n x) (b + 39) n y c = M c := fun c a1 a2 => by rw [px_upc a2, px_upc a1]
  have es : ∀ c, c ≠ 4 → c ≠ 5 → cx_up (cx_up s.1 4 n y) 5 n x c = s.1 c := fun c a1 a2 => by rw [px_upc a2, px_upc a1]
  refine ⟨⟨?_, ?_, ?_, ?_, ?_, ?_⟩, hK.fr (ec _ (by omega) (by omega)), hQ.fr (by rw [ec b (by omega) (by omega)]) (by rw [ec b (by omega) (by omega)]), hO.fr (by rw [ec b (by omega) (by omega)]) (ec _ (by omega) (by omega)) (ec _ (by omega) (by omega)) (ec _ (by omega) (by omega))⟩
  · show ∀ k, pc_d k → _ = cx_up (cx_up s.1 4 n y) 5 n x 0 _
    rw [ec b (by omega) (by omega), es 0 (by omega) (by omega)]
    exact h1
  · show cx_up (cx_up s.1 4 n y) 5 n x 0 35 = 0 ∨ cx_up (cx_up s.1 4 n y) 5 n x 0 35 = 1
    rw [es 0 (by omega) (by omega)]
    exact h2
  · show ∀ k, k < pn (cx_up (cx_up s.1 4 n y) 5 n x 0 31) → _ = cx_up (cx_up s.1 4 n y) 5 n x 1 k ∧ _ = cx_up (cx_up s.1 4 n y) 5 n x 2 k ∧ _ = cx_up (cx_up s.1 4 n y) 5 n x 3 k
    rw [es 0 (by omega) (by omega), es 1 (by omega) (by omega), es 2 (by omega) (by omega), es 3 (by omega) (by omega), ec (b + 35) (by omega) (by omega), ec (b + 36) (by omega) (by omega), ec (b + 37) (by omega) (by omega)]
    exact h3
  · intro k hk
    show _ = cx_up (cx_up s.1 4 n y) 5 n x 5 k ∧ (cx_up (cx_up s.1 4 n y) 5 n x 5 k ≠ -1 → _ = cx_up (cx_up s.1 4 n y) 5 n x 4 k)
    have := h4 k hk
    by_cases e : k = n
    · simp [px_up, e]
    · simp only [px_up, e, and_false, if_false]
      exact this
  · show ∀ k : Nat, k < 128 → ((k : Int) < (cx_up (cx_up s.1 4 n y) 5 n x 0 6).toInt → _ = cx_up (cx_up s.1 4 n y) 5 n x 7 k) ∧ ((k : Int) < (cx_up (cx_up s.1 4 n y) 5 n x 0 32).toInt → _ = cx_up (cx_up s.1 4 n y) 5 n x 6 k)
    rw [es 0 (by omega) (by omega), es 7 (by omega) (by omega), es 6 (by omega) (by omega), ec (b + 40) (by omega) (by omega), ec (b + 41) (by omega) (by omega)]
    exact h5
  · exact h6.fr (ec _ (by omega) (by omega)) (ec _ (by omega) (by omega)) (by show cx_up (cx_up s.1 4 n y) 5 n x 0 6 = _; rw [es 0 (by omega) (by omega)]) (es 8 (by omega) (by omega))
theorem pe_age {x y : Int32} (hx : 0 ≤ x.toInt ∧ x.toInt ≤ 255) (hy : 0 ≤ y.toInt ∧ y.toInt ≤ 255) : cx_rem (x - y + 256) 256 = (x - y) &&& 255 := by
  have h256 : (256 : Int32).toInt = 256 := rfl
  have e1 : (x - y).toInt = x.toInt - y.toInt := i32_sub (by omega) (by omega)
  have e2 : (x - y + 256).toInt = x.toInt - y.toInt + 256 := by rw [i32_add (by omega) (by omega), e1, h256]
  rw [i32_eq, pi_rem256 (by omega), pi_and255, e1, e2]
  omega
theorem cSt_comes_160_s {N : cx_N} {E : ps_E} {M : cx_M} {b : Nat} {s : ps_T} {G : ps_S → Prop} {n sp x6 p st z : Int32} (hE : ps_EO E) (hb : b + 43 < 8000) (hV : pc_V N E M b s G) (hn : 0 ≤ n.toInt ∧ n.toInt < 64) (hx : 0 ≤ x6.toInt ∧ x6.toInt < 16) (hz : z = s.1 0 35)
    (h17 : s.1 0 17 = s.1 0 15 / E.1 0) (hst : 0 ≤ st.toInt ∧ st.toInt ≤ 255) (h19 : 0 ≤ (s.1 0 19).toInt ∧ (s.1 0 19).toInt ≤ 255) :
    ∃ M', cSt_comes_160 N b M p st n sp x6 z = some (M', 0, 0) ∧ pc_V N E M' b (ps_lay s.1 n (sp + x6) p st, s.2) G ∧ pc_Fr b M M' := by
  have h16 : (16 : Int32).toInt = 16 := rfl
  have h35 := hV.1.2.1
  rw [← hz] at h35
  have hpn : pn n < 64 := by rw [pn_def]; omega
  have hE0 : E.1 0 ≠ 0 := by
    intro e
    have h1 := hE.1.1
    rw [e] at h1
    revert h1
    decide
  unfold cSt_comes_160 cx_bl
  rw [if_pos h35]
  simp only [px_get, px_put]
  rw [if_neg (by rw [i32_lt, i32_0]; omega), if_pos (by rw [i32_lt]; omega), px_st hn.1 (by omega), px_st hn.1 (by omega)]
  have hA := hV.up hb 42 z (j := 35) (Or.inr rfl) rfl (by decide) (fun _ => h35)
  have hA' : pc_V N E (cx_up M b 42 z) b s G := hA.cast (Prod.ext (ps_same hz.symm) rfl)
  have hB := pc_slot (x := sp + x6) (y := p) hb hA' hpn
  have hFB : pc_Fr b M (cx_up (cx_up (cx_up M b 42 z) (b + 38) (pn n) (sp + x6)) (b + 39) (pn n) p) := ((pc_Fr.up (by omega) (by omega)).tr (pc_Fr.up (by omega) (by omega))).tr (pc_Fr.up (by omega) (by omega))
  generalize cx_up (cx_up (cx_up M b 42 z) (b + 38) (pn n) (sp + x6)) (b + 39) (pn n) p = MB at hB hFB ⊢
  have g (k : Nat) {j : Nat} (hk : k < 34) (hj : pc_F k = j) : MB b k = s.1 0 j := by
    rw [pc_n hB.1 k (Or.inl hk) hj]
    show cx_up (cx_up s.1 4 (pn n) p) 5 (pn n) (sp + x6) 0 j = _
    rw [px_upc (by decide), px_upc (by decide)]
  rw [g 17 (by decide) (show pc_F 17 = 18 from rfl)]
  unfold ps_lay
  try dsimp only
  by_cases h : s.1 0 18 < sp + x6
  · rw [if_pos h, if_pos h]
    have k1 : cx_up MB b 17 (sp + x6) b 17 = sp + x6 := by rw [px_up, if_pos ⟨rfl, rfl⟩]
    have k2 : cx_up MB b 17 (sp + x6) b 15 = s.1 0 15 := by rw [px_up, if_neg (by omega)]; exact g 15 (by decide) (show pc_F 15 = 15 from rfl)
    have k3 : cx_up MB b 17 (sp + x6) 8000 0 = E.1 0 := by rw [px_upc (by omega)]; exact hB.2.1.1
    rw [k1, k2, k3, px_nz hE0, ← h17]
    have l1 : cx_up (cx_up MB b 17 (sp + x6)) b 20 (sp + x6 - s.1 0 17) b 19 = s.1 0 20 := by rw [px_up, if_neg (by omega), px_up, if_neg (by omega)]; exact g 19 (by decide) (show pc_F 19 = 20 from rfl)
    have l2 : cx_up (cx_up MB b 17 (sp + x6)) b 20 (sp + x6 - s.1 0 17) b 18 = s.1 0 19 := by rw [px_up, if_neg (by omega), px_up, if_neg (by omega)]; exact g 18 (by decide) (show pc_F 18 = 19 from rfl)
    rw [l1, l2, pe_age hst h19]
    have c1 := hB.up hb 17 (sp + x6) (j := 18) (Or.inl (by decide)) rfl (by decide) (fun z => absurd z (by decide))
    have c2 := c1.up hb 20 (sp + x6 - s.1 0 17) (j := 21) (Or.inl (by decide)) rfl (by decide) (fun z => absurd z (by decide))
    have c3 := c2.up hb 19 (s.1 0 20 + ((st - s.1 0 19) &&& 255)) (j := 20) (Or.inl (by decide)) rfl (by decide) (fun z => absurd z (by decide))
    have c4 := c3.up hb 18 st (j := 19) (Or.inl (by decide)) rfl (by decide) (fun z => absurd z (by decide))
    refine ⟨_, rfl, c4.cast (Prod.ext ?_ rfl), (((hFB.tr (pc_Fr.up (by omega) (by omega))).tr (pc_Fr.up (by omega) (by omega))).tr (pc_Fr.up (by omega) (by omega))).tr (pc_Fr.up (by omega) (by omega))⟩
    apply ps_ext2
    intro c k
    simp only [px_up]
    repeat' split
    all_goals first | rfl | omega
  · rw [if_neg h, if_neg h]
    exact ⟨_, rfl, hB, hFB⟩
theorem cSt_comes_160_out {N : cx_N} {M : cx_M} {b : Nat} {n sp x6 p st : Int32} (hx : x6.toInt < 0 ∨ 16 ≤ x6.toInt) : cSt_comes_160 N b M p st n sp x6 1 = some (cx_up M b 42 1, 0, 0) := by
  have h16 : (16 : Int32).toInt = 16 := rfl
  unfold cSt_comes_160 cx_bl
  rw [if_pos (Or.inr rfl)]
  simp only [px_put]
  by_cases c : x6 < 0
  · rw [if_pos c]
  · rw [if_neg c, if_neg]
    rw [i32_lt, i32_0] at c
    rw [i32_lt]
    omega
theorem cSt_comes_135_out {N : cx_N} {M : cx_M} {b : Nat} {n sp x6 p st : Int32} (hx : x6.toInt < 0 ∨ 16 ≤ x6.toInt) : cSt_comes_135 N b M p st n sp x6 = some (cx_up M b 42 1, 0, 0) := by
  have h16 : (16 : Int32).toInt = 16 := rfl
  unfold cSt_comes_135 cSt_comes_155
  simp only [px_get]
  rw [cSt_comes_160_out hx]
  split
  · split
    · rfl
    · next c =>
      rw [if_neg]
      rw [i32_lt, i32_0] at c
      rw [i32_lt]
      omega
  · rfl
theorem cSt_comes_63_s {N : cx_N} {E : ps_E} {M : cx_M} {b : Nat} {s : ps_T} {G : ps_S → Prop} {n p st : Int32} {a q c : Int} (hE : ps_EO E) (hb : b + 43 < 8000) (hV : pc_V N E M b s G) (hJ : ps_J E s.1 a q c) (hn : 0 ≤ n.toInt ∧ n.toInt < 64) (hst : 0 ≤ st.toInt ∧ st.toInt ≤ 255) :
    ∃ M', cSt_comes_63 N b M p st n = some (M', 0, 0) ∧ pc_V N E M' b (ps_come2 E s.1 n p st, s.2) G ∧ pc_Fr b M M' := by
  have hn0 := hJ.1
  unfold ps_Jn at hn0
  obtain ⟨⟨hE1, hE2⟩, -⟩ := id hE
  have hE0 : E.1 0 ≠ 0 := by
    intro e
    have h1 := hE.1.1
    rw [e] at h1
    revert h1
    decide
  have h16 : (16 : Int32).toInt = 16 := rfl
  have h32 : (32 : Int32).toInt = 32 := rfl
  have hd : (s.1 0 14 / E.1 0).toInt = (s.1 0 14).toInt / (E.1 0).toInt := pi_div (by omega) (by omega)
  have hd0 : 0 ≤ (s.1 0 14).toInt / (E.1 0).toInt := Int.ediv_nonneg (by omega) (by omega)
  have ha := ps_a_bd (n := n) (sp := s.1 0 14 / E.1 0) hn (by omega)
  have h17 : s.1 0 17 = s.1 0 15 / E.1 0 := by
    rw [i32_eq, pi_div (by omega) (by omega)]
    omega
  unfold cSt_comes_63 ps_come2
  simp only [px_get, px_let]
  rw [pc_n hV.1 14 (Or.inl (by decide)) (show pc_F 14 = 14 from rfl), hV.2.1.1, px_nz hE0]
  generalize cx_rem (n - cx_rem (s.1 0 14 / E.1 0) 64 + 64) 64 = x at ha ⊢
  have late : ∀ y : Int32, y.toInt < 0 → ∃ M', cSt_comes_100 N b M p st n (s.1 0 14 / E.1 0) y = some (M', 0, 0) ∧ pc_V N E M' b (cx_up (cx_up s.1 0 4 (s.1 0 4 + 1)) 0 35 1, s.2) G ∧ pc_Fr b M M' := by
    intro y hy
    unfold cSt_comes_100
    simp only [px_get, px_put]
    rw [if_neg (by rw [i32_le, i32_0]; omega), cSt_comes_135_out (Or.inl hy), pc_n hV.1 4 (Or.inl (by decide)) (show pc_F 4 = 4 from rfl)]
    have c1 := hV.up hb 4 (s.1 0 4 + 1) (j := 4) (Or.inl (by decide)) rfl (by decide) (fun z => absurd z (by decide))
    exact ⟨_, rfl, c1.up hb 42 1 (j := 35) (Or.inr rfl) rfl (by decide) (fun _ => Or.inr rfl), (pc_Fr.up (by omega) (by omega)).tr (pc_Fr.up (by omega) (by omega))⟩
  by_cases hl : x < 32
  · rw [if_pos hl, if_pos hl]
    unfold cSt_comes_100
    simp only [px_get, px_put]
    rw [if_pos (by rw [i32_le, i32_0]; omega)]
    by_cases h6 : x < 16
    · rw [if_pos h6, if_pos h6]
      rw [i32_lt] at h6
      unfold cSt_comes_135 cSt_comes_155
      simp only [px_get]
      have e42 : M b 42 = s.1 0 35 := pc_n hV.1 42 (Or.inr rfl) rfl
      rw [e42]
      by_cases c : s.1 0 35 = 0
      · rw [if_pos c, if_neg (by rw [i32_lt, i32_0]; omega), if_pos (by rw [i32_lt]; omega)]
        exact cSt_comes_160_s hE hb hV hn (by omega) c.symm h17 hst (by omega)
      · rw [if_neg c]
        exact cSt_comes_160_s hE hb hV hn (by omega) (hV.1.2.1.resolve_left c).symm h17 hst (by omega)
    · rw [if_neg h6, if_neg h6]
      rw [i32_lt] at h6
      rw [cSt_comes_135_out (Or.inr (by omega)), pc_n hV.1 5 (Or.inl (by decide)) (show pc_F 5 = 5 from rfl)]
      have c1 := hV.up hb 5 (s.1 0 5 + 1) (j := 5) (Or.inl (by decide)) rfl (by decide) (fun z => absurd z (by decide))
      exact ⟨_, rfl, c1.up hb 42 1 (j := 35) (Or.inr rfl) rfl (by decide) (fun _ => Or.inr rfl), (pc_Fr.up (by omega) (by omega)).tr (pc_Fr.up (by omega) (by omega))⟩
  · rw [if_neg hl, if_neg hl]
    rw [i32_lt] at hl
    have hm : (-64 : Int32).toInt = -64 := rfl
    exact late _ (by rw [i32_add (by omega) (by omega), hm]; omega)
theorem cSt_comes_s {N : cx_N} {E : ps_E} {M : cx_M} {b : Nat} {s : ps_T} {G : ps_S → Prop} {p st : Int32} {a q c : Int} (hE : ps_EO E) (hb : b + 43 < 8000) (hV : pc_V N E M b s G) (hJ : ps_J E s.1 a q c) (hp : 0 ≤ p.toInt ∧ p.toInt ≤ 90000) (hst : 0 ≤ st.toInt ∧ st.toInt ≤ 255) :
    ∃ M', cSt_comes N b M p st = some (M', 0, 0) ∧ pc_V N E M' b (ps_come E s.1 p st, s.2) G ∧ pc_Fr b M M' := by
  have hr := pi_rem64 hp.1
  have hn : 0 ≤ (cx_rem p 64).toInt ∧ (cx_rem p 64).toInt < 64 := by omega
  unfold cSt_comes cSt_comes_0 ps_come
  simp only [px_get, px_put, px_let]
  rw [pc_n hV.1 8 (Or.inl (by decide)) (show pc_F 8 = 8 from rfl)]
  by_cases h8 : s.1 0 8 = 0
  · rw [if_pos h8, if_pos h8]
    have hJ1 := ps_first_J (pk := p) (st := st) hE hJ hp hst
    have e0 : cx_up M b 8 1 8000 0 = E.1 0 := by rw [px_upc (by omega)]; exact hV.2.1.1
    have e14 : cx_up (cx_up M b 8 1) b 14 (E.1 0 * cx_rem p 64) b 14 = E.1 0 * cx_rem p 64 := by rw [px_up, if_pos ⟨rfl, rfl⟩]
    rw [e0, e14]
    have c1 := hV.up hb 8 1 (j := 8) (Or.inl (by decide)) rfl (by decide) (fun z => absurd z (by decide))
    have c2 := c1.up hb 14 (E.1 0 * cx_rem p 64) (j := 14) (Or.inl (by decide)) rfl (by decide) (fun z => absurd z (by decide))
    have c3 := c2.up hb 15 (E.1 0 * cx_rem p 64) (j := 15) (Or.inl (by decide)) rfl (by decide) (fun z => absurd z (by decide))
    have c4 := c3.up hb 16 p (j := 16) (Or.inl (by decide)) rfl (by decide) (fun z => absurd z (by decide))
    have c5 := c4.up hb 17 (cx_rem p 64) (j := 18) (Or.inl (by decide)) rfl (by decide) (fun z => absurd z (by decide))
    have c6 := c5.up hb 18 st (j := 19) (Or.inl (by decide)) rfl (by decide) (fun z => absurd z (by decide))
    have c7 := c6.up hb 19 0 (j := 20) (Or.inl (by decide)) rfl (by decide) (fun z => absurd z (by decide))
    have c8 := c7.up hb 20 0 (j := 21) (Or.inl (by decide)) rfl (by decide) (fun z => absurd z (by decide))
    have c9 := c8.free (cx_rem p 64)
    have hF : pc_Fr b M (cx_up (cx_up (cx_up (cx_up (cx_up (cx_up (cx_up (cx_up M b 8 1) b 14 (E.1 0 * cx_rem p 64)) b 15 (E.1 0 * cx_rem p 64)) b 16 p) b 17 (cx_rem p 64)) b 18 st) b 19 0) b 20 0) :=
      (((((((pc_Fr.up (by omega) (by omega)).tr (pc_Fr.up (by omega) (by omega))).tr (pc_Fr.up (by omega) (by omega))).tr (pc_Fr.up (by omega) (by omega))).tr (pc_Fr.up (by omega) (by omega))).tr (pc_Fr.up (by omega) (by omega))).tr (pc_Fr.up (by omega) (by omega))).tr (pc_Fr.up (by omega) (by omega))
    have c10 := c9.cast (t := (ps_first E s.1 p st, s.2)) (by
      refine Prod.ext ?_ rfl
      unfold ps_first
      apply ps_ext2
      intro c k
      simp only [px_up]
      repeat' split
      all_goals first | rfl | omega)
    obtain ⟨M2, e2, hV2, hF2⟩ := cSt_comes_63_s (p := p) hE hb c10 hJ1 hn hst
    exact ⟨M2, e2, hV2, hF.tr hF2⟩
  · rw [if_neg h8, if_neg h8]
    exact cSt_comes_63_s hE hb hV hJ hn hst
theorem pc_move {N : cx_N} {E : ps_E} {M : cx_M} {b : Nat} {s : ps_T} {G : ps_S → Prop} {k l : Nat} (hb : b + 43 < 8000) (hV : pc_V N E M b s G) (hk : k < pn (s.1 0 31)) :
    pc_V N E (cx_up (cx_up (cx_up M (b + 35) l (s.1 1 k)) (b + 36) l (s.1 2 k)) (b + 37) l (s.1 3 k)) b (ps_move s.1 k l, s.2) G := by
  obtain ⟨⟨h1, h2, h3, h4, h5, h6⟩, hK, hQ, hO⟩ := hV
  have ec : ∀ c, c ≠ b + 35 → c ≠ b + 36 → c ≠ b + 37 → cx_up (cx_up (cx_up M (b + 35) l (s.1 1 k)) (b + 36) l (s.1 2 k)) (b + 37) l (s.1 3 k) c = M c := fun c a1 a2 a3 => by rw [px_upc a3, px_upc a2, px_upc a1]
  have es : ∀ c, c = 0 ∨ 4 ≤ c → ps_move s.1 k l c = s.1 c := fun c h => ps_move_c h
  refine ⟨⟨?_, ?_, ?_, ?_, ?_, ?_⟩, hK.fr (ec _ (by omega) (by omega) (by omega)), hQ.fr (by rw [ec b (by omega) (by omega) (by omega)]) (by rw [ec b (by omega) (by omega) (by omega)]), hO.fr (by rw [ec b (by omega) (by omega) (by omega)]) (ec _ (by omega) (by omega) (by omega)) (ec _ (by omega) (by omega) (by omega)) (ec _ (by omega) (by omega) (by omega))⟩
  · show ∀ i, pc_d i → _ = ps_move s.1 k l 0 _
    rw [ec b (by omega) (by omega) (by omega), es 0 (by omega)]
    exact h1
  · show ps_move s.1 k l 0 35 = 0 ∨ ps_move s.1 k l 0 35 = 1
    rw [es 0 (by omega)]
    exact h2
  · intro i hi
    have hi' : i < pn (s.1 0 31) := by
      have : ps_move s.1 k l 0 31 = s.1 0 31 := by rw [es 0 (by omega)]
      rw [← this]
      exact hi
    have := h3 i hi'
    show _ = ps_move s.1 k l 1 i ∧ _ = ps_move s.1 k l 2 i ∧ _ = ps_move s.1 k l 3 i
    unfold ps_move
    simp only [px_up]
    by_cases e : i = l
    · refine ⟨?_, ?_, ?_⟩ <;> simp [e]
    · refine ⟨?_, ?_, ?_⟩ <;> (repeat' split) <;> first | exact this.1 | exact this.2.1 | exact this.2.2 | omega
  · show ∀ i, i < 64 → _ = ps_move s.1 k l 5 i ∧ (ps_move s.1 k l 5 i ≠ -1 → _ = ps_move s.1 k l 4 i)
    rw [es 5 (by omega), es 4 (by omega), ec (b + 38) (by omega) (by omega) (by omega), ec (b + 39) (by omega) (by omega) (by omega)]
    exact h4
  · show ∀ i : Nat, i < 128 → ((i : Int) < (ps_move s.1 k l 0 6).toInt → _ = ps_move s.1 k l 7 i) ∧ ((i : Int) < (ps_move s.1 k l 0 32).toInt → _ = ps_move s.1 k l 6 i)
    rw [es 0 (by omega), es 7 (by omega), es 6 (by omega), ec (b + 40) (by omega) (by omega) (by omega), ec (b + 41) (by omega) (by omega) (by omega)]
    exact h5
  · exact h6.fr (ec _ (by omega) (by omega) (by omega)) (ec _ (by omega) (by omega) (by omega)) (by show ps_move s.1 k l 0 6 = _; rw [es 0 (by omega)]) (es 8 (by omega))
theorem pc_wipe {N : cx_N} {E : ps_E} {M : cx_M} {b : Nat} {s : ps_T} {G : ps_S → Prop} {k l : Nat} (hb : b + 43 < 8000) (hV : pc_V N E M b s G) (hk : k = pn (s.1 0 31)) (hl : l ≤ k) (hk4 : k ≤ 40) :
    pc_V N E (cx_up M b 33 (nI l)) b (cx_up (ps_wipe s.1 l k) 0 31 (nI l), s.2) G := by
  obtain ⟨⟨h1, h2, h3, h4, h5, h6⟩, hK, hQ, hO⟩ := hV
  have eb : ∀ i, i ≠ 33 → cx_up M b 33 (nI l) b i = M b i := fun i hi => by rw [px_up, if_neg (by omega)]
  have ec : ∀ c, c ≠ b → cx_up M b 33 (nI l) c = M c := fun c a1 => px_upc a1
  have es : ∀ c, c = 0 ∨ 4 ≤ c → ps_wipe s.1 l k c = s.1 c := fun c h => ps_wipe_c h
  have el := pi_nI (n := l) (by omega)
  have pl : pn (nI l) = l := by rw [pn_def, el]; omega
  refine ⟨⟨fun i hi => ?_, ?_, ?_, ?_, ?_, ?_⟩, hK.fr (ec _ (by omega)), hQ.fr (eb 43 (by decide)) (eb 44 (by decide)), hO.fr (eb 45 (by decide)) (ec _ (by omega)) (ec _ (by omega)) (ec _ (by omega))⟩
  · show _ = cx_up (ps_wipe s.1 l k) 0 31 (nI l) 0 _
    by_cases e : i = 33
    · subst e
      rw [px_up, if_pos ⟨rfl, rfl⟩, px_up, if_pos ⟨rfl, rfl⟩]
    · rw [eb i e, px_up, if_neg (fun w => e (pc_inj hi (Or.inl (by decide)) (w.2.trans (show 31 = pc_F 33 from rfl)))), es 0 (by omega)]
      exact h1 i hi
  · show cx_up (ps_wipe s.1 l k) 0 31 (nI l) 0 35 = 0 ∨ cx_up (ps_wipe s.1 l k) 0 31 (nI l) 0 35 = 1
    rw [px_up, if_neg (by decide), es 0 (by omega)]
    exact h2
  · intro i hi
    have hi' : i < l := by
      have : cx_up (ps_wipe s.1 l k) 0 31 (nI l) 0 31 = nI l := by rw [px_up, if_pos ⟨rfl, rfl⟩]
      rw [← pl, ← this]
      exact hi
    show _ = cx_up (ps_wipe s.1 l k) 0 31 (nI l) 1 i ∧ _ = cx_up (ps_wipe s.1 l k) 0 31 (nI l) 2 i ∧ _ = cx_up (ps_wipe s.1 l k) 0 31 (nI l) 3 i
    rw [px_upc (show (1 : Nat) ≠ 0 by decide), px_upc (show (2 : Nat) ≠ 0 by decide), px_upc (show (3 : Nat) ≠ 0 by decide), ec _ (by omega), ec _ (by omega), ec _ (by omega)]
    unfold ps_wipe
    rw [if_neg (by omega), if_neg (by omega), if_neg (by omega)]
    exact h3 i (by omega)
  · show ∀ i, i < 64 → _ = cx_up (ps_wipe s.1 l k) 0 31 (nI l) 5 i ∧ (cx_up (ps_wipe s.1 l k) 0 31 (nI l) 5 i ≠ -1 → _ = cx_up (ps_wipe s.1 l k) 0 31 (nI l) 4 i)
    rw [px_upc (show (5 : Nat) ≠ 0 by decide), px_upc (show (4 : Nat) ≠ 0 by decide), es 5 (by omega), es 4 (by omega), ec _ (by omega), ec _ (by omega)]
    exact h4
  · show ∀ i : Nat, i < 128 → ((i : Int) < (cx_up (ps_wipe s.1 l k) 0 31 (nI l) 0 6).toInt → _ = cx_up (ps_wipe s.1 l k) 0 31 (nI l) 7 i) ∧ ((i : Int) < (cx_up (ps_wipe s.1 l k) 0 31 (nI l) 0 32).toInt → _ = cx_up (ps_wipe s.1 l k) 0 31 (nI l) 6 i)
    rw [px_up (c := 0) (d := 0) (j := 6), if_neg (by decide), px_up (c := 0) (d := 0) (j := 32), if_neg (by decide), es 0 (by omega), px_upc (show (7 : Nat) ≠ 0 by decide), px_upc (show (6 : Nat) ≠ 0 by decide), es 7 (by omega), es 6 (by omega), ec _ (by omega), ec _ (by omega)]
    exact h5
  · exact h6.fr (ec _ (by omega)) (ec _ (by omega)) (by show cx_up (ps_wipe s.1 l k) 0 31 (nI l) 0 6 = _; rw [px_up, if_neg (by decide), es 0 (by omega)]) (by show cx_up (ps_wipe s.1 l k) 0 31 (nI l) 8 = _; rw [px_upc (show (8 : Nat) ≠ 0 by decide), es 8 (by omega)])
theorem cSt_come_loop {N : cx_N} {E : ps_E} {b : Nat} {G : ps_S → Prop} {a p : Int} (hE : ps_EO E) (hb : b + 43 < 8000) : ∀ (m k l n : Nat) (M : cx_M) (s : ps_T) (c : Int), pc_V N E M b s G → ps_J E s.1 a p c → c + m ≤ 2000000 → pn (s.1 0 31) = k + m → l ≤ k → m < n →
    ∃ M', cSt_come_4 N b n M (nI l) (nI k) = some (M', 0, 0) ∧ pc_V N E M' b (ps_recv E m k l s.1, s.2) G ∧ pc_Fr b M M' := by
  intro m
  induction m with
  | zero =>
    intro k l n M s c hV hJ hc h31 hl hn
    obtain ⟨n, rfl⟩ : ∃ j, n = j + 1 := ⟨n - 1, by omega⟩
    have hn0 := hJ.1
    unfold ps_Jn at hn0
    have hk : k ≤ 40 := by rw [pn_def] at h31; omega
    refine ⟨cx_up M b 33 (nI l), ?_, ?_, pc_Fr.up (by omega) (by omega)⟩
    · show cSt_come_4b N b (cSt_come_4 N b n) M (nI l) (nI k) = _
      unfold cSt_come_4b
      simp only [px_get, px_put]
      rw [pc_n hV.1 33 (Or.inl (by decide)) (show pc_F 33 = 31 from rfl), if_pos]
      rw [pn_nI (x := s.1 0 31) (by omega), h31]
      exact nI_le (by omega) (by omega)
    · exact pc_wipe hb hV (by omega) hl hk
  | succ m ih =>
    intro k l n M s c hV hJ hc h31 hl hn
    obtain ⟨n, rfl⟩ : ∃ j, n = j + 1 := ⟨n - 1, by omega⟩
    have hn0 := hJ.1
    unfold ps_Jn at hn0
    have hk40 : k + (m + 1) ≤ 40 := by rw [pn_def] at h31; omega
    have hfl := hJ.2.1 k (by omega)
    have tk := pi_nI (n := k) (by omega)
    have tl := pi_nI (n := l) (by omega)
    have pk : pn (nI k) = k := by rw [pn_def, tk]; omega
    have pl : pn (nI l) = l := by rw [pn_def, tl]; omega
    obtain ⟨r1, r2, r3⟩ := hV.1.2.2.1 k (by omega)
    have nx : nI k + 1 = nI (k + 1) := (nI_succ k).symm
    have nl : nI l + 1 = nI (l + 1) := (nI_succ l).symm
    show ∃ M', cSt_come_4b N b (cSt_come_4 N b n) M (nI l) (nI k) = _ ∧ _
    unfold cSt_come_4b cSt_come_84
    simp only [px_get, px_put, px_let]
    rw [pc_n hV.1 33 (Or.inl (by decide)) (show pc_F 33 = 31 from rfl), pc_n hV.1 0 (Or.inl (by decide)) (show pc_F 0 = 0 from rfl), if_neg (by rw [pn_nI (x := s.1 0 31) (by omega), h31]; exact nI_ge (by omega) (by omega)), px_ld (by omega) (by omega), pk, r2, nx]
    unfold ps_recv
    by_cases hle : s.1 2 k ≤ s.1 0 0
    · have hlt : ¬ s.1 0 0 < s.1 2 k := by rw [i32_le] at hle; rw [i32_lt]; omega
      rw [if_neg hlt, if_pos hle, px_ld (by omega) (by omega), px_ld (by omega) (by omega), pk, r1, r3]
      obtain ⟨M1, e1, hV1, hF1⟩ := cSt_comes_s (p := s.1 1 k) (st := s.1 3 k) hE hb hV hJ hfl.1 hfl.2
      rw [px_cal e1]
      obtain ⟨M2, e2, hV2, hF2⟩ := ih (k + 1) l n M1 _ (c + 1) hV1 (ps_come_J hE hJ hfl.1 hfl.2 (by omega)) (by omega) (by show pn (ps_come E s.1 (s.1 1 k) (s.1 3 k) 0 31) = _; rw [ps_come_0 (by decide)]; omega) (by omega) (by omega)
      exact ⟨M2, e2, hV2, hF1.tr hF2⟩
    · have hlt : s.1 0 0 < s.1 2 k := by rw [i32_le] at hle; rw [i32_lt]; omega
      rw [if_pos hlt, if_neg hle, px_ld (by omega) (by omega), pk, r1, px_st (by omega) (by omega), pl, px_ld (by omega) (by omega), pk, px_upc (show b + 36 ≠ b + 35 by omega), r2, px_st (by omega) (by omega), pl, px_ld (by omega) (by omega), pk, px_upc (show b + 37 ≠ b + 36 by omega), px_upc (show b + 37 ≠ b + 35 by omega), r3, px_st (by omega) (by omega), pl, nl]
      have hC := pc_move (l := l) hb hV (show k < pn (s.1 0 31) by omega)
      have h0 : ps_move s.1 k l 0 = s.1 0 := ps_move_c (Or.inl rfl)
      have hJm : ps_J E (ps_move s.1 k l) a p c := by
        obtain ⟨hn', hf, hsl, hb'⟩ := hJ
        refine ⟨?_, ?_, ?_, ?_⟩
        · unfold ps_Jn at hn' ⊢
          rw [h0]
          exact hn'
        · intro j hj
          rw [h0] at hj
          unfold ps_move
          simp (decide := true) only [px_up, false_and, and_false, true_and, and_true, ↓reduceIte]
          by_cases ej : j = l
          · simp only [ej, and_self, ↓reduceIte, true_and]
            exact hfl
          · simp only [ej, and_false, ↓reduceIte]
            exact hf j hj
        · unfold ps_Js at hsl ⊢
          rw [h0, ps_move_c (by omega), ps_move_c (by omega)]
          exact hsl
        · unfold ps_Jb at hb' ⊢
          rw [ps_move_c (by omega)]
          exact hb'
      obtain ⟨M2, e2, hV2, hF2⟩ := ih (k + 1) (l + 1) n _ (ps_move s.1 k l, s.2) c hC hJm (by omega) (by show pn (ps_move s.1 k l 0 31) = _; rw [h0]; omega) (by omega) (by omega)
      exact ⟨M2, e2, hV2, (((pc_Fr.up (by omega) (by omega)).tr (pc_Fr.up (by omega) (by omega))).tr (pc_Fr.up (by omega) (by omega))).tr hF2⟩
theorem cSt_come_s {N : cx_N} {E : ps_E} {M : cx_M} {b : Nat} {s : ps_T} {G : ps_S → Prop} {a p c : Int} (hN : 41 ≤ N.1) (hE : ps_EO E) (hb : b + 43 < 8000) (hV : pc_V N E M b s G) (hJ : ps_J E s.1 a p c) (hc : c + 40 ≤ 2000000) : ∃ M', cSt_come N b M = some (M', 0, 0) ∧ pc_V N E M' b (ps_recv E (pn (s.1 0 31)) 0 0 s.1, s.2) G ∧ pc_Fr b M M' := by
  have hn0 := hJ.1
  unfold ps_Jn at hn0
  have h40 : pn (s.1 0 31) ≤ 40 := by rw [pn_def]; omega
  exact cSt_come_loop hE hb (pn (s.1 0 31)) 0 0 N.1 M s c hV hJ (by omega) (by omega) (by omega) (by omega)
