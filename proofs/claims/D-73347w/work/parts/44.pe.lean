/-! THE CLASS'S STEP -/
theorem ps_ext2 {A B : ps_S} (h : ∀ c k, A c k = B c k) : A = B := funext fun c => funext (h c)
theorem ps_same {S : ps_S} {c k : Nat} {v : Int32} (h : S c k = v) : cx_up S c k v = S := by
  apply ps_ext2
  intro d j
  rw [px_up]
  split
  · next e => rw [e.1, e.2, h]
  · rfl
theorem cSt_sends_143_s {N : cx_N} {E : ps_E} {M : cx_M} {b : Nat} {s : ps_T} {G : ps_S → Prop} {d : Int32} (hb : b + 43 < 8000) (hV : pc_V N E M b s G) : ∃ M', cSt_sends_143 N b M d = some (M', 0, 0) ∧ pc_V N E M' b (cx_up (cx_up s.1 0 24 d) 0 2 (s.1 0 2 + 1), s.2) G ∧ pc_Fr b M M' := by
  unfold cSt_sends_143
  simp only [cx_get, cx_put]
  have h1 := hV.up hb 25 d (j := 24) (Or.inl (by decide)) rfl (by decide) (fun z => absurd z (by decide))
  have e2 : cx_up M b 25 d b 2 = s.1 0 2 := by rw [px_up, if_neg (by omega)]; exact pc_n hV.1 2 (Or.inl (by decide)) rfl
  rw [e2]
  exact ⟨_, rfl, h1.up hb 2 (s.1 0 2 + 1) (j := 2) (Or.inl (by decide)) rfl (by decide) (fun z => absurd z (by decide)), (pc_Fr.up (by omega) (by omega)).tr (pc_Fr.up (by omega) (by omega))⟩
theorem pc_fly {N : cx_N} {E : ps_E} {M : cx_M} {b : Nat} {s : ps_T} {G : ps_S → Prop} {x y z : Int32} {f : Nat} (hb : b + 43 < 8000) (hV : pc_V N E M b s G) (hf : f = pn (s.1 0 31)) (h31 : 0 ≤ (s.1 0 31).toInt ∧ (s.1 0 31).toInt < 40) :
    pc_V N E (cx_up (cx_up (cx_up (cx_up M (b + 35) f x) (b + 36) f y) (b + 37) f z) b 33 (s.1 0 31 + 1)) b (cx_up (cx_up (cx_up (cx_up s.1 1 f x) 2 f y) 3 f z) 0 31 (s.1 0 31 + 1), s.2) G := by
  obtain ⟨⟨h1, h2, h3, h4, h5, h6⟩, hK, hQ, hO⟩ := hV
  have p31 : pn (s.1 0 31 + 1) = pn (s.1 0 31) + 1 := pn_succ h31.1 (by omega)
  have eb : ∀ k, k ≠ 33 → cx_up (cx_up (cx_up (cx_up M (b + 35) f x) (b + 36) f y) (b + 37) f z) b 33 (s.1 0 31 + 1) b k = M b k := by
    intro k hk
    rw [px_up, if_neg (by omega), px_upc (by omega), px_upc (by omega), px_upc (by omega)]
  have ec : ∀ c, c ≠ b → c ≠ b + 35 → c ≠ b + 36 → c ≠ b + 37 → cx_up (cx_up (cx_up (cx_up M (b + 35) f x) (b + 36) f y) (b + 37) f z) b 33 (s.1 0 31 + 1) c = M c := by
    intro c a1 a2 a3 a4
    rw [px_upc a1, px_upc a4, px_upc a3, px_upc a2]
  refine ⟨⟨fun k hk => ?_, ?_, ?_, ?_, ?_, ?_⟩, hK.fr (ec _ (by omega) (by omega) (by omega) (by omega)), hQ.fr (eb 43 (by decide)) (eb 44 (by decide)), hO.fr (eb 45 (by decide)) (ec _ (by omega) (by omega) (by omega) (by omega)) (ec _ (by omega) (by omega) (by omega) (by omega)) (ec _ (by omega) (by omega) (by omega) (by omega))⟩
  · show _ = cx_up _ 0 31 _ 0 _
    by_cases e : k = 33
    · subst e
      rw [px_up, if_pos ⟨rfl, rfl⟩, px_up, if_pos ⟨rfl, rfl⟩]
    · rw [eb k e, px_up, if_neg (fun w => e (pc_inj hk (Or.inl (by decide)) (w.2.trans (show 31 = pc_F 33 from rfl)))), px_upc (by decide), px_upc (by decide), px_upc (by decide)]
      exact h1 k hk
  · show cx_up (cx_up (cx_up (cx_up s.1 1 f x) 2 f y) 3 f z) 0 31 (s.1 0 31 + 1) 0 35 = 0 ∨ cx_up (cx_up (cx_up (cx_up s.1 1 f x) 2 f y) 3 f z) 0 31 (s.1 0 31 + 1) 0 35 = 1
    rw [px_up, if_neg (by decide), px_upc (by decide), px_upc (by decide), px_upc (by decide)]
    exact h2
  · intro k hk
    have hk' : k < pn (s.1 0 31) + 1 := by
      have : cx_up (cx_up (cx_up (cx_up s.1 1 f x) 2 f y) 3 f z) 0 31 (s.1 0 31 + 1) 0 31 = s.1 0 31 + 1 := by rw [px_up, if_pos ⟨rfl, rfl⟩]
      rw [← p31, ← this]
      exact hk
    show _ = cx_up (cx_up (cx_up (cx_up s.1 1 f x) 2 f y) 3 f z) 0 31 (s.1 0 31 + 1) 1 k ∧ _ = cx_up (cx_up (cx_up (cx_up s.1 1 f x) 2 f y) 3 f z) 0 31 (s.1 0 31 + 1) 2 k ∧ _ = cx_up (cx_up (cx_up (cx_up s.1 1 f x) 2 f y) 3 f z) 0 31 (s.1 0 31 + 1) 3 k
    simp only [px_up]
    by_cases e : k = f
    · refine ⟨?_, ?_, ?_⟩ <;> simp [e]
    · have := h3 k (by omega)
      refine ⟨?_, ?_, ?_⟩ <;> (repeat' split) <;> first | exact this.1 | exact this.2.1 | exact this.2.2 | omega
  · rw [ec _ (by omega) (by omega) (by omega) (by omega), ec _ (by omega) (by omega) (by omega) (by omega)]
    exact h4
  · rw [ec _ (by omega) (by omega) (by omega) (by omega), ec _ (by omega) (by omega) (by omega) (by omega)]
    exact h5
  · exact h6.fr (ec _ (by omega) (by omega) (by omega) (by omega)) (ec _ (by omega) (by omega) (by omega) (by omega)) rfl rfl
theorem px_get {M : cx_M} {c k : Nat} {f : Int32 → Option cx_R} : cx_get M c k f = f (M c k) := Eq.trans (Eq.refl _) (Eq.refl _)
theorem px_put {M : cx_M} {c k : Nat} {v : Int32} {f : cx_M → Option cx_R} : cx_put M c k v f = f (cx_up M c k v) := Eq.trans (Eq.refl _) (Eq.refl _)
theorem px_let {a : Int32} {f : Int32 → Option cx_R} : cx_let a f = f a := Eq.trans (Eq.refl _) (Eq.refl _)
theorem cVw_s {N : cx_N} {e : Nat} {M : cx_M} {x : Int32} : cVw_sees N e M x = some (cx_up M 8011 e x, 0, 0) := rfl
theorem cSt_sends_s {N : cx_N} {E : ps_E} {M : cx_M} {b : Nat} {s : ps_T} {G : ps_S → Prop} (hE : ps_EO E) (hb : b + 43 < 8000) (hV : pc_V N E M b s G) (hG : M b 45 ≠ 0 → G s.1) (h31 : 0 ≤ (s.1 0 31).toInt ∧ (s.1 0 31).toInt ≤ 40) (h0 : 0 ≤ (s.1 0 0).toInt) :
    ∃ M', cSt_sends N b M = some (M', 0, 0) ∧ pc_V N E M' b (ps_send E s) G ∧ pc_Fr b M M' := by
  have n (k : Nat) {j : Nat} (hk : k < 34) (hj : pc_F k = j) : M b k = s.1 0 j := pc_n hV.1 k (Or.inl hk) hj
  unfold cSt_sends cSt_sends_0
  simp only [px_get]
  rw [n 2 (by decide) (show pc_F 2 = 2 from rfl), px_cal cVw_s]
  have o1 (k : Nat) : cx_up M 8011 0 (s.1 0 2) b k = M b k := by rw [px_upc (by omega)]
  rw [o1, n 0 (by decide) (show pc_F 0 = 0 from rfl), px_cal cVw_s]
  have o2 (k : Nat) : cx_up (cx_up M 8011 0 (s.1 0 2)) 8011 1 (s.1 0 0) b k = M b k := by rw [px_upc (by omega)]; exact o1 k
  rw [o2, n 25 (by decide) (show pc_F 25 = 24 from rfl), px_cal cVw_s]
  have o3 (k : Nat) : cx_up (cx_up (cx_up M 8011 0 (s.1 0 2)) 8011 1 (s.1 0 0)) 8011 2 (s.1 0 24) b k = M b k := by rw [px_upc (by omega)]; exact o2 k
  rw [o3, n 33 (by decide) (show pc_F 33 = 31 from rfl), px_cal cVw_s]
  generalize hM : cx_up (cx_up (cx_up (cx_up M 8011 0 (s.1 0 2)) 8011 1 (s.1 0 0)) 8011 2 (s.1 0 24)) 8011 3 (s.1 0 31) = M8
  have hc : ∀ c, c ≠ 8011 → M8 c = M c := fun c h => by rw [← hM, px_upc h, px_upc h, px_upc h, px_upc h]
  have hV8 : pc_V N E M8 b s G := hV.oth (fun c h => hc c (by omega)) (hV.2.2.2.fr (by rw [hc b (by omega)]) (hc _ (by decide)) (hc _ (by decide)) (hc _ (by decide)))
  have hF8 : pc_Fr b M M8 := ⟨fun c _ h _ _ => hc c h, by rw [hc b (by omega)]⟩
  have v0 : M8 8011 0 = s.1 0 2 := by rw [← hM, px_up, if_neg (by omega), px_up, if_neg (by omega), px_up, if_neg (by omega), px_up, if_pos ⟨rfl, rfl⟩]
  have v1 : M8 8011 1 = s.1 0 0 := by rw [← hM, px_up, if_neg (by omega), px_up, if_neg (by omega), px_up, if_pos ⟨rfl, rfl⟩]
  have v2 : M8 8011 2 = s.1 0 24 := by rw [← hM, px_up, if_neg (by omega), px_up, if_pos ⟨rfl, rfl⟩]
  have v3 : M8 8011 3 = s.1 0 31 := by rw [← hM, px_up, if_pos ⟨rfl, rfl⟩]
  have hv : ∀ k, k < 4 → M8 8011 k = ps_view s.1 k := by
    intro k hk
    unfold ps_view
    match k, hk with
    | 0, _ => rw [v0, if_pos rfl]
    | 1, _ => rw [v1, if_neg (by omega), if_pos rfl]
    | 2, _ => rw [v2, if_neg (by omega), if_neg (by omega), if_pos rfl]
    | 3, _ => rw [v3, if_neg (by omega), if_neg (by omega), if_neg (by omega)]
  obtain ⟨M9, e9, hV9, hF9, hv9⟩ := cSt_delayBy_s hE hb hV8 (by rw [hc b (by omega)]; exact hG) hv
  rw [px_cal e9]
  obtain ⟨M1, e1, hV1, hF1⟩ := cSt_isLost_s hE hb hV9 (by rw [hF9.2, hc b (by omega)]; exact hG) (by rw [hv9]; exact hv)
  rw [px_cal e1]
  unfold ps_send
  generalize hd : ps_delay E s.1 = d
  have F1 := (hF8.tr hF9).tr hF1
  have m (k : Nat) {j : Nat} (hk : k < 34) (hj : pc_F k = j) (h25 : j ≠ 25) : M1 b k = s.1 0 j := by rw [pc_n hV1.1 k (Or.inl hk) hj, ps_draw_n s h25]
  by_cases hl : ps_isL E s = true
  · simp only [if_pos hl]
    rw [if_neg (by decide)]
    simp only [px_put]
    rw [pc_n hV1.1 3 (Or.inl (by decide)) (show pc_F 3 = 3 from rfl)]
    have h1 := hV1.up hb 3 ((ps_draw s).1 0 3 + 1) (j := 3) (Or.inl (by decide)) rfl (by decide) (fun z => absurd z (by decide))
    obtain ⟨M2, e2, hV2, hF2⟩ := cSt_sends_143_s (d := d) hb h1
    exact ⟨M2, e2, hV2, (F1.tr (pc_Fr.up (by omega) (by omega))).tr hF2⟩
  · have h40 : (s.1 0 31).toInt < 40 := by
      have : s.1 0 31 ≠ 40 := by
        intro e
        apply hl
        unfold ps_isL
        split <;> simp [ps_rule, e]
      have h2 : (s.1 0 31).toInt ≠ 40 := fun e => this (i32_eq.mpr e)
      omega
    simp only [if_neg hl, if_true, px_put]
    rw [m 33 (by decide) (show pc_F 33 = 31 from rfl) (by decide), m 2 (by decide) (show pc_F 2 = 2 from rfl) (by decide), px_st h31.1 (by omega)]
    have p1 (k : Nat) : cx_up M1 (b + 35) (pn (s.1 0 31)) (s.1 0 2) b k = M1 b k := by rw [px_upc (by omega)]
    rw [p1, p1, p1, m 33 (by decide) (show pc_F 33 = 31 from rfl) (by decide), m 0 (by decide) (show pc_F 0 = 0 from rfl) (by decide), m 27 (by decide) (show pc_F 27 = 26 from rfl) (by decide), px_st h31.1 (by omega)]
    have p2 (k : Nat) : cx_up (cx_up M1 (b + 35) (pn (s.1 0 31)) (s.1 0 2)) (b + 36) (pn (s.1 0 31)) (s.1 0 0 + d + s.1 0 26) b k = M1 b k := by rw [px_upc (by omega)]; exact p1 k
    rw [p2, p2, m 33 (by decide) (show pc_F 33 = 31 from rfl) (by decide), m 0 (by decide) (show pc_F 0 = 0 from rfl) (by decide), px_st h31.1 (by omega), pi_rem255 h0]
    have p3 (k : Nat) : cx_up (cx_up (cx_up M1 (b + 35) (pn (s.1 0 31)) (s.1 0 2)) (b + 36) (pn (s.1 0 31)) (s.1 0 0 + d + s.1 0 26)) (b + 37) (pn (s.1 0 31)) (s.1 0 0 &&& 255) b k = M1 b k := by rw [px_upc (by omega)]; exact p2 k
    rw [p3, m 33 (by decide) (show pc_F 33 = 31 from rfl) (by decide)]
    have d31 : (ps_draw s).1 0 31 = s.1 0 31 := ps_draw_n s (by decide)
    have hA := pc_fly (x := s.1 0 2) (y := s.1 0 0 + d + s.1 0 26) (z := s.1 0 0 &&& 255) (f := pn (s.1 0 31)) hb hV1 (by rw [d31]) (by rw [d31]; omega)
    rw [d31] at hA
    obtain ⟨M2, e2, hV2, hF2⟩ := cSt_sends_143_s (d := d) hb hA
    refine ⟨M2, e2, ?_, ((((F1.tr (pc_Fr.up (by omega) (by omega))).tr (pc_Fr.up (by omega) (by omega))).tr (pc_Fr.up (by omega) (by omega))).tr (pc_Fr.up (by omega) (by omega))).tr hF2⟩
    unfold ps_fly
    rw [d31, ps_draw_n s (k := 2) (by decide), ps_draw_n s (k := 0) (by decide), ps_draw_n s (k := 26) (by decide)]
    exact hV2
/-! a step's packets don't hang on the phase -/
theorem ps_draw_22 (S : ps_S) (q : List Bool) (v : Int32) : ps_draw (cx_up S 0 22 v, q) = (cx_up (ps_draw (S, q)).1 0 22 v, (ps_draw (S, q)).2) := by
  unfold ps_draw
  cases q with
  | nil =>
    have e : cx_up S 0 22 v 0 25 = S 0 25 := by rw [px_up, if_neg (by decide)]
    simp only [e]
    by_cases c : 0 < S 0 25
    · simp only [if_pos c]
      rw [px_comm (Or.inr (by decide))]
    · simp only [if_neg c]
  | cons x q => rfl
theorem ps_send_22 (E : ps_E) (S : ps_S) (q : List Bool) (v : Int32) : ps_send E (cx_up S 0 22 v, q) = (cx_up (ps_send E (S, q)).1 0 22 v, (ps_send E (S, q)).2) := by
  have e (k : Nat) (h : k ≠ 22) : cx_up S 0 22 v 0 k = S 0 k := by rw [px_up, if_neg (fun z => h z.2)]
  have hvw : ps_view (cx_up S 0 22 v) = ps_view S := by
    unfold ps_view
    rw [e 2 (by decide), e 0 (by decide), e 24 (by decide), e 31 (by decide)]
  have hd : ps_delay E (cx_up S 0 22 v) = ps_delay E S := by unfold ps_delay; rw [hvw]
  have hr : ps_rule E (cx_up S 0 22 v) ↔ ps_rule E S := by unfold ps_rule; rw [hvw, e 31 (by decide)]
  have hl : ps_isL E (cx_up S 0 22 v, q) = ps_isL E (S, q) := by
    unfold ps_isL
    cases q with
    | nil => simp only [e 25 (by decide), hr]
    | cons x q => simp only [hr]
  unfold ps_send
  simp only [hd, hl, ps_draw_22]
  refine Prod.ext ?_ rfl
  show cx_up (cx_up _ 0 24 _) 0 2 _ = cx_up (cx_up (cx_up _ 0 24 _) 0 2 _) 0 22 v
  generalize (ps_draw (S, q)).1 = A
  apply ps_ext2
  intro c k
  by_cases h1 : ps_isL E (S, q) = true
  · simp only [if_pos h1, px_up]
    repeat' split
    all_goals first | rfl | omega
  · simp only [if_neg h1]
    have f (k : Nat) (h : k ≠ 22) : cx_up A 0 22 v 0 k = A 0 k := by rw [px_up, if_neg (fun z => h z.2)]
    unfold ps_fly
    simp only [f 31 (by decide), f 2 (by decide), f 0 (by decide), f 26 (by decide)]
    simp only [px_up]
    repeat' split
    all_goals first | rfl | omega
theorem ps_made_22 (E : ps_E) (S : ps_S) (q : List Bool) (v : Int32) : ps_made E (cx_up S 0 22 v, q) = (cx_up (ps_made E (S, q)).1 0 22 v, (ps_made E (S, q)).2) := by
  have e : cx_up S 0 22 v 0 1 = S 0 1 := by rw [px_up, if_neg (by decide)]
  have h : cx_up (cx_up S 0 22 v) 0 1 (S 0 1 + 1) = cx_up (cx_up S 0 1 (S 0 1 + 1)) 0 22 v := px_comm (Or.inr (by decide))
  unfold ps_made
  simp only [e, h]
  have e2 : cx_up (cx_up S 0 1 (S 0 1 + 1)) 0 22 v 0 1 = cx_up S 0 1 (S 0 1 + 1) 0 1 := by rw [px_up, if_neg (by decide)]
  rw [e2]
  split
  · exact ps_send_22 _ _ _ _
  · rfl
/-- the states in which packets are sent -/
def ps_evs (E : ps_E) : Nat → ps_T → ps_S → Prop
  | 0, _, _ => False
  | n + 1, s, X => ¬ s.1 0 22 < 1000 ∧ ((cx_rem (s.1 0 1 + 1) (E.1 0) = 0 ∧ X = cx_up s.1 0 1 (s.1 0 1 + 1)) ∨ ps_evs E n (ps_made E (cx_up s.1 0 22 (s.1 0 22 - 1000), s.2)) X)
def ps_ev (E : ps_E) (s : ps_T) (X : ps_S) : Prop := ps_evs E 3 (cx_up (cx_up s.1 0 35 0) 0 22 (s.1 0 22 + (1000 + s.1 0 27)), s.2) X
/-- what stands behind the far end -/
noncomputable def pe_tail (N : cx_N) (b how : Nat) (M : cx_M) : Option cx_R :=
  cx_cal (cSt_come N b M) fun M2 _ => cx_cal (cSt_level N b M2) fun M3 v4 => cx_get M3 b 8 fun v5 =>
  if v5 = 1 then (cx_get M3 b 30 fun v6 => if v4 < v6 then cSt_goes_126 N b how M3 v4 else (cx_put M3 b 8 2 fun M7 => cx_put M7 b 13 0 fun M8 => cx_put M8 b 12 0 fun M9 => cx_put M9 b 11 0 fun M10 => cx_put M10 b 10 0 fun M11 => cSt_goes_126 N b how M11 v4)) else cSt_goes_126 N b how M3 v4
theorem cSt_make_s {N : cx_N} {E : ps_E} {b how : Nat} {G : ps_S → Prop} {p c : Int} (hE : ps_EO E) (hb : b + 43 < 8000) : ∀ (n m : Nat) (M : cx_M) (s : ps_T) (a : Int), pc_V N E M b s G → (M b 45 ≠ 0 → ∀ X, ps_evs E n s X → G X) → ps_J E s.1 a p c → a + n ≤ 90000 → 0 ≤ (s.1 0 22).toInt → (s.1 0 22).toInt < 1000 * (n + 1) → n < m →
    ∃ M', cSt_goes_22 N b how m M = pe_tail N b how M' ∧ pc_V N E M' b (ps_make E n s) G ∧ pc_Fr b M M' := by
  have hk : (1000 : Int32).toInt = 1000 := rfl
  have hE0 : E.1 0 ≠ 0 := by
    intro e
    have h1 := hE.1.1
    rw [e] at h1
    revert h1
    decide
  have stop : ∀ (m : Nat) (M : cx_M) (s : ps_T), pc_V N E M b s G → s.1 0 22 < 1000 → cSt_goes_22 N b how (m + 1) M = pe_tail N b how M := by
    intro m M s hV h
    show cSt_goes_22b N b how (cSt_goes_22 N b how m) M = _
    unfold cSt_goes_22b pe_tail
    rw [show ∀ f, cx_get M b 9 f = f (M b 9) from fun _ => rfl, pc_n hV.1 9 (Or.inl (by decide)) (show pc_F 9 = 22 from rfl), if_pos h]
  intro n
  induction n with
  | zero =>
    intro m M s a hV hG hJ ha h0 h1 hm
    obtain ⟨m, rfl⟩ : ∃ k, m = k + 1 := ⟨m - 1, by omega⟩
    exact ⟨M, stop m M s hV (by rw [i32_lt, hk]; omega), hV, pc_Fr.rf⟩
  | succ n ih =>
    intro m M s a hV hG hJ ha h0 h1 hm
    obtain ⟨m, rfl⟩ : ∃ k, m = k + 1 := ⟨m - 1, by omega⟩
    by_cases h : s.1 0 22 < 1000
    · refine ⟨M, stop m M s hV h, ?_, pc_Fr.rf⟩
      unfold ps_make
      rw [if_pos h]
      exact hV
    · have h' := h
      rw [i32_lt, hk] at h'
      have hr := i32_rng (s.1 0 22)
      have e22 : (s.1 0 22 - 1000).toInt = (s.1 0 22).toInt - 1000 := by rw [i32_sub (by omega) (by omega), hk]
      have hn0 := hJ.1
      unfold ps_Jn at hn0
      have hA := hV.up hb 1 (s.1 0 1 + 1) (j := 1) (Or.inl (by decide)) rfl (by decide) (fun z => absurd z (by decide))
      have hJA : ps_J E (cx_up s.1 0 22 (s.1 0 22 - 1000)) a p c := ps_J_up _ (by decide) hJ
      have hJm := ps_made_J (s := (cx_up s.1 0 22 (s.1 0 22 - 1000), s.2)) hJA (by omega)
      have hm22 : (ps_made E (cx_up s.1 0 22 (s.1 0 22 - 1000), s.2)).1 0 22 = s.1 0 22 - 1000 := by
        rw [ps_made_0 (by decide)]
        simp (decide := true) only [px_up, false_and, and_false, true_and, and_true, ↓reduceIte]
      have q9 : ∀ M1 : cx_M, M1 b 9 = s.1 0 22 → cSt_goes_59 N b how (cSt_goes_22 N b how m) M1 = cSt_goes_22 N b how m (cx_up M1 b 9 (s.1 0 22 - 1000)) := by
        intro M1 e
        unfold cSt_goes_59
        simp only [px_get, px_put]
        rw [e]
      have body : ∃ M1, cSt_goes_22 N b how (m + 1) M = cSt_goes_22 N b how m M1 ∧ pc_V N E M1 b (ps_made E (cx_up s.1 0 22 (s.1 0 22 - 1000), s.2)) G ∧ pc_Fr b M M1 := by
        show ∃ M1, cSt_goes_22b N b how (cSt_goes_22 N b how m) M = _ ∧ _
        unfold cSt_goes_22b
        rw [show ∀ f, cx_get M b 9 f = f (M b 9) from fun _ => rfl, pc_n hV.1 9 (Or.inl (by decide)) (show pc_F 9 = 22 from rfl), if_neg h]
        simp only [px_get, px_put]
        rw [pc_n hV.1 1 (Or.inl (by decide)) (show pc_F 1 = 1 from rfl)]
        have q1 : cx_up M b 1 (s.1 0 1 + 1) b 1 = s.1 0 1 + 1 := by rw [px_up, if_pos ⟨rfl, rfl⟩]
        have q2 : cx_up M b 1 (s.1 0 1 + 1) 8000 0 = E.1 0 := hA.2.1.1
        rw [q1, q2, px_nz hE0]
        rw [ps_made_22]
        have h2 : ∀ (M1 : cx_M) (t : ps_T), pc_V N E M1 b t G → t.1 0 22 = s.1 0 22 → pc_V N E (cx_up M1 b 9 (s.1 0 22 - 1000)) b (cx_up t.1 0 22 (s.1 0 22 - 1000), t.2) G :=
          fun M1 t ht _ => ht.up hb 9 (s.1 0 22 - 1000) (j := 22) (Or.inl (by decide)) rfl (by decide) (fun z => absurd z (by decide))
        unfold ps_made
        have q4 : cx_up s.1 0 1 (s.1 0 1 + 1) 0 1 = s.1 0 1 + 1 := by rw [px_up, if_pos ⟨rfl, rfl⟩]
        simp only [q4]
        by_cases hd : cx_rem (s.1 0 1 + 1) (E.1 0) = 0
        · rw [if_pos hd]
          simp only [if_pos hd]
          obtain ⟨M2, e2, hV2, hF2⟩ := cSt_sends_s hE hb hA (fun z => hG (by rw [px_up, if_neg (by omega)] at z; exact z) _ ⟨h, Or.inl ⟨hd, rfl⟩⟩) (by simp (decide := true) only [px_up, false_and, and_false, true_and, and_true, ↓reduceIte]; omega) (by simp (decide := true) only [px_up, false_and, and_false, true_and, and_true, ↓reduceIte]; omega)
          have hs22 : (ps_send E (cx_up s.1 0 1 (s.1 0 1 + 1), s.2)).1 0 22 = s.1 0 22 := by
            rw [ps_send_0 (by decide)]
            simp (decide := true) only [px_up, false_and, and_false, true_and, and_true, ↓reduceIte]
          rw [px_cal e2, q9 M2 (by rw [pc_n hV2.1 9 (Or.inl (by decide)) (show pc_F 9 = 22 from rfl), hs22])]
          exact ⟨_, rfl, h2 M2 _ hV2 hs22, ((pc_Fr.up (by omega) (by omega)).tr hF2).tr (pc_Fr.up (by omega) (by omega))⟩
        · rw [if_neg hd]
          simp only [if_neg hd]
          rw [q9 _ (by rw [px_up, if_neg (by omega)]; exact pc_n hV.1 9 (Or.inl (by decide)) (show pc_F 9 = 22 from rfl))]
          exact ⟨_, rfl, h2 _ _ hA (by show cx_up s.1 0 1 (s.1 0 1 + 1) 0 22 = _; rw [px_up, if_neg (by decide)]), (pc_Fr.up (by omega) (by omega)).tr (pc_Fr.up (by omega) (by omega))⟩
      obtain ⟨M1, e1, hV1, hF1⟩ := body
      obtain ⟨M2, e2, hV2, hF2⟩ := ih m M1 _ (a + 1) hV1 (fun z X hX => hG (by rw [← hF1.2]; exact z) X ⟨h, Or.inr hX⟩) hJm (by omega) (by rw [hm22, e22]; omega) (by rw [hm22, e22]; omega) (by omega)
      refine ⟨M2, by rw [e1, e2], ?_, hF1.tr hF2⟩
      unfold ps_make
      rw [if_neg h]
      exact hV2
