/-! TAKING OVER, READY, FEED: the reference -/
theorem pa_first_R {E : ps_E} {f : Nat → Int32} (h : ∀ q, q < 665 → f q = if q = 27 then E.1 5 else if q = 29 then E.1 1 else if 153 ≤ q ∧ q < 281 then -1 else 0) : pr_R f (pa_first E) := by
  intro q hq
  rw [h q hq]
  by_cases c : q < 33
  · have e1 : ps_c q = 0 := by unfold ps_c; rw [if_pos c]
    have e2 : ps_k q = q := by unfold ps_k; rw [if_pos c]
    rw [e1, e2]
    unfold pa_first
    rw [if_pos rfl]
    by_cases c1 : q = 29
    · rw [if_neg (by omega), if_pos c1, if_pos c1]
    · rw [if_neg c1]
      by_cases c2 : q = 27
      · rw [if_pos c2, if_neg c1, if_pos c2]
      · rw [if_neg c2, if_neg (by omega), if_neg c1, if_neg c2, if_neg (by omega), if_neg (by omega)]
  · have n0 : ps_c q ≠ 0 ∧ ((ps_c q = 4 ∨ ps_c q = 5) ↔ (153 ≤ q ∧ q < 281)) := by
      unfold ps_c
      rw [if_neg c]
      split
      · exact ⟨by omega, ⟨fun z => by omega, fun z => by omega⟩⟩
      · split
        · exact ⟨by omega, ⟨fun z => by omega, fun z => Or.inl rfl⟩⟩
        · split
          · exact ⟨by omega, ⟨fun z => by omega, fun z => Or.inr rfl⟩⟩
          · split
            · exact ⟨by omega, ⟨fun z => by omega, fun z => by omega⟩⟩
            · split
              · exact ⟨by omega, ⟨fun z => by omega, fun z => by omega⟩⟩
              · exact ⟨by omega, ⟨fun z => by omega, fun z => by omega⟩⟩
    unfold pa_first
    rw [if_neg n0.1, if_neg (by omega), if_neg (by omega)]
    by_cases c1 : 153 ≤ q ∧ q < 281
    · rw [if_pos c1, if_pos (n0.2.mpr c1)]
    · rw [if_neg c1, if_neg (fun z => c1 (n0.2.mp z))]
theorem tw_takeOver_s {N : Nat} {E : ps_E} {M : cx_M} {st : Nat → Int32} {tp : Nat × (Nat → Int32)} {d : Int32} (hN : 3000 ≤ N) (hK : pr_K2 N E M) (h9 : M 60 9 = 1) (h29 : M 60 29 = 0) (hs : ∀ j, j < 3 → M 7 j = st j) (h12 : M 60 12 = nI tp.1) (h11 : ∀ j, j < 700 → M 11 j = tp.2 j) (h21 : M 60 21 = d) :
    ∃ M', tw_takeOver N M = some (M', 0, 0) ∧ qr_A N E M' (pa_new E st tp d) ∧ M' 60 2 = M 60 2 ∧ qr_F M M' := by
  obtain ⟨K1, K2, K3, K4, K5⟩ := hK
  obtain ⟨M1, e1, o1, i1⟩ := tw_takeHalf_s (N := N) (c := 3) (h := 10) rfl (by omega) (by omega) (by decide) (by omega) M
  obtain ⟨M2, e2, o2, i2⟩ := tw_takeHalf_s (N := N) (c := 4) (h := 16) rfl (by omega) (by omega) (by decide) (by omega) M1
  obtain ⟨M3, e3, o3, i3⟩ := tw_takeHalf_s (N := N) (c := 5) (h := 700) rfl (by omega) (by omega) (by decide) (by omega) M2
  obtain ⟨M4, e4, o4, i4⟩ := tw_takeHalf_s (N := N) (c := 6) (h := 700) rfl (by omega) (by omega) (by decide) (by omega) M3
  have g3 : ∀ k, k < 10 → M4 3 k = E.1 k := fun k hk => by rw [o4 3 (by decide), o3 3 (by decide), o2 3 (by decide), i1 k hk, K1 k hk]
  have g4 : ∀ q, q < 16 → M4 4 q = M 4 (16 + q) := fun q hq => by rw [o4 4 (by decide), o3 4 (by decide), i2 q hq, o1 4 (by decide)]
  have g5 : ∀ q, q < 700 → M4 5 q = M 5 (700 + q) := fun q hq => by rw [o4 5 (by decide), i3 q hq, o2 5 (by decide), o1 5 (by decide)]
  have g6 : ∀ q, q < 700 → M4 6 q = M 6 (700 + q) := fun q hq => by rw [i4 q hq, o3 6 (by decide), o2 6 (by decide), o1 6 (by decide)]
  have ac4 : ∀ c, c ≠ 3 → c ≠ 4 → c ≠ 5 → c ≠ 6 → M4 c = M c := fun c a b d e => by rw [o4 c e, o3 c d, o2 c b, o1 c a]
  obtain ⟨M9, e9, o9, i9⟩ := tw_forgetGiven_s (N := N) (by omega) (cx_up (cx_up M4 60 24 (M4 3 2)) 60 25 (M4 3 3))
  obtain ⟨M', e, ho, hk, hb, hi⟩ := tw_takeOver_54_s (N := N) (M := M9) (by omega) 665 0 N M9 (by omega) (by omega) (fun q hq => absurd hq (by omega))
  have c9 : ∀ c, c ≠ 28 → c ≠ 60 → M9 c = M4 c := fun c a b => by rw [o9 c a, px_upc b, px_upc b]
  have cE : ∀ c, c ≠ 8 → c ≠ 60 → c ≠ 28 → M' c = M4 c := fun c a b d => (ho c a b).trans (c9 c d b)
  have k9 : ∀ k, k ≠ 24 → k ≠ 25 → M9 60 k = M 60 k := fun k a b => by rw [o9 60 (by decide), px_up, if_neg (fun z => b z.2), px_up, if_neg (fun z => a z.2), ac4 60 (by decide) (by decide) (by decide) (by decide)]
  have kE : ∀ k, k ≠ 24 → k ≠ 25 → k ≠ 31 → k ≠ 32 → k ≠ 44 → M' 60 k = M 60 k := fun k a b c d f => (hk k c d f).trans (k9 k a b)
  have cM : ∀ c, c ≠ 8 → c ≠ 60 → c ≠ 28 → c ≠ 3 → c ≠ 4 → c ≠ 5 → c ≠ 6 → M' c = M c := fun c a b d p q r s => (cE c a b d).trans (ac4 c p q r s)
  refine ⟨M', ?_, ⟨⟨?_, ?_, ⟨?_, K2, ?_, ?_, ?_, ?_⟩, ?_⟩, ⟨hb.1, ?_, hb.2.1, ?_, ?_⟩, ?_, hb.2.2, ?_, ?_, ?_⟩, ?_, ?_⟩
  · unfold tw_takeOver tw_takeOver_0
    rw [px_cal e1, px_cal e2, px_cal e3, px_cal e4]
    simp only [px_get, px_put]
    rw [px_upc (show (3 : Nat) ≠ 60 by decide), px_cal e9]
    exact e
  · apply pa_first_R
    intro q hq
    rw [hi q hq, c9 3 (by decide) (by decide), g3 5 (by decide), g3 1 (by decide)]
  · show M' 60 24 = E.1 2 ∧ M' 60 25 = E.1 3
    rw [hk 24 (by decide) (by decide) (by decide), hk 25 (by decide) (by decide) (by decide), o9 60 (by decide)]
    refine ⟨?_, ?_⟩
    · rw [px_up, if_neg (by decide), px_up, if_pos ⟨rfl, rfl⟩, g3 2 (by decide)]
    · rw [px_up, if_pos ⟨rfl, rfl⟩, g3 3 (by decide)]
  · intro k hk2
    rw [cE 3 (by decide) (by decide) (by decide)]
    exact g3 k hk2
  · intro x hx
    have hr := pi_rem (x := x) (y := E.1 7) hx (by omega)
    have h1 := Int.emod_nonneg x.toInt (show (E.1 7).toInt ≠ 0 by omega)
    have h2 := Int.emod_lt_of_pos x.toInt (show 0 < (E.1 7).toInt by omega)
    rw [cE 4 (by decide) (by decide) (by decide), g4 _ (by rw [pn_def]; omega)]
    exact K3 x hx
  · intro h8 Mz hz
    exact K4 h8 Mz (fun j hj => by rw [hz j hj, cE 5 (by decide) (by decide) (by decide)]; exact g5 j hj)
  · intro h8 Mz hz
    exact K5 h8 Mz (fun j hj => by rw [hz j hj, cE 6 (by decide) (by decide) (by decide)]; exact g6 j hj)
  · intro j hj hj2
    rw [ho 28 (by decide) (by decide), i9 j hj] at hj2
    exact absurd rfl hj2
  · refine ⟨?_, by show 0 ≤ 8; decide, fun j hj => absurd hj (by show ¬ j < 0; omega)⟩
    rw [kE 29 (by decide) (by decide) (by decide) (by decide) (by decide), h29]
    rfl
  · intro j S hj; cases hj
  · intro j x hj; cases hj
  · intro j hj
    rw [cM 7 (by decide) (by decide) (by decide) (by decide) (by decide) (by decide) (by decide)]
    exact hs j hj
  · rw [kE 9 (by decide) (by decide) (by decide) (by decide) (by decide)]; exact h9
  · rw [kE 12 (by decide) (by decide) (by decide) (by decide) (by decide)]; exact h12
  · intro j hj
    rw [cM 11 (by decide) (by decide) (by decide) (by decide) (by decide) (by decide) (by decide)]
    exact h11 j hj
  · rw [kE 21 (by decide) (by decide) (by decide) (by decide) (by decide)]; exact h21
  · exact kE 2 (by decide) (by decide) (by decide) (by decide) (by decide)
  · intro c hc
    exact cM c (by omega) (by omega) (by omega) (by omega) (by omega) (by omega) (by omega)
/-! the start -/
def ps_E0 : ps_E := (fun k => [4, 12, 4, 1, 8, 0, 1, 1, 0, 0].getD k 0, fun x => (85 + x) &&& 255, fun _ => 0, fun _ => 0)
def qr_new (M : cx_M) (st : Nat → Int32) (tp : Nat × (Nat → Int32)) (d : Int32) : Prop := M 60 9 = 0 ∧ M 60 29 = 0 ∧ (∀ j, j < 3 → M 7 j = st j) ∧ M 60 12 = nI tp.1 ∧ (∀ j, j < 700 → M 11 j = tp.2 j) ∧ M 60 21 = d
def pa_b3 (M : cx_M) : cx_M := cx_up (cx_up (cx_up (cx_up (cx_up (cx_up (cx_up (cx_up (cx_up (cx_up (cx_up M 3 10 4) 3 11 12) 3 12 4) 3 13 1) 3 14 8) 3 15 0) 3 16 1) 3 17 1) 3 18 0) 3 19 0) 4 16 85
theorem tw_beginTold_s {N : Nat} {M : cx_M} : ∃ M', tw_beginTold N M = some (M', 0, 0) ∧ (∀ c, c ≠ 3 → c ≠ 4 → M' c = M c) ∧ (∀ k, k < 10 → M' 3 (10 + k) = ps_E0.1 k) ∧ M' 4 16 = 85 := by
  refine ⟨pa_b3 M, ?_, ?_, ?_, ?_⟩
  · unfold tw_beginTold tw_beginTold_0
    simp only [px_put]
    rfl
  · intro c a b
    unfold pa_b3
    rw [px_upc b, px_upc a, px_upc a, px_upc a, px_upc a, px_upc a, px_upc a, px_upc a, px_upc a, px_upc a, px_upc a]
  · intro k hk
    unfold pa_b3
    rw [px_upc (by decide)]
    match k, hk with
    | 0, _ => simp only [px_up]; rfl
    | 1, _ => simp only [px_up]; rfl
    | 2, _ => simp only [px_up]; rfl
    | 3, _ => simp only [px_up]; rfl
    | 4, _ => simp only [px_up]; rfl
    | 5, _ => simp only [px_up]; rfl
    | 6, _ => simp only [px_up]; rfl
    | 7, _ => simp only [px_up]; rfl
    | 8, _ => simp only [px_up]; rfl
    | 9, _ => simp only [px_up]; rfl
    | k + 10, hk => exact absurd hk (by omega)
  · unfold pa_b3
    rw [px_up, if_pos ⟨rfl, rfl⟩]
theorem ps_E0_K2 {N : Nat} {M : cx_M} (h3 : ∀ k, k < 10 → M 3 (10 + k) = ps_E0.1 k) (h4 : M 4 16 = 85) : pr_K2 N ps_E0 M := by
  refine ⟨h3, by decide, fun x hx => ?_, fun z => absurd z (by decide), fun z => absurd z (by decide)⟩
  have e := pi_rem (x := x) (y := ps_E0.1 7) hx (by decide)
  have e1 : (ps_E0.1 7).toInt = 1 := by decide
  have e0 : pn (cx_rem x (ps_E0.1 7)) = 0 := by
    rw [pn_def, e, e1]
    omega
  rw [e0, h4]
  rfl
theorem qr_new.pre {N : Nat} {M : cx_M} {st : Nat → Int32} {tp : Nat × (Nat → Int32)} {d : Int32} (hN : 3000 ≤ N) (h : qr_new M st tp d) : qr_pre N ps_E0 M (pa_new ps_E0 st tp d) := by
  obtain ⟨h9, h29, hs, h12, h11, h21⟩ := h
  obtain ⟨M1, e1, o1, i3, i4⟩ := tw_beginTold_s (N := N) (M := cx_up (cx_up M 60 2 0) 60 9 1)
  have k1 : ∀ k, k ≠ 2 → k ≠ 9 → M1 60 k = M 60 k := fun k a b => by rw [o1 60 (by decide) (by decide), px_up, if_neg (fun z => b z.2), px_up, if_neg (fun z => a z.2)]
  obtain ⟨M2, e2, h2, g2, F2⟩ := tw_takeOver_s (st := st) (tp := tp) (d := d) hN (ps_E0_K2 (N := N) i3 i4) (by rw [o1 60 (by decide) (by decide), px_up, if_pos ⟨rfl, rfl⟩]) (by rw [k1 29 (by decide) (by decide)]; exact h29) (fun j hj => by rw [o1 7 (by decide) (by decide), px_upc (by decide), px_upc (by decide)]; exact hs j hj) (by rw [k1 12 (by decide) (by decide)]; exact h12) (fun j hj => by rw [o1 11 (by decide) (by decide), px_upc (by decide), px_upc (by decide)]; exact h11 j hj) (by rw [k1 21 (by decide) (by decide)]; exact h21)
  refine ⟨M2, ?_, h2, ?_, ?_⟩
  · unfold tw_ready tw_ready_0
    simp only [px_get, px_put]
    rw [show cx_up M 60 2 0 60 9 = 0 by rw [px_up, if_neg (by decide)]; exact h9, if_pos rfl, px_cal e1, px_cal e2]
  · rw [g2, o1 60 (by decide) (by decide), px_up, if_neg (by decide), px_up, if_pos ⟨rfl, rfl⟩]
  · intro c hc
    rw [F2 c hc, o1 c (by omega) (by omega), px_upc (by omega), px_upc (by omega)]
/-! feed -/
def pa_w5 (x1 x2 x3 x4 x5 : Int32) (j : Nat) : Int32 := if j < 4 then x1 else if j < 8 then x2 else if j < 12 then x3 else if j < 16 then x4 else x5
def pa_fb (x1 x2 x3 x4 x5 : Int32) (j : Nat) : Int32 := ((pa_w5 x1 x2 x3 x4 x5 j) >>> (((24 : Int32) - ((8 : Int32) * (cx_rem (nI j) 4))) &&& 31)) &&& 255
theorem tw_feed_loop {N n : Nat} {x1 x2 x3 x4 x5 : Int32} (hn : n + 20 ≤ 700) : ∀ (m j f : Nat) (M : cx_M), j + m = 20 → m < f → M 60 12 = nI (n + j) →
    ∃ M', tw_feed_23 N f M x1 x2 x3 x4 x5 (nI j) = some (M', nI (n + 20), 0) ∧ (∀ c, c ≠ 11 → c ≠ 60 → M' c = M c) ∧ (∀ k, k ≠ 12 → M' 60 k = M 60 k) ∧ M' 60 12 = nI (n + 20) ∧ ∀ q, M' 11 q = if n + j ≤ q ∧ q < n + 20 then pa_fb x1 x2 x3 x4 x5 (q - n) else M 11 q := by
  intro m
  induction m with
  | zero =>
    intro j f M hj hf h12
    obtain ⟨f, rfl⟩ : ∃ q, f = q + 1 := ⟨f - 1, by omega⟩
    have ej : j = 20 := by omega
    rw [ej] at h12
    refine ⟨M, ?_, fun _ _ _ => rfl, fun _ _ => rfl, h12, fun q => by rw [if_neg (by omega)]⟩
    show tw_feed_23b N (tw_feed_23 N f) M x1 x2 x3 x4 x5 (nI j) = _
    unfold tw_feed_23b
    simp only [px_get]
    rw [if_pos (show (20 : Int32) ≤ nI j from nI_le (a := 20) (by omega) (by omega)), h12]
  | succ m ih =>
    intro j f M hj hf h12
    obtain ⟨f, rfl⟩ : ∃ q, f = q + 1 := ⟨f - 1, by omega⟩
    have t := pi_nI (n := n + j) (by omega)
    have h12' : cx_up (cx_up M 11 (n + j) (pa_fb x1 x2 x3 x4 x5 j)) 60 12 (nI (n + j) + 1) 60 12 = nI (n + (j + 1)) := by
      rw [px_up, if_pos ⟨rfl, rfl⟩, ← nI_succ]
      rfl
    obtain ⟨M', e, ho, hk, h2, hi⟩ := ih (j + 1) f (cx_up (cx_up M 11 (n + j) (pa_fb x1 x2 x3 x4 x5 j)) 60 12 (nI (n + j) + 1)) (by omega) (by omega) h12'
    have go : ∀ z, pa_w5 x1 x2 x3 x4 x5 j = z → tw_feed_76 N (tw_feed_23 N f) M x1 x2 x3 x4 x5 (nI j) z = some (M', nI (n + 20), 0) := by
      intro z hz
      have eb : (z >>> (((24 : Int32) - ((8 : Int32) * (cx_rem (nI j) 4))) &&& 31)) &&& 255 = pa_fb x1 x2 x3 x4 x5 j := by unfold pa_fb; rw [hz]
      unfold tw_feed_76
      simp only [px_get, px_let, px_put]
      rw [eb, h12, px_st (by omega) (by omega), pn_I (by omega), px_upc (show (60 : Nat) ≠ 11 by decide), h12, ← nI_succ j]
      exact e
    refine ⟨M', ?_, fun c a b => by rw [ho c a b, px_upc b, px_upc a], fun k hk2 => by rw [hk k hk2, px_up, if_neg (fun z => hk2 z.2), px_upc (by decide)], h2, fun q => ?_⟩
    · show tw_feed_23b N (tw_feed_23 N f) M x1 x2 x3 x4 x5 (nI j) = _
      unfold tw_feed_23b
      rw [if_neg (show ¬ (20 : Int32) ≤ nI j from nI_ge (a := j) (b := 20) (by omega) (by omega))]
      by_cases c4 : 4 ≤ j
      · rw [if_pos (show (4 : Int32) ≤ nI j from nI_le (a := 4) (by omega) (by omega))]
        by_cases c8 : 8 ≤ j
        · rw [if_pos (show (8 : Int32) ≤ nI j from nI_le (a := 8) (by omega) (by omega))]
          by_cases c12 : 12 ≤ j
          · rw [if_pos (show (12 : Int32) ≤ nI j from nI_le (a := 12) (by omega) (by omega))]
            by_cases c16 : 16 ≤ j
            · rw [if_pos (show (16 : Int32) ≤ nI j from nI_le (a := 16) (by omega) (by omega))]
              exact go x5 (by unfold pa_w5; rw [if_neg (by omega), if_neg (by omega), if_neg (by omega), if_neg (by omega)])
            · rw [if_neg (show ¬ (16 : Int32) ≤ nI j from nI_ge (a := j) (b := 16) (by omega) (by omega))]
              exact go x4 (by unfold pa_w5; rw [if_neg (by omega), if_neg (by omega), if_neg (by omega), if_pos (by omega)])
          · rw [if_neg (show ¬ (12 : Int32) ≤ nI j from nI_ge (a := j) (b := 12) (by omega) (by omega))]
            exact go x3 (by unfold pa_w5; rw [if_neg (by omega), if_neg (by omega), if_pos (by omega)])
        · rw [if_neg (show ¬ (8 : Int32) ≤ nI j from nI_ge (a := j) (b := 8) (by omega) (by omega))]
          exact go x2 (by unfold pa_w5; rw [if_neg (by omega), if_pos (by omega)])
      · rw [if_neg (show ¬ (4 : Int32) ≤ nI j from nI_ge (a := j) (b := 4) (by omega) (by omega))]
        exact go x1 (by unfold pa_w5; rw [if_pos (by omega)])
    · rw [hi q, px_upc (show (11 : Nat) ≠ 60 by decide), px_up]
      by_cases c1 : q = n + j
      · rw [if_neg (by omega), if_pos ⟨rfl, c1⟩, if_pos (by omega), c1, Nat.add_sub_cancel_left]
      · rw [if_neg (show ¬ (11 = 11 ∧ q = n + j) from fun z => c1 z.2)]
        by_cases c2 : n + j ≤ q ∧ q < n + 20
        · rw [if_pos (by omega), if_pos c2]
        · rw [if_neg (by omega), if_neg c2]
/-- what feed leaves on the tape; its number -/
def pa_feed (tp : Nat × (Nat → Int32)) (x1 x2 x3 x4 x5 : Int32) : (Nat × (Nat → Int32)) × Int32 :=
  if tp.1 + 20 ≤ 700 then ((tp.1 + 20, fun q => if tp.1 ≤ q ∧ q < tp.1 + 20 then pa_fb x1 x2 x3 x4 x5 (q - tp.1) else tp.2 q), nI (tp.1 + 20)) else (tp, -1)
theorem tw_feed_raw {N : Nat} {M : cx_M} {tp : Nat × (Nat → Int32)} {x1 x2 x3 x4 x5 : Int32} (hN : 700 ≤ N) (h7 : tp.1 ≤ 700) (h12 : M 60 12 = nI tp.1) (h11 : ∀ j, j < 700 → M 11 j = tp.2 j) :
    ∃ M', tw_feed N M x1 x2 x3 x4 x5 = some (M', (pa_feed tp x1 x2 x3 x4 x5).2, 0) ∧ (∀ c, c ≠ 11 → c ≠ 60 → M' c = M c) ∧ (∀ k, k ≠ 12 → k ≠ 2 → M' 60 k = M 60 k) ∧ M' 60 2 = 0 ∧ M' 60 12 = nI (pa_feed tp x1 x2 x3 x4 x5).1.1 ∧ (∀ j, j < 700 → M' 11 j = (pa_feed tp x1 x2 x3 x4 x5).1.2 j) ∧ (pa_feed tp x1 x2 x3 x4 x5).1.1 ≤ 700 := by
  have t := pi_nI (n := tp.1) (by omega)
  have t2 := pi_nI (n := tp.1 + 20) (by omega)
  have h20 : (20 : Int32).toInt = 20 := rfl
  have e20 : nI tp.1 + 20 = nI (tp.1 + 20) := by
    rw [i32_eq, i32_add (by rw [t, h20]; omega) (by rw [t, h20]; omega), t, t2, h20]
    omega
  have g12 : cx_up M 60 2 0 60 12 = nI tp.1 := by rw [px_up, if_neg (by decide)]; exact h12
  have g2 : cx_up M 60 2 0 60 2 = 0 := by rw [px_up, if_pos ⟨rfl, rfl⟩]
  have gk : ∀ k, k ≠ 2 → cx_up M 60 2 0 60 k = M 60 k := fun k a => by rw [px_up, if_neg (fun z => a z.2)]
  have gc : ∀ c, c ≠ 60 → cx_up M 60 2 0 c = M c := fun c a => px_upc a
  unfold tw_feed tw_feed_0 pa_feed
  simp only [px_get, px_put]
  rw [g12, e20]
  by_cases c : tp.1 + 20 ≤ 700
  · rw [if_pos c, if_pos (show nI (tp.1 + 20) ≤ 700 from Int32.le_iff_toInt_le.mpr (by rw [t2, show (700 : Int32).toInt = 700 from rfl]; omega))]
    obtain ⟨M', e, ho, hk, h2, hi⟩ := tw_feed_loop (N := N) (x1 := x1) (x2 := x2) (x3 := x3) (x4 := x4) (x5 := x5) c 20 0 N (cx_up M 60 2 0) (by omega) (by omega) g12
    refine ⟨M', e, fun c a b => by rw [ho c a b, gc c b], fun k a b => by rw [hk k a, gk k b], by rw [hk 2 (by decide)]; exact g2, h2, fun j hj => ?_, c⟩
    rw [hi j, gc 11 (by decide), h11 j hj]
    rfl
  · rw [if_neg c, if_neg (show ¬ nI (tp.1 + 20) ≤ 700 from fun z => by
      have := Int32.le_iff_toInt_le.mp z
      rw [t2, show (700 : Int32).toInt = 700 from rfl] at this
      omega)]
    exact ⟨cx_up M 60 2 0, rfl, fun c _ b => gc c b, fun k _ b => gk k b, g2, g12, fun j hj => by rw [gc 11 (by decide)]; exact h11 j hj, h7⟩
theorem tw_feed_s {N : Nat} {E : ps_E} {M : cx_M} {A : qA} {x1 x2 x3 x4 x5 : Int32} (hN : 700 ≤ N) (hA : qAI E A) (h : qr_A N E M A) :
    tw_act N E M (tw_feed N M x1 x2 x3 x4 x5) (A.1, A.2.1, (pa_feed A.2.2.1 x1 x2 x3 x4 x5).1, A.2.2.2) (pa_feed A.2.2.1 x1 x2 x3 x4 x5).2 0 := by
  obtain ⟨hV, hb, h9, him, h12, h11, h21⟩ := h
  obtain ⟨M', e, ho, hk, h2, h12', h11', -⟩ := tw_feed_raw (x1 := x1) (x2 := x2) (x3 := x3) (x4 := x4) (x5 := x5) hN hA.2.2.2 h12 h11
  refine ⟨M', e, ⟨hV.oth2 (fun c hc => ho c (fun e => by rw [e] at hc; revert hc; decide) (fun e => by rw [e] at hc; revert hc; decide)) (fun k hk2 => hk k (fun e => by rw [e] at hk2; revert hk2; decide) (fun e => by rw [e] at hk2; revert hk2; decide)), ?_, ?_, ?_, h12', h11', ?_⟩, h2, fun c hc => ho c (by omega) (by omega)⟩
  · unfold qr_bk at hb ⊢
    rw [hk 31 (by decide) (by decide), hk 32 (by decide) (by decide), ho 33 (by decide) (by decide), ho 38 (by decide) (by decide), ho 39 (by decide) (by decide), ho 7 (by decide) (by decide)]
    exact hb
  · rw [hk 9 (by decide) (by decide)]; exact h9
  · unfold qr_im qr_bk at him ⊢
    rw [hk 44 (by decide) (by decide), hk 45 (by decide) (by decide), hk 46 (by decide) (by decide), ho 47 (by decide) (by decide), ho 48 (by decide) (by decide), ho 49 (by decide) (by decide), ho 50 (by decide) (by decide), ho 51 (by decide) (by decide)]
    exact him
  · rw [hk 21 (by decide) (by decide)]; exact h21
theorem qr_new.feed {N : Nat} {M : cx_M} {st : Nat → Int32} {tp : Nat × (Nat → Int32)} {d : Int32} {x1 x2 x3 x4 x5 : Int32} (hN : 700 ≤ N) (h7 : tp.1 ≤ 700) (h : qr_new M st tp d) :
    ∃ M', tw_feed N M x1 x2 x3 x4 x5 = some (M', (pa_feed tp x1 x2 x3 x4 x5).2, 0) ∧ qr_new M' st (pa_feed tp x1 x2 x3 x4 x5).1 d ∧ M' 60 2 = 0 ∧ qr_F M M' ∧ (pa_feed tp x1 x2 x3 x4 x5).1.1 ≤ 700 := by
  obtain ⟨h9, h29, hs, h12, h11, h21⟩ := h
  obtain ⟨M', e, ho, hk, h2, h12', h11', hl⟩ := tw_feed_raw (x1 := x1) (x2 := x2) (x3 := x3) (x4 := x4) (x5 := x5) hN h7 h12 h11
  exact ⟨M', e, ⟨by rw [hk 9 (by decide) (by decide)]; exact h9, by rw [hk 29 (by decide) (by decide)]; exact h29, fun j hj => by rw [ho 7 (by decide) (by decide)]; exact hs j hj, h12', h11', by rw [hk 21 (by decide) (by decide)]; exact h21⟩, h2, fun c hc => ho c (by omega) (by omega), hl⟩
