/-! READING A LINE, 24: what a line has told, as both take it over; the reference's line -/
def uW (u : rU) (k : Nat) : Int32 := if u.2.1 = [] then 85 else nI (u.2.1.getD k 0)
noncomputable def uE (u : rU) : ps_E := (fun k => if k < 7 then u.1 k else if k = 7 then nI (max 1 u.2.1.length) else if k = 8 then nI u.2.2.1.length else if k = 9 then nI u.2.2.2.1.length else 0,
  fun x => (uW u (pn (cx_rem x (nI (max 1 u.2.1.length)))) + x) &&& 255, fun view => sx_ev view u.2.2.1, fun view => sx_ev view u.2.2.2.1)
def u0 : rU := (fun k => [4, 12, 4, 1, 8, 0, 1].getD k 0, [], [], [], fun _ => 0)
theorem u0_p {t : rT} : rUp u0 t := ⟨⟨by decide, by decide, by decide, by decide⟩, ⟨by decide, fun v hv => absurd hv (by show ¬ v ∈ []; simp)⟩, ⟨Or.inl rfl, Nat.zero_le _⟩, ⟨Or.inl rfl, Nat.zero_le _⟩, fun _ _ => Or.inl rfl, fun _ => rfl, fun _ => rfl, fun _ => rfl⟩
theorem u0_x : rUx u0 0 := by
  intro j hj
  refine ⟨fun z => ?_, fun z => absurd (show (0 : Int32) = 1 from z) (by decide)⟩
  exact absurd z ((by decide +kernel : ∀ j, j < 9 → ¬ (((0 : Int32) >>> (nI j &&& 31)) &&& 1 = 1)) j hj)
theorem rS_view {v w : Nat → Int32} (hvw : ∀ k, k < 4 → v k = w k) : ∀ (h m : Nat) (s : List Int32), rS h m s → sx_ev v s = sx_ev w s := by
  intro h
  induction h with
  | zero => exact fun _ _ q => q.elim
  | succ h ih =>
    intro m s q
    rcases q with ⟨x, q0, q1, -⟩ | ⟨e, he, q1, -⟩ | ⟨s1, q1, q2⟩ | ⟨c, s1, s2, m2, q0, q1, q2, q3, -⟩
    · have h0 : (0 : Int32) ≤ nI x := by rw [i32_le, pi_nI (by omega), pi_0]; omega
      rw [q1, sx_told h0, sx_told h0]
    · rw [q1, sx_seen he, sx_seen he, hvw e he]
    · rw [q1, sx_of (sx_fN (rS_ev h m s1 q2)), sx_of (sx_fN (rS_ev h m s1 q2)), ih m s1 q2]
    · rw [q1, sx_of (sx_fB q0 (rS_ev h m s1 q2) (rS_ev h m2 s2 q3)), sx_of (sx_fB q0 (rS_ev h m s1 q2) (rS_ev h m2 s2 q3)), ih m s1 q2, ih m2 s2 q3]
theorem uE_O {u : rU} {t : rT} (h : rUp u t) (ht : t.2.1 ≤ 700) : ps_EO (uE u) := by
  obtain ⟨⟨g1, g2, g3, -⟩, -, ⟨g4, g5⟩, ⟨g6, g7⟩, -⟩ := h
  refine ⟨g1, g2, g3, ⟨?_, ?_⟩, fun v w hvw => ?_, fun v w hvw => ?_⟩
  · show 0 ≤ (nI u.2.2.1.length).toInt; rw [pi_nI (by omega)]; omega
  · show 0 ≤ (nI u.2.2.2.1.length).toInt; rw [pi_nI (by omega)]; omega
  · show sx_ev v u.2.2.1 = sx_ev w u.2.2.1
    rcases g4 with e | e
    · rw [e]; rfl
    · exact rS_view hvw _ _ _ e
  · show sx_ev v u.2.2.2.1 = sx_ev w u.2.2.2.1
    rcases g6 with e | e
    · rw [e]; rfl
    · exact rS_view hvw _ _ _ e
theorem uE_K2 {N : Nat} {u : rU} {t : rT} {M : cx_M} (hN : 3000 ≤ N) (h : rUp u t) (ht : t.2.1 ≤ 700) (hU : rUt u M) : pr_K2 N (uE u) M := by
  obtain ⟨-, ⟨g2, g3⟩, ⟨g4, g5⟩, ⟨g6, g7⟩, -⟩ := h
  obtain ⟨h1, ⟨h2, h3, h4⟩, ⟨h5, h6⟩, ⟨h7, h8⟩⟩ := hU
  have e7 : (uE u).1 7 = nI (max 1 u.2.1.length) := rfl
  have e8 : (uE u).1 8 = nI u.2.2.1.length := rfl
  have e9 : (uE u).1 9 = nI u.2.2.2.1.length := rfl
  have t7 := pi_nI (n := max 1 u.2.1.length) (by omega)
  refine ⟨fun k hk => ?_, by rw [e7, t7]; omega, fun x hx => ?_, fun z M2 hM2 => ?_, fun z M2 hM2 => ?_⟩
  · by_cases c : k < 7
    · rw [h1 k c]; show _ = if k < 7 then u.1 k else _; rw [if_pos c]
    · rcases (show k = 7 ∨ k = 8 ∨ k = 9 by omega) with e | e | e
      · subst e; exact h2
      · subst e; exact h5
      · subst e; exact h7
  · have hr := pi_rem (x := x) (y := nI (max 1 u.2.1.length)) hx (by rw [t7]; omega)
    have r0 := Int.emod_nonneg x.toInt (show (nI (max 1 u.2.1.length)).toInt ≠ 0 by omega)
    have r1 := Int.emod_lt_of_pos x.toInt (show 0 < (nI (max 1 u.2.1.length)).toInt by omega)
    rw [e7]
    show _ = (uW u (pn (cx_rem x (nI (max 1 u.2.1.length)))) + x) &&& 255
    have hk : pn (cx_rem x (nI (max 1 u.2.1.length))) < max 1 u.2.1.length := by rw [pn_def]; omega
    generalize pn (cx_rem x (nI (max 1 u.2.1.length))) = k at hk
    have : M 4 (16 + k) = uW u k := by
      unfold uW
      by_cases c : u.2.1 = []
      · rw [if_pos c]
        rw [c] at hk
        have : k = 0 := by
          have : k < max 1 0 := hk
          omega
        rw [this]
        exact h3 c
      · rw [if_neg c]
        have hl : 1 ≤ u.2.1.length := by
          cases hu : u.2.1 with
          | nil => exact absurd hu c
          | cons a r => rw [List.length_cons]; omega
        have hk2 : k < u.2.1.length := by omega
        rw [h4 k u.2.1[k] (List.getElem?_eq_getElem hk2), List.getD_eq_getElem?_getD, List.getElem?_eq_getElem hk2]
        rfl
    rw [this]
  · rw [e8] at z ⊢
    have hd : u.2.2.1 ≠ [] := fun q => by rw [q] at z; exact absurd z (by decide)
    exact tw_rule_s (Or.inl rfl) hN (by omega) (g4.resolve_left hd) (fun j y hy => by
      have hj := (List.getElem?_eq_some_iff.mp hy).1
      rw [hM2 j (by omega)]
      exact h6 j y hy)
  · rw [e9] at z ⊢
    have hd : u.2.2.2.1 ≠ [] := fun q => by rw [q] at z; exact absurd z (by decide)
    exact tw_rule_s (Or.inr rfl) hN (by omega) (g6.resolve_left hd) (fun j y hy => by
      have hj := (List.getElem?_eq_some_iff.mp hy).1
      rw [hM2 j (by omega)]
      exact h8 j y hy)
/-- a refused line: what both keep -/
def pa_refused (A : qA) (pl : Nat) : qA := ((A.1.1, A.1.2.1, A.1.2.2.1, upd A.1.2.2.2 0 (A.1.2.2.2 0 + 1)), A.2.1, (0, A.2.2.1.2), nI pl)
/-- a line taken over -/
noncomputable def pa_line (A : qA) (u : rU) : qA := pa_new (uE u) A.1.2.2.2 (0, A.2.2.1.2) (-1)
/-- the tape is too short, or less than nothing -/
theorem tw_line_bad {f : Nat} {E : ps_E} {A : qA} {M : cx_M} {x : Int32} (hp : qr_pre f E M A) (hx : x < 0 ∨ ¬ x ≤ nI A.2.2.1.1) : tw_ok f E A M (tw_line f M x) 0 1 := by
  obtain ⟨M1, e1, h1, h2, h3⟩ := hp
  have key := tw_fail1_ok (v := 0) (x := 1) h3 h1 (by decide)
  have ee : tw_line f M x = cx_cal (tw_fail f M1 1) fun M2 v2 => some (M2, v2, 0) := by
    unfold tw_line tw_line_0
    rw [px_cal e1]
    by_cases c : x < 0
    · rw [if_pos c]; rfl
    · rw [if_neg c, px_get, h1.2.2.2.2.1, if_neg (hx.resolve_left c)]
      rfl
  rw [ee]
  exact key
theorem pr_K.fr2 {N : Nat} {E : ps_E} {M M' : cx_M} (h : pr_K N E M) (e3 : ∀ k, k < 10 → M' 3 k = M 3 k) (e4 : ∀ k, k < 16 → M' 4 k = M 4 k) (e5 : ∀ k, k < 700 → M' 5 k = M 5 k ∧ M' 6 k = M 6 k) (e : ∀ c ∈ [26, 27, 28], M' c = M c) : pr_K N E M' := by
  obtain ⟨h1, h2, h3, h4, h5, h6⟩ := h
  refine ⟨fun k hk => by rw [e3 k hk]; exact h1 k hk, h2, fun x hx => ?_, fun z M2 hM2 => h4 z M2 (fun j hj => by rw [hM2 j hj, (e5 j hj).1]), fun z M2 hM2 => h5 z M2 (fun j hj => by rw [hM2 j hj, (e5 j hj).2]), fun j hj hj2 => ?_⟩
  · have hr := pi_rem (x := x) (y := E.1 7) hx (by omega)
    have r0 := Int.emod_nonneg x.toInt (show (E.1 7).toInt ≠ 0 by omega)
    have r1 := Int.emod_lt_of_pos x.toInt (show 0 < (E.1 7).toInt by omega)
    rw [e4 _ (by rw [pn_def]; omega)]
    exact h3 x hx
  · rw [e 28 (by decide)] at hj2
    rw [e 27 (by decide), e 26 (by decide)]
    exact h6 j hj hj2
theorem tw_begin_k {N : Nat} {M : cx_M} : ∃ M', tw_beginTold N M = some (M', 0, 0) ∧ (∀ c, c ≠ 3 → c ≠ 4 → M' c = M c) ∧ (∀ k, k < 10 → M' 3 (10 + k) = ps_E0.1 k) ∧ M' 4 16 = 85 ∧ (∀ k, k < 10 → M' 3 k = M 3 k) ∧ ∀ k, k < 16 → M' 4 k = M 4 k := by
  obtain ⟨M', e1, e2, e3, e4⟩ := tw_beginTold_s (N := N) (M := M)
  refine ⟨M', e1, e2, e3, e4, fun k hk => ?_, fun k hk => ?_⟩
  · unfold tw_beginTold tw_beginTold_0 at e1
    simp only [px_put] at e1
    have := congrArg Prod.fst (Option.some.inj e1)
    rw [← show _ = M' from this]
    dsimp only
    rw [px_upc (by decide)]
    simp only [px_up]
    repeat rw [if_neg (by omega)]
  · unfold tw_beginTold tw_beginTold_0 at e1
    simp only [px_put] at e1
    have := congrArg Prod.fst (Option.some.inj e1)
    rw [← show _ = M' from this]
    dsimp only
    rw [px_up, if_neg (by omega)]
    simp only [px_up]
    repeat rw [if_neg (by omega)]
/-- the line begins to be read -/
theorem tw_line_go {f n : Nat} {E : ps_E} {A : qA} {M : cx_M} {t1 : rT} (hf : 30000 ≤ f) (hp : qr_pre f E M A) (hn : n ≤ A.2.2.1.1) (hn7 : n ≤ 700) (hb0 : ∀ j, j < n → 0 ≤ (A.2.2.1.2 j).toInt) (hx1 : rNx A.2.2.1.2 n 0 t1) (h7 : A.2.2.1.1 ≤ 700) :
    ∃ M1 M9, tw_line f M (nI n) = tw_line_57 f f M9 0 ∧ rt_A A.2.2.1.2 n t1 M9 ∧ rUt u0 M9 ∧ qr_A f E M1 A ∧ M1 60 2 = 0 ∧ qr_F M M1 ∧ ((∀ c, c ≠ 60 → c ≠ 3 → c ≠ 4 → M9 c = M1 c) ∧ (∀ k, k ∉ [12, 13, 14, 15, 16, 17, 18, 19, 21] → M9 60 k = M1 60 k) ∧ (∀ k, k < 10 → M9 3 k = M1 3 k) ∧ (∀ k, k < 16 → M9 4 k = M1 4 k)) ∧ M9 60 12 = 0 ∧ M9 60 21 = -1 := by
  obtain ⟨M1, e1, h1, h2, h3⟩ := hp
  obtain ⟨M8, g1, g2, g3, g4, g5, g6⟩ := tw_begin_k (N := f) (M := cx_up (cx_up (cx_up (cx_up (cx_up M1 60 12 0) 60 14 (nI n)) 60 13 0) 60 19 0) 60 21 (-1))
  have k60 : ∀ k, M8 60 k = cx_up (cx_up (cx_up (cx_up (cx_up M1 60 12 0) 60 14 (nI n)) 60 13 0) 60 19 0) 60 21 (-1) 60 k := fun k => by rw [g2 60 (by decide) (by decide)]
  have kc : ∀ c, c ≠ 60 → c ≠ 3 → c ≠ 4 → M8 c = M1 c := fun c a b d => by rw [g2 c b d, px_upc a, px_upc a, px_upc a, px_upc a, px_upc a]
  have k3 : ∀ c, c ≠ 60 → cx_up (cx_up (cx_up (cx_up (cx_up M1 60 12 0) 60 14 (nI n)) 60 13 0) 60 19 0) 60 21 (-1) c = M1 c := fun c a => by rw [px_upc a, px_upc a, px_upc a, px_upc a, px_upc a]
  have ht : rt_t A.2.2.1.2 n M8 := ⟨by rw [k60]; simp [px_up], fun j hj => by rw [kc 11 (by decide) (by decide) (by decide)]; exact h1.2.2.2.2.2.1 j (by omega)⟩
  have h13 : M8 60 13 = nI 0 := by rw [k60]; simp [px_up]; rfl
  obtain ⟨M9, s1, s2, s3⟩ := rt_step (N := f) hn7 (by omega) hb0 hx1 ht h13
  have h19 : M8 60 19 = 0 := by rw [k60]; simp [px_up]
  refine ⟨M1, M9, ?_, ⟨ht.fr s2, s3, by rw [s2.2 19 (by decide)]; exact h19⟩, ?_, h1, h2, h3, ⟨fun c a b d => by rw [s2.1 c a]; exact kc c a b d, fun k hk => ?_, fun k hk => by rw [s2.1 3 (by decide), g5 k hk, k3 3 (by decide)], fun k hk => by rw [s2.1 4 (by decide), g6 k hk, k3 4 (by decide)]⟩, ?_, ?_⟩
  · unfold tw_line tw_line_0
    have tn := pi_nI (n := n) (by omega)
    rw [px_cal e1, if_neg (by rw [i32_lt, pi_0]; omega), px_get, h1.2.2.2.2.1, if_pos (nI_le hn (by omega))]
    simp only [px_put]
    rw [px_cal g1, px_cal s1]
  · refine rUt.F ?_ s2
    refine ⟨fun k hk => by rw [g3 k (by omega)]; exact (by decide : ∀ k, k < 7 → ps_E0.1 k = u0.1 k) k hk, ⟨g3 7 (by decide), fun _ => g4, fun i v hv => absurd hv (by show ¬ ([] : List Nat)[i]? = some v; simp)⟩, ⟨g3 8 (by decide), fun i y hy => absurd hy (by show ¬ ([] : List Int32)[i]? = some y; simp)⟩, ⟨g3 9 (by decide), fun i y hy => absurd hy (by show ¬ ([] : List Int32)[i]? = some y; simp)⟩⟩
  · simp only [List.mem_cons, List.not_mem_nil, or_false] at hk
    rw [s2.2 k (by simp only [List.mem_cons, List.not_mem_nil, or_false]; omega), k60]
    rw [px_up, if_neg (by omega), px_up, if_neg (by omega), px_up, if_neg (by omega), px_up, if_neg (by omega), px_up, if_neg (by omega)]
  · rw [s2.2 12 (by decide), k60]; simp [px_up]
  · rw [s2.2 21 (by decide), k60]; simp [px_up]
/-- a line well told -/
theorem tw_line_ok {f n : Nat} {E : ps_E} {A : qA} {M M1 M9 M' : cx_M} {u : rU} {t : rT} (hf : 30000 ≤ f) (h1 : qr_A f E M1 A) (h2 : M1 60 2 = 0) (h3 : qr_F M M1) (h4 : (∀ c, c ≠ 60 → c ≠ 3 → c ≠ 4 → M9 c = M1 c) ∧ (∀ k, k ∉ [12, 13, 14, 15, 16, 17, 18, 19, 21] → M9 60 k = M1 60 k) ∧ (∀ k, k < 10 → M9 3 k = M1 3 k) ∧ (∀ k, k < 16 → M9 4 k = M1 4 k)) (h5 : M9 60 12 = 0) (h6 : M9 60 21 = -1)
    (hG : rt_G M9 M') (h19 : M' 60 19 = 0) (hU : rUt u M') (hp : rUp u t) (ht : t.2.1 ≤ 700) (e : tw_line f M (nI n) = tw_line_80 f M') : tw_ok f (uE u) (pa_line A u) M (tw_line f M (nI n)) 0 0 := by
  have k60 : ∀ k, k ∉ [10, 12, 13, 14, 15, 16, 17, 18, 19, 20, 21] → M' 60 k = M1 60 k := fun k hk => by
    simp only [List.mem_cons, List.not_mem_nil, or_false] at hk
    rw [hG.2.1 k (by simp only [List.mem_cons, List.not_mem_nil, or_false]; omega), h4.2.1 k (by simp only [List.mem_cons, List.not_mem_nil, or_false]; omega)]
  have kc : ∀ c, c ≠ 60 → c ≠ 3 → c ≠ 4 → c ≠ 5 → c ≠ 6 → M' c = M1 c := fun c a b d e f => (hG.1 c a b d e f).trans (h4.1 c a b d)
  obtain ⟨M2, g1, g2, g3, g4⟩ := tw_takeOver_s (N := f) (E := uE u) (M := M') (st := A.1.2.2.2) (tp := (0, A.2.2.1.2)) (d := -1) (by omega) (uE_K2 (by omega) hp ht hU) (by rw [k60 9 (by decide)]; exact h1.2.2.1) (by rw [k60 29 (by decide)]; exact h1.1.2.2.2.1) (fun j hj => by rw [kc 7 (by decide) (by decide) (by decide) (by decide) (by decide)]; exact h1.2.1.2.2.2.2 j hj) (by rw [hG.2.1 12 (by decide)]; exact h5) (fun j hj => by rw [kc 11 (by decide) (by decide) (by decide) (by decide) (by decide)]; exact h1.2.2.2.2.2.1 j hj) (by rw [hG.2.1 21 (by decide)]; exact h6)
  refine ⟨M2, 0, ?_, g2, ?_, fun _ => rfl, fun c hc => by rw [g4 c hc, kc c (by omega) (by omega) (by omega) (by omega) (by omega)]; exact h3 c hc⟩
  · rw [e]
    unfold tw_line_80
    rw [px_get, h19, if_pos rfl, px_cal g1]
  · rw [g3, k60 2 (by decide)]; exact h2
/-- a line refused -/
theorem tw_line_er {f n κ pl : Nat} {E : ps_E} {A : qA} {M M1 M9 M' : cx_M} (h1 : qr_A f E M1 A) (h2 : M1 60 2 = 0) (h3 : qr_F M M1) (h4 : (∀ c, c ≠ 60 → c ≠ 3 → c ≠ 4 → M9 c = M1 c) ∧ (∀ k, k ∉ [12, 13, 14, 15, 16, 17, 18, 19, 21] → M9 60 k = M1 60 k) ∧ (∀ k, k < 10 → M9 3 k = M1 3 k) ∧ (∀ k, k < 16 → M9 4 k = M1 4 k)) (h5 : M9 60 12 = 0) (h6 : M9 60 21 = -1)
    (hG : rt_G M9 M') (h19 : M' 60 19 = nI κ) (h20 : M' 60 20 = nI pl) (hκ : 1 ≤ κ ∧ κ ≤ 5) (e : tw_line f M (nI n) = tw_line_80 f M') : tw_ok f E (pa_refused A pl) M (tw_line f M (nI n)) (nI κ) 0 := by
  have k60 : ∀ k, k ∉ [10, 12, 13, 14, 15, 16, 17, 18, 19, 20, 21] → M' 60 k = M1 60 k := fun k hk => by
    simp only [List.mem_cons, List.not_mem_nil, or_false] at hk
    rw [hG.2.1 k (by simp only [List.mem_cons, List.not_mem_nil, or_false]; omega), h4.2.1 k (by simp only [List.mem_cons, List.not_mem_nil, or_false]; omega)]
  have kc : ∀ c, c ≠ 60 → c ≠ 3 → c ≠ 4 → c ≠ 5 → c ≠ 6 → M' c = M1 c := fun c a b d e f => (hG.1 c a b d e f).trans (h4.1 c a b d)
  have hne : ¬ M' 60 19 = 0 := fun z => by
    have := nI_inj (k := 0) (by omega) (by omega) (h19.symm.trans z)
    omega
  have z60 : ∀ k, k ≠ 21 → cx_up (cx_up M' 60 21 (nI pl)) 7 0 (M' 7 0 + 1) 60 k = M' 60 k := fun k hk => by rw [px_upc (by decide), px_up, if_neg (fun z => hk z.2)]
  have zc : ∀ c, c ≠ 60 → c ≠ 7 → cx_up (cx_up M' 60 21 (nI pl)) 7 0 (M' 7 0 + 1) c = M' c := fun c a b => by rw [px_upc b, px_upc a]
  have a60 : ∀ k, k ∉ [10, 12, 13, 14, 15, 16, 17, 18, 19, 20, 21] → cx_up (cx_up M' 60 21 (nI pl)) 7 0 (M' 7 0 + 1) 60 k = M1 60 k := fun k hk => by
    rw [z60 k (fun z => hk (by rw [z]; decide)), k60 k hk]
  have ac : ∀ c, c ≠ 60 → c ≠ 7 → c ≠ 3 → c ≠ 4 → c ≠ 5 → c ≠ 6 → cx_up (cx_up M' 60 21 (nI pl)) 7 0 (M' 7 0 + 1) c = M1 c := fun c a b d e f g => by rw [zc c a b, kc c a d e f g]
  refine ⟨cx_up (cx_up M' 60 21 (nI pl)) 7 0 (M' 7 0 + 1), nI κ, ?_, ?_, by rw [a60 2 (by decide)]; exact h2, fun _ => rfl, fun c hc => by rw [ac c (by omega) (by omega) (by omega) (by omega) (by omega) (by omega)]; exact h3 c hc⟩
  · rw [e]
    unfold tw_line_80
    rw [px_get, if_neg hne]
    simp only [px_get, px_put]
    rw [h20, px_upc (show (7 : Nat) ≠ 60 by decide), z60 19 (by decide), h19]
  · obtain ⟨⟨v1, v2, v3, v4⟩, ⟨b1, b2, b3, b4, b5⟩, r2, r3, r4, r5, r6⟩ := h1
    refine ⟨⟨by rw [ac 8 (by decide) (by decide) (by decide) (by decide) (by decide) (by decide)]; exact v1, by rw [a60 24 (by decide), a60 25 (by decide)]; exact v2, ?_, ?_⟩, ⟨by rw [a60 31 (by decide)]; exact b1, fun j S hS => by rw [ac 33 (by decide) (by decide) (by decide) (by decide) (by decide) (by decide)]; exact b2 j S hS, by rw [a60 32 (by decide)]; exact b3, fun j x hx => by rw [ac 38 (by decide) (by decide) (by decide) (by decide) (by decide) (by decide), ac 39 (by decide) (by decide) (by decide) (by decide) (by decide) (by decide)]; exact b4 j x hx, fun j hj => ?_⟩, by rw [a60 9 (by decide)]; exact r2, ?_, by rw [z60 12 (by decide), hG.2.1 12 (by decide)]; exact h5, fun j hj => by rw [ac 11 (by decide) (by decide) (by decide) (by decide) (by decide) (by decide)]; exact r5 j hj, by rw [px_upc (by decide), px_up, if_pos ⟨rfl, rfl⟩]; rfl⟩
    · refine v3.fr2 (fun k hk => ?_) (fun k hk => ?_) (fun k hk => ⟨?_, ?_⟩) (fun c hc => ?_)
      · rw [zc 3 (by decide) (by decide), hG.2.2.1 k hk, h4.2.2.1 k hk]
      · rw [zc 4 (by decide) (by decide), hG.2.2.2.1 k hk, h4.2.2.2 k hk]
      · rw [zc 5 (by decide) (by decide), (hG.2.2.2.2 k hk).1, h4.1 5 (by decide) (by decide) (by decide)]
      · rw [zc 6 (by decide) (by decide), (hG.2.2.2.2 k hk).2, h4.1 6 (by decide) (by decide) (by decide)]
      · simp only [List.mem_cons, List.not_mem_nil, or_false] at hc
        exact ac c (by omega) (by omega) (by omega) (by omega) (by omega) (by omega)
    · unfold pr_Q at v4 ⊢
      rw [a60 29 (by decide), a60 30 (by decide)]
      exact v4
    · show _ = upd A.1.2.2.2 0 (A.1.2.2.2 0 + 1) j
      unfold upd
      have h7 : ∀ j, j < 3 → M' 7 j = A.1.2.2.2 j := fun j hj => by rw [kc 7 (by decide) (by decide) (by decide) (by decide) (by decide)]; exact b5 j hj
      rw [px_up]
      by_cases c : j = 0
      · rw [if_pos ⟨rfl, c⟩, if_pos c, h7 0 (by decide)]
      · rw [if_neg (fun z => c z.2), if_neg c, px_upc (by decide)]
        exact h7 j hj
    · unfold qr_im at r3 ⊢
      show match A.2.1 with | none => _ | some I => _
      cases hI : A.2.1 with
      | none =>
        rw [hI] at r3
        show cx_up (cx_up M' 60 21 (nI pl)) 7 0 (M' 7 0 + 1) 60 44 = 0
        rw [a60 44 (by decide)]
        exact r3
      | some I =>
        rw [hI] at r3
        obtain ⟨q1, q2, c1, c2, c3, c4, c5⟩ := r3
        refine ⟨by rw [a60 44 (by decide)]; exact q1, by rw [ac 47 (by decide) (by decide) (by decide) (by decide) (by decide) (by decide)]; exact q2, by rw [a60 45 (by decide)]; exact c1, fun j S hS => by rw [ac 48 (by decide) (by decide) (by decide) (by decide) (by decide) (by decide)]; exact c2 j S hS, by rw [a60 46 (by decide)]; exact c3, fun j x hx => by rw [ac 49 (by decide) (by decide) (by decide) (by decide) (by decide) (by decide), ac 50 (by decide) (by decide) (by decide) (by decide) (by decide) (by decide)]; exact c4 j x hx, fun j hj => by rw [ac 51 (by decide) (by decide) (by decide) (by decide) (by decide) (by decide)]; exact c5 j hj⟩
