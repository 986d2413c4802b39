/-! THE FAR END hangs on neither target nor gains -/
theorem ps_put_c {E : ps_E} {S : ps_S} {o w : Int32} {is : Bool} {c : Nat} (h : c = 1 ∨ c = 2 ∨ c = 3) : ps_put E S o w is c = S c := by
  have h0 : c ≠ 0 := by omega
  have h7 : c ≠ 7 := by omega
  have h8 : c ≠ 8 := by omega
  unfold ps_put
  rw [px_upc h0, px_upc h0, px_upc h8, px_upc h7, px_upc h0, px_upc h0, px_upc h0]
theorem ps_end_c {S : ps_S} {c : Nat} (h : c = 1 ∨ c = 2 ∨ c = 3) : ps_end S c = S c := by
  have h0 : c ≠ 0 := by omega
  unfold ps_end
  split
  · rfl
  · rw [ps_empty_0 (by omega) (by omega), px_upc h0, px_upc h0, px_upc h0]
theorem ps_plays_c {E : ps_E} {c : Nat} (h : c = 1 ∨ c = 2 ∨ c = 3) : ∀ (n : Nat) (S : ps_S), ps_plays E n S c = S c := by
  intro n
  induction n with
  | zero => intro S; rfl
  | succ n ih =>
    intro S
    unfold ps_plays
    split
    · rw [ih]
      unfold ps_play
      rw [ps_end_c h, ps_put_c h, px_upc (by omega)]
    · rfl
theorem ps_near_c {E : ps_E} {S : ps_S} {c : Nat} (h : c = 1 ∨ c = 2 ∨ c = 3) : ps_near E S c = S c := by
  unfold ps_near
  split
  · rw [ps_plays_c h, px_upc (by omega), px_upc (by omega)]
  · rfl
theorem ps_steer_c {E : ps_E} {S : ps_S} {c : Nat} (h : c = 1 ∨ c = 2 ∨ c = 3) : ps_steer E S c = S c := by
  have h0 : c ≠ 0 := by omega
  have h6 : c ≠ 6 := by omega
  have hb : ∀ l, ps_begin S l c = S c := by
    intro l
    unfold ps_begin
    split
    · rw [px_upc h0, px_upc h0, px_upc h0, px_upc h0, px_upc h0]
    · rfl
  unfold ps_steer
  try dsimp only
  generalize ps_level E S = l
  have hb := hb l
  generalize ps_begin S l = S1 at hb ⊢
  split
  · unfold ps_turn
    try dsimp only
    rw [px_upc h0, px_upc h6, px_upc h0, px_upc h0, hb]
  · exact hb
def pf_N : List Nat := [0, 1, 2, 3, 22, 24, 25, 26, 27, 31]
def pf_r (t : Nat) (S S' : ps_S) : Prop := (∀ j ∈ pf_N, S' 0 j = S 0 j) ∧ ∀ k, k < t → ∀ c, c = 1 ∨ c = 2 ∨ c = 3 → S' c k = S c k
/-- alike as to the far end -/
def pf_e (S S' : ps_S) : Prop := pf_r (pn (S 0 31)) S S'
theorem pf_r.up {t : Nat} {S S' : ps_S} (h : pf_r t S S') (j : Nat) (v : Int32) : pf_r t (cx_up S 0 j v) (cx_up S' 0 j v) :=
  ⟨fun i hi => by rw [px_up, px_up, h.1 i hi], fun k hk c hc => by rw [px_upc (by omega), px_upc (by omega)]; exact h.2 k hk c hc⟩
theorem pf_r.n {t : Nat} {S S' : ps_S} (h : pf_r t S S') {j : Nat} (hj : j ∈ pf_N) : S' 0 j = S 0 j := h.1 j hj
theorem pf_e.up {S S' : ps_S} (h : pf_e S S') (j : Nat) (v : Int32) (hj : j ≠ 31) : pf_e (cx_up S 0 j v) (cx_up S' 0 j v) := by
  unfold pf_e
  rw [px_up, if_neg (fun z => hj z.2.symm)]
  exact pf_r.up h j v
theorem pf_e.up2 {S S' : ps_S} (h : pf_e S S') {j : Nat} (v : Int32) (hj : j ∉ pf_N) : pf_e S (cx_up S' 0 j v) :=
  ⟨fun i hi => by rw [px_up, if_neg (show ¬ (0 = 0 ∧ i = j) from fun z => hj (z.2 ▸ hi))]; exact h.1 i hi, fun k hk c hc => by rw [px_upc (by omega)]; exact h.2 k hk c hc⟩
theorem pf_e.rf {S : ps_S} : pf_e S S := ⟨fun _ _ => rfl, fun _ _ _ _ => rfl⟩
theorem pf_e.tr {S S1 S2 : ps_S} (h : pf_e S S1) (h2 : pf_e S1 S2) : pf_e S S2 := by
  unfold pf_e at h2
  rw [h.1 31 (by decide)] at h2
  exact ⟨fun j hj => (h2.1 j hj).trans (h.1 j hj), fun k hk c hc => (h2.2 k hk c hc).trans (h.2 k hk c hc)⟩
theorem pf_view {t : Nat} {S S' : ps_S} (h : pf_r t S S') : ps_view S' = ps_view S := by
  funext k
  unfold ps_view
  rw [h.1 2 (by decide), h.1 0 (by decide), h.1 24 (by decide), h.1 31 (by decide)]
theorem pf_fly {S S' : ps_S} (d : Int32) (h : pf_e S S') (h31 : 0 ≤ (S 0 31).toInt ∧ (S 0 31).toInt ≤ 40) : pf_e (ps_fly S d) (ps_fly S' d) := by
  have e31 : pn (S 0 31 + 1) = pn (S 0 31) + 1 := pn_succ (by omega) (by omega)
  have f31 : ps_fly S d 0 31 = S 0 31 + 1 := by
    unfold ps_fly
    rw [px_up, if_pos ⟨rfl, rfl⟩]
  refine ⟨fun j hj => ?_, fun k hk c hc => ?_⟩
  · by_cases e : j = 31
    · subst e
      have f31' : ps_fly S' d 0 31 = S' 0 31 + 1 := by
        unfold ps_fly
        rw [px_up, if_pos ⟨rfl, rfl⟩]
      rw [f31, f31', h.1 31 (by decide)]
    · rw [ps_fly_0 e, ps_fly_0 e, h.1 j hj]
  · rw [f31, e31] at hk
    unfold ps_fly
    rw [h.1 31 (by decide), h.1 2 (by decide), h.1 0 (by decide), h.1 26 (by decide)]
    rw [px_upc (show c ≠ 0 by omega), px_upc (show c ≠ 0 by omega), px_up, px_up, px_up, px_up, px_up, px_up]
    by_cases e : k = pn (S 0 31)
    · rcases hc with rfl | rfl | rfl <;> simp [e]
    · simp only [e, and_false, ↓reduceIte]
      exact h.2 k (by omega) c hc
theorem pf_draw {S S' : ps_S} (h : pf_e S S') : pf_e (ps_draw (S, [])).1 (ps_draw (S', [])).1 := by
  show pf_e (if 0 < S 0 25 then (cx_up S 0 25 (S 0 25 - 1), ([] : List Bool)) else (S, [])).1 (if 0 < S' 0 25 then (cx_up S' 0 25 (S' 0 25 - 1), ([] : List Bool)) else (S', [])).1
  rw [h.1 25 (by decide)]
  split
  · exact h.up 25 _ (by decide)
  · exact h
theorem pf_send {E : ps_E} {S S' : ps_S} (h : pf_e S S') (h31 : 0 ≤ (S 0 31).toInt ∧ (S 0 31).toInt ≤ 40) : pf_e (ps_send E (S, [])).1 (ps_send E (S', [])).1 := by
  have ed : ps_delay E S' = ps_delay E S := by unfold ps_delay; rw [pf_view h]
  have el : ps_isL E (S', []) = ps_isL E (S, []) := by
    have er : ps_rule E S' ↔ ps_rule E S := by
      unfold ps_rule
      rw [pf_view h, h.1 31 (by decide)]
    show (decide (0 < S' 0 25) || decide (ps_rule E S')) = (decide (0 < S 0 25) || decide (ps_rule E S))
    rw [h.1 25 (by decide), decide_eq_decide.mpr er]
  have hd := pf_draw h
  have h31' : (ps_draw (S, [])).1 0 31 = S 0 31 := ps_draw_n (S, []) (by decide)
  unfold ps_send
  try dsimp only
  rw [ed, el]
  generalize (ps_draw (S, [])).1 = D at hd h31' ⊢
  generalize (ps_draw (S', [])).1 = D' at hd ⊢
  have key : ∀ X X' : ps_S, pf_e X X' → pf_e (cx_up (cx_up X 0 24 (ps_delay E S)) 0 2 (X 0 2 + 1)) (cx_up (cx_up X' 0 24 (ps_delay E S)) 0 2 (X' 0 2 + 1)) := by
    intro X X' hX
    rw [hX.1 2 (by decide)]
    exact (hX.up 24 _ (by decide)).up 2 _ (by decide)
  by_cases c : ps_isL E (S, []) = true
  · rw [if_pos c, if_pos c]
    refine key _ _ ?_
    rw [hd.1 3 (by decide)]
    exact hd.up 3 _ (by decide)
  · rw [if_neg c, if_neg c]
    exact key _ _ (pf_fly _ hd (by rw [h31']; exact h31))
theorem ps_J31 {E : ps_E} {S : ps_S} {a p c : Int} (h : ps_J E S a p c) : 0 ≤ (S 0 31).toInt ∧ (S 0 31).toInt ≤ 40 := by
  have := h.1
  unfold ps_Jn at this
  omega
theorem pf_made {E : ps_E} {S S' : ps_S} (h : pf_e S S') (h31 : 0 ≤ (S 0 31).toInt ∧ (S 0 31).toInt ≤ 40) : pf_e (ps_made E (S, [])).1 (ps_made E (S', [])).1 := by
  have h1 := h.up 1 (S 0 1 + 1) (by decide)
  have r (X : ps_S) : cx_up X 0 1 (S 0 1 + 1) 0 1 = S 0 1 + 1 := by rw [px_up, if_pos ⟨rfl, rfl⟩]
  have h31' : 0 ≤ (cx_up S 0 1 (S 0 1 + 1) 0 31).toInt ∧ (cx_up S 0 1 (S 0 1 + 1) 0 31).toInt ≤ 40 := by rw [px_up, if_neg (by decide)]; exact h31
  unfold ps_made
  try dsimp only
  rw [h.1 1 (by decide), r, r]
  split
  · exact pf_send h1 h31'
  · exact h1
theorem ps_T_eta {s : ps_T} (h : s.2 = []) : s = (s.1, []) := by rw [← h]
theorem pf_make {E : ps_E} {p c : Int} : ∀ (n : Nat) (S S' : ps_S) (a : Int), ps_J E S a p c → a + n ≤ 90000 → pf_e S S' → pf_e (ps_make E n (S, [])).1 (ps_make E n (S', [])).1 := by
  intro n
  induction n with
  | zero => intro S S' a _ _ h; exact h
  | succ n ih =>
    intro S S' a hJ ha h
    have m1 : ∀ X : ps_S, ps_make E (n + 1) (X, []) = if X 0 22 < 1000 then (X, []) else ps_make E n (ps_made E (cx_up X 0 22 (X 0 22 - 1000), [])) := fun _ => rfl
    rw [m1, m1]
    have e22 := h.1 22 (by decide)
    by_cases c22 : S 0 22 < 1000
    · rw [if_pos c22, if_pos (by rw [e22]; exact c22)]
      exact h
    · rw [if_neg c22, if_neg (by rw [e22]; exact c22), e22]
      have hJ2 := ps_J_up (k := 22) (S 0 22 - 1000) (by decide) hJ
      have hJ3 := ps_made_J (s := (cx_up S 0 22 (S 0 22 - 1000), [])) hJ2 (by omega)
      have h2 := pf_made (E := E) (h.up 22 (S 0 22 - 1000) (by decide)) (ps_J31 hJ2)
      have e1 := ps_T_eta (ps_made_q (E := E) (cx_up S 0 22 (S 0 22 - 1000)))
      have e2 := ps_T_eta (ps_made_q (E := E) (cx_up S' 0 22 (S 0 22 - 1000)))
      rw [e1, e2]
      exact ih _ _ (a + 1) hJ3 (by omega) h2
theorem pf_evs {E : ps_E} {p c : Int} : ∀ (n : Nat) (S S' : ps_S) (a : Int), ps_J E S a p c → a + n ≤ 90000 → pf_e S S' → ∀ X, ps_evs E n (S', []) X → ∃ X0, ps_evs E n (S, []) X0 ∧ pf_e X0 X := by
  intro n
  induction n with
  | zero => intro S S' a _ _ _ X hX; exact absurd hX (by unfold ps_evs; exact fun z => z)
  | succ n ih =>
    intro S S' a hJ ha h X hX
    unfold ps_evs at hX ⊢
    dsimp only at hX ⊢
    rw [h.1 22 (by decide), h.1 1 (by decide)] at hX
    obtain ⟨h22, hX⟩ := hX
    rcases hX with ⟨hr, hX⟩ | hX
    · exact ⟨_, ⟨h22, Or.inl ⟨hr, rfl⟩⟩, by rw [hX]; exact h.up 1 _ (by decide)⟩
    · have hJ2 := ps_J_up (k := 22) (S 0 22 - 1000) (by decide) hJ
      have hJ3 := ps_made_J (s := (cx_up S 0 22 (S 0 22 - 1000), [])) hJ2 (by omega)
      have h2 := pf_made (E := E) (h.up 22 (S 0 22 - 1000) (by decide)) (ps_J31 hJ2)
      have e1 := ps_T_eta (ps_made_q (E := E) (cx_up S 0 22 (S 0 22 - 1000)))
      have e2 := ps_T_eta (ps_made_q (E := E) (cx_up S' 0 22 (S 0 22 - 1000)))
      rw [e2] at hX
      obtain ⟨X0, a0, b0⟩ := ih _ _ (a + 1) hJ3 (by omega) h2 X hX
      rw [← e1] at a0
      exact ⟨X0, ⟨h22, Or.inr a0⟩, b0⟩
theorem pf_recv {E : ps_E} : ∀ (m k l : Nat) (S S' : ps_S), l ≤ k → k + m ≤ 40 → pf_r (k + m) S S' → pf_e (ps_recv E m k l S) (ps_recv E m k l S') := by
  intro m
  induction m with
  | zero =>
    intro k l S S' hl hk h
    unfold ps_recv pf_e
    have t : (nI l).toInt = (l : Int) := pi_nI (by omega)
    rw [px_up, if_pos ⟨rfl, rfl⟩, show pn (nI l) = l by rw [pn_def, t]; omega]
    refine pf_r.up ⟨fun j hj => by rw [ps_wipe_c (Or.inl rfl), ps_wipe_c (Or.inl rfl)]; exact h.1 j hj, fun i hi c hc => ?_⟩ 31 _
    unfold ps_wipe
    rw [if_neg (by omega), if_neg (by omega)]
    exact h.2 i (by omega) c hc
  | succ m ih =>
    intro k l S S' hl hk h
    unfold ps_recv
    rw [h.2 k (by omega) 2 (by omega), h.1 0 (by decide), h.2 k (by omega) 1 (by omega), h.2 k (by omega) 3 (by omega)]
    split
    · refine ih (k + 1) l _ _ (by omega) (by omega) ⟨fun j hj => ?_, fun i hi c hc => ?_⟩
      · have n0 : ∀ j ∈ pf_N, j ∉ [14, 8, 16, 15, 17, 18, 19, 20, 21, 4, 5, 35] := by decide
        rw [ps_come_0 (n0 j hj), ps_come_0 (n0 j hj)]
        exact h.1 j hj
      · rw [ps_come_c (by omega) (by omega) (by omega), ps_come_c (by omega) (by omega) (by omega)]
        exact h.2 i (by omega) c hc
    · refine ih (k + 1) (l + 1) _ _ (by omega) (by omega) ⟨fun j hj => ?_, fun i hi c hc => ?_⟩
      · rw [ps_move_c (Or.inl rfl), ps_move_c (Or.inl rfl)]
        exact h.1 j hj
      · unfold ps_move
        rw [h.2 k (by omega) 1 (by omega), h.2 k (by omega) 2 (by omega), h.2 k (by omega) 3 (by omega), px_up, px_up, px_up, px_up, px_up, px_up, h.2 i (by omega) c hc]
theorem pf_step {E : ps_E} {S S' : ps_S} {T : Nat} (hI : ps_I E S T) (hT : T + 1 ≤ 22000) (h : pf_e S S') : pf_e (ps_step E (S, [])).1 (ps_step E (S', [])).1 := by
  obtain ⟨hJ, -⟩ := hI
  have J0 : ps_J E (cx_up S 0 35 0) (3 * T) (4 * T) (40 * T) := ps_J_up _ (by decide) hJ
  have h0 : pf_e (cx_up S 0 35 0) (cx_up S' 0 35 0) := h.up 35 _ (by decide)
  have J1 : ps_J E (ps_far E (cx_up S 0 35 0, [])).1 (3 * T + 3) (4 * T) (40 * T) := ps_far_J (s := (cx_up S 0 35 0, [])) J0 (by omega)
  have h1 : pf_e (ps_far E (cx_up S 0 35 0, [])).1 (ps_far E (cx_up S' 0 35 0, [])).1 := by
    unfold ps_far
    try dsimp only
    rw [h0.1 22 (by decide), h0.1 27 (by decide)]
    exact pf_make 3 _ _ (3 * T) (ps_J_up _ (by decide) J0) (by omega) (h0.up 22 _ (by decide))
  unfold ps_step
  try dsimp only
  generalize (ps_far E (cx_up S 0 35 0, [])).1 = F at J1 h1 ⊢
  generalize (ps_far E (cx_up S' 0 35 0, [])).1 = F' at h1 ⊢
  have b31 := ps_J31 J1
  have h2 : pf_e (ps_recv E (pn (F 0 31)) 0 0 F) (ps_recv E (pn (F' 0 31)) 0 0 F') := by
    rw [h1.1 31 (by decide)]
    exact pf_recv _ 0 0 F F' (by omega) (by rw [pn_def]; omega) (by rw [Nat.zero_add]; exact h1)
  generalize ps_recv E (pn (F 0 31)) 0 0 F = R at h2 ⊢
  generalize ps_recv E (pn (F' 0 31)) 0 0 F' = R' at h2 ⊢
  have nb : ∀ j ∈ pf_N, j ∉ [8, 23, 10, 9, 11, 32] ∧ j ∉ [13, 7, 30, 6, 14, 8, 12, 23, 11] := by decide
  have g (X : ps_S) (j : Nat) (hj : j ∈ pf_N) : ps_near E (ps_steer E X) 0 j = X 0 j := by rw [ps_near_0 (nb j hj).2, ps_steer_0 (nb j hj).1]
  have h3 : pf_e (ps_near E (ps_steer E R)) (ps_near E (ps_steer E R')) := by
    refine ⟨fun j hj => by rw [g R j hj, g R' j hj]; exact h2.1 j hj, fun k hk c hc => ?_⟩
    rw [g R 31 (by decide)] at hk
    rw [ps_near_c hc, ps_near_c hc, ps_steer_c hc, ps_steer_c hc]
    exact h2.2 k hk c hc
  rw [h3.1 0 (by decide)]
  exact h3.up 0 _ (by decide)
theorem pf_steps {E : ps_E} {S S' : ps_S} {T : Nat} (hE : ps_EO E) (hI : ps_I E S T) (h : pf_e S S') : ∀ n, T + n ≤ 22000 → pf_e (ps_steps E n (S, [])).1 (ps_steps E n (S', [])).1
  | 0, _ => h
  | n + 1, hn => by
    have h1 := pf_steps hE hI h n (by omega)
    have hIn := ps_steps_I (s := (S, [])) hE hI n (by omega)
    show pf_e (ps_step E (ps_steps E n (S, []))).1 (ps_step E (ps_steps E n (S', []))).1
    rw [ps_T_eta (ps_steps_q (E := E) (s := (S, [])) rfl n), ps_T_eta (ps_steps_q (E := E) (s := (S', [])) rfl n)]
    exact pf_step hIn (by omega) h1
/-- the states in which rules are asked, from S on -/
def pf_G (E : ps_E) (S : ps_S) (n : Nat) (X : ps_S) : Prop := ∃ i X0, i < n ∧ ps_ev E (ps_steps E i (S, [])) X0 ∧ pf_e X0 X
theorem pf_G_run {E : ps_E} {S S' : ps_S} {T n : Nat} (hE : ps_EO E) (hI : ps_I E S T) (hT : T + n ≤ 22000) (h : pf_e S S') (i : Nat) (hi : i < n) (X : ps_S) (hX : ps_ev E (ps_steps E i (S', [])) X) : pf_G E S n X := by
  have h1 := pf_steps hE hI h i (by omega)
  have hIi := ps_steps_I (s := (S, [])) hE hI i (by omega)
  have e1 := ps_steps_q (E := E) (s := (S, [])) rfl i
  have e2 := ps_steps_q (E := E) (s := (S', [])) rfl i
  unfold ps_ev at hX
  rw [e2, h1.1 22 (by decide), h1.1 27 (by decide)] at hX
  obtain ⟨X0, a0, b0⟩ := pf_evs 3 _ _ (3 * ((T + i : Nat) : Int)) (ps_J_up (k := 22) ((ps_steps E i (S, [])).1 0 22 + (1000 + (ps_steps E i (S, [])).1 0 27)) (by decide) (ps_J_up (k := 35) 0 (by decide) hIi.1)) (by omega) ((h1.up 35 0 (by decide)).up 22 _ (by decide)) X hX
  refine ⟨i, X0, hi, ?_, b0⟩
  unfold ps_ev
  rw [e1]
  exact a0
theorem ps_J2 {E : ps_E} {S : ps_S} {a p c : Int} (h : ps_J E S a p c) : 0 ≤ (S 0 2).toInt ∧ (S 0 2).toInt ≤ 90000 := by
  have := h.1
  unfold ps_Jn at this
  omega
theorem ps_made_2 {E : ps_E} {S : ps_S} : (ps_made E (S, [])).1 0 2 = if cx_rem (S 0 1 + 1) (E.1 0) = 0 then S 0 2 + 1 else S 0 2 := by
  have r : cx_up S 0 1 (S 0 1 + 1) 0 1 = S 0 1 + 1 := by rw [px_up, if_pos ⟨rfl, rfl⟩]
  have d2 := ps_draw_n (cx_up S 0 1 (S 0 1 + 1), []) (k := 2) (by decide)
  have r2 : cx_up S 0 1 (S 0 1 + 1) 0 2 = S 0 2 := by rw [px_up, if_neg (by decide)]
  unfold ps_made
  try dsimp only
  rw [r]
  split
  · unfold ps_send
    try dsimp only
    rw [px_up, if_pos ⟨rfl, rfl⟩]
    split
    · rw [px_up, if_neg (by decide), d2]
      exact congrArg (· + 1) r2
    · rw [ps_fly_0 (by decide), d2]
      exact congrArg (· + 1) r2
  · exact r2
theorem ps_evs_2 {E : ps_E} {p c : Int} : ∀ (n : Nat) (S : ps_S) (a : Int), ps_J E S a p c → a + n ≤ 90000 →
    (∀ X, ps_evs E n (S, []) X → (S 0 2).toInt ≤ (X 0 2).toInt ∧ (X 0 2).toInt < ((ps_make E n (S, [])).1 0 2).toInt) ∧ (S 0 2).toInt ≤ ((ps_make E n (S, [])).1 0 2).toInt ∧ ∀ X Y, ps_evs E n (S, []) X → ps_evs E n (S, []) Y → X 0 2 = Y 0 2 → X = Y := by
  intro n
  induction n with
  | zero =>
    intro S a _ _
    have no : ∀ X, ¬ ps_evs E 0 (S, []) X := fun X z => by unfold ps_evs at z; exact z
    exact ⟨fun X z => absurd z (no X), Int.le_refl _, fun X Y z => absurd z (no X)⟩
  | succ n ih =>
    intro S a hJ ha
    by_cases c22 : S 0 22 < 1000
    · have no : ∀ X, ¬ ps_evs E (n + 1) (S, []) X := fun X z => by unfold ps_evs at z; exact z.1 c22
      refine ⟨fun X z => absurd z (no X), ?_, fun X Y z => absurd z (no X)⟩
      unfold ps_make
      rw [if_pos c22]
      exact Int.le_refl _
    · have hJ2 := ps_J_up (k := 22) (S 0 22 - 1000) (by decide) hJ
      have hJ3 := ps_made_J (s := (cx_up S 0 22 (S 0 22 - 1000), [])) hJ2 (by omega)
      have e1 := ps_T_eta (ps_made_q (E := E) (cx_up S 0 22 (S 0 22 - 1000)))
      have q2 : (ps_made E (cx_up S 0 22 (S 0 22 - 1000), [])).1 0 2 = if cx_rem (S 0 1 + 1) (E.1 0) = 0 then S 0 2 + 1 else S 0 2 := by
        rw [ps_made_2, px_up, if_neg (show ¬ ((0 : Nat) = 0 ∧ 1 = 22) by decide), px_up, if_neg (show ¬ ((0 : Nat) = 0 ∧ 2 = 22) by decide)]
      have b2 := ps_J2 hJ
      have s2 : (S 0 2 + 1).toInt = (S 0 2).toInt + 1 := pi_succ (by omega) (by omega)
      obtain ⟨i1, i2, i3⟩ := ih _ (a + 1) hJ3 (by omega)
      rw [← e1] at i1 i2 i3
      have em : ps_make E (n + 1) (S, []) = ps_make E n (ps_made E (cx_up S 0 22 (S 0 22 - 1000), [])) := by
        show (if S 0 22 < 1000 then (S, []) else _) = _
        rw [if_neg c22]
      have ev : ∀ X, ps_evs E (n + 1) (S, []) X ↔ (cx_rem (S 0 1 + 1) (E.1 0) = 0 ∧ X = cx_up S 0 1 (S 0 1 + 1)) ∨ ps_evs E n (ps_made E (cx_up S 0 22 (S 0 22 - 1000), [])) X :=
        fun X => ⟨fun z => z.2, fun z => ⟨c22, z⟩⟩
      rw [em]
      generalize ps_made E (cx_up S 0 22 (S 0 22 - 1000), []) = t at q2 i1 i2 i3 ev ⊢
      have x2 : ∀ X, X = cx_up S 0 1 (S 0 1 + 1) → X 0 2 = S 0 2 := fun X hX => by rw [hX, px_up, if_neg (by decide)]
      have l2 : (S 0 2).toInt ≤ (t.1 0 2).toInt := by
        rw [q2]
        split
        · rw [s2]; omega
        · exact Int.le_refl _
      refine ⟨fun X hX => ?_, by omega, fun X Y hX hY e => ?_⟩
      · rcases (ev X).mp hX with ⟨r, hX⟩ | hX
        · rw [if_pos r] at q2
          rw [x2 X hX]
          rw [q2, s2] at i2
          omega
        · have := i1 X hX
          omega
      · rcases (ev X).mp hX with ⟨r, hX⟩ | hX
        · rcases (ev Y).mp hY with ⟨-, hY⟩ | hY
          · rw [hX, hY]
          · have := i1 Y hY
            rw [if_pos r] at q2
            rw [← e, x2 X hX, q2, s2] at this
            omega
        · rcases (ev Y).mp hY with ⟨r, hY⟩ | hY
          · have := i1 X hX
            rw [if_pos r] at q2
            rw [e, x2 Y hY, q2, s2] at this
            omega
          · exact i3 X Y hX hY e
theorem ps_ev_2 {E : ps_E} {S : ps_S} {T : Nat} (hI : ps_I E S T) (hT : T + 1 ≤ 22000) :
    (∀ X, ps_ev E (S, []) X → (S 0 2).toInt ≤ (X 0 2).toInt ∧ (X 0 2).toInt < ((ps_step E (S, [])).1 0 2).toInt) ∧ (S 0 2).toInt ≤ ((ps_step E (S, [])).1 0 2).toInt ∧ ∀ X Y, ps_ev E (S, []) X → ps_ev E (S, []) Y → X 0 2 = Y 0 2 → X = Y := by
  have J0 := ps_J_up (k := 22) (S 0 22 + (1000 + S 0 27)) (by decide) (ps_J_up (k := 35) 0 (by decide) hI.1)
  have h := ps_evs_2 3 _ (3 * T) J0 (by omega)
  have e2 : cx_up (cx_up S 0 35 0) 0 22 (S 0 22 + (1000 + S 0 27)) 0 2 = S 0 2 := by rw [px_up, px_up, if_neg (by decide), if_neg (by decide)]
  have es : (ps_step E (S, [])).1 0 2 = (ps_make E 3 (cx_up (cx_up S 0 35 0) 0 22 (S 0 22 + (1000 + S 0 27)), [])).1 0 2 := by
    unfold ps_step
    try dsimp only
    rw [px_up, if_neg (by decide), ps_near_0 (by decide), ps_steer_0 (by decide), ps_recv_0 (by decide)]
    unfold ps_far
    try dsimp only
    rw [show cx_up S 0 35 0 0 22 = S 0 22 by rw [px_up, if_neg (by decide)], show cx_up S 0 35 0 0 27 = S 0 27 by rw [px_up, if_neg (by decide)]]
  rw [e2, ← es] at h
  exact h
theorem ps_steps_2 {E : ps_E} {S : ps_S} {T : Nat} (hE : ps_EO E) (hI : ps_I E S T) (i : Nat) : ∀ d, T + (i + d) ≤ 22000 → ((ps_steps E i (S, [])).1 0 2).toInt ≤ ((ps_steps E (i + d) (S, [])).1 0 2).toInt
  | 0, _ => Int.le_refl _
  | d + 1, h => by
    have h1 := ps_steps_2 hE hI i d (by omega)
    have h2 := ps_ev_2 (ps_steps_I (s := (S, [])) hE hI (i + d) (by omega)) (by omega)
    rw [← ps_T_eta (ps_steps_q (E := E) (s := (S, [])) rfl (i + d))] at h2
    exact Int.le_trans h1 h2.2.1
theorem pf_G_view {E : ps_E} {S : ps_S} {T n : Nat} (hE : ps_EO E) (hI : ps_I E S T) (hT : T + n ≤ 22000) {X Y : ps_S} (hX : pf_G E S n X) (hY : pf_G E S n Y) (e : X 0 2 = Y 0 2) : ps_view X = ps_view Y := by
  obtain ⟨i, X0, hi, a, b⟩ := hX
  obtain ⟨j, Y0, hj, c, d⟩ := hY
  have e0 : X0 0 2 = Y0 0 2 := by rw [← b.1 2 (by decide), e, d.1 2 (by decide)]
  have fi := ps_ev_2 (ps_steps_I (s := (S, [])) hE hI i (by omega)) (by omega)
  have fj := ps_ev_2 (ps_steps_I (s := (S, [])) hE hI j (by omega)) (by omega)
  rw [← ps_T_eta (ps_steps_q (E := E) (s := (S, [])) rfl i)] at fi
  rw [← ps_T_eta (ps_steps_q (E := E) (s := (S, [])) rfl j)] at fj
  have bx := fi.1 X0 a
  have by' := fj.1 Y0 c
  rw [← e0] at by'
  have ne : ∀ p q : Nat, p < q → q < n → ((ps_step E (ps_steps E p (S, []))).1 0 2).toInt ≤ ((ps_steps E q (S, [])).1 0 2).toInt := by
    intro p q h1 h2
    have := ps_steps_2 hE hI (p + 1) (q - (p + 1)) (by omega)
    rw [show p + 1 + (q - (p + 1)) = q by omega] at this
    exact this
  have eij : i = j := by
    rcases Nat.lt_trichotomy i j with l | l | l
    · have := ne i j l hj
      omega
    · exact l
    · have := ne j i l hi
      omega
  subst eij
  rw [pf_view b, pf_view d, fi.2.2 X0 Y0 a c e0]
