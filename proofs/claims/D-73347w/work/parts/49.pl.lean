/-! STEPS: what they keep, what only grows -/
theorem ps_step_0 {E : ps_E} {s : ps_T} {j : Nat} (h : j ∈ [26, 27, 28, 29, 33, 34]) : (ps_step E s).1 0 j = s.1 0 j := by
  have nb : ∀ j ∈ [26, 27, 28, 29, 33, 34], j ∉ [25, 3, 31, 24, 2, 1, 22] ∧ j ∉ [14, 8, 16, 15, 17, 18, 19, 20, 21, 4, 5, 35, 31] ∧ j ∉ [8, 23, 10, 9, 11, 32] ∧ j ∉ [13, 7, 30, 6, 14, 8, 12, 23, 11] ∧ j ≠ 0 ∧ j ≠ 35 := by decide
  obtain ⟨n1, n2, n3, n4, n5, n6⟩ := nb j h
  unfold ps_step
  try dsimp only
  rw [px_up, if_neg (fun z => n5 z.2), ps_near_0 n4, ps_steer_0 n3, ps_recv_0 n2, ps_far_0 n1]
  show cx_up s.1 0 35 0 0 j = _
  rw [px_up, if_neg (fun z => n6 z.2)]
theorem ps_steps_0 {E : ps_E} {s : ps_T} {j : Nat} (h : j ∈ [26, 27, 28, 29, 33, 34]) : ∀ n, (ps_steps E n s).1 0 j = s.1 0 j
  | 0 => rfl
  | n + 1 => by
    show (ps_step E (ps_steps E n s)).1 0 j = _
    rw [ps_step_0 h, ps_steps_0 h n]
theorem ps_draw_q (S : ps_S) : (ps_draw (S, [])).2 = [] := by
  unfold ps_draw
  split
  · next h => exact absurd h (by simp)
  · split <;> rfl
theorem ps_made_q {E : ps_E} (S : ps_S) : (ps_made E (S, [])).2 = [] := by
  unfold ps_made
  try dsimp only
  split
  · unfold ps_send
    try dsimp only
    exact ps_draw_q _
  · rfl
theorem ps_make_q {E : ps_E} : ∀ (n : Nat) (s : ps_T), s.2 = [] → (ps_make E n s).2 = [] := by
  intro n
  induction n with
  | zero => intro s h; exact h
  | succ n ih =>
    intro s h
    unfold ps_make
    split
    · exact h
    · apply ih
      rw [h]
      exact ps_made_q _
theorem ps_step_q {E : ps_E} {s : ps_T} (h : s.2 = []) : (ps_step E s).2 = [] := by
  unfold ps_step
  try dsimp only
  unfold ps_far
  exact ps_make_q 3 _ h
theorem ps_steps_q {E : ps_E} {s : ps_T} (h : s.2 = []) : ∀ n, (ps_steps E n s).2 = []
  | 0 => h
  | n + 1 => ps_step_q (ps_steps_q h n)
theorem ps_step_35 (E : ps_E) (S : ps_S) (q : List Bool) (v : Int32) : ps_step E (cx_up S 0 35 v, q) = ps_step E (S, q) := by
  unfold ps_step
  try dsimp only
  rw [px_upup]
theorem ps_steps_35 (E : ps_E) (S : ps_S) (q : List Bool) (v : Int32) (n : Nat) (h : 0 < n) : ps_steps E n (cx_up S 0 35 v, q) = ps_steps E n (S, q) := by
  obtain ⟨n, rfl⟩ : ∃ m, n = m + 1 := ⟨n - 1, by omega⟩
  rw [ps_steps_succ, ps_steps_succ, ps_step_35]
/-- what was dropped -/
def ps_D (S : ps_S) : Int := (S 0 4).toInt + (S 0 5).toInt
theorem ps_come_D {E : ps_E} {S : ps_S} {a p c : Int} {pk st : Int32} (hE : ps_EO E) (h : ps_J E S a p c) (hp : 0 ≤ pk.toInt ∧ pk.toInt ≤ 90000) (hst : 0 ≤ st.toInt ∧ st.toInt ≤ 255) :
    (ps_D (ps_come E S pk st) = ps_D S ∧ ps_come E S pk st 0 35 = S 0 35) ∨ (ps_D (ps_come E S pk st) = ps_D S + 1 ∧ ps_come E S pk st 0 35 = 1) := by
  have h1 : ∀ j ∈ [4, 5, 35], (if S 0 8 = 0 then ps_first E S pk st else S) 0 j = S 0 j := by
    intro j hj
    split
    · exact ps_first_0 ((by decide : ∀ j ∈ [4, 5, 35], j ∉ [14, 8, 16, 15, 17, 18, 19, 20, 21]) j hj)
    · rfl
  have hn := h.1
  unfold ps_Jn at hn
  have g4 := h1 4 (by decide)
  have g5 := h1 5 (by decide)
  have g35 := h1 35 (by decide)
  unfold ps_come ps_come2
  try dsimp only
  generalize (if S 0 8 = 0 then ps_first E S pk st else S) = S1 at h1 g4 g5 g35 ⊢
  unfold ps_D
  split
  · split
    · left
      rw [ps_lay_0 (by decide), ps_lay_0 (by decide), ps_lay_0 (by decide), g4, g5, g35]
      exact ⟨rfl, rfl⟩
    · right
      have e5 : (S1 0 5 + 1).toInt = (S1 0 5).toInt + 1 := pi_succ (by rw [g5]; omega) (by rw [g5]; omega)
      refine ⟨?_, ?_⟩
      · simp (decide := true) only [px_up, false_and, and_false, true_and, and_true, ↓reduceIte]
        rw [e5, g4, g5]
        omega
      · simp (decide := true) only [px_up, false_and, and_false, true_and, and_true, ↓reduceIte]
  · right
    have e4 : (S1 0 4 + 1).toInt = (S1 0 4).toInt + 1 := pi_succ (by rw [g4]; omega) (by rw [g4]; omega)
    refine ⟨?_, ?_⟩
    · simp (decide := true) only [px_up, false_and, and_false, true_and, and_true, ↓reduceIte]
      rw [e4, g4, g5]
      omega
    · simp (decide := true) only [px_up, false_and, and_false, true_and, and_true, ↓reduceIte]
theorem ps_recv_D {E : ps_E} {a p : Int} (hE : ps_EO E) : ∀ (m k l : Nat) (S : ps_S) (c : Int), ps_J E S a p c → pn (S 0 31) = k + m → l ≤ k → c + m ≤ 2000000 → (S 0 35 = 0 ∨ S 0 35 = 1) →
    (ps_D (ps_recv E m k l S) = ps_D S ∧ ps_recv E m k l S 0 35 = S 0 35) ∨ (ps_D S < ps_D (ps_recv E m k l S) ∧ ps_recv E m k l S 0 35 = 1) := by
  intro m
  induction m with
  | zero =>
    intro k l S c h h31 hl hc h35
    left
    unfold ps_recv ps_D
    rw [px_up, px_up, px_up, if_neg (by decide), if_neg (by decide), if_neg (by decide), ps_wipe_c (Or.inl rfl)]
    exact ⟨rfl, rfl⟩
  | succ m ih =>
    intro k l S c h h31 hl hc h35
    have hk := h.2.1 k (by omega)
    unfold ps_recv
    split
    · have hd := ps_come_D hE h hk.1 hk.2
      have h35' : ps_come E S (S 1 k) (S 3 k) 0 35 = 0 ∨ ps_come E S (S 1 k) (S 3 k) 0 35 = 1 := by
        rcases hd with d | d
        · rw [d.2]; exact h35
        · exact Or.inr d.2
      have := ih (k + 1) l _ (c + 1) (ps_come_J hE h hk.1 hk.2 (by omega)) (by rw [ps_come_0 (by decide)]; omega) (by omega) (by omega) h35'
      rcases this with t | t
      · rcases hd with d | d
        · left; exact ⟨by rw [t.1, d.1], by rw [t.2, d.2]⟩
        · right; exact ⟨by rw [t.1, d.1]; omega, by rw [t.2, d.2]⟩
      · right
        rcases hd with d | d
        · exact ⟨by rw [d.1] at t; exact t.1, t.2⟩
        · refine ⟨?_, t.2⟩
          have := t.1
          rw [d.1] at this
          omega
    · have hk40 : k + (m + 1) ≤ 40 := by
        have := h.1
        unfold ps_Jn at this
        rw [pn_def] at h31
        omega
      have h0 : ps_move S k l 0 = S 0 := ps_move_c (Or.inl rfl)
      have hm : ps_J E (ps_move S k l) a p c := by
        obtain ⟨hn, hf, hsl, hb⟩ := h
        refine ⟨?_, ?_, ?_, ?_⟩
        · unfold ps_Jn at hn ⊢
          rw [h0]
          exact hn
        · intro j hj
          rw [h0] at hj
          unfold ps_move
          simp (decide := true) only [px_up, false_and, and_false, true_and, and_true, ↓reduceIte]
          by_cases ej : j = l
          · simp only [ej, and_self, ↓reduceIte, true_and]
            exact hk
          · simp only [ej, and_false, ↓reduceIte]
            exact hf j hj
        · unfold ps_Js at hsl ⊢
          rw [h0, ps_move_c (by omega), ps_move_c (by omega)]
          exact hsl
        · unfold ps_Jb at hb ⊢
          rw [ps_move_c (by omega)]
          exact hb
      have hD : ps_D (ps_move S k l) = ps_D S := by unfold ps_D; rw [h0]
      have := ih (k + 1) (l + 1) _ c hm (by rw [h0]; omega) (by omega) (by omega) (by rw [h0]; exact h35)
      rw [hD, h0] at this
      exact this
theorem ps_play_7 {E : ps_E} {S : ps_S} {a p c : Int} (h : ps_J E S a p c) : (S 0 7).toInt ≤ (ps_play E S 0 7).toInt ∧ (S 0 12).toInt ≤ (ps_play E S 0 12).toInt := by
  have hn := h.1
  unfold ps_Jn at hn
  have e7 : (S 0 7 + 1).toInt = (S 0 7).toInt + 1 := pi_succ (by omega) (by omega)
  have e12 : (S 0 12 + 1).toInt = (S 0 12).toInt + 1 := pi_succ (by omega) (by omega)
  obtain ⟨o, w, e⟩ := ps_play_eq E S
  rw [e]
  generalize decide (ps_is E S) = is
  have p7 : ps_put E S o w is 0 7 = if is = true then S 0 7 else S 0 7 + 1 := by
    unfold ps_put
    simp (decide := true) only [px_up, false_and, and_false, true_and, and_true, ↓reduceIte]
  have p12 : ps_put E S o w is 0 12 = S 0 12 := by
    unfold ps_put
    simp (decide := true) only [px_up, false_and, and_false, true_and, and_true, ↓reduceIte]
  have q7 : (S 0 7).toInt ≤ (ps_put E S o w is 0 7).toInt := by
    rw [p7]
    split
    · exact Int.le_refl _
    · rw [e7]; omega
  unfold ps_end
  split
  · rw [p12]; exact ⟨q7, Int.le_refl _⟩
  · rw [ps_empty_0 (by decide) (by decide)]
    simp (decide := true) only [px_up, false_and, and_false, true_and, and_true, ↓reduceIte]
    rw [p12, e12]
    exact ⟨q7, by omega⟩
theorem ps_plays_7 {E : ps_E} {a c : Int} : ∀ (n : Nat) (S : ps_S) (p : Int), ps_J E S a p c → p + n ≤ 90000 → (S 0 7).toInt ≤ (ps_plays E n S 0 7).toInt ∧ (S 0 12).toInt ≤ (ps_plays E n S 0 12).toInt := by
  intro n
  induction n with
  | zero => intro S p h hp; exact ⟨Int.le_refl _, Int.le_refl _⟩
  | succ n ih =>
    intro S p h hp
    unfold ps_plays
    split
    · next hc =>
      have h8 : cx_up S 0 23 (S 0 23 - 1000) 0 8 = 2 := by
        rw [px_up, if_neg (by decide)]
        exact hc.2
      have hJ := ps_J_up (k := 23) (S 0 23 - 1000) (by decide) h
      have h1 := ps_play_7 hJ
      rw [px_up, px_up, if_neg (by decide), if_neg (by decide)] at h1
      have h2 := ih _ (p + 1) (ps_play_J hJ (by omega) h8) (by omega)
      omega
    · exact ⟨Int.le_refl _, Int.le_refl _⟩
theorem ps_near_7 {E : ps_E} {S : ps_S} {a p c : Int} (h : ps_J E S a p c) (hp : p + 3 ≤ 90000) : (S 0 7).toInt ≤ (ps_near E S 0 7).toInt ∧ (S 0 12).toInt ≤ (ps_near E S 0 12).toInt := by
  unfold ps_near
  split
  · have := ps_plays_7 3 _ p (ps_J_up (k := 11) (S 0 11 + (S 0 27 - S 0 9)) (by decide) (ps_J_up (k := 23) (S 0 23 + (1000 + S 0 9)) (by decide) h)) hp
    rw [px_up, px_up, px_up, px_up, if_neg (by decide), if_neg (by decide), if_neg (by decide), if_neg (by decide)] at this
    exact this
  · exact ⟨Int.le_refl _, Int.le_refl _⟩
/-- what a step lets grow: filled, resets; dropped, as it says -/
theorem ps_step_mono {E : ps_E} {s : ps_T} {T : Nat} (hE : ps_EO E) (h : ps_I E s.1 T) (hT : T + 1 ≤ 22000) :
    (s.1 0 7).toInt ≤ ((ps_step E s).1 0 7).toInt ∧ (s.1 0 12).toInt ≤ ((ps_step E s).1 0 12).toInt ∧ ((ps_D (ps_step E s).1 = ps_D s.1 ∧ (ps_step E s).1 0 35 = 0) ∨ (ps_D s.1 < ps_D (ps_step E s).1 ∧ (ps_step E s).1 0 35 = 1)) := by
  obtain ⟨hJ, h0, -, h22, h23⟩ := h
  have hJ0 : ps_J E (cx_up s.1 0 35 0) (3 * T) (4 * T) (40 * T) := ps_J_up _ (by decide) hJ
  have J1 := ps_far_J (s := (cx_up s.1 0 35 0, s.2)) hJ0 (by omega)
  have g (j : Nat) (hj : j ∉ [25, 3, 31, 24, 2, 1, 22, 35]) : (ps_far E (cx_up s.1 0 35 0, s.2)).1 0 j = s.1 0 j := by
    rw [ps_far_0 (fun z => hj (List.mem_append_left [35] z))]
    show cx_up s.1 0 35 0 0 j = _
    rw [px_up, if_neg (fun z => hj (by rw [z.2]; decide))]
  have g35 : (ps_far E (cx_up s.1 0 35 0, s.2)).1 0 35 = 0 := by
    rw [ps_far_0 (by decide)]
    show cx_up s.1 0 35 0 0 35 = _
    rw [px_up, if_pos ⟨rfl, rfl⟩]
  have g7 := g 7 (by decide)
  have g12 := g 12 (by decide)
  have gD : ps_D (ps_far E (cx_up s.1 0 35 0, s.2)).1 = ps_D s.1 := by unfold ps_D; rw [g 4 (by decide), g 5 (by decide)]
  unfold ps_step
  try dsimp only
  generalize ps_far E (cx_up s.1 0 35 0, s.2) = t at J1 g7 g12 gD g35 ⊢
  have h40 : pn (t.1 0 31) ≤ 40 := by
    have := J1.1
    unfold ps_Jn at this
    rw [pn_def]
    omega
  have J2 := ps_recv_J hE (pn (t.1 0 31)) 0 0 t.1 _ J1 (by omega) (by omega) (by omega)
  have hD := ps_recv_D hE (pn (t.1 0 31)) 0 0 t.1 _ J1 (by omega) (by omega) (by omega) (Or.inl g35)
  have r7 : ps_recv E (pn (t.1 0 31)) 0 0 t.1 0 7 = t.1 0 7 := ps_recv_0 (by decide) _ _ _ _
  have r12 : ps_recv E (pn (t.1 0 31)) 0 0 t.1 0 12 = t.1 0 12 := ps_recv_0 (by decide) _ _ _ _
  generalize ps_recv E (pn (t.1 0 31)) 0 0 t.1 = R at J2 hD r7 r12 ⊢
  have J3 := ps_steer_J J2 (by omega)
  have s7 : ps_steer E R 0 7 = R 0 7 := ps_steer_0 (by decide)
  have s12 : ps_steer E R 0 12 = R 0 12 := ps_steer_0 (by decide)
  have s4 : ps_steer E R 0 4 = R 0 4 := ps_steer_0 (by decide)
  have s5 : ps_steer E R 0 5 = R 0 5 := ps_steer_0 (by decide)
  have s35 : ps_steer E R 0 35 = R 0 35 := ps_steer_0 (by decide)
  generalize ps_steer E R = G at J3 s7 s12 s4 s5 s35 ⊢
  have n7 := ps_near_7 J3 (by omega)
  have n4 : ps_near E G 0 4 = G 0 4 := ps_near_0 (by decide)
  have n5 : ps_near E G 0 5 = G 0 5 := ps_near_0 (by decide)
  have n35 : ps_near E G 0 35 = G 0 35 := ps_near_0 (by decide)
  generalize ps_near E G = K at n7 n4 n5 n35 ⊢
  have eD : ps_D (cx_up K 0 0 (K 0 0 + 1)) = ps_D R := by
    unfold ps_D
    rw [px_up, px_up, if_neg (by decide), if_neg (by decide), n4, n5, s4, s5]
  rw [eD]
  simp (decide := true) only [px_up, false_and, and_false, true_and, and_true, ↓reduceIte]
  rw [n35, s35]
  rw [s7, r7, g7, s12, r12, g12] at n7
  refine ⟨n7.1, n7.2, ?_⟩
  rw [gD, g35] at hD
  exact hD
theorem ps_steps_mono {E : ps_E} {s : ps_T} {T : Nat} (hE : ps_EO E) (h : ps_I E s.1 T) : ∀ n, T + n ≤ 22000 → (s.1 0 7).toInt ≤ ((ps_steps E n s).1 0 7).toInt ∧ (s.1 0 12).toInt ≤ ((ps_steps E n s).1 0 12).toInt ∧ ps_D s.1 ≤ ps_D (ps_steps E n s).1
  | 0, _ => ⟨Int.le_refl _, Int.le_refl _, Int.le_refl _⟩
  | n + 1, hn => by
    have h1 := ps_steps_mono hE h n (by omega)
    have h2 := ps_step_mono hE (ps_steps_I hE h n (by omega)) (by omega)
    refine ⟨Int.le_trans h1.1 h2.1, Int.le_trans h1.2.1 h2.2.1, ?_⟩
    rcases h2.2.2 with d | d
    · have : ps_D (ps_steps E (n + 1) s).1 = ps_D (ps_steps E n s).1 := d.1
      omega
    · have : ps_D (ps_steps E n s).1 < ps_D (ps_steps E (n + 1) s).1 := d.1
      omega
