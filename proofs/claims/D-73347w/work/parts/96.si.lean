/-! SAMPLES ARE SMALL; what holds at the loop's head -/
def pl_V (S : ps_S) (T : Nat) : Prop := (-(300 * (T : Int)) ≤ (S 0 11).toInt ∧ (S 0 11).toInt ≤ 300 * (T : Int)) ∧ ∀ k, k < 128 → -(300 * (T : Int)) ≤ (S 6 k).toInt ∧ (S 6 k).toInt ≤ 300 * (T : Int)
theorem ps_make_6 {E : ps_E} : ∀ (n : Nat) (s : ps_T), (ps_make E n s).1 6 = s.1 6 := by
  have hs : ∀ s : ps_T, (ps_send E s).1 6 = s.1 6 := by
    intro s
    have d6 := ps_draw_c s (c := 6) (by decide)
    unfold ps_send
    try dsimp only
    rw [px_upc (by decide), px_upc (by decide)]
    split
    · rw [px_upc (by decide)]; exact d6
    · unfold ps_fly
      rw [px_upc (by decide), px_upc (by decide), px_upc (by decide), px_upc (by decide)]
      exact d6
  have hm : ∀ s : ps_T, (ps_made E s).1 6 = s.1 6 := by
    intro s
    unfold ps_made
    try dsimp only
    split
    · rw [hs]
      show cx_up s.1 0 1 (s.1 0 1 + 1) 6 = s.1 6
      rw [px_upc (by decide)]
    · show cx_up s.1 0 1 (s.1 0 1 + 1) 6 = s.1 6
      rw [px_upc (by decide)]
  intro n
  induction n with
  | zero => intro s; rfl
  | succ n ih =>
    intro s
    unfold ps_make
    split
    · rfl
    · rw [ih, hm]
      show cx_up s.1 0 22 (s.1 0 22 - 1000) 6 = s.1 6
      rw [px_upc (by decide)]
theorem ps_recv_6 {E : ps_E} : ∀ (m k l : Nat) (S : ps_S), ps_recv E m k l S 6 = S 6 := by
  intro m
  induction m with
  | zero =>
    intro k l S
    unfold ps_recv
    rw [px_upc (by decide), ps_wipe_c (by decide)]
  | succ m ih =>
    intro k l S
    unfold ps_recv
    split
    · rw [ih, ps_come_c (by decide) (by decide) (by decide)]
    · rw [ih, ps_move_c (by decide)]
theorem ps_plays_6 {E : ps_E} : ∀ (n : Nat) (S : ps_S), ps_plays E n S 6 = S 6 := by
  have hp : ∀ (S : ps_S) (o w : Int32) (is : Bool), ps_put E S o w is 6 = S 6 := by
    intro S o w is
    unfold ps_put
    rw [px_upc (by decide), px_upc (by decide), px_upc (by decide), px_upc (by decide), px_upc (by decide), px_upc (by decide), px_upc (by decide)]
  have he : ∀ S : ps_S, ps_end S 6 = S 6 := by
    intro S
    unfold ps_end
    split
    · rfl
    · rw [ps_empty_0 (by decide) (by decide), px_upc (by decide), px_upc (by decide), px_upc (by decide)]
  intro n
  induction n with
  | zero => intro S; rfl
  | succ n ih =>
    intro S
    unfold ps_plays
    split
    · rw [ih]
      unfold ps_play
      rw [he, hp, px_upc (by decide)]
    · rfl
theorem ps_step_V {E : ps_E} {s : ps_T} {T : Nat} (hE : ps_EO E) (hI : ps_I E s.1 T) (hT : T + 1 ≤ 22000) (h : pl_V s.1 T) : pl_V (ps_step E s).1 (T + 1) := by
  obtain ⟨hJ, -⟩ := hI
  have J0 : ps_J E (cx_up s.1 0 35 0) (3 * T) (4 * T) (40 * T) := ps_J_up _ (by decide) hJ
  have J1 := ps_far_J (s := (cx_up s.1 0 35 0, s.2)) J0 (by omega)
  have f11 : (ps_far E (cx_up s.1 0 35 0, s.2)).1 0 11 = s.1 0 11 := by
    rw [ps_far_0 (by decide)]
    show cx_up s.1 0 35 0 0 11 = _
    rw [px_up, if_neg (by decide)]
  have f6 : (ps_far E (cx_up s.1 0 35 0, s.2)).1 6 = s.1 6 := by
    unfold ps_far
    rw [ps_make_6]
    show cx_up (cx_up s.1 0 35 0) 0 22 (cx_up s.1 0 35 0 0 22 + (1000 + cx_up s.1 0 35 0 0 27)) 6 = s.1 6
    rw [px_upc (by decide), px_upc (by decide)]
  unfold ps_step
  try dsimp only
  generalize ps_far E (cx_up s.1 0 35 0, s.2) = t at J1 f11 f6 ⊢
  have h40 : pn (t.1 0 31) ≤ 40 := by
    have := ps_J31 J1
    rw [pn_def]
    omega
  have J2 := ps_recv_J hE (pn (t.1 0 31)) 0 0 t.1 _ J1 (by omega) (by omega) (by omega)
  have r11 : ps_recv E (pn (t.1 0 31)) 0 0 t.1 0 11 = s.1 0 11 := by rw [ps_recv_0 (by decide), f11]
  have r6 : ps_recv E (pn (t.1 0 31)) 0 0 t.1 6 = s.1 6 := by rw [ps_recv_6, f6]
  generalize ps_recv E (pn (t.1 0 31)) 0 0 t.1 = R at J2 r11 r6 ⊢
  have J3 := ps_steer_J J2 (by omega)
  have hV : pl_V (ps_steer E R) T := by
    have hb : pl_V (ps_begin R (ps_level E R)) T := by
      unfold pl_V ps_begin
      split
      · refine ⟨?_, fun k hk => ?_⟩
        · rw [px_up, if_pos ⟨rfl, rfl⟩, pi_0]
          omega
        · rw [px_upc (by decide), px_upc (by decide), px_upc (by decide), px_upc (by decide), px_upc (by decide), r6]
          exact h.2 k hk
      · rw [r11, r6]
        exact h
    unfold ps_steer
    try dsimp only
    generalize ps_begin R (ps_level E R) = B at hb ⊢
    split
    · unfold ps_turn
      try dsimp only
      refine ⟨?_, fun k hk => ?_⟩
      · rw [px_up, if_neg (by decide), px_upc (show (0 : Nat) ≠ 6 by decide), px_up, if_neg (by decide), px_up, if_neg (by decide)]
        exact hb.1
      · rw [px_upc (by decide), px_up]
        split
        · exact hb.1
        · rw [px_upc (by decide), px_upc (by decide)]
          exact hb.2 k hk
    · exact hb
  generalize ps_steer E R = G at J3 hV ⊢
  have hn := J3.1
  unfold ps_Jn at hn
  have hN : pl_V (ps_near E G) (T + 1) := by
    unfold ps_near
    split
    · refine ⟨?_, fun k hk => ?_⟩
      · rw [ps_plays_0 (by decide), px_up, if_pos ⟨rfl, rfl⟩]
        have a := hV.1
        have e1 : (G 0 27 - G 0 9).toInt = (G 0 27).toInt - (G 0 9).toInt := i32_sub (by omega) (by omega)
        rw [i32_add (by omega) (by omega), e1]
        omega
      · rw [ps_plays_6, px_upc (by decide), px_upc (by decide)]
        have := hV.2 k hk
        omega
    · refine ⟨?_, fun k hk => ?_⟩
      · have := hV.1
        omega
      · have := hV.2 k hk
        omega
  refine ⟨?_, fun k hk => ?_⟩
  · rw [px_up, if_neg (by decide)]
    exact hN.1
  · rw [px_upc (by decide)]
    exact hN.2 k hk
theorem ps_steps_V {E : ps_E} {s : ps_T} {T : Nat} (hE : ps_EO E) (hI : ps_I E s.1 T) (h : pl_V s.1 T) : ∀ n, T + n ≤ 22000 → pl_V (ps_steps E n s).1 (T + n)
  | 0, _ => h
  | n + 1, hn => ps_step_V hE (ps_steps_I hE hI n (by omega)) (by omega) (ps_steps_V hE hI h n (by omega))
/-- a state's samples are small for its time -/
def pl_Q (S : ps_S) : Prop := ∀ T : Nat, T ≤ 22000 → S 0 0 = nI T → pl_V S T
theorem pl_Q.W {E : ps_E} {S : ps_S} (h : pl_Q S) (hI : qI E S) : pl_W S := by
  obtain ⟨T, hT, hI, -⟩ := hI
  have := h T (by omega) hI.2.1
  intro k hk
  have := this.2 k hk
  omega
theorem pl_Q.up {S : ps_S} (h : pl_Q S) {j : Nat} {v : Int32} (h0 : j ≠ 0) (h11 : j ≠ 11) : pl_Q (cx_up S 0 j v) := by
  intro T hT e
  rw [px_up, if_neg (fun z => h0 z.2.symm)] at e
  have := h T hT e
  unfold pl_V at this ⊢
  rw [px_up, if_neg (fun z => h11 z.2.symm), px_upc (by decide)]
  exact this
theorem pl_Q.steps {E : ps_E} {S : ps_S} {T n : Nat} (hE : ps_EO E) (hI : ps_I E S T) (h : pl_Q S) (hn : T + n ≤ 22000) : pl_Q (ps_steps E n (S, [])).1 := by
  intro T' hT' e
  have hI2 := ps_steps_I (s := (S, [])) hE hI n hn
  have : T' = T + n := pw_inj (by omega) (by omega) (e.symm.trans hI2.2.1)
  rw [this]
  exact ps_steps_V (s := (S, [])) hE hI (h T hI.2.2.1 hI.2.1) n hn
def pi_WB (B : qB) : Prop := pl_Q B.1 ∧ ∀ S ∈ B.2.1, pl_Q S
def pi_W (A : qA) : Prop := pi_WB A.1 ∧ ∀ I, A.2.1 = some I → pi_WB I
theorem pi_WB.keep {B : qB} (h : pi_WB B) : ∀ S ∈ pa_keepL B, pl_Q S := by
  intro S hS
  unfold pa_keepL at hS
  rcases List.mem_append.mp hS with z | z
  · refine h.2 S ?_
    split at z
    · exact List.mem_of_mem_drop z
    · exact z
  · rw [List.mem_singleton.mp z]
    exact h.1
theorem pi_W.ref {A : qA} (h : pi_W A) (i : Nat) : pi_W (pa_refB A.1 i, A.2) := ⟨⟨h.1.1, h.1.2⟩, h.2⟩
theorem pi_W.turn {A : qA} {k : Nat} {x lo hi d : Int32} (h : pi_W A) (h0 : k ≠ 0) (h11 : k ≠ 11) : pi_W (pa_turn A k x lo hi d).1 := by
  unfold pa_turn
  split
  · exact ⟨⟨h.1.1.up h0 h11, h.1.keep⟩, h.2⟩
  · exact h.ref 1
theorem pi_W.turns {A : qA} {w x : Int32} (h : pi_W A) : pi_W (pa_turns A w x).1 := by
  unfold pa_turns
  split
  · exact h.turn (by decide) (by decide)
  · split
    · exact h.turn (by decide) (by decide)
    · exact h.turn (by decide) (by decide)
theorem pi_W.steps {E : ps_E} {A : qA} {n : Int32} (hA : qAI E A) (h : pi_W A) : pi_W (pa_stepsOn E A n).1 := by
  obtain ⟨T, hT, hI, -⟩ := hA.2.1.1
  unfold pa_stepsOn
  split
  · next c =>
    refine ⟨⟨h.1.1.steps hA.1 hI ?_, h.1.keep⟩, h.2⟩
    have := c.1
    rw [pn_def]
    omega
  · exact h.ref 1
theorem pi_W.undo {A : qA} (h : pi_W A) : pi_W (pa_undo A).1 := by
  unfold pa_undo
  split
  · exact h
  · next c =>
    refine ⟨⟨h.1.2 _ ?_, fun S hS => h.1.2 S (List.mem_of_mem_take hS)⟩, h.2⟩
    rw [List.getD_eq_getElem?_getD, List.getElem?_eq_getElem (by omega)]
    exact List.getElem_mem _
theorem pi_W.note {A : qA} {a b : Int32} (h : pi_W A) : pi_W (pa_note A a b).1 := by
  unfold pa_note
  split
  · exact ⟨⟨h.1.1, h.1.2⟩, h.2⟩
  · exact h.ref 2
theorem pi_W.forget {A : qA} (h : pi_W A) : pi_W (pa_forget A) := ⟨⟨h.1.1, h.1.2⟩, h.2⟩
theorem pi_W.image {A : qA} (h : pi_W A) : pi_W (A.1, some A.1, A.2.2) := ⟨h.1, fun I hI => by rw [← Option.some.inj hI]; exact h.1⟩
theorem pi_W.restore {A : qA} (h : pi_W A) : pi_W (pa_restore A).1 := by
  unfold pa_restore
  split
  · exact h
  · next I hI => exact ⟨h.2 I hI, h.2⟩
theorem pi_W.new {E : ps_E} {st : Nat → Int32} {tp : Nat × (Nat → Int32)} {d : Int32} : pi_W (pa_new E st tp d) := by
  refine ⟨⟨?_, fun S hS => absurd hS (by show ¬ S ∈ []; simp)⟩, fun I hI => absurd hI (by show ¬ (none : Option qB) = some I; simp)⟩
  intro T hT e
  have e11 : pa_first E 0 11 = 0 := rfl
  have e6 : ∀ k, pa_first E 6 k = 0 := fun _ => rfl
  show pl_V (pa_first E) T
  unfold pl_V
  rw [e11, pi_0]
  refine ⟨by omega, fun k _ => ?_⟩
  rw [e6, pi_0]
  omega
