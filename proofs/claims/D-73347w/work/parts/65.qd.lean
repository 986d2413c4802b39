/-! the invariant kept by each act -/
theorem ps_I_28 {E : ps_E} {S : ps_S} {T : Nat} {v : Int32} (hI : ps_I E S T) (hv : 0 ≤ v.toInt ∧ v.toInt ≤ 2) : ps_I E (cx_up S 0 28 v) T := by
  obtain ⟨⟨hn, hf, hs, hb⟩, h0, h1, g22, g23⟩ := hI
  refine ⟨⟨?_, hf, hs, hb⟩, by rw [px_up, if_neg (by decide)]; exact h0, h1, by rw [px_up, if_neg (by decide)]; exact g22, by rw [px_up, px_up, if_neg (by decide), if_neg (by decide)]; exact g23⟩
  unfold ps_Jn at hn ⊢
  simp (decide := true) only [px_up, false_and, and_false, true_and, and_true, ↓reduceIte] at hn ⊢
  omega
theorem qI.turn {E : ps_E} {S : ps_S} {k : Nat} {x : Int32} (h : qI E S) (hk : (k = 25 ∨ k = 26 ∨ k = 29) ∨ (k = 27 ∧ -99 ≤ x.toInt ∧ x.toInt ≤ 99) ∨ (k = 28 ∧ 0 ≤ x.toInt ∧ x.toInt ≤ 2)) : qI E (cx_up S 0 k x) := by
  obtain ⟨T, hT, hI, h33, h34⟩ := h
  have ne : ∀ j, j = 33 ∨ j = 34 → cx_up S 0 k x 0 j = S 0 j := fun j hj => by rw [px_up, if_neg (by omega)]
  refine ⟨T, hT, ?_, by rw [ne 33 (Or.inl rfl)]; exact h33, by rw [ne 34 (Or.inr rfl)]; exact h34⟩
  rcases hk with (rfl | rfl | rfl) | ⟨rfl, hx⟩ | ⟨rfl, hx⟩
  · exact qI_up29 hI (by decide) (by decide) (by decide)
  · exact qI_up29 hI (by decide) (by decide) (by decide)
  · exact qI_up29 hI (by decide) (by decide) (by decide)
  · exact ps_I_go hI hx
  · exact ps_I_28 hI hx
theorem qBI.keep {E : ps_E} {B : qB} (h : qBI E B) : (∀ S ∈ pa_keepL B, qI E S) ∧ (pa_keepL B).length ≤ 40 := by
  obtain ⟨h1, h2, h3, -⟩ := h
  unfold pa_keepL
  by_cases c : B.2.1.length = 40
  · rw [if_pos c]
    refine ⟨fun S hS => ?_, by rw [List.length_append, List.length_drop, List.length_singleton]; omega⟩
    rcases List.mem_append.mp hS with z | z
    · exact h2 S (List.mem_of_mem_drop z)
    · rw [List.mem_singleton.mp z]; exact h1
  · rw [if_neg c]
    refine ⟨fun S hS => ?_, by rw [List.length_append, List.length_singleton]; omega⟩
    rcases List.mem_append.mp hS with z | z
    · exact h2 S z
    · rw [List.mem_singleton.mp z]; exact h1
theorem qAI.B {E : ps_E} {A : qA} {B : qB} (h : qAI E A) (hB : qBI E B) : qAI E (B, A.2) := ⟨h.1, hB, h.2.2.1, h.2.2.2⟩
theorem qAI.ref {E : ps_E} {A : qA} {i : Nat} (h : qAI E A) : qAI E (pa_refB A.1 i, A.2) := h.B ⟨h.2.1.1, h.2.1.2.1, h.2.1.2.2.1, h.2.1.2.2.2⟩
theorem qAI.turn {E : ps_E} {A : qA} {k : Nat} {x lo hi d : Int32} (h : qAI E A) (hk : (k = 25 ∨ k = 26 ∨ k = 29) ∨ (k = 27 ∧ lo = -99 ∧ hi = 99) ∨ (k = 28 ∧ lo = 0 ∧ hi = 2)) : qAI E (pa_turn A k x lo hi d).1 := by
  by_cases c : pa_mayTurn A k x lo hi
  · rw [pa_turn_y c]
    obtain ⟨k1, k2⟩ := h.2.1.keep
    refine h.B (B := (cx_up A.1.1 0 k x, pa_keepL A.1, A.1.2.2)) ⟨h.2.1.1.turn ?_, k1, k2, h.2.1.2.2.2⟩
    have c1 := c.1
    rcases hk with z | ⟨z, rfl, rfl⟩ | ⟨z, rfl, rfl⟩
    · exact Or.inl z
    · exact Or.inr (Or.inl ⟨z, c1⟩)
    · exact Or.inr (Or.inr ⟨z, c1⟩)
  · rw [pa_turn_n c]
    exact h.ref
theorem qAI.lose {E : ps_E} {A : qA} {x : Int32} (h : qAI E A) : qAI E (pa_turn A 25 x 0 20 (-1)).1 := h.turn (Or.inl (Or.inl rfl))
theorem qAI.stall {E : ps_E} {A : qA} {x : Int32} (h : qAI E A) : qAI E (pa_turn A 26 x 0 30 (-1)).1 := h.turn (Or.inl (Or.inr (Or.inl rfl)))
theorem qAI.turns {E : ps_E} {A : qA} {w x : Int32} (h : qAI E A) : qAI E (pa_turns A w x).1 := by
  unfold pa_turns
  by_cases c0 : w = 0
  · rw [if_pos c0]; exact h.turn (Or.inr (Or.inl ⟨rfl, rfl, rfl⟩))
  · rw [if_neg c0]
    by_cases c1 : w = 1
    · rw [if_pos c1]; exact h.turn (Or.inr (Or.inr ⟨rfl, rfl, rfl⟩))
    · rw [if_neg c1]; exact h.turn (Or.inl (Or.inr (Or.inr rfl)))
theorem qAI.steps {E : ps_E} {A : qA} {n : Int32} (h : qAI E A) : qAI E (pa_stepsOn E A n).1 := by
  by_cases c : pa_mayStep A n
  · rw [pa_stepsOn_y c]
    obtain ⟨k1, k2⟩ := h.2.1.keep
    obtain ⟨T, hT, hI, h33, h34⟩ := h.2.1.1
    have hT0 : A.1.1 0 0 = nI T := hI.2.1
    have c2 := c.2
    rw [hT0, pi_nI (by omega)] at c2
    have c1 := c.1
    have hp : T + pn n ≤ 20000 := by rw [pn_def]; omega
    exact h.B (B := ((ps_steps E (pn n) (A.1.1, [])).1, pa_keepL A.1, A.1.2.2)) ⟨⟨T + pn n, hp, ps_steps_I (s := (A.1.1, [])) h.1 hI (pn n) (by omega), by rw [ps_steps_0 (by decide)]; exact h33, by rw [ps_steps_0 (by decide)]; exact h34⟩, k1, k2, h.2.1.2.2.2⟩
  · rw [pa_stepsOn_n c]
    exact h.ref
theorem qAI.undo {E : ps_E} {A : qA} (h : qAI E A) : qAI E (pa_undo A).1 := by
  unfold pa_undo
  by_cases c : A.1.2.1.length = 0
  · rw [if_pos c]; exact h
  · rw [if_neg c]
    refine h.B (B := (A.1.2.1.getD (A.1.2.1.length - 1) A.1.1, A.1.2.1.take (A.1.2.1.length - 1), A.1.2.2)) ⟨?_, fun S hS => h.2.1.2.1 S (List.mem_of_mem_take hS), ?_, h.2.1.2.2.2⟩
    · have hx : A.1.2.1[A.1.2.1.length - 1]? = some (A.1.2.1.getD (A.1.2.1.length - 1) A.1.1) := by
        rw [List.getD_eq_getElem?_getD, List.getElem?_eq_getElem (by omega)]
        rfl
      exact h.2.1.2.1 _ (List.mem_of_getElem? hx)
    · show (A.1.2.1.take (A.1.2.1.length - 1)).length ≤ 40
      rw [List.length_take]
      have := h.2.1.2.2.1
      omega
theorem qAI.note {E : ps_E} {A : qA} {a b : Int32} (h : qAI E A) : qAI E (pa_note A a b).1 := by
  by_cases c : pa_mayNote A a b
  · rw [pa_note_y c]
    refine h.B (B := (A.1.1, A.1.2.1, A.1.2.2.1 ++ [(a, b)], A.1.2.2.2)) ⟨h.2.1.1, h.2.1.2.1, h.2.1.2.2.1, ?_⟩
    show (A.1.2.2.1 ++ [(a, b)]).length ≤ 8
    rw [List.length_append, List.length_singleton]
    have := h.2.1.2.2.2
    have := c.1
    omega
  · rw [pa_note_n c]
    exact h.ref
theorem qAI.forget {E : ps_E} {A : qA} (h : qAI E A) : qAI E (pa_forget A) := h.B (B := (A.1.1, A.1.2.1, [], A.1.2.2.2)) ⟨h.2.1.1, h.2.1.2.1, h.2.1.2.2.1, by show 0 ≤ 8; decide⟩
theorem qAI.image {E : ps_E} {A : qA} (h : qAI E A) : qAI E (A.1, some A.1, A.2.2) := ⟨h.1, h.2.1, fun I hI => by rw [← Option.some.inj hI]; exact h.2.1, h.2.2.2⟩
theorem qAI.restore {E : ps_E} {A : qA} (h : qAI E A) : qAI E (pa_restore A).1 := by
  unfold pa_restore
  cases hI : A.2.1 with
  | none => exact h
  | some I => exact h.B (h.2.2.1 I hI)
theorem pa_feed_le {tp : Nat × (Nat → Int32)} {x1 x2 x3 x4 x5 : Int32} (h : tp.1 ≤ 700) : (pa_feed tp x1 x2 x3 x4 x5).1.1 ≤ 700 := by
  unfold pa_feed
  by_cases c : tp.1 + 20 ≤ 700
  · rw [if_pos c]; exact c
  · rw [if_neg c]; exact h
theorem qAI.feed {E : ps_E} {A : qA} {x1 x2 x3 x4 x5 : Int32} (h : qAI E A) : qAI E (A.1, A.2.1, (pa_feed A.2.2.1 x1 x2 x3 x4 x5).1, A.2.2.2) := ⟨h.1, h.2.1, h.2.2.1, pa_feed_le h.2.2.2⟩
theorem pa_first_I {E : ps_E} (hE : ps_EO E) (h5 : -99 ≤ (E.1 5).toInt ∧ (E.1 5).toInt ≤ 99) : ps_I E (pa_first E) 0 := by
  have z : ∀ k, k ≠ 29 → k ≠ 27 → k ≠ 33 → k ≠ 34 → pa_first E 0 k = 0 := fun k a b c d => by
    unfold pa_first
    rw [if_pos rfl, if_neg a, if_neg b, if_neg c, if_neg d]
  have z27 : pa_first E 0 27 = E.1 5 := by
    unfold pa_first
    rw [if_pos rfl, if_neg (by decide), if_pos rfl]
  have zc : ∀ c k, c ≠ 0 → c ≠ 4 → c ≠ 5 → pa_first E c k = 0 := fun c k a b d => by
    unfold pa_first
    rw [if_neg a, if_neg (by omega)]
  have z4 : ∀ k, pa_first E 4 k = -1 := fun k => by
    unfold pa_first
    rw [if_neg (by decide), if_pos (Or.inl rfl)]
  have z5 : ∀ k, pa_first E 5 k = -1 := fun k => by
    unfold pa_first
    rw [if_neg (by decide), if_pos (Or.inr rfl)]
  refine ⟨⟨?_, ?_, ⟨fun k _ => Or.inl ⟨z4 k, z5 k⟩, fun _ k _ => ⟨z4 k, z5 k⟩⟩, fun k _ => Or.inl (zc 8 k (by decide) (by decide) (by decide))⟩, ?_, by decide, ?_, ?_⟩
  · have h0 := hE.1
    have hd : (0 : Int) / (E.1 0).toInt = 0 := Int.zero_ediv _
    unfold ps_Jn
    rw [z27, z 0 (by decide) (by decide) (by decide) (by decide), z 1 (by decide) (by decide) (by decide) (by decide), z 2 (by decide) (by decide) (by decide) (by decide), z 4 (by decide) (by decide) (by decide) (by decide), z 5 (by decide) (by decide) (by decide) (by decide), z 31 (by decide) (by decide) (by decide) (by decide), z 6 (by decide) (by decide) (by decide) (by decide), z 12 (by decide) (by decide) (by decide) (by decide), z 7 (by decide) (by decide) (by decide) (by decide), z 8 (by decide) (by decide) (by decide) (by decide), z 9 (by decide) (by decide) (by decide) (by decide), z 14 (by decide) (by decide) (by decide) (by decide), z 15 (by decide) (by decide) (by decide) (by decide), z 16 (by decide) (by decide) (by decide) (by decide), z 17 (by decide) (by decide) (by decide) (by decide), z 19 (by decide) (by decide) (by decide) (by decide), z 28 (by decide) (by decide) (by decide) (by decide), z 32 (by decide) (by decide) (by decide) (by decide), pi_0, hd]
    omega
  · intro k hk
    rw [z 31 (by decide) (by decide) (by decide) (by decide)] at hk
    exact absurd hk (by rw [pn_def, pi_0]; omega)
  · exact z 0 (by decide) (by decide) (by decide) (by decide)
  · rw [z 22 (by decide) (by decide) (by decide) (by decide), pi_0]; omega
  · intro _
    rw [z 23 (by decide) (by decide) (by decide) (by decide), pi_0]; omega
theorem qAI.new {E : ps_E} {st : Nat → Int32} {tp : Nat × (Nat → Int32)} {d : Int32} (hE : ps_EO E) (h5 : -99 ≤ (E.1 5).toInt ∧ (E.1 5).toInt ≤ 99) (h7 : tp.1 ≤ 700) : qAI E (pa_new E st tp d) := by
  refine ⟨hE, ⟨⟨0, by decide, pa_first_I hE h5, ?_, ?_⟩, fun S hS => (by cases hS), by show 0 ≤ 40; decide, by show 0 ≤ 8; decide⟩, fun I hI => (by cases hI), h7⟩
  · show pa_first E 0 33 = E.1 2
    unfold pa_first
    rw [if_pos rfl, if_neg (by decide), if_neg (by decide), if_pos rfl]
  · show pa_first E 0 34 = E.1 3
    unfold pa_first
    rw [if_pos rfl, if_neg (by decide), if_neg (by decide), if_neg (by decide), if_pos rfl]
theorem ps_E0_O : ps_EO ps_E0 := ⟨by decide, by decide, by decide, by decide, fun _ _ _ => rfl, fun _ _ _ => rfl⟩
theorem qAI.start {st : Nat → Int32} {tp : Nat × (Nat → Int32)} {d : Int32} (h7 : tp.1 ≤ 700) : qAI ps_E0 (pa_new ps_E0 st tp d) := qAI.new ps_E0_O (by decide) h7
