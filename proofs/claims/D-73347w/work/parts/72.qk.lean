/-! THE CLASS: asks that throw: turn, count -/
theorem pq_cal {o : Option cx_R} {M : cx_M} {v : Int32} {x : Nat} {f : cx_M → Int32 → Prop} (h : o = some (M, v, x)) : cq_cal o f ↔ f M v := by rw [h]; exact Iff.rfl
theorem cd_thr_s {e bc bs : Nat} {M : cx_M} {P : dP} {L : dL} {x : Int32} {Q : cd_Qt} (hb : 1 ≤ bc) (hs : 6 ≤ bs) (h1 : x = 0 → Q M P L 0 none e 1 6) (h2 : x ≠ 0 → Q M P L 0 none 0 0 0) : cd_thr e bc bs M P L x Q := by
  unfold cd_thr
  by_cases c : x = 0
  · rw [if_pos c]
    exact ⟨hb, hs, h1 c⟩
  · rw [if_neg c]
    exact h2 c
/-- what an ask of the class comes to: its number, or its code -/
def qc_ask (N : dNx) (E : ps_E) (M : cx_M) (P : dP) (L : dL) (A : qA) (D : Nat → Nat → cd_Qt → Prop) (v : Int32) (code : Nat) : Prop :=
  ∀ (bc bs : Nat) (Q : cd_Qt), 1 ≤ bc → 6 ≤ bs → (∀ M', qc_A N.1 E M' A → qc_F M M' → if code = 0 then Q M' P L v none 0 0 0 else Q M' P L 0 none code 1 6) → D bc bs Q
theorem dCc_turnD_s {N : dNx} {E : ps_E} {M : cx_M} {P : dP} {L : dL} {A : qA} {w x : Int32} {bc bs : Nat} {Q : cd_Qt} (hN : 65 ≤ N.1.1) (hA : qAI E A) (h : qc_A N.1 E M A) (hb : 1 ≤ bc) (hs : 6 ≤ bs)
    (hy : 0 ≤ w.toInt ∧ w.toInt ≤ 2 → ∀ M', qc_A N.1 E M' (pa_turns A w x).1 → qc_F M M' → Q M' P L (pa_turns A w x).2 none 0 0 0) (hn : ¬ (0 ≤ w.toInt ∧ w.toInt ≤ 2) → Q M P L 0 none 1 1 6) : dCc_turnD N bc bs M P L w x Q := by
  unfold dCc_turnD dCc_turnD_0
  rw [pq_cal cCc_within_s]
  by_cases c : 0 ≤ w.toInt ∧ w.toInt ≤ 2
  · rw [if_pos (show (0 : Int32).toInt ≤ w.toInt ∧ w.toInt ≤ (2 : Int32).toInt from c)]
    refine cd_thr_s hb hs (fun z => absurd z (by decide)) (fun _ => ⟨fun z => absurd rfl z, fun _ => ?_⟩)
    have hy' := hy c
    have go : ∀ (k j : Nat) (lo hi : Int32), k < 34 → pc_F k = j → j ≠ 31 → j ≠ 35 → ((j = 25 ∨ j = 26 ∨ j = 29) ∨ (j = 27 ∧ lo = -99 ∧ hi = 99) ∨ (j = 28 ∧ lo = 0 ∧ hi = 2)) → pa_turns A w x = pa_turn A j x lo hi 10000 → (∀ (M1 : cx_M) (z : Int32), (if w = 0 then cq_put M1 1000 28 x (fun M5 => Q M5 P L z none 0 0 0) else if w = 1 then cq_put M1 1000 29 x (fun M4 => Q M4 P L z none 0 0 0) else cq_put M1 1000 30 x (fun M3 => Q M3 P L z none 0 0 0)) ↔ Q (cx_up M1 1000 k x) P L z none 0 0 0) →
        dCc_turnD_82 N bc bs Q M P L 0 0 w x (M 1000 k) (if lo.toInt ≤ x.toInt ∧ x.toInt ≤ hi.toInt then 1 else 0) := by
      intro k j lo hi hk hj h31 h35 hT et hput
      obtain ⟨yes, no⟩ := cCc_turn29_s (k := k) (j := j) (x := x) (lo := lo) (hi := hi) (d := 10000) hN hA h hk hj h31 h35 hT
      have g := h.n k (Or.inl hk) hj h35
      rw [et] at hy'
      have hno : ¬ pa_mayTurn A j x lo hi → dCc_turnD_99 N bc bs Q M P L 0 0 w x (M 1000 k) := by
        intro z
        obtain ⟨M1, e1, h1, v1, F1⟩ := no z
        have q := hy' M1 h1 F1
        rw [v1] at q
        unfold dCc_turnD_99 dCc_turnD_100
        rw [pq_cal e1, if_pos rfl]
        exact q
      unfold dCc_turnD_82
      by_cases c1 : lo.toInt ≤ x.toInt ∧ x.toInt ≤ hi.toInt
      · rw [if_pos c1, if_neg (by decide)]
        by_cases c2 : M 1000 k = x
        · rw [if_pos c2]
          exact hno (fun z => z.2 (by rw [← g]; exact c2.symm))
        · rw [if_neg c2]
          obtain ⟨M1, e1, h1, v1, F1⟩ := yes ⟨c1, by rw [← g]; exact fun z => c2 z.symm⟩
          have q := hy' _ h1 F1
          rw [v1] at q
          unfold dCc_turnD_100
          rw [pq_cal e1, if_neg (by decide)]
          exact (hput M1 (M 1000 k)).mpr q
      · rw [if_neg c1, if_pos rfl]
        exact hno (fun z => c1 z.1)
    show if w = 0 then dCc_turnD_45 N bc bs Q M P L 0 0 w x (M 1000 28) else if w = 1 then dCc_turnD_45 N bc bs Q M P L 0 0 w x (M 1000 29) else dCc_turnD_45 N bc bs Q M P L 0 0 w x (M 1000 30)
    unfold dCc_turnD_45
    by_cases w0 : w = 0
    · rw [if_pos w0, if_pos w0, pq_cal cCc_within_s]
      exact go 28 27 (-99) 99 (by decide) rfl (by decide) (by decide) (Or.inr (Or.inl ⟨rfl, rfl, rfl⟩)) (by unfold pa_turns; rw [if_pos w0]) (fun M1 z => by rw [if_pos w0]; exact Iff.rfl)
    · rw [if_neg w0]
      by_cases w1 : w = 1
      · rw [if_pos w1, if_neg w0, if_pos w1, pq_cal cCc_within_s]
        exact go 29 28 0 2 (by decide) rfl (by decide) (by decide) (Or.inr (Or.inr ⟨rfl, rfl, rfl⟩)) (by unfold pa_turns; rw [if_neg w0, if_pos w1]) (fun M1 z => by rw [if_neg w0, if_pos w1]; exact Iff.rfl)
      · rw [if_neg w1, if_neg w0, if_neg w1, pq_cal cCc_within_s]
        exact go 30 29 1 64 (by decide) rfl (by decide) (by decide) (Or.inl (Or.inr (Or.inr rfl))) (by unfold pa_turns; rw [if_neg w0, if_neg w1]) (fun M1 z => by rw [if_neg w0, if_neg w1]; exact Iff.rfl)
  · rw [if_neg (show ¬ ((0 : Int32).toInt ≤ w.toInt ∧ w.toInt ≤ (2 : Int32).toInt) from c)]
    exact cd_thr_s hb hs (fun _ => ⟨fun _ => hn c, fun z => absurd z (by decide)⟩) (fun z => absurd rfl z)
