/-! THE CLASS: what holds between calls; its acts -/
def qc_sh (M : cx_M) (b : Nat) : Prop := ∃ π, qc_ord M b π ∧ qc_fr M b ∧ pc_U M (cBk_st b)
def qc_im (M : cx_M) : Option qB → Prop
  | none => M 500 7 = 0 ∧ qc_sh M 700
  | some I => M 500 7 = 1 ∧ qc_bk M 700 I
def qc_tp (M : cx_M) (A : qA) : Prop := M 500 9 = nI A.2.2.1.1 ∧ (∀ j, j < A.2.2.1.1 → M 509 j &&& 255 = A.2.2.1.2 j) ∧ M 500 10 = A.2.2.2
def qc_A (N : cx_N) (E : ps_E) (M : cx_M) (A : qA) : Prop := pc_K N E M ∧ qc_bk M 600 A.1 ∧ (M 1000 43 = 0 ∧ M 1000 45 = 0) ∧ qc_im M A.2.1 ∧ qc_tp M A ∧ pc_U M 1100 ∧ M 1100 45 = 0
/-- what a call of the class leaves -/
def qc_F (M M' : cx_M) : Prop := ∀ c, c < 500 ∨ 30000 ≤ c → M' c = M c
theorem qc_F.rf {M : cx_M} : qc_F M M := fun _ _ => rfl
theorem qc_F.tr {M M1 M2 : cx_M} (h1 : qc_F M M1) (h2 : qc_F M1 M2) : qc_F M M2 := fun c hc => (h2 c hc).trans (h1 c hc)
theorem qc_F.up {M : cx_M} {c k : Nat} {v : Int32} (h : 500 ≤ c ∧ c < 30000) : qc_F M (cx_up M c k v) := fun d hd => px_upc (by omega)
def qc_act (N : cx_N) (E : ps_E) (M : cx_M) (o : Option cx_R) (A : qA) (v : Int32) : Prop := ∃ M', o = some (M', v, 0) ∧ qc_A N E M' A ∧ qc_F M M'
theorem qc_sh.fr {M M' : cx_M} {b : Nat} (hb : b = 600 ∨ b = 700) (h : qc_sh M b) (e : ∀ c, c = b + 2 ∨ (cBk_st b ≤ c ∧ c ≤ cBk_st b + 43) ∨ (qc_lo b ≤ c ∧ c < qc_lo b + 4000) → M' c = M c) : qc_sh M' b := by
  obtain ⟨π, ⟨o1, o2, o3, o4⟩, hf, hU⟩ := h
  exact ⟨π, ⟨by rw [e _ (Or.inl rfl)]; exact o1, o2, o3, by rw [e _ (Or.inl rfl)]; exact o4⟩, fun i hi => (hf i hi).fr (fun c h1 h2 => e c (by omega)), hU.fr (fun c h1 h2 => e c (by omega))⟩
/-- only the book was changed -/
theorem qc_A.bk {N : cx_N} {E : ps_E} {M M' : cx_M} {A : qA} {B : qB} (hA : qAI E A) (h : qc_A N E M A) (hB : qc_bk M' 600 B) (h3 : M' 1000 43 = 0 ∧ M' 1000 45 = 0) (e : ∀ c, (700 ≤ c ∧ c < 1000) ∨ (1100 ≤ c ∧ c < 1200) ∨ (6000 ≤ c ∧ c < 6100) ∨ (20000 ≤ c ∧ c < 24000) ∨ c = 8000 ∨ c = 500 ∨ c = 509 → M' c = M c) : qc_A N E M' (B, A.2) := by
  obtain ⟨hK, -, -, hi, ⟨t1, t2, t3⟩, hU, h45⟩ := h
  refine ⟨hK.fr (e 8000 (by omega)), hB, h3, ?_, ⟨by rw [e 500 (by omega)]; exact t1, by rw [e 509 (by omega)]; exact t2, by rw [e 500 (by omega)]; exact t3⟩, hU.fr (fun c h1 h2 => e c (by omega)), by rw [e 1100 (by omega)]; exact h45⟩
  have l7 : qc_lo 700 = 20000 ∧ cBk_st 700 = 6000 := ⟨rfl, rfl⟩
  unfold qc_im at hi ⊢
  show (match A.2.1 with | none => _ | some I => _)
  cases hI : A.2.1 with
  | none =>
    rw [hI] at hi
    exact ⟨by rw [e 500 (by omega)]; exact hi.1, hi.2.fr (Or.inr rfl) (fun c hc => e c (by omega))⟩
  | some I =>
    rw [hI] at hi
    exact ⟨by rw [e 500 (by omega)]; exact hi.1, hi.2.frm (Or.inr rfl) (hA.2.2.1 I hI).2.2.1 (fun c hc => e c (by omega))⟩
theorem cCc_refuses_s {N : cx_N} {E : ps_E} {M : cx_M} {A : qA} {i : Nat} (hA : qAI E A) (hi : i < 3) (h : qc_A N E M A) : qc_act N E M (cCc_refuses N M (nI i)) (pa_refB A.1 i, A.2) (-1) := by
  have t := pi_nI (n := i) (by omega)
  obtain ⟨π, ho, hf, h5, ⟨n1, n2, n3⟩, hW, hL⟩ := h.2.1
  have fr : ∀ c, c ≠ 605 → cx_up M 605 i (M 605 i + 1) c = M c := fun c hc => px_upc hc
  have hb0 := (h.2.1).frm (M' := cx_up M 605 i (M 605 i + 1)) (Or.inl rfl) hA.2.1.2.2.1
  have l6 : qc_lo 600 = 1200 ∧ cBk_st 600 = 1000 := ⟨rfl, rfl⟩
  refine ⟨cx_up M 605 i (M 605 i + 1), ?_, qc_A.bk (B := pa_refB A.1 i) hA h ⟨π, ⟨by rw [fr 602 (by decide)]; exact ho.1, ho.2.1, ho.2.2.1, by rw [fr 602 (by decide)]; exact ho.2.2.2⟩, fun j hj => (hf j hj).fr (fun c h1 h2 => fr c (by omega)), by rw [fr 600 (by decide)]; exact h5, ⟨by rw [fr 600 (by decide)]; exact n1, by rw [fr 603 (by decide), fr 604 (by decide)]; exact n2, ?_⟩, hW.fr (fun c h1 h2 => fr c (by omega)), fun j S hj => (hL j S hj).fr (fun c h1 h2 => fr c (by omega))⟩ (by rw [fr 1000 (by decide)]; exact h.2.2.1) (fun c hc => fr c (by omega)), qc_F.up (by decide)⟩
  · unfold cCc_refuses cCc_refuses_0
    rw [px_ld (by omega) (by omega), px_st (by omega) (by omega), pn_I (by omega)]
  · intro j hj
    show cx_up M 605 i (M 605 i + 1) 605 j = if j = i then A.1.2.2.2 j + 1 else A.1.2.2.2 j
    rw [px_up]
    by_cases c : j = i
    · rw [if_pos ⟨rfl, c⟩, if_pos c, c, n3 i hi]
    · rw [if_neg (fun z => c z.2), if_neg c, n3 j hj]
theorem qI_31 {E : ps_E} {S : ps_S} (h : qI E S) : pn (S 0 31) ≤ 40 := by
  obtain ⟨T, hT, hI, -⟩ := h
  have := hI.1.1.2.2.1
  rw [pn_def]
  omega
theorem cCc_does_n {N : cx_N} {E : ps_E} {M : cx_M} {A : qA} (hA : qAI E A) (h : qc_A N E M A) : ∃ M', cCc_does N M 0 = some (M', 0, 0) ∧ qc_A N E M' (pa_refB A.1 1, A.2) ∧ qc_F M M' := by
  obtain ⟨M1, e1, h1, F1⟩ := cCc_refuses_s (i := 1) hA (by decide) h
  refine ⟨M1, ?_, h1, F1⟩
  unfold cCc_does cCc_does_0
  rw [if_pos rfl, px_cal (show cCc_refuses N M 1 = _ from e1)]
  rfl
theorem cCc_does_y {N : cx_N} {E : ps_E} {M : cx_M} {A : qA} (hN : 65 ≤ N.1) (hA : qAI E A) (h : qc_A N E M A) : ∃ M', cCc_does N M 1 = some (M', 1, 0) ∧ qc_A N E M' ((A.1.1, pa_keepL A.1, A.1.2.2), A.2) ∧ qc_F M M' ∧ ∀ c, (1000 ≤ c ∧ c < 1200) ∨ c = 8000 ∨ 9000 ≤ c ∧ c < 10000 → M' c = M c := by
  have l6 : qc_lo 600 = 1200 ∧ cBk_st 600 = 1000 := ⟨rfl, rfl⟩
  obtain ⟨M1, e1, h1, k1, f1⟩ := cBk_keeps_s (N := N) hN (Or.inl rfl) (qI_31 hA.2.1.1) hA.2.1.2.2.1 h.2.1
  have fr : ∀ c, c ≠ 600 → c ≠ 602 → ¬ (1200 ≤ c ∧ c < 5200) → M1 c = M c := fun c a b d => f1 c a b (by omega)
  refine ⟨M1, ?_, qc_A.bk (B := (A.1.1, pa_keepL A.1, A.1.2.2)) hA h h1 (by rw [fr 1000 (by decide) (by decide) (by decide)]; exact h.2.2.1) (fun c hc => fr c (by omega) (by omega) (by omega)), fun c hc => fr c (by omega) (by omega) (by omega), fun c hc => fr c (by omega) (by omega) (by omega)⟩
  unfold cCc_does cCc_does_0
  rw [if_neg (by decide), px_cal e1]
  rfl
theorem cCc_within_s {N : cx_N} {M : cx_M} {x lo hi : Int32} : cCc_within N M x lo hi = some (M, if lo.toInt ≤ x.toInt ∧ x.toInt ≤ hi.toInt then 1 else 0, 0) := by
  unfold cCc_within cCc_within_0
  by_cases c1 : x < lo
  · have := Int32.lt_iff_toInt_lt.mp c1
    rw [if_pos c1, if_neg (by omega)]
  · have c1' : ¬ x.toInt < lo.toInt := fun z => c1 (Int32.lt_iff_toInt_lt.mpr z)
    rw [if_neg c1]
    by_cases c2 : hi < x
    · have := Int32.lt_iff_toInt_lt.mp c2
      rw [if_pos c2, if_neg (by omega)]
    · have c2' : ¬ hi.toInt < x.toInt := fun z => c2 (Int32.lt_iff_toInt_lt.mpr z)
      rw [if_neg c2, if_pos (by omega)]
/-- a number of the state turned -/
theorem qc_A.put {N : cx_N} {E : ps_E} {M : cx_M} {A : qA} {k j : Nat} {x : Int32} (hA : qAI E A) (h : qc_A N E M A) (hk : k < 34) (hj : pc_F k = j) (h31 : j ≠ 31) (h35 : j ≠ 35) (h632 : j ≠ 6 ∧ j ≠ 32 := by decide) : qc_A N E (cx_up M 1000 k x) ((cx_up A.1.1 0 j x, A.1.2), A.2) ∧ qc_F M (cx_up M 1000 k x) := by
  have l6 : qc_lo 600 = 1200 ∧ cBk_st 600 = 1000 := ⟨rfl, rfl⟩
  obtain ⟨π, ho, hf, h5, ⟨n1, n2, n3⟩, ⟨v, hv⟩, hL⟩ := h.2.1
  have fr : ∀ c, c ≠ 1000 → cx_up M 1000 k x c = M c := fun c hc => px_upc hc
  refine ⟨qc_A.bk (B := (cx_up A.1.1 0 j x, A.1.2)) hA h ⟨π, ⟨by rw [fr 602 (by decide)]; exact ho.1, ho.2.1, ho.2.2.1, by rw [fr 602 (by decide)]; exact ho.2.2.2⟩, fun i hi => (hf i hi).fr (fun c h1 h2 => fr c (by omega)), by rw [fr 600 (by decide)]; exact h5, ⟨by rw [fr 600 (by decide)]; exact n1, by rw [fr 603 (by decide), fr 604 (by decide)]; exact n2, by rw [fr 605 (by decide)]; exact n3⟩, ⟨v, ?_⟩, fun i S hi => (hL i S hi).fr (fun c h1 h2 => fr c (by omega))⟩ ⟨by rw [px_up, if_neg (by omega)]; exact h.2.2.1.1, by rw [px_up, if_neg (by omega)]; exact h.2.2.1.2⟩ (fun c hc => fr c (by omega)), qc_F.up (by decide)⟩
  have hu := pc_up hv k x (Or.inl hk) hj h31 (fun z => absurd z h35) h632
  show pc_S (cx_up M 1000 k x) 1000 (cx_up (cx_up A.1.1 0 j x) 0 35 v)
  rw [px_comm (Or.inr h35)]
  exact hu
theorem qc_A.n {N : cx_N} {E : ps_E} {M : cx_M} {A : qA} (h : qc_A N E M A) (k : Nat) {j : Nat} (hk : pc_d k) (hj : pc_F k = j) (h35 : j ≠ 35) : M 1000 k = A.1.1 0 j := by
  obtain ⟨π, -, -, -, -, ⟨v, hv⟩, -⟩ := h.2.1
  have hv' : pc_S M 1000 (cx_up A.1.1 0 35 v) := hv
  rw [pc_n hv' k hk hj, px_up, if_neg (fun z => h35 z.2)]
theorem cCc_turn29_s {N : cx_N} {E : ps_E} {M : cx_M} {A : qA} {k j : Nat} {x lo hi d : Int32} (hN : 65 ≤ N.1) (hA : qAI E A) (h : qc_A N E M A) (hk : k < 34) (hj : pc_F k = j) (h31 : j ≠ 31) (h35 : j ≠ 35) (hT : (j = 25 ∨ j = 26 ∨ j = 29) ∨ (j = 27 ∧ lo = -99 ∧ hi = 99) ∨ (j = 28 ∧ lo = 0 ∧ hi = 2)) :
    (pa_mayTurn A j x lo hi → ∃ M1, cCc_does N M 1 = some (M1, 1, 0) ∧ qc_A N E (cx_up M1 1000 k x) (pa_turn A j x lo hi d).1 ∧ (pa_turn A j x lo hi d).2 = M 1000 k ∧ qc_F M (cx_up M1 1000 k x)) ∧
    (¬ pa_mayTurn A j x lo hi → ∃ M1, cCc_does N M 0 = some (M1, 0, 0) ∧ qc_A N E M1 (pa_turn A j x lo hi d).1 ∧ (pa_turn A j x lo hi d).2 = d ∧ qc_F M M1) := by
  constructor
  · intro c
    obtain ⟨M1, e1, h1, F1, f1⟩ := cCc_does_y hN hA h
    rw [pa_turn_y c]
    have hA1 : qAI E ((A.1.1, pa_keepL A.1, A.1.2.2), A.2) := hA.B (B := (A.1.1, pa_keepL A.1, A.1.2.2)) ⟨hA.2.1.1, hA.2.1.keep.1, hA.2.1.keep.2, hA.2.1.2.2.2⟩
    obtain ⟨h2, F2⟩ := qc_A.put (x := x) hA1 h1 hk hj h31 h35 (by omega)
    exact ⟨M1, e1, h2, (h.n k (Or.inl hk) hj h35).symm, F1.tr F2⟩
  · intro c
    obtain ⟨M1, e1, h1, F1⟩ := cCc_does_n hA h
    rw [pa_turn_n c]
    exact ⟨M1, e1, h1, rfl, F1⟩
theorem cCc_lose_s {N : cx_N} {E : ps_E} {M : cx_M} {A : qA} {x : Int32} (hN : 65 ≤ N.1) (hA : qAI E A) (h : qc_A N E M A) : qc_act N E M (cCc_lose N M x) (pa_turn A 25 x 0 20 (-1)).1 (pa_turn A 25 x 0 20 (-1)).2 := by
  obtain ⟨yes, no⟩ := cCc_turn29_s (k := 26) (j := 25) (x := x) (lo := 0) (hi := 20) (d := -1) hN hA h (by decide) rfl (by decide) (by decide) (Or.inl (Or.inl rfl))
  have hno : ¬ pa_mayTurn A 25 x 0 20 → qc_act N E M (cCc_lose_28 N M x (M 1000 26)) (pa_turn A 25 x 0 20 (-1)).1 (pa_turn A 25 x 0 20 (-1)).2 := by
    intro c
    obtain ⟨M1, e1, h1, v1, F1⟩ := no c
    refine ⟨M1, ?_, h1, F1⟩
    unfold cCc_lose_28 cCc_lose_29
    rw [px_cal e1, if_pos rfl, v1]
  have g := h.n 26 (Or.inl (by decide)) (show pc_F 26 = 25 from rfl) (by decide)
  unfold cCc_lose cCc_lose_0
  simp only [px_get]
  rw [px_cal cCc_within_s]
  by_cases c : (0 : Int32).toInt ≤ x.toInt ∧ x.toInt ≤ (20 : Int32).toInt
  · rw [if_pos c, if_neg (by decide)]
    by_cases c2 : x = M 1000 26
    · rw [if_pos c2]
      exact hno (fun z => z.2 (by rw [c2]; exact g))
    · rw [if_neg c2]
      obtain ⟨M1, e1, h1, v1, F1⟩ := yes ⟨c, by rw [← g]; exact c2⟩
      refine ⟨cx_up M1 1000 26 x, ?_, h1, F1⟩
      unfold cCc_lose_29
      simp only [px_put]
      rw [px_cal e1, if_neg (by decide), v1]
  · rw [if_neg c, if_pos rfl]
    exact hno (fun z => c z.1)
theorem cCc_stall_s {N : cx_N} {E : ps_E} {M : cx_M} {A : qA} {x : Int32} (hN : 65 ≤ N.1) (hA : qAI E A) (h : qc_A N E M A) : qc_act N E M (cCc_stall N M x) (pa_turn A 26 x 0 30 (-1)).1 (pa_turn A 26 x 0 30 (-1)).2 := by
  obtain ⟨yes, no⟩ := cCc_turn29_s (k := 27) (j := 26) (x := x) (lo := 0) (hi := 30) (d := -1) hN hA h (by decide) rfl (by decide) (by decide) (Or.inl (Or.inr (Or.inl rfl)))
  have hno : ¬ pa_mayTurn A 26 x 0 30 → qc_act N E M (cCc_stall_28 N M x (M 1000 27)) (pa_turn A 26 x 0 30 (-1)).1 (pa_turn A 26 x 0 30 (-1)).2 := by
    intro c
    obtain ⟨M1, e1, h1, v1, F1⟩ := no c
    refine ⟨M1, ?_, h1, F1⟩
    unfold cCc_stall_28 cCc_stall_29
    rw [px_cal e1, if_pos rfl, v1]
  have g := h.n 27 (Or.inl (by decide)) (show pc_F 27 = 26 from rfl) (by decide)
  unfold cCc_stall cCc_stall_0
  simp only [px_get]
  rw [px_cal cCc_within_s]
  by_cases c : (0 : Int32).toInt ≤ x.toInt ∧ x.toInt ≤ (30 : Int32).toInt
  · rw [if_pos c, if_neg (by decide)]
    by_cases c2 : x = M 1000 27
    · rw [if_pos c2]
      exact hno (fun z => z.2 (by rw [c2]; exact g))
    · rw [if_neg c2]
      obtain ⟨M1, e1, h1, v1, F1⟩ := yes ⟨c, by rw [← g]; exact c2⟩
      refine ⟨cx_up M1 1000 27 x, ?_, h1, F1⟩
      unfold cCc_stall_29
      simp only [px_put]
      rw [px_cal e1, if_neg (by decide), v1]
  · rw [if_neg c, if_pos rfl]
    exact hno (fun z => c z.1)
theorem cCc_fault_s {N : cx_N} {E : ps_E} {M : cx_M} {A : qA} (h : qc_A N E M A) : qc_act N E M (cCc_fault N M) A A.2.2.2 := by
  refine ⟨M, ?_, h, qc_F.rf⟩
  unfold cCc_fault cCc_fault_0
  simp only [px_get]
  rw [h.2.2.2.2.1.2.2]
