/-! THE CLASS: undo, image, restore -/
theorem cCc_undo_s {N : cx_N} {E : ps_E} {M : cx_M} {A : qA} (hN : 65 ≤ N.1) (hA : qAI E A) (h : qc_A N E M A) : qc_act N E M (cCc_undo N M) (pa_undo A).1 (pa_undo A).2 := by
  have l6 : qc_lo 600 = 1200 ∧ cBk_st 600 = 1000 := ⟨rfl, rfl⟩
  have hL40 := hA.2.1.2.2.1
  obtain ⟨π, ho, hf, h5, ⟨n1, n2, n3⟩, hW, hL⟩ := h.2.1
  unfold cCc_undo cCc_undo_0 pa_undo
  simp only [px_get, px_put]
  by_cases c : A.1.2.1.length = 0
  · rw [if_pos c, h5, c, if_pos (show nI 0 = 0 from rfl)]
    exact ⟨M, rfl, h, qc_F.rf⟩
  · rw [if_neg c]
    obtain ⟨a, ea⟩ : ∃ a, A.1.2.1.length = a + 1 := ⟨A.1.2.1.length - 1, by omega⟩
    rw [ea, Nat.add_sub_cancel]
    rw [ea] at h5
    have hx : A.1.2.1[a]? = some (A.1.2.1.getD a A.1.1) := by
      rw [List.getD_eq_getElem?_getD, List.getElem?_eq_getElem (by omega)]
      rfl
    generalize A.1.2.1.getD a A.1.1 = X at hx ⊢
    have hX := hA.2.1.2.1 X (List.mem_of_getElem? hx)
    have hpa := ho.2.1 a (by omega)
    rw [h5, if_neg (nI_ne0 (by omega) (by omega)), nI_pr1 (by omega)]
    have g5 : cx_up M 600 5 (nI a) 600 5 = nI a := by rw [px_up, if_pos ⟨rfl, rfl⟩]
    have gk : ∀ k, k ≠ 5 → cx_up M 600 5 (nI a) 600 k = M 600 k := fun k hk => by rw [px_up, if_neg (fun z => hk z.2)]
    have gc : ∀ c, c ≠ 600 → cx_up M 600 5 (nI a) c = M c := fun c hc => px_upc hc
    generalize cx_up M 600 5 (nI a) = M3 at g5 gk gc ⊢
    have ho3 : qc_ord M3 600 π := ⟨by rw [gc 602 (by decide)]; exact ho.1, ho.2.1, ho.2.2.1, by rw [gc 602 (by decide)]; exact ho.2.2.2⟩
    have hXW : qc_W M3 (1200 + 100 * π a) X := (hL a X hx).fr (fun c h1 h2 => gc c (by omega))
    obtain ⟨v, hv⟩ := hXW
    have hU : pc_U M3 1000 := hW.U.fr (fun c h1 h2 => gc c (by omega))
    obtain ⟨M6, e6, s6, z43, -, z45, f6⟩ := cSt_like_s (b := 1000) (b2 := 1200 + 100 * π a) hN hv hU (by omega) (by rw [px_up, if_neg (by decide)]; exact qI_31 hX)
    rw [px_upup] at s6
    rw [g5, show M3 602 = M3 (600 + 2) from rfl, px_ahd ho3 (Or.inl rfl) (by omega)]
    have ej : qc_lo 600 + 100 * π a = 1200 + 100 * π a := by rw [l6.1]
    rw [ej, px_cal e6]
    have fr : ∀ c, c ≠ 600 → c < 1000 ∨ 1043 < c → M6 c = M c := fun c a b => by rw [f6 c b, gc c a]
    have f600 : M6 600 = M3 600 := f6 600 (by omega)
    refine ⟨M6, by rw [f600, g5], qc_A.bk (B := (X, A.1.2.1.take a, A.1.2.2)) hA h ⟨π, ⟨by rw [fr 602 (by omega) (by omega)]; exact ho.1, ho.2.1, ho.2.2.1, by rw [fr 602 (by omega) (by omega)]; exact ho.2.2.2⟩, fun i hi => (hf i hi).fr (fun c h1 h2 => fr c (by omega) (by omega)), ?_, ⟨by rw [f600, gk 6 (by decide)]; exact n1, by rw [fr 603 (by omega) (by omega), fr 604 (by omega) (by omega)]; exact n2, by rw [fr 605 (by omega) (by omega)]; exact n3⟩, ⟨_, s6⟩, fun i S hi => ?_⟩ ⟨z43, by rw [z45, gc 1000 (by decide)]; exact h.2.2.1.2⟩ (fun c hc => fr c (by omega) (by omega)), fun c hc => fr c (by omega) (by omega)⟩
    · show M6 600 5 = nI (A.1.2.1.take a).length
      rw [f600, g5, List.length_take, ea, Nat.min_eq_left (by omega)]
    · have hj' : (A.1.2.1.take a)[i]? = some S := hi
      rw [List.getElem?_take] at hj'
      by_cases z : i < a
      · rw [if_pos z] at hj'
        have := ho.2.1 i (by omega)
        exact (hL i S hj').fr (fun c h1 h2 => fr c (by omega) (by omega))
      · rw [if_neg z] at hj'; cases hj'
noncomputable def qc_end (N : cx_N) (b b2 : Nat) (M : cx_M) : Option cx_R :=
  cx_cal (cSt_copies N (b2 + 3) 8 (b + 3) 8 M) fun M2 _ =>
  cx_cal (cSt_copies N (b2 + 4) 8 (b + 4) 8 M2) fun M3 _ =>
  cx_cal (cSt_copies N (b2 + 5) 3 (b + 5) 3 M3) fun M4 _ =>
  cx_get M4 b2 5 fun v5 =>
  cx_put M4 b 5 v5 fun M6 =>
  cx_get M6 b2 6 fun v7 =>
  cx_put M6 b 6 v7 fun M8 =>
  some (M8, 0, 0)
theorem cBk_like_loop {N : cx_N} {b b2 : Nat} {π π2 : Nat → Nat} {L : List ps_S} (hN : 65 ≤ N.1) (hb : (b = 600 ∧ b2 = 700) ∨ (b = 700 ∧ b2 = 600)) (hL : L.length ≤ 40) (h31 : ∀ S ∈ L, pn (S 0 31) ≤ 40) :
    ∀ (m k f : Nat) (M : cx_M), k + m = L.length → m < f → qc_ord M b π → qc_fr M b → qc_ord M b2 π2 → M b2 5 = nI L.length → (∀ j X, L[j]? = some X → qc_W M (qc_lo b2 + 100 * π2 j) X) → (∀ j X, j < k → L[j]? = some X → qc_W M (qc_lo b + 100 * π j) X) →
    ∃ M', cBk_like_13 N b b2 f M (nI k) = qc_end N b b2 M' ∧ qc_fr M' b ∧ (∀ j X, L[j]? = some X → qc_W M' (qc_lo b + 100 * π j) X) ∧ ∀ c, ¬ (qc_lo b ≤ c ∧ c < qc_lo b + 4000) → M' c = M c := by
  intro m
  have hl : (qc_lo b = 1200 ∧ qc_lo b2 = 20000 ∧ b = 600 ∧ b2 = 700) ∨ (qc_lo b = 20000 ∧ qc_lo b2 = 1200 ∧ b = 700 ∧ b2 = 600) := by
    rcases hb with ⟨rfl, rfl⟩ | ⟨rfl, rfl⟩
    · exact Or.inl ⟨rfl, rfl, rfl, rfl⟩
    · exact Or.inr ⟨rfl, rfl, rfl, rfl⟩
  induction m with
  | zero =>
    intro k f M hk hf ho hfr ho2 h5 hs hd
    obtain ⟨f, rfl⟩ : ∃ q, f = q + 1 := ⟨f - 1, by omega⟩
    refine ⟨M, ?_, hfr, fun j X hj => ?_, fun _ _ => rfl⟩
    · show cBk_like_13b N b b2 (cBk_like_13 N b b2 f) M (nI k) = _
      unfold cBk_like_13b
      simp only [px_get]
      rw [h5, if_pos (nI_le (by omega) (by omega))]
      unfold qc_end
      simp only [px_get]
    · refine hd j X ?_ hj
      rcases Nat.lt_or_ge j L.length with z | z
      · omega
      · rw [List.getElem?_eq_none z] at hj; cases hj
  | succ m ih =>
    intro k f M hk hf ho hfr ho2 h5 hs hd
    obtain ⟨f, rfl⟩ : ∃ q, f = q + 1 := ⟨f - 1, by omega⟩
    have hkL : k < L.length := by omega
    have hx : L[k]? = some L[k] := List.getElem?_eq_getElem hkL
    have p1 := ho.2.1 k (by omega)
    have p2 := ho2.2.1 k (by omega)
    obtain ⟨v, hv⟩ := hs k _ hx
    obtain ⟨M1, e1, s1, -, -, -, f1⟩ := cSt_like_s (b := qc_lo b + 100 * π k) (b2 := qc_lo b2 + 100 * π2 k) hN hv (hfr _ p1) (by omega) (by rw [px_up, if_neg (by decide)]; exact h31 _ (List.getElem_mem hkL))
    rw [px_upup] at s1
    have fr : ∀ c, ¬ (qc_lo b ≤ c ∧ c < qc_lo b + 4000) → M1 c = M c := fun c hc => f1 c (by omega)
    obtain ⟨M', e, r1, r2, r3⟩ := ih (k + 1) f M1 (by omega) (by omega) ⟨by rw [fr _ (by omega)]; exact ho.1, ho.2.1, ho.2.2.1, by rw [fr _ (by omega)]; exact ho.2.2.2⟩ (fun i hi => by
        by_cases c : i = π k
        · rw [c]; exact s1.U
        · exact (hfr i hi).fr (fun c h1 h2 => f1 c (by omega)))
      ⟨by rw [fr _ (by omega)]; exact ho2.1, ho2.2.1, ho2.2.2.1, by rw [fr _ (by omega)]; exact ho2.2.2.2⟩ (by rw [fr _ (by omega)]; exact h5) (fun j X hj => by
        have hj2 : j < L.length := by
          rcases Nat.lt_or_ge j L.length with z | z
          · exact z
          · rw [List.getElem?_eq_none z] at hj; cases hj
        have := ho2.2.1 j (by omega)
        exact (hs j X hj).fr (fun c h1 h2 => fr c (by omega))) (fun j X hj hjx => by
        by_cases c : j = k
        · rw [c] at hjx ⊢
          have eX : L[k] = X := Option.some.inj (hx.symm.trans hjx)
          rw [← eX]
          exact ⟨_, s1⟩
        · have hne : π j ≠ π k := fun z => c (ho.2.2.1 j k (by omega) (by omega) z)
          have := ho.2.1 j (by omega)
          exact (hd j X (by omega) hjx).fr (fun c h1 h2 => f1 c (by omega)))
    refine ⟨M', ?_, r1, r2, fun c hc => by rw [r3 c hc, fr c hc]⟩
    show cBk_like_13b N b b2 (cBk_like_13 N b b2 f) M (nI k) = _
    unfold cBk_like_13b
    simp only [px_get, px_let]
    rw [h5, if_neg (nI_ge (by omega) (by omega)), px_ahd ho (by omega) (by omega), px_ahd ho2 (by omega) (by omega), px_cal e1, ← nI_succ]
    exact e
theorem cBk_like_s {N : cx_N} {M : cx_M} {E : ps_E} {b b2 : Nat} {B : qB} (hN : 65 ≤ N.1) (hb : (b = 600 ∧ b2 = 700) ∨ (b = 700 ∧ b2 = 600)) (hB : qBI E B) (h2 : qc_bk M b2 B) (hs : qc_sh M b) :
    ∃ M', cBk_like N b b2 M = some (M', 0, 0) ∧ qc_bk M' b B ∧ M' (cBk_st b) 43 = 0 ∧ M' (cBk_st b) 45 = M (cBk_st b) 45 ∧ ∀ c, ¬ (b ≤ c ∧ c ≤ b + 5) → ¬ (cBk_st b ≤ c ∧ c ≤ cBk_st b + 43) → ¬ (qc_lo b ≤ c ∧ c < qc_lo b + 4000) → M' c = M c := by
  have hl : (qc_lo b = 1200 ∧ qc_lo b2 = 20000 ∧ b = 600 ∧ b2 = 700 ∧ cBk_st b = 1000 ∧ cBk_st b2 = 6000) ∨ (qc_lo b = 20000 ∧ qc_lo b2 = 1200 ∧ b = 700 ∧ b2 = 600 ∧ cBk_st b = 6000 ∧ cBk_st b2 = 1000) := by
    rcases hb with ⟨rfl, rfl⟩ | ⟨rfl, rfl⟩
    · exact Or.inl ⟨rfl, rfl, rfl, rfl, rfl, rfl⟩
    · exact Or.inr ⟨rfl, rfl, rfl, rfl, rfl, rfl⟩
  obtain ⟨hI, hIs, hL40, hL8⟩ := hB
  obtain ⟨π2, ho2, -, h5, ⟨n1, n2, n3⟩, ⟨v, hv⟩, hL⟩ := h2
  obtain ⟨π, ho, hf, hU⟩ := hs
  obtain ⟨M1, e1, s1, z43, -, z45, f1⟩ := cSt_like_s (b := cBk_st b) (b2 := cBk_st b2) hN hv hU (by omega) (by rw [px_up, if_neg (by decide)]; exact qI_31 hI)
  rw [px_upup] at s1
  have g1 : ∀ c, ¬ (cBk_st b ≤ c ∧ c ≤ cBk_st b + 43) → M1 c = M c := fun c hc => f1 c (by omega)
  obtain ⟨M2, e2, r1, r2, r3⟩ := cBk_like_loop (N := N) (b := b) (b2 := b2) (π := π) (π2 := π2) (L := B.2.1) hN hb hL40 (fun S hS => qI_31 (hIs S hS)) B.2.1.length 0 N.1 M1 (by omega) (by omega) ⟨by rw [g1 _ (by omega)]; exact ho.1, ho.2.1, ho.2.2.1, by rw [g1 _ (by omega)]; exact ho.2.2.2⟩ (fun i hi => (hf i hi).fr (fun c h1 h2 => g1 c (by omega))) ⟨by rw [g1 _ (by omega)]; exact ho2.1, ho2.2.1, ho2.2.2.1, by rw [g1 _ (by omega)]; exact ho2.2.2.2⟩ (by rw [g1 _ (by omega)]; exact h5) (fun j X hj => by
      have hj2 : j < B.2.1.length := by
        rcases Nat.lt_or_ge j B.2.1.length with z | z
        · exact z
        · rw [List.getElem?_eq_none z] at hj; cases hj
      have := ho2.2.1 j (by omega)
      exact (hL j X hj).fr (fun c h1 h2 => g1 c (by omega))) (fun j X hj _ => absurd hj (by omega))
  generalize hM3 : cx_set M2 (b + 3) (fun k => if k < 8 then M2 (b2 + 3) k else M2 (b + 3) k) = M3
  generalize hM4 : cx_set M3 (b + 4) (fun k => if k < 8 then M3 (b2 + 4) k else M3 (b + 4) k) = M4
  generalize hM5 : cx_set M4 (b + 5) (fun k => if k < 3 then M4 (b2 + 5) k else M4 (b + 5) k) = M5
  have c3 : ∀ c, c ≠ b + 3 → M3 c = M2 c := fun c hc => by rw [← hM3, px_setc hc]
  have c4 : ∀ c, c ≠ b + 4 → M4 c = M3 c := fun c hc => by rw [← hM4, px_setc hc]
  have c5 : ∀ c, c ≠ b + 5 → M5 c = M4 c := fun c hc => by rw [← hM5, px_setc hc]
  have c2 : ∀ c, ¬ (cBk_st b ≤ c ∧ c ≤ cBk_st b + 43) → ¬ (qc_lo b ≤ c ∧ c < qc_lo b + 4000) → M2 c = M c := fun c a d => by rw [r3 c d, g1 c a]
  have k3 : ∀ q, q < 8 → M5 (b + 3) q = M (b2 + 3) q := fun q hq => by rw [c5 _ (by omega), c4 _ (by omega), ← hM3, px_sets, if_pos hq, c2 _ (by omega) (by omega)]
  have k4 : ∀ q, q < 8 → M5 (b + 4) q = M (b2 + 4) q := fun q hq => by rw [c5 _ (by omega), ← hM4, px_sets, if_pos hq, c3 _ (by omega), c2 _ (by omega) (by omega)]
  have k5 : ∀ q, q < 3 → M5 (b + 5) q = M (b2 + 5) q := fun q hq => by rw [← hM5, px_sets, if_pos hq, c4 _ (by omega), c3 _ (by omega), c2 _ (by omega) (by omega)]
  have q2 : M5 b2 = M b2 := by rw [c5 _ (by omega), c4 _ (by omega), c3 _ (by omega), c2 _ (by omega) (by omega)]
  have fin : ∀ c, c ≠ b → cx_up (cx_up M5 b 5 (M b2 5)) b 6 (M b2 6) c = M5 c := fun c hc => by rw [px_upc hc, px_upc hc]
  have fin2 : ∀ c, c ≠ b → c ≠ b + 3 → c ≠ b + 4 → c ≠ b + 5 → cx_up (cx_up M5 b 5 (M b2 5)) b 6 (M b2 6) c = M2 c := fun c a d e f => by rw [fin c a, c5 c f, c4 c e, c3 c d]
  have es : M2 (cBk_st b) = M1 (cBk_st b) := r3 _ (by omega)
  refine ⟨cx_up (cx_up M5 b 5 (M b2 5)) b 6 (M b2 6), ?_, ⟨π, ⟨?_, ho.2.1, ho.2.2.1, ?_⟩, fun i hi => (r1 i hi).fr (fun c h1 h2 => fin2 c (by omega) (by omega) (by omega) (by omega)), ?_, ⟨?_, ?_, ?_⟩, ?_, ?_⟩, ?_, ?_, ?_⟩
  · unfold cBk_like cBk_like_0
    rw [px_cal e1, show (0 : Int32) = nI 0 from rfl, e2]
    unfold qc_end
    rw [px_cal (cSt_copies_s (by omega) (by omega)), hM3, px_cal (cSt_copies_s (by omega) (by omega)), hM4, px_cal (cSt_copies_s (by omega) (by omega)), hM5]
    simp only [px_get, px_put]
    rw [px_upc (show b2 ≠ b by omega), q2]
    rfl
  · rw [fin2 _ (by omega) (by omega) (by omega) (by omega), c2 _ (by omega) (by omega)]; exact ho.1
  · rw [fin2 _ (by omega) (by omega) (by omega) (by omega), c2 _ (by omega) (by omega)]; exact ho.2.2.2
  · rw [px_up, if_neg (by omega), px_up, if_pos ⟨rfl, rfl⟩]; exact h5
  · rw [px_up, if_pos ⟨rfl, rfl⟩]; exact n1
  · intro j x hj
    have hj2 : j < B.2.2.1.length := by
      rcases Nat.lt_or_ge j B.2.2.1.length with y | y
      · exact y
      · rw [List.getElem?_eq_none y] at hj; cases hj
    rw [fin _ (by omega), fin _ (by omega), k3 j (by omega), k4 j (by omega)]
    exact n2 j x hj
  · intro j hj
    rw [fin _ (by omega), k5 j hj]
    exact n3 j hj
  · exact (show qc_W M1 (cBk_st b) B.1 from ⟨_, s1⟩).fr (fun c h1 h2 => by rw [fin2 c (by omega) (by omega) (by omega) (by omega), r3 c (by omega)])
  · intro j X hj
    have hj2 : j < B.2.1.length := by
      rcases Nat.lt_or_ge j B.2.1.length with z | z
      · exact z
      · rw [List.getElem?_eq_none z] at hj; cases hj
    have := ho.2.1 j (by omega)
    exact (r2 j X hj).fr (fun c h1 h2 => fin2 c (by omega) (by omega) (by omega) (by omega))
  · rw [fin2 _ (by omega) (by omega) (by omega) (by omega), es]; exact z43
  · rw [fin2 _ (by omega) (by omega) (by omega) (by omega), es]; exact z45
  · intro c a d e
    rw [fin2 c (by omega) (by omega) (by omega) (by omega), c2 c d e]
