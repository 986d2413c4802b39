/-! BOOKS: the class's side -/
theorem pc_S.fr {M M' : cx_M} {b : Nat} {S : ps_S} (h : pc_S M b S) (e : ∀ c, b ≤ c → c ≤ b + 43 → M' c = M c) : pc_S M' b S := by
  obtain ⟨h1, h2, h3, h4, h5, h6⟩ := h
  refine ⟨?_, h2, ?_, ?_, ?_, ?_⟩
  · rw [e b (by omega) (by omega)]; exact h1
  · rw [e (b + 35) (by omega) (by omega), e (b + 36) (by omega) (by omega), e (b + 37) (by omega) (by omega)]; exact h3
  · rw [e (b + 38) (by omega) (by omega), e (b + 39) (by omega) (by omega)]; exact h4
  · rw [e (b + 40) (by omega) (by omega), e (b + 41) (by omega) (by omega)]; exact h5
  · exact h6.fr (e (b + 42) (by omega) (by omega)) (e (b + 42 + 1) (by omega) (by omega)) rfl rfl
/-- a state of the class, but for what it says of drops -/
def qc_W (M : cx_M) (b : Nat) (S : ps_S) : Prop := ∃ v, pc_S M b (cx_up S 0 35 v)
theorem qc_W.fr {M M' : cx_M} {b : Nat} {S : ps_S} (h : qc_W M b S) (e : ∀ c, b ≤ c → c ≤ b + 43 → M' c = M c) : qc_W M' b S := by
  obtain ⟨v, hv⟩ := h
  exact ⟨v, hv.fr e⟩
theorem pc_U.fr {M M' : cx_M} {b : Nat} (h : pc_U M b) (e : ∀ c, b ≤ c → c ≤ b + 43 → M' c = M c) : pc_U M' b := by
  obtain ⟨h1, f, hf⟩ := h
  exact ⟨by rw [e b (by omega) (by omega)]; exact h1, f, hf.fr (e (b + 42) (by omega) (by omega)) (e (b + 42 + 1) (by omega) (by omega))⟩
theorem pc_S.U {M : cx_M} {b : Nat} {S : ps_S} (h : pc_S M b S) : pc_U M b := by
  obtain ⟨f, hf, -⟩ := h.2.2.2.2.2
  refine ⟨?_, f, hf⟩
  rw [h.1 42 (Or.inr rfl)]
  exact h.2.1
theorem qc_W.U {M : cx_M} {b : Nat} {S : ps_S} (h : qc_W M b S) : pc_U M b := by
  obtain ⟨v, hv⟩ := h
  exact hv.U
theorem pc_S.W {M : cx_M} {b : Nat} {S : ps_S} (h : pc_S M b S) : qc_W M b S := by
  refine ⟨S 0 35, ?_⟩
  have e : cx_up S 0 35 (S 0 35) = S := by
    funext c k
    rw [px_up]
    by_cases z : c = 0 ∧ k = 35
    · rw [if_pos z, z.1, z.2]
    · rw [if_neg z]
  rw [e]
  exact h
def qc_lo (b : Nat) : Nat := if b = 600 then 1200 else 20000
def qc_ord (M : cx_M) (b : Nat) (π : Nat → Nat) : Prop := M (b + 2) 100 = nI 40 ∧ (∀ k, k < 40 → π k < 40) ∧ (∀ i j, i < 40 → j < 40 → π i = π j → i = j) ∧ ∀ k, k < 40 → M (b + 2) k = nI (qc_lo b + 100 * π k)
def qc_fr (M : cx_M) (b : Nat) : Prop := ∀ i, i < 40 → pc_U M (qc_lo b + 100 * i)
def qc_nos (M : cx_M) (b : Nat) (B : qB) : Prop := M b 6 = nI B.2.2.1.length ∧ (∀ j x, B.2.2.1[j]? = some x → M (b + 3) j = x.1 ∧ M (b + 4) j = x.2) ∧ ∀ j, j < 3 → M (b + 5) j = B.2.2.2 j
def qc_bk (M : cx_M) (b : Nat) (B : qB) : Prop := ∃ π, qc_ord M b π ∧ qc_fr M b ∧ M b 5 = nI B.2.1.length ∧ qc_nos M b B ∧ qc_W M (cBk_st b) B.1 ∧ ∀ j S, B.2.1[j]? = some S → qc_W M (qc_lo b + 100 * π j) S
theorem qc_all : ∀ i, i < 40 → 1200 + 100 * i ∈ cSt_all ∧ 20000 + 100 * i ∈ cSt_all := by decide +kernel
theorem qc_mem {b i : Nat} (hi : i < 40) : qc_lo b + 100 * i ∈ cSt_all := by
  unfold qc_lo
  split
  · exact (qc_all i hi).1
  · exact (qc_all i hi).2
theorem qc_lo_b {b : Nat} (hb : b = 600 ∨ b = 700) : (qc_lo b = 1200 ∧ cBk_st b = 1000 ∧ b = 600) ∨ (qc_lo b = 20000 ∧ cBk_st b = 6000 ∧ b = 700) := by
  rcases hb with rfl | rfl
  · exact Or.inl ⟨rfl, rfl, rfl⟩
  · exact Or.inr ⟨rfl, rfl, rfl⟩
theorem px_ahd {M : cx_M} {b k : Nat} {π : Nat → Nat} {F : Nat → Option cx_R} (h : qc_ord M b π) (hb : b = 600 ∨ b = 700) (hk : k < 40) : cx_ahd (M (b + 2)) (nI k) F = F (qc_lo b + 100 * π k) := by
  obtain ⟨h1, h2, -, h4⟩ := h
  have hl := qc_lo_b hb
  have hp := h2 k hk
  have e1 : (nI k).toNatClampNeg = k := pn_I (by omega)
  have e2 : (nI 40).toNatClampNeg = 40 := pn_I (by omega)
  have e3 : (nI (qc_lo b + 100 * π k)).toNatClampNeg = qc_lo b + 100 * π k := pn_I (by omega)
  unfold cx_ahd
  rw [e1, h1, e2, h4 k hk, e3, if_neg, if_pos (qc_mem hp)]
  intro z
  rcases z with z | z | z
  · exact nI_pos (by omega) z
  · omega
  · omega
theorem cBk_keeps_38_s {N : cx_N} {M : cx_M} {b a : Nat} {π : Nat → Nat} {L : List ps_S} {S : ps_S} (hN : 65 ≤ N.1) (hb : b = 600 ∨ b = 700) (h31 : pn (S 0 31) ≤ 40) (ha : a < 40) (hl : L.length = a) (ho : qc_ord M b π) (hf : qc_fr M b) (h5 : M b 5 = nI a) (hW : qc_W M (cBk_st b) S) (hL : ∀ j X, L[j]? = some X → qc_W M (qc_lo b + 100 * π j) X) :
    ∃ M', cBk_keeps_38 N b M = some (M', 0, 0) ∧ qc_ord M' b π ∧ qc_fr M' b ∧ M' b 5 = nI (a + 1) ∧ (∀ k, k ≠ 5 → M' b k = M b k) ∧ qc_W M' (cBk_st b) S ∧ (∀ j X, (L ++ [S])[j]? = some X → qc_W M' (qc_lo b + 100 * π j) X) ∧ ∀ c, c ≠ b → ¬ (qc_lo b ≤ c ∧ c < qc_lo b + 4000) → M' c = M c := by
  have hl2 := qc_lo_b hb
  obtain ⟨v, hv⟩ := hW
  have hpa := ho.2.1 a ha
  obtain ⟨M1, e1, s1, -, -, -, f1⟩ := cSt_like_s (b := qc_lo b + 100 * π a) (b2 := cBk_st b) hN hv (hf _ hpa) (by omega) (by rw [px_up, if_neg (by decide)]; exact h31)
  rw [px_upup] at s1
  have hW1 : qc_W M1 (qc_lo b + 100 * π a) S := ⟨_, s1⟩
  have fb : ∀ c, c = b ∨ c = b + 2 → M1 c = M c := fun c hc => f1 c (by omega)
  have g5 : M1 b 5 = nI a := by rw [fb b (Or.inl rfl)]; exact h5
  have far2 : ∀ c, c ≠ b → cx_up M1 b 5 (nI a + 1) c = M1 c := fun c hc => px_upc hc
  have far3 : ∀ c, c ≠ b → (c < qc_lo b + 100 * π a ∨ qc_lo b + 100 * π a + 43 < c) → cx_up M1 b 5 (nI a + 1) c = M c := fun c hc h => (far2 c hc).trans (f1 c h)
  have hWa : qc_W (cx_up M1 b 5 (nI a + 1)) (qc_lo b + 100 * π a) S := hW1.fr (fun c h1 h2 => far2 c (by omega))
  refine ⟨cx_up M1 b 5 (nI a + 1), ?_, ?_, ?_, ?_, ?_, ?_, ?_, ?_⟩
  · unfold cBk_keeps_38
    simp only [px_get, px_put]
    rw [h5, px_ahd ho hb ha, px_cal e1, g5]
  · obtain ⟨o1, o2, o3, o4⟩ := ho
    have e2 : cx_up M1 b 5 (nI a + 1) (b + 2) = M (b + 2) := by rw [far2 _ (by omega), fb _ (Or.inr rfl)]
    exact ⟨by rw [e2]; exact o1, o2, o3, fun k hk => by rw [e2]; exact o4 k hk⟩
  · intro i hi
    by_cases c : i = π a
    · rw [c]; exact hWa.U
    · exact (hf i hi).fr (fun c h1 h2 => far3 c (by omega) (by omega))
  · rw [px_up, if_pos ⟨rfl, rfl⟩, ← nI_succ]
  · intro k hk
    rw [px_up, if_neg (fun z => hk z.2), fb b (Or.inl rfl)]
  · exact (show qc_W M (cBk_st b) S from ⟨v, hv⟩).fr (fun c h1 h2 => far3 c (by omega) (by omega))
  · intro j X hj
    by_cases c : j < L.length
    · rw [List.getElem?_append_left c] at hj
      have hne : π j ≠ π a := fun z => by
        have := ho.2.2.1 j a (by omega) ha z
        omega
      have hpj := ho.2.1 j (by omega)
      exact (hL j X hj).fr (fun c h1 h2 => far3 c (by omega) (by omega))
    · rw [List.getElem?_append_right (by omega)] at hj
      cases hd : j - L.length with
      | zero =>
        rw [hd] at hj
        have eS : S = X := Option.some.inj hj
        have ej : j = a := by omega
        rw [ej, ← eS]
        exact hWa
      | succ d =>
        rw [hd] at hj
        cases hj
  · intro c hc hc2
    exact far3 c hc (by omega)
theorem px_alls {M : cx_M} {b : Nat} {π : Nat → Nat} (h : qc_ord M b π) : ¬ cx_alls (M (b + 2)) = false := by
  obtain ⟨h1, h2, -, h4⟩ := h
  have e2 : (nI 40).toNatClampNeg = 40 := pn_I (by omega)
  have : cx_alls (M (b + 2)) = true := by
    unfold cx_alls
    rw [h1, e2, List.all_eq_true]
    intro q hq
    have hq2 := List.mem_range.mp hq
    have hp := h2 q hq2
    have hlo : qc_lo b ≤ 20000 := by unfold qc_lo; split <;> omega
    have e3 : (nI (qc_lo b + 100 * π q)).toNatClampNeg = qc_lo b + 100 * π q := pn_I (by omega)
    rw [h4 q hq2, e3, decide_eq_true_eq]
    exact qc_mem hp
  rw [this]
  decide
theorem qc_bk.frm {M M' : cx_M} {b : Nat} {B : qB} (hb : b = 600 ∨ b = 700) (hlen : B.2.1.length ≤ 40) (h : qc_bk M b B) (e : ∀ c, (b ≤ c ∧ c ≤ b + 5) ∨ (cBk_st b ≤ c ∧ c ≤ cBk_st b + 43) ∨ (qc_lo b ≤ c ∧ c < qc_lo b + 4000) → M' c = M c) : qc_bk M' b B := by
  have hl := qc_lo_b hb
  obtain ⟨π, ⟨o1, o2, o3, o4⟩, hf, h5, ⟨n1, n2, n3⟩, hW, hL⟩ := h
  refine ⟨π, ⟨?_, o2, o3, ?_⟩, fun i hi => (hf i hi).fr (fun c h1 h2 => e c (by omega)), ?_, ⟨?_, ?_, ?_⟩, hW.fr (fun c h1 h2 => e c (by omega)), ?_⟩
  · rw [e _ (by omega)]; exact o1
  · rw [e _ (by omega)]; exact o4
  · rw [e _ (by omega)]; exact h5
  · rw [e _ (by omega)]; exact n1
  · rw [e _ (by omega), e _ (by omega)]; exact n2
  · rw [e _ (by omega)]; exact n3
  · intro j S hj
    have c : j < 40 := by
      rcases Nat.lt_or_ge j B.2.1.length with z | z
      · omega
      · rw [List.getElem?_eq_none z] at hj; cases hj
    have := o2 j c
    exact (hL j S hj).fr (fun c h1 h2 => e c (by omega))
theorem cBk_keeps_s {N : cx_N} {M : cx_M} {b : Nat} {B : qB} (hN : 65 ≤ N.1) (hb : b = 600 ∨ b = 700) (h31 : pn (B.1 0 31) ≤ 40) (hlen : B.2.1.length ≤ 40) (h : qc_bk M b B) :
    ∃ M', cBk_keeps N b M = some (M', 0, 0) ∧ qc_bk M' b (B.1, pa_keepL B, B.2.2) ∧ (∀ k, k ≠ 5 → M' b k = M b k) ∧ ∀ c, c ≠ b → c ≠ b + 2 → ¬ (qc_lo b ≤ c ∧ c < qc_lo b + 4000) → M' c = M c := by
  have hl := qc_lo_b hb
  obtain ⟨π, ho, hf, h5, ⟨n1, n2, n3⟩, hW, hL⟩ := h
  unfold cBk_keeps cBk_keeps_0
  simp only [px_get]
  by_cases c : B.2.1.length = 40
  · have hk : pa_keepL B = B.2.1.drop 1 ++ [B.1] := by unfold pa_keepL; rw [if_pos c]
    have hlD : (B.2.1.drop 1).length = 39 := by rw [List.length_drop]; omega
    obtain ⟨o1, o2, o3, o4⟩ := ho
    have g40 : ¬ (nI 39 < 0 ∨ 40 ≤ (nI 39).toNatClampNeg) := by decide
    have e39 : (nI 39).toNatClampNeg = 39 := pn_I (by omega)
    have ez : (0 : Int32).toNatClampNeg = 0 := rfl
    rw [h5, c, if_pos (show nI 40 = 40 from rfl)]
    unfold cx_arem
    rw [if_neg (px_alls ⟨o1, o2, o3, o4⟩), show (0 : Int32) = nI 0 from rfl, px_ahd ⟨o1, o2, o3, o4⟩ hb (by decide), show (nI 0 : Int32).toNatClampNeg = 0 from rfl, o1]
    generalize hM3 : cx_set M (b + 2) (fun q => if q = 100 then nI 40 - 1 else if q = 101 then M (b + 2) 101 + 1 else if q < 0 then M (b + 2) q else M (b + 2) (q + 1)) = M3
    have a100 : M3 (b + 2) 100 = nI 39 := by rw [← hM3, px_sets, if_pos rfl]; exact nI_pr1 (by omega)
    have ak : ∀ k, k < 39 → M3 (b + 2) k = nI (qc_lo b + 100 * π (k + 1)) := fun k hk2 => by
      rw [← hM3, px_sets, if_neg (by omega), if_neg (by omega), if_neg (by omega)]
      exact o4 (k + 1) (by omega)
    have ac : ∀ c, c ≠ b + 2 → M3 c = M c := fun c hc => by rw [← hM3, px_setc hc]
    unfold cx_aadd
    dsimp only
    rw [a100, if_neg g40, e39]
    generalize hM4 : cx_set M3 (b + 2) (fun q => if q = 100 then nI 39 + 1 else if q = 101 then M3 (b + 2) 101 + 1 else if q = 39 then nI (qc_lo b + 100 * π 0) else M3 (b + 2) q) = M4
    have b100 : M4 (b + 2) 100 = nI 40 := by rw [← hM4, px_sets, if_pos rfl, ← nI_succ]
    have bk : ∀ k, k < 40 → M4 (b + 2) k = nI (qc_lo b + 100 * (if k < 39 then π (k + 1) else π 0)) := fun k hk2 => by
      rw [← hM4, px_sets, if_neg (by omega), if_neg (by omega)]
      by_cases z : k = 39
      · rw [if_pos z, if_neg (by omega)]
      · rw [if_neg z, if_pos (by omega)]
        exact ak k (by omega)
    have bc : ∀ c, c ≠ b + 2 → M4 c = M c := fun c hc => by rw [← hM4, px_setc hc, ac c hc]
    have g5 : M4 b 5 = nI 40 := by rw [bc b (by omega), h5, c]
    rw [g5, nI_pr1 (n := 39) (by omega)]
    simp only [px_put]
    have ho5 : qc_ord (cx_up M4 b 5 (nI 39)) b (fun k => if k < 39 then π (k + 1) else π 0) := by
      refine ⟨by rw [px_upc (by omega)]; exact b100, fun k hk2 => ?_, fun i j hi hj e => ?_, fun k hk2 => by rw [px_upc (by omega)]; exact bk k hk2⟩
      · show (if k < 39 then π (k + 1) else π 0) < 40
        split
        · exact o2 _ (by omega)
        · exact o2 0 (by omega)
      · have e2 : (if i < 39 then π (i + 1) else π 0) = (if j < 39 then π (j + 1) else π 0) := e
        by_cases ci : i < 39
        · by_cases cj : j < 39
          · rw [if_pos ci, if_pos cj] at e2
            have := o3 _ _ (by omega) (by omega) e2
            omega
          · rw [if_pos ci, if_neg cj] at e2
            have := o3 _ _ (by omega) (by omega) e2
            omega
        · by_cases cj : j < 39
          · rw [if_neg ci, if_pos cj] at e2
            have := o3 _ _ (by omega) (by omega) e2
            omega
          · omega
    have f5 : ∀ c, c ≠ b → c ≠ b + 2 → cx_up M4 b 5 (nI 39) c = M c := fun c h1 h2 => by rw [px_upc h1, bc c h2]
    obtain ⟨M', e', o', fr', g', k', W', L', c'⟩ := cBk_keeps_38_s (N := N) (M := cx_up M4 b 5 (nI 39)) (b := b) (a := 39) (π := fun k => if k < 39 then π (k + 1) else π 0) (L := B.2.1.drop 1) (S := B.1) hN hb h31 (by decide) hlD ho5 (fun i hi => (hf i hi).fr (fun c h1 h2 => f5 c (by omega) (by omega))) (by rw [px_up, if_pos ⟨rfl, rfl⟩]) (hW.fr (fun c h1 h2 => f5 c (by omega) (by omega))) (fun j X hj => by
      have hj2 : j < 39 := by
        rcases Nat.lt_or_ge j 39 with q | q
        · exact q
        · rw [List.getElem?_eq_none (by omega)] at hj; cases hj
      rw [List.getElem?_drop] at hj
      have hx := hL (1 + j) X hj
      have hp := o2 (1 + j) (by omega)
      show qc_W _ (qc_lo b + 100 * (if j < 39 then π (j + 1) else π 0)) X
      rw [if_pos hj2, Nat.add_comm j 1]
      exact hx.fr (fun c h1 h2 => f5 c (by omega) (by omega)))
    have kk : ∀ k, k ≠ 5 → M' b k = M b k := fun k hk2 => by rw [k' k hk2, px_up, if_neg (fun z => hk2 z.2), bc b (by omega)]
    have cc : ∀ c, c ≠ b → c ≠ b + 2 → ¬ (qc_lo b ≤ c ∧ c < qc_lo b + 4000) → M' c = M c := fun c h1 h2 h3 => (c' c h1 h3).trans (f5 c h1 h2)
    refine ⟨M', e', ⟨_, o', fr', ?_, ⟨?_, ?_, ?_⟩, W', ?_⟩, kk, cc⟩
    · show M' b 5 = nI (pa_keepL B).length
      rw [hk, List.length_append, hlD]; exact g'
    · rw [kk 6 (by decide)]; exact n1
    · intro j x hj
      rw [cc (b + 3) (by omega) (by omega) (by omega), cc (b + 4) (by omega) (by omega) (by omega)]
      exact n2 j x hj
    · intro j hj
      rw [cc (b + 5) (by omega) (by omega) (by omega)]
      exact n3 j hj
    · intro j X hj
      have hj2 : (B.2.1.drop 1 ++ [B.1])[j]? = some X := by rw [← hk]; exact hj
      exact L' j X hj2
  · have hk : pa_keepL B = B.2.1 ++ [B.1] := by unfold pa_keepL; rw [if_neg c]
    rw [h5, if_neg (fun z => by
      have := congrArg Int32.toInt z
      rw [pi_nI (by omega), show (40 : Int32).toInt = 40 from rfl] at this
      omega)]
    obtain ⟨M', e', o', fr', g', k', W', L', c'⟩ := cBk_keeps_38_s (N := N) (a := B.2.1.length) (L := B.2.1) (S := B.1) hN hb h31 (by omega) rfl ho hf h5 hW hL
    refine ⟨M', e', ⟨π, o', fr', ?_, ⟨?_, ?_, ?_⟩, W', ?_⟩, k', fun c h1 _ h3 => c' c h1 h3⟩
    · show M' b 5 = nI (pa_keepL B).length
      rw [hk, List.length_append]; exact g'
    · rw [k' 6 (by decide)]; exact n1
    · intro j x hj
      rw [c' (b + 3) (by omega) (by omega), c' (b + 4) (by omega) (by omega)]
      exact n2 j x hj
    · intro j hj
      rw [c' (b + 5) (by omega) (by omega)]
      exact n3 j hj
    · intro j X hj
      have hj2 : (B.2.1 ++ [B.1])[j]? = some X := by rw [← hk]; exact hj
      exact L' j X hj2
