/-! storms: the reference -/
def pa_st (E : ps_E) (S : ps_S) (q : List Bool) : Prop := (ps_steps E 80 (S, q)).1 0 7 = S 0 7
def pa_bit (w k : Nat) : Prop := ((nI w >>> (nI k &&& 31)) &&& 1) = (1 : Int32)
def pa_bitD (w k : Nat) : Decidable (pa_bit w k) := by unfold pa_bit; exact inferInstance
def pa_qr (p w : Nat) : List Bool := (List.range p).map (fun j => @decide (pa_bit w (p - 1 - j)) (pa_bitD _ _))
def pa_pr (t : Int32) (w : Nat) : Nat → Int32
  | 0 => 1
  | k + 1 => pa_pr t w k * @ite Int32 (pa_bit w k) (pa_bitD _ _) t (10 - t)
noncomputable def pa_sr (E : ps_E) (S : ps_S) (p : Nat) (t : Int32) : Nat → Nat → Int32 → Int32
  | 0, _, a => a
  | m + 1, w, a => pa_sr E S p t m (w + 1) (a + @ite Int32 (pa_st E S (pa_qr p w)) (Classical.propDecidable _) (pa_pr t w p) 0)
theorem ps_steps_qn {E : ps_E} {s : ps_T} : ∀ n, (ps_steps E n s).2.length ≤ s.2.length := by
  have hd : ∀ (S : ps_S) (q : List Bool), (ps_draw (S, q)).2.length ≤ q.length := by
    intro S q
    unfold ps_draw
    cases q with
    | nil =>
      try dsimp only
      split <;> exact Nat.le_refl _
    | cons x q => exact Nat.le_succ _
  have hm : ∀ (s : ps_T), (ps_made E s).2.length ≤ s.2.length := by
    intro s
    unfold ps_made
    try dsimp only
    split
    · unfold ps_send
      try dsimp only
      exact hd _ _
    · exact Nat.le_refl _
  have hk : ∀ (n : Nat) (s : ps_T), (ps_make E n s).2.length ≤ s.2.length := by
    intro n
    induction n with
    | zero => intro s; exact Nat.le_refl _
    | succ n ih =>
      intro s
      unfold ps_make
      split
      · exact Nat.le_refl _
      · exact Nat.le_trans (ih _) (hm _)
  have hs : ∀ (s : ps_T), (ps_step E s).2.length ≤ s.2.length := by
    intro s
    unfold ps_step ps_far
    try dsimp only
    exact hk _ _
  intro n
  induction n with
  | zero => exact Nat.le_refl _
  | succ n ih => exact Nat.le_trans (hs _) ih
theorem qr_T.storm {N : Nat} {E : ps_E} {M : cx_M} {A : qA} {s : ps_T} {p w : Nat} (h : qr_T N E M A s) (hp : p ≤ 5) : qr_T N E (cx_up (cx_up M 60 29 (nI p)) 60 30 (nI w)) A (s.1, pa_qr p w) := by
  have ne : ∀ j, j ≠ 29 → j ≠ 30 → cx_up (cx_up M 60 29 (nI p)) 60 30 (nI w) 60 j = M 60 j := fun j h1 h2 => by rw [px_up, if_neg (fun z => h2 z.2), px_up, if_neg (fun z => h1 z.2)]
  have nc : ∀ c, c ≠ 60 → cx_up (cx_up M 60 29 (nI p)) 60 30 (nI w) c = M c := fun c hc => by rw [px_upc hc, px_upc hc]
  have hlen : (pa_qr p w).length = p := by unfold pa_qr; rw [List.length_map, List.length_range]
  obtain ⟨⟨h1, h2, h3, h4⟩, hR, hr, h60⟩ := h
  refine ⟨⟨by rw [nc 8 (by decide)]; exact h1, by rw [ne 24 (by decide) (by decide), ne 25 (by decide) (by decide)]; exact h2, h3.fr (fun c hc => nc c (fun e => by rw [e] at hc; revert hc; decide)), ?_⟩, by rw [nc 34 (by decide)]; exact hR, hr.fr (fun c hc => nc c (fun e => by rw [e] at hc; revert hc; decide)) (fun j hj => ne j (fun e => by subst e; revert hj; decide) (fun e => by subst e; revert hj; decide)), by rw [ne 2 (by decide) (by decide)]; exact h60⟩
  refine ⟨?_, by show (pa_qr p w).length ≤ 8; omega, fun j hj => ?_⟩
  · show _ = nI (pa_qr p w).length
    rw [hlen, px_up, if_neg (by decide), px_up, if_pos ⟨rfl, rfl⟩]
  · have hj' : j < p := by rw [← hlen]; exact hj
    show _ ↔ (pa_qr p w)[j]? = some true
    have hl2 : ((cx_up A.1.1 0 0 0, pa_qr p w) : ps_T).2.length = p := hlen
    rw [px_up, if_pos ⟨rfl, rfl⟩]
    unfold pa_qr
    rw [List.getElem?_map, List.getElem?_range hj']
    simp only [Option.map_some, Option.some.injEq, decide_eq_true_eq]
    show ((nI w >>> (nI ((pa_qr p w).length - 1 - j) &&& 31)) &&& 1) = (1 : Int32) ↔ pa_bit w (p - 1 - j)
    rw [hlen]
    exact Iff.rfl
theorem qr_T.still {N : Nat} {E : ps_E} {M : cx_M} {A : qA} {s : ps_T} (h : qr_T N E M A s) : qr_T N E (cx_up M 60 29 0) A (s.1, []) := by
  have ne : ∀ j, j ≠ 29 → cx_up M 60 29 0 60 j = M 60 j := fun j h1 => by rw [px_up, if_neg (fun z => h1 z.2)]
  obtain ⟨⟨h1, h2, h3, h4⟩, hR, hr, h60⟩ := h
  refine ⟨⟨by rw [px_upc (by decide)]; exact h1, by rw [ne 24 (by decide), ne 25 (by decide)]; exact h2, h3.fr (fun c hc => px_upc (fun e => by rw [e] at hc; revert hc; decide)), ?_⟩, by rw [px_upc (by decide)]; exact hR, hr.fr (fun c hc => px_upc (fun e => by rw [e] at hc; revert hc; decide)) (fun j hj => ne j (fun e => by subst e; revert hj; decide)), by rw [ne 2 (by decide)]; exact h60⟩
  exact ⟨by rw [px_up, if_pos ⟨rfl, rfl⟩]; rfl, by show 0 ≤ 8; decide, fun j hj => absurd hj (by show ¬ j < 0; omega)⟩
theorem tw_storms_inner {N : Nat} {E : ps_E} {A : qA} {T p w : Nat} {t a : Int32} (hN : 700 ≤ N) (hE : ps_EO E) (hI : ps_I E A.1.1 T) (hT : T ≤ 20000) (hp : p ≤ 5) (r : cx_M → Int32 → Int32 → Int32 → Int32 → Option cx_R) :
    ∀ (m k f : Nat) (M : cx_M), k + m = p → qr_T N E M A (A.1.1, []) → m < f →
    ∃ M', tw_storms_57 N r f M (nI p) t a (nI w) (pa_pr t w k) (nI k) = r M' (nI p) t (a + @ite Int32 (pa_st E A.1.1 (pa_qr p w)) (Classical.propDecidable _) (pa_pr t w p) 0) (nI (w + 1)) ∧ qr_T N E M' A (A.1.1, []) ∧ qr_F M M' := by
  intro m
  induction m with
  | zero =>
    intro k f M hk h hf
    obtain ⟨f, rfl⟩ : ∃ q, f = q + 1 := ⟨f - 1, by omega⟩
    have ek : k = p := by omega
    subst ek
    have h1 : qr_T N E (cx_up (cx_up M 60 29 (nI k)) 60 30 (nI w)) A (A.1.1, pa_qr k w) := h.storm (w := w) hp
    obtain ⟨M2, e2, h2, hF2⟩ := h1.goOn (n := 80) hN hE hI (by omega) (by omega)
    have g33 : (ps_steps E 80 (A.1.1, pa_qr k w)).1 0 33 = A.1.1 0 33 := ps_steps_0 (s := (A.1.1, pa_qr k w)) (by decide) 80
    have g34 : (ps_steps E 80 (A.1.1, pa_qr k w)).1 0 34 = A.1.1 0 34 := ps_steps_0 (s := (A.1.1, pa_qr k w)) (by decide) 80
    have hd : pa_st E A.1.1 (pa_qr k w) ↔ (ps_steps E 80 (A.1.1, pa_qr k w)).1 0 7 = A.1.1 0 7 := Iff.rfl
    generalize ps_steps E 80 (A.1.1, pa_qr k w) = s2 at h2 g33 g34 hd
    generalize pa_st E A.1.1 (pa_qr k w) = P at hd ⊢
    have hst := h2.still
    obtain ⟨M3, e3, h3, ho3⟩ := hst.back hN g33 g34 0
    have hFa : qr_F M M3 := ((((qr_F.up (by decide)).tr (qr_F.up (by decide))).tr hF2.q).tr (qr_F.up (by decide))).tr (fun c hc => ho3 c (by omega))
    have h133 : ∀ z : Int32, tw_storms_133 N r M2 (nI k) t (nI w) a z = r M3 (nI k) t (a + z) (nI (w + 1)) := by
      intro z
      unfold tw_storms_133
      simp only [px_let, px_put]
      rw [px_cal e3, ← nI_succ]
    refine ⟨M3, ?_, h3, hFa⟩
    show tw_storms_57b N r (tw_storms_57 N r f) M (nI k) t a (nI w) (pa_pr t w k) (nI k) = _
    unfold tw_storms_57b
    simp only [px_put]
    rw [if_pos (nI_le (Nat.le_refl _) (by omega)), px_cal (show tw_goOn N _ 80 = _ from e2)]
    simp only [px_get]
    rw [pr_n h2.1.1 7 (by decide), pr_n h2.2.1 7 (by decide), h133, h133]
    by_cases c : P
    · rw [if_pos (hd.mp c), if_pos c]
    · rw [if_neg (fun z => c (hd.mpr z)), if_neg c]
  | succ m ih =>
    intro k f M hk h hf
    obtain ⟨f, rfl⟩ : ∃ q, f = q + 1 := ⟨f - 1, by omega⟩
    obtain ⟨M2, e2, h2, hF2⟩ := ih (k + 1) f M (by omega) h (by omega)
    refine ⟨M2, ?_, h2, hF2⟩
    show tw_storms_57b N r (tw_storms_57 N r f) M (nI p) t a (nI w) (pa_pr t w k) (nI k) = _
    unfold tw_storms_57b tw_storms_83
    rw [if_neg (nI_ge (by omega) (by omega)), px_cal tw_isOf_s]
    simp only [px_let]
    rw [← nI_succ]
    have hpr : pa_pr t w (k + 1) = pa_pr t w k * @ite Int32 (pa_bit w k) (pa_bitD _ _) t (10 - t) := rfl
    rw [hpr] at e2
    by_cases c : pa_bit w k
    · have c' := c
      unfold pa_bit at c'
      rw [if_pos c] at e2
      rw [if_pos c', if_neg (by decide)]
      exact e2
    · have c' := c
      unfold pa_bit at c'
      rw [if_neg c] at e2
      rw [if_neg c', if_pos rfl]
      exact e2
theorem pi_shl : ∀ p, p < 6 → (1 : Int32) <<< (nI p &&& 31) = nI (2 ^ p) := by decide +kernel
theorem tw_storms_outer {N : Nat} {E : ps_E} {A : qA} {T p : Nat} {t : Int32} (hN : 700 ≤ N) (hE : ps_EO E) (hI : ps_I E A.1.1 T) (hT : T ≤ 20000) (hp : p ≤ 5) :
    ∀ (m w f : Nat) (M : cx_M) (a : Int32), w + m = 2 ^ p → qr_T N E M A (A.1.1, []) → m < f → ∃ M', tw_storms_43 N f M (nI p) t a (nI w) = some (M', pa_sr E A.1.1 p t m w a, 0) ∧ qr_T N E M' A (A.1.1, []) ∧ qr_F M M' := by
  have h32 : 2 ^ p ≤ 32 := Nat.pow_le_pow_right (n := 2) (by decide) hp
  intro m
  induction m with
  | zero =>
    intro w f M a hw h hf
    obtain ⟨f, rfl⟩ : ∃ q, f = q + 1 := ⟨f - 1, by omega⟩
    refine ⟨M, ?_, h, qr_F.rf⟩
    show tw_storms_43b N (tw_storms_43 N f) M (nI p) t a (nI w) = _
    unfold tw_storms_43b
    rw [pi_shl p (by omega), if_pos (nI_le (by omega) (by omega))]
    rfl
  | succ m ih =>
    intro w f M a hw h hf
    obtain ⟨f, rfl⟩ : ∃ q, f = q + 1 := ⟨f - 1, by omega⟩
    obtain ⟨M1, e1, h1, hF1⟩ := tw_storms_inner (w := w) (t := t) (a := a) hN hE hI hT hp (tw_storms_43 N f) p 0 N M (by omega) h (by omega)
    obtain ⟨M2, e2, h2, hF2⟩ := ih (w + 1) f M1 _ (by omega) h1 (by omega)
    refine ⟨M2, ?_, h2, hF1.tr hF2⟩
    show tw_storms_43b N (tw_storms_43 N f) M (nI p) t a (nI w) = _
    unfold tw_storms_43b
    rw [pi_shl p (by omega), if_neg (nI_ge (by omega) (by omega))]
    exact e1.trans e2
theorem tw_storms_s {N : Nat} {E : ps_E} {M : cx_M} {A : qA} {p t : Int32} (hN : 700 ≤ N) (hA : qAI E A) (h : qr_pre N E M A) :
    tw_ok N E A M (tw_storms N M p t) (pa_sr E A.1.1 (pn p) t (2 ^ pn p) 0 0) (if (1 ≤ p.toInt ∧ p.toInt ≤ 5) ∧ (0 ≤ t.toInt ∧ t.toInt ≤ 10) then 0 else 1) := by
  obtain ⟨M1, e1, hA1, hc1, hF1⟩ := h
  obtain ⟨hE, ⟨⟨T, hT, hI, -⟩, -⟩, -⟩ := hA
  have bad : ∃ M' v', tw_storms_28 N M1 = some (M', v', 0) ∧ qr_A N E M' A ∧ M' 60 2 = 1 ∧ ((1 : Int32) = 0 → v' = pa_sr E A.1.1 (pn p) t (2 ^ pn p) 0 0) ∧ qr_F M M' := by
    obtain ⟨M2, e2, hA2, hc2, hF2⟩ := tw_fail_s (x := 1) hA1
    unfold tw_storms_28
    rw [px_cal e2]
    exact ⟨M2, 0, rfl, hA2, hc2, fun z => absurd z (by decide), hF1.tr hF2⟩
  unfold tw_ok tw_storms tw_storms_0
  rw [px_cal e1, px_cal tw_isIn_s]
  by_cases cp : 1 ≤ p.toInt ∧ p.toInt ≤ 5
  · rw [if_pos (show (1 : Int64).toInt ≤ p.toInt ∧ p.toInt ≤ (5 : Int64).toInt from cp), if_neg (by decide), px_cal tw_isIn_s]
    by_cases ct : 0 ≤ t.toInt ∧ t.toInt ≤ 10
    · rw [if_pos (show (0 : Int64).toInt ≤ t.toInt ∧ t.toInt ≤ (10 : Int64).toInt from ct), if_neg (by decide), if_pos ⟨cp, ct⟩]
      obtain ⟨M2, e2, h2, hF2, -⟩ := qr_T.remember hN hA1 hc1
      rw [px_cal e2]
      have ep : p = nI (pn p) := pn_nI (by omega)
      have hp : pn p ≤ 5 := by rw [pn_def]; omega
      generalize pn p = pp at ep hp ⊢
      subst ep
      have h32 : 2 ^ pp ≤ 32 := Nat.pow_le_pow_right (n := 2) (by decide) hp
      obtain ⟨M3, e3, h3, hF3⟩ := tw_storms_outer (t := t) hN hE hI hT hp (2 ^ pp) 0 N M2 0 (by omega) h2 (by omega)
      exact ⟨M3, _, e3, h3.end, h3.2.2.2, fun _ => rfl, (hF1.tr hF2).tr hF3⟩
    · rw [if_neg (show ¬ ((0 : Int64).toInt ≤ t.toInt ∧ t.toInt ≤ (10 : Int64).toInt) from ct), if_pos rfl, if_neg (fun z => ct z.2)]
      exact bad
  · rw [if_neg (show ¬ ((1 : Int64).toInt ≤ p.toInt ∧ p.toInt ≤ (5 : Int64).toInt) from cp), if_pos rfl, if_neg (fun z => cp z.1)]
    exact bad
