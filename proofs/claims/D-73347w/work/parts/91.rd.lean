/-! ARRAY DEQUES of cached boxes -/
def qd_w (z x : Nat) : Nat := if x < z then x else x - z
/-- a deque a, its array b (z places), from h on: the numbers vs -/
def qd_D (ic : Nat → Nat) (M : cx_M) (P : dP) (L : dL) (a b z h : Nat) (vs : List Nat) : Prop :=
  (a, (0, 19, 0)) ∈ L ∧ (b, (3, 4, z)) ∈ L ∧ P a 0 = some b ∧ (2 ≤ z ∧ z ≤ 1000) ∧ h < z ∧ vs.length < z ∧ M (dc a) 1 = nI h ∧ M (dc a) 2 = nI (qd_w z (h + vs.length)) ∧
  ∀ i v, vs[i]? = some v → v < 128 ∧ P b (qd_w z (h + i)) = some (ic (v + 128))
theorem qd_w_lt {z x : Nat} (h : x < 2 * z) : qd_w z x < z := by
  unfold qd_w
  split <;> omega
theorem qd_w_inj {z h i j : Nat} (hh : h < z) (hi : i < z) (hj : j < z) (e : qd_w z (h + i) = qd_w z (h + j)) : i = j := by
  unfold qd_w at e
  split at e <;> split at e <;> omega
theorem qd_Dx {ic : Nat → Nat} {L : dL} {P : dP} {v : Nat} (hv : v < 128) : dBx ic L P (ic (v + 128)) (nI v) := by
  refine Or.inr ⟨v + 128, by omega, rfl, ?_⟩
  show nI v = nI (v + 128) - 128
  have t128 : (128 : Int32).toInt = 128 := rfl
  rw [i32_eq, i32_sub (by rw [pi_nI (by omega), t128]; omega) (by rw [pi_nI (by omega), t128]; omega), pi_nI (by omega), pi_nI (by omega), t128]
  omega
theorem qd_empty {N : dNt} {bc bs : Nat} {M : cx_M} {P : dP} {L : dL} {a b z h : Nat} {vs : List Nat} {Q : cd_Qt} (hD : qd_D (dia N.2) M P L a b z h vs) (hy : Q M P L (if vs.length = 0 then 1 else 0) none 0 0 0) : jAd_isEmpty N bc bs M P L a Q := by
  obtain ⟨h1, h2, h3, h4, h5, h6, h7, h8, h9⟩ := hD
  unfold jAd_isEmpty jAd_isEmpty_0
  refine ⟨h1, pq_get ⟨h1, pq_get ?_⟩⟩
  rw [h7, h8]
  have hlt := qd_w_lt (z := z) (x := h + vs.length) (by omega)
  by_cases c : vs.length = 0
  · rw [if_pos c] at hy
    rw [if_pos]
    · exact hy
    · rw [c]
      unfold qd_w
      rw [if_pos (by omega)]
      rfl
  · rw [if_neg c] at hy
    rw [if_neg]
    · exact hy
    · intro e
      have e1 := pw_inj (by omega) (by omega) e
      revert e1
      unfold qd_w
      split <;> omega
theorem pd_ldR {P : dP} {a n i : Nat} {F : Option Nat → Prop} (hi : i < n) (hn : n < 100000) (h : F (P a i)) : cd_ldR P a n (nI i) F := by
  unfold cd_ldR
  rw [if_neg (vp_in_nI hi (by omega)), nI_clamp (by omega)]
  exact h
theorem pd_stR {P : dP} {a n i : Nat} {v : Option Nat} {F : dP → Prop} (hi : i < n) (hn : n < 100000) (h : F (dPu P a i v)) : cd_stR P a n (nI i) v F := by
  unfold cd_stR
  rw [if_neg (vp_in_nI hi (by omega)), nI_clamp (by omega)]
  exact h
theorem qd_elementAt {N : dNt} {bc bs : Nat} {M : cx_M} {P : dP} {L : dL} {b z i : Nat} {Q : cd_Qt} (hb : (b, (3, 4, z)) ∈ L) (hi : i < z) (hz : z ≤ 1000) (hy : Q M P L 0 (P b i) 0 0 0) : jAd_elementAt N bc bs M P L b (nI i) Q := by
  unfold jAd_elementAt jAd_elementAt_0
  exact ⟨z, hb, pd_ldR hi (by omega) hy⟩
theorem qd_dec {N : dNt} {bc bs : Nat} {M : cx_M} {P : dP} {L : dL} {z h n : Nat} {Q : cd_Qt} (hh : h < z) (hn : 1 ≤ n) (hn2 : n < z) (hz : z ≤ 1000) (hy : Q M P L (nI (qd_w z (h + (n - 1)))) none 0 0 0) : jAd_dec N bc bs M P L (nI (qd_w z (h + n))) (nI z) Q := by
  unfold jAd_dec jAd_dec_0
  have hlt := qd_w_lt (z := z) (x := h + n) (by omega)
  have t := pi_nI (n := qd_w z (h + n)) (by omega)
  have tz := pi_nI (n := z) (by omega)
  have e : (nI (qd_w z (h + n)) - 1).toInt = (qd_w z (h + n) : Int) - 1 := by rw [i32_sub (by rw [i32_1]; omega) (by rw [i32_1]; omega), t, i32_1]
  refine pq_let ?_
  by_cases c : qd_w z (h + n) = 0
  · rw [if_neg (by rw [i32_le, pi_0, e]; omega)]
    refine pq_let ?_
    have e2 : nI z - 1 = nI (qd_w z (h + (n - 1))) := by
      have hlt2 := qd_w_lt (z := z) (x := h + (n - 1)) (by omega)
      rw [i32_eq, i32_sub (by rw [i32_1]; omega) (by rw [i32_1]; omega), tz, i32_1, pi_nI (by omega)]
      revert c
      unfold qd_w
      split <;> split <;> omega
    rw [e2]
    exact hy
  · rw [if_pos (by rw [i32_le, pi_0, e]; omega)]
    have e2 : nI (qd_w z (h + n)) - 1 = nI (qd_w z (h + (n - 1))) := by
      have hlt2 := qd_w_lt (z := z) (x := h + (n - 1)) (by omega)
      rw [i32_eq, e, pi_nI (by omega)]
      revert c
      unfold qd_w
      split <;> split <;> omega
    rw [e2]
    exact hy
theorem qd_inc {N : dNt} {bc bs : Nat} {M : cx_M} {P : dP} {L : dL} {z i : Nat} {Q : cd_Qt} (hi : i < z) (hz : z ≤ 1000) (hy : Q M P L (nI (qd_w z (i + 1))) none 0 0 0) : jAd_inc N bc bs M P L (nI i) (nI z) Q := by
  unfold jAd_inc jAd_inc_0
  refine pq_let ?_
  rw [← nI_succ]
  unfold qd_w at hy
  by_cases c : i + 1 < z
  · rw [if_pos c] at hy
    rw [if_pos (nI_lt c (by omega))]
    exact hy
  · rw [if_neg c, show i + 1 - z = 0 by omega] at hy
    rw [if_neg (nI_nlt (by omega) (by omega))]
    exact hy
theorem qd_peekFirst {N : dNt} {bc bs : Nat} {M : cx_M} {P : dP} {L : dL} {a b z h v : Nat} {vs : List Nat} {Q : cd_Qt} (hD : qd_D (dia N.2) M P L a b z h (v :: vs)) (hy : Q M P L 0 (some (dia N.2 (v + 128))) 0 0 0) : jAd_peekFirst N bc bs M P L a Q := by
  obtain ⟨h1, h2, h3, h4, h5, h6, h7, h8, h9⟩ := hD
  have e := (h9 0 v rfl).2
  have ew : qd_w z (h + 0) = h := by unfold qd_w; rw [if_pos (by omega)]; rfl
  rw [ew] at e
  unfold jAd_peekFirst jAd_peekFirst_0
  refine ⟨h1, pd_let ⟨h1, pq_get (pd_nn h3 ?_)⟩⟩
  rw [h7]
  refine qd_elementAt h2 h5 h4.2 ?_
  rw [e]
  intro _
  exact pd_add hy
theorem qd_peekLast {N : dNt} {bc bs : Nat} {M : cx_M} {P : dP} {L : dL} {a b z h v : Nat} {vs : List Nat} {Q : cd_Qt} (hD : qd_D (dia N.2) M P L a b z h (vs ++ [v])) (hy : Q M P L 0 (some (dia N.2 (v + 128))) 0 0 0) : jAd_peekLast N bc bs M P L a Q := by
  obtain ⟨h1, h2, h3, h4, h5, h6, h7, h8, h9⟩ := hD
  have hl : (vs ++ [v]).length = vs.length + 1 := by rw [List.length_append]; rfl
  have e := (h9 vs.length v (by rw [List.getElem?_append_right (Nat.le_refl _), Nat.sub_self]; rfl)).2
  rw [hl] at h6 h8
  unfold jAd_peekLast jAd_peekLast_0
  refine ⟨h1, pd_let ⟨h1, pq_get (pd_nn h3 ⟨z, h2, ?_⟩)⟩⟩
  rw [h8]
  refine qd_dec h5 (by omega) h6 h4.2 ?_
  intro _
  refine pd_add ?_
  refine qd_elementAt h2 (qd_w_lt (by omega)) h4.2 ?_
  rw [Nat.add_sub_cancel, e]
  intro _
  exact pd_add hy
/-- what a deque's changes leave -/
def qd_V (a b : Nat) (M : cx_M) (P : dP) (M' : cx_M) (P' : dP) : Prop := (∀ c, c ≠ dc a → M' c = M c) ∧ ∀ y, y ≠ a → y ≠ b → P' y = P y
theorem cd_ais0 {ic : Nat → Nat} {L : dL} : cd_ais ic L none := fun x hx => absurd hx (by simp)
theorem qd_pollFirst {N : dNt} {bc bs : Nat} {M : cx_M} {P : dP} {L : dL} {a b z h v : Nat} {vs : List Nat} {Q : cd_Qt} (hD : qd_D (dia N.2) M P L a b z h (v :: vs)) (hab : a ≠ b)
    (hy : ∀ M' P' r, qd_D (dia N.2) M' P' L a b z (qd_w z (h + 1)) vs → qd_V a b M P M' P' → Q M' P' L 0 r 0 0 0) : jAd_pollFirst N bc bs M P L a Q := by
  obtain ⟨h1, h2, h3, h4, h5, h6, h7, h8, h9⟩ := hD
  rw [List.length_cons] at h6 h8
  have e := (h9 0 v rfl).2
  have ew : qd_w z (h + 0) = h := by unfold qd_w; rw [if_pos (by omega)]; rfl
  rw [ew] at e
  unfold jAd_pollFirst jAd_pollFirst_0
  refine ⟨h1, pd_let ⟨h1, pq_get (pd_nn h3 ?_)⟩⟩
  rw [h7]
  refine qd_elementAt h2 h5 h4.2 ?_
  rw [e]
  intro _
  refine pd_add (pd_if1 rfl ⟨z, h2, cd_ais0, pd_stR h5 (by omega) ⟨z, h2, ?_⟩⟩)
  refine qd_inc h5 h4.2 ?_
  intro _
  refine pd_add ⟨h1, pq_put ?_⟩
  have hw1 := qd_w_lt (z := z) (x := h + 1) (by omega)
  refine hy _ _ _ ⟨h1, h2, by rw [dPu_ne hab]; exact h3, h4, hw1, by omega, by rw [px_up, if_pos ⟨rfl, rfl⟩], ?_, fun i x hx => ?_⟩ ⟨fun c hc => px_upc hc, fun y y1 y2 => dPu_ne y2⟩
  · rw [px_up, if_neg (fun z => absurd z.2 (by decide)), h8]
    refine congrArg nI ?_
    unfold qd_w
    split <;> split <;> split <;> omega
  · obtain ⟨g1, g2⟩ := h9 (i + 1) x hx
    have hi : i < vs.length := by
      rcases Nat.lt_or_ge i vs.length with z | z
      · exact z
      · rw [List.getElem?_eq_none z] at hx
        exact absurd hx (by simp)
    have ei : qd_w z (qd_w z (h + 1) + i) = qd_w z (h + (i + 1)) := by
      unfold qd_w
      split <;> split <;> split <;> omega
    refine ⟨g1, ?_⟩
    rw [ei, dPu_at, if_neg]
    · exact g2
    · unfold qd_w
      split <;> omega
theorem qd_pollLast {N : dNt} {bc bs : Nat} {M : cx_M} {P : dP} {L : dL} {a b z h v : Nat} {vs : List Nat} {Q : cd_Qt} (hD : qd_D (dia N.2) M P L a b z h (vs ++ [v])) (hab : a ≠ b)
    (hy : ∀ M' P' r, qd_D (dia N.2) M' P' L a b z h vs → qd_V a b M P M' P' → Q M' P' L 0 r 0 0 0) : jAd_pollLast N bc bs M P L a Q := by
  obtain ⟨h1, h2, h3, h4, h5, h6, h7, h8, h9⟩ := hD
  have hl : (vs ++ [v]).length = vs.length + 1 := by rw [List.length_append]; rfl
  have e := (h9 vs.length v (by rw [List.getElem?_append_right (Nat.le_refl _), Nat.sub_self]; rfl)).2
  rw [hl] at h6 h8
  unfold jAd_pollLast jAd_pollLast_0
  refine ⟨h1, pd_let ⟨h1, pq_get (pd_nn h3 ⟨z, h2, ?_⟩)⟩⟩
  rw [h8]
  refine qd_dec h5 (by omega) h6 h4.2 ?_
  intro _
  refine pd_add ?_
  have hlt := qd_w_lt (z := z) (x := h + vs.length) (by omega)
  rw [Nat.add_sub_cancel]
  refine qd_elementAt h2 hlt h4.2 ?_
  rw [e]
  intro _
  refine pd_add (pd_if1 rfl ⟨h1, pq_put ⟨z, h2, cd_ais0, pd_stR hlt (by omega) ?_⟩⟩)
  refine hy _ _ _ ⟨h1, h2, by rw [dPu_ne hab]; exact h3, h4, h5, by omega, by rw [px_up, if_neg (fun z => absurd z.2 (by decide))]; exact h7, by rw [px_up, if_pos ⟨rfl, rfl⟩], fun i x hx => ?_⟩ ⟨fun c hc => px_upc hc, fun y y1 y2 => dPu_ne y2⟩
  have hi : i < vs.length := by
    rcases Nat.lt_or_ge i vs.length with z | z
    · exact z
    · rw [List.getElem?_eq_none z] at hx
      exact absurd hx (by simp)
  obtain ⟨g1, g2⟩ := h9 i x (by rw [List.getElem?_append_left hi]; exact hx)
  refine ⟨g1, ?_⟩
  rw [dPu_at, if_neg (fun z => by have := qd_w_inj h5 (by omega) (by omega) z; omega)]
  exact g2
theorem qd_circ {N : dNt} {bc bs : Nat} {M : cx_M} {P : dP} {L : dL} {b z t : Nat} {Q : cd_Qt} (h2 : (b, (3, 4, z)) ∈ L) (hz : z ≤ 1000) (hlt : t < z) (fin : ∀ P' : dP, (∀ y, y ≠ b → P' y = P y) → Q M P' L 0 none 0 0 0) :
    ∀ (m i e f : Nat) (P' : dP), e ≤ z → t ≤ e → i ≤ e → (e - i) + (if e = t then 0 else t + 1) ≤ m → m < f → (∀ y, y ≠ b → P' y = P y) → jAd_circularClear_12 N bc bs Q b f M P' L 0 0 (nI i) (nI t) (nI e) := by
  intro m
  induction m with
  | zero =>
    intro i e f P' he hte hie hm hf hP'
    obtain ⟨f, rfl⟩ : ∃ q, f = q + 1 := ⟨f - 1, by omega⟩
    by_cases c : e = t
    · rw [if_pos c] at hm
      show jAd_circularClear_12b N bc bs Q b (jAd_circularClear_12 N bc bs Q b f) M P' L 0 0 (nI i) (nI t) (nI e)
      unfold jAd_circularClear_12b
      rw [if_pos (nI_le (by omega) (by omega)), if_pos (by rw [c])]
      exact fin P' hP'
    · rw [if_neg c] at hm
      omega
  | succ m ih =>
    intro i e f P' he hte hie hm hf hP'
    obtain ⟨f, rfl⟩ : ∃ q, f = q + 1 := ⟨f - 1, by omega⟩
    show jAd_circularClear_12b N bc bs Q b (jAd_circularClear_12 N bc bs Q b f) M P' L 0 0 (nI i) (nI t) (nI e)
    unfold jAd_circularClear_12b
    by_cases c1 : e ≤ i
    · rw [if_pos (nI_le c1 (by omega))]
      by_cases c : e = t
      · rw [if_pos (by rw [c])]
        exact fin P' hP'
      · rw [if_neg (fun z => c (pw_inj (by omega) (by omega) z))]
        rw [if_neg c] at hm
        exact ih 0 t f P' (by omega) (Nat.le_refl _) (Nat.zero_le _) (by rw [if_pos rfl]; omega) (by omega) hP'
    · rw [if_neg (nI_ge (by omega) (by omega))]
      refine ⟨z, h2, cd_ais0, pd_stR (by omega) (by omega) (pq_let ?_)⟩
      rw [← nI_succ]
      exact ih (i + 1) e f _ he hte (by omega) (by omega) (by omega) (fun y hy => by rw [dPu_ne hy]; exact hP' y hy)
theorem qd_clear {N : dNt} {bc bs : Nat} {M : cx_M} {P : dP} {L : dL} {a b z h : Nat} {vs : List Nat} {Q : cd_Qt} (hD : qd_D (dia N.2) M P L a b z h vs) (hab : a ≠ b) (hN : 2100 ≤ N.1)
    (hy : ∀ M' P', qd_D (dia N.2) M' P' L a b z 0 [] → qd_V a b M P M' P' → Q M' P' L 0 none 0 0 0) : jAd_clear N bc bs M P L a Q := by
  obtain ⟨h1, h2, h3, h4, h5, h6, h7, h8, h9⟩ := hD
  have hlt := qd_w_lt (z := z) (x := h + vs.length) (by omega)
  unfold jAd_clear jAd_clear_0
  refine ⟨h1, pd_let ⟨h1, pq_get ⟨h1, pq_get (pd_nn h3 ?_)⟩⟩⟩
  rw [h7, h8]
  have fin : ∀ P' : dP, (∀ y, y ≠ b → P' y = P y) → Q (cx_up (cx_up M (dc a) 2 0) (dc a) 1 0) P' L 0 none 0 0 0 := by
    intro P' hP'
    refine hy _ _ ⟨h1, h2, by rw [hP' a hab]; exact h3, h4, by omega, by show 0 < z; omega, by rw [px_up, if_pos ⟨rfl, rfl⟩]; rfl, ?_, fun i x hx => absurd hx (by simp)⟩ ⟨fun c hc => by rw [px_upc hc, px_upc hc], fun y _ y2 => hP' y y2⟩
    rw [px_up, if_neg (fun z => absurd z.2 (by decide)), px_up, if_pos ⟨rfl, rfl⟩]
    unfold qd_w
    rw [if_pos (show 0 + ([] : List Nat).length < z by show 0 < z; omega)]
    rfl
  generalize qd_w z (h + vs.length) = t at hlt
  have fin' : ∀ P' : dP, (∀ y, y ≠ b → P' y = P y) → (0 = 0 → cd_add 0 0 0 0 fun k12 n13 => (a, (0, 19, 0)) ∈ L ∧ cq_put M (dc a) 2 0 fun M14 => (a, (0, 19, 0)) ∈ L ∧ cq_put M14 (dc a) 1 0 fun M15 => Q M15 P' L 0 none 0 k12 n13) :=
    fun P' hP' _ => pd_add ⟨h1, pq_put ⟨h1, pq_put (fin P' hP')⟩⟩
  unfold jAd_circularClear jAd_circularClear_0
  by_cases c : nI t < nI h
  · rw [if_pos c]
    refine ⟨z, h2, ?_⟩
    unfold jAd_circularClear_11
    exact qd_circ h2 h4.2 hlt fin' 2050 h z N.1 P (Nat.le_refl _) (by omega) (by omega) (by split <;> omega) (by omega) (fun _ _ => rfl)
  · rw [if_neg c]
    unfold jAd_circularClear_11
    rw [i32_lt, pi_nI (by omega), pi_nI (by omega)] at c
    exact qd_circ h2 h4.2 hlt fin' 2050 h t N.1 P (by omega) (Nat.le_refl _) (by omega) (by rw [if_pos rfl]; omega) (by omega) (fun _ _ => rfl)
