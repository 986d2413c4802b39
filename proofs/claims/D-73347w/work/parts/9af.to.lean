/-! READING A LINE, 15: what both hold of a line half read -/
/-- a set of bits in one word -/
def qt_B (M : cx_M) (P : dP) (L : dL) (a b : Nat) (f : Nat → Int32) : Prop :=
  a ≠ b ∧ (a, (0, 21, 0)) ∈ L ∧ (b, (2, 0, 1)) ∈ L ∧ P a 0 = some b ∧ (∃ w : Nat, w ≤ 1 ∧ M (dc a) 1 = nI w ∧ ∀ q, 64 * w ≤ q → q < 64 → M (dc b) q = 0) ∧ (∀ q, q < 64 → M (dc b) q = f q) ∧ ∀ q, q < 64 → f q = 0 ∨ f q = 1
theorem qt_init {N bc bs : Nat} {M : cx_M} {P : dP} {L : dL} {a : Nat} {Q : cd_Qt} (ha : (a, (0, 21, 0)) ∈ L) (hb : 1 ≤ bc) (hs : 1 ≤ bs)
    (hy : ∀ b M' P', (∀ x ∈ L, x.1 ≠ b) → qt_B M' P' (L ++ [(b, (2, 0, 1))]) a b (fun _ => 0) → qd_J (fun y => y = a) M P L M' P' (L ++ [(b, (2, 0, 1))]) → Q M' P' (L ++ [(b, (2, 0, 1))]) 0 none 0 1 1) : jBd_init_2D N bc bs M P L a Q := by
  unfold jBd_init_2D jBd_init_2D_0
  refine ⟨ha, pq_put ⟨ha, pq_put ⟨ha, ?_⟩⟩⟩
  unfold jBd_initWordsD jBd_initWordsD_0 jBd_wordIndexD jBd_wordIndexD_0
  intro _
  refine pd_add ?_
  rw [show ((64 : Int32) - 1) >>> (6 &&& 31) + 1 = 1 by decide]
  refine pd_newa (by decide) (by decide) ?_
  show cd_new (bc - 0) (bs - 0) 0 0 1 (2, 0, 1) (cx_up (cx_up M (dc a) 1 0) (dc a) 2 0) P L _
  refine pd_new (by omega) (by omega) (fun b hfr => ?_)
  have hab : a ≠ b := hfr _ ha
  refine ⟨List.mem_append_left _ ha, ?_⟩
  show 0 = 0 → _
  intro _
  refine ⟨List.mem_append_left _ ha, ?_⟩
  have hY := ((((qd_J.rf (U := fun y => y = a) (M := M) (P := P) (L := L)).put (k := 1) (v := 0) (fun _ _ _ => rfl)).put (k := 2) (v := 0) (fun _ _ _ => rfl)).new (f := fun _ => 0) (kd := (2, 0, 1)) hfr)
  refine hy b _ _ hfr ⟨hab, List.mem_append_left _ ha, List.mem_append_right _ (List.mem_singleton.mpr rfl), by rw [dPu_at, if_pos rfl], ⟨0, by omega, ?_, fun q _ _ => ?_⟩, fun q _ => ?_, fun _ _ => Or.inl rfl⟩ ((hY.ref (fun _ _ _ => rfl)).put (fun _ _ _ => rfl))
  · rw [px_up, if_neg (fun z => absurd z.2 (by decide)), px_setc (dc_ne hab), px_up, if_neg (fun z => absurd z.2 (by decide)), px_up, if_pos ⟨rfl, rfl⟩]
    rfl
  · rw [px_upc (dc_ne hab).symm, px_sets]
  · rw [px_upc (dc_ne hab).symm, px_sets]
theorem qt_get {N bc bs x : Nat} {M : cx_M} {P : dP} {L : dL} {a b : Nat} {f : Nat → Int32} {Q : cd_Qt} (h : qt_B M P L a b f) (hx : x < 64) (hy : Q M P L (if f x = 0 then 0 else 1) none 0 0 0) : jBd_getD N bc bs M P L a (nI x) Q := by
  obtain ⟨hab, ha, hb, hP, ⟨w, hw, e1, hz⟩, hf, -⟩ := h
  unfold jBd_getD jBd_getD_0
  rw [if_pos (nI_pos' (by omega))]
  refine ⟨ha, ?_⟩
  show 0 = 0 → 0 = 0 → _
  intro _ _
  refine ⟨ha, ?_⟩
  show if M (dc a) 1 ≤ nI x >>> (6 &&& 31) then Q M P L 0 none 0 0 0 else _
  rw [pw_wi x (by omega), e1]
  by_cases c1 : w ≤ x / 64
  · rw [if_pos (nI_le c1 (by omega))]
    rw [← hf x hx, hz x (by omega) hx, if_pos rfl] at hy
    exact hy
  · rw [if_neg (nI_ge (by omega) (by omega))]
    refine ⟨ha, ?_⟩
    refine pd_nn hP ⟨1, hb, pd_ldw (by omega) (by omega) ?_⟩
    have hbt : ∀ j, j < 64 → pw_b (bt_w (M (dc b)) (x / 64) &&& cx_shl64 1 (nI x)) j = decide (j = x % 64 ∧ f x ≠ 0) := by
      intro j hj
      rw [pw_and, pw_w _ _ _ hj, pw_sh1 x (by omega) j hj]
      by_cases ej : j = x % 64
      · subst ej
        rw [show 64 * (x / 64) + x % 64 = x by omega, hf x hx]
        simp
      · simp [ej]
    by_cases c2 : f x = 0
    · have e0 : bt_w (M (dc b)) (x / 64) &&& cx_shl64 1 (nI x) = 0 := pw_ext (fun j hj => by rw [hbt j hj, pw_0]; simp [c2])
      rw [if_pos c2] at hy
      rw [e0, if_pos (by decide)]
      exact hy
    · have e0 : ¬ bt_w (M (dc b)) (x / 64) &&& cx_shl64 1 (nI x) = 0 := by
        intro e
        have := hbt (x % 64) (by omega)
        rw [e, pw_0] at this
        simp [c2] at this
      have e1 : ¬ lg_cmp (bt_w (M (dc b)) (x / 64) &&& cx_shl64 1 (nI x)) 0 = 0 := by
        unfold lg_cmp
        split
        · decide
        · first | decide | (rw [if_neg e0]; decide)
      rw [if_neg c2] at hy
      rw [if_neg e1]
      exact hy
theorem qt_set {N bc bs x : Nat} {M : cx_M} {P : dP} {L : dL} {a b : Nat} {f : Nat → Int32} {Q : cd_Qt} (h : qt_B M P L a b f) (hx : x < 64) (hy : ∀ M', qt_B M' P L a b (upd f x 1) → (∀ c, c ≠ dc a → c ≠ dc b → M' c = M c) → Q M' P L 0 none 0 0 0) : jBd_set_2D N bc bs M P L a (nI x) Q := by
  obtain ⟨hab, ha, hb, hP, ⟨w, hw, e1, hz⟩, hf, h01⟩ := h
  have h01' : ∀ q, q < 64 → upd f x 1 q = 0 ∨ upd f x 1 q = 1 := by
    intro q hq
    unfold upd
    split
    · exact Or.inr rfl
    · exact h01 q hq
  have fin : ∀ (M1 : cx_M) (w1 : Nat), w1 ≤ 1 → x / 64 < w1 → w ≤ w1 → M1 (dc a) 1 = nI w1 → (∀ d, d ≠ dc a → M1 d = M d) →
      ((a, (0, 21, 0)) ∈ L ∧ cd_let (P a 0) fun r19 => cd_nn r19 fun a20 => ∃ z22, (a20, (2, 0, z22)) ∈ L ∧ cq_ldw M1 (dc a20) z22 (nI (x / 64)) fun w21 => ∃ z24, (a20, (2, 0, z24)) ∈ L ∧ cq_stw M1 (dc a20) z24 (nI (x / 64)) (w21 ||| (cx_shl64 1 (nI x))) fun M23 =>
        (a, (0, 21, 0)) ∈ L ∧ Q M23 P L 0 none 0 0 0) := by
    intro M1 w1 hw1 hx1 hww ew1 ho
    refine ⟨ha, pd_nn hP ⟨1, hb, pd_ldw (by omega) (by omega) ⟨1, hb, pd_stw (by omega) (by omega) ⟨ha, ?_⟩⟩⟩⟩
    have hbv : ∀ q, q < 64 → bt_put (M1 (dc b)) (x / 64) (bt_w (M1 (dc b)) (x / 64) ||| cx_shl64 1 (nI x)) q = upd f x 1 q := by
      intro q hq
      rw [pw_put, ho (dc b) (dc_ne hab).symm]
      unfold upd
      by_cases c2 : q / 64 = x / 64
      · rw [if_pos c2, pw_or, pw_w _ _ _ (by omega), pw_sh1 x (by omega) _ (by omega), show 64 * (x / 64) + q % 64 = q by omega, hf q hq]
        by_cases c3 : q = x
        · subst c3; simp
        · rw [if_neg c3]
          have c4 : q % 64 ≠ x % 64 := by omega
          rcases h01 q hq with e | e <;> simp [c4, e]
      · rw [if_neg c2, if_neg (by intro e; subst e; exact c2 rfl), hf q hq]
    refine hy _ ⟨hab, ha, hb, hP, ⟨w1, hw1, by rw [px_setc (dc_ne hab)]; exact ew1, fun q h4 h5 => ?_⟩, fun q hq => ?_, h01'⟩ (fun c h4 h5 => by rw [px_setc h5]; exact ho c h4)
    · rw [px_sets, hbv q h5]
      unfold upd
      rw [if_neg (by omega), ← hf q h5]
      exact hz q (by omega) h5
    · rw [px_sets]; exact hbv q hq
  unfold jBd_set_2D jBd_set_2D_0
  rw [if_pos (nI_pos' (by omega))]
  show 0 = 0 → _
  intro _
  refine ⟨ha, ?_⟩
  show jBd_expandToD N (bc - 0) (bs - 0) M P L a (nI x >>> (6 &&& 31)) _
  rw [pw_wi x (by omega)]
  unfold jBd_expandToD jBd_expandToD_0
  show (a, (0, 21, 0)) ∈ L ∧ (if nI (x / 64) + 1 ≤ M (dc a) 1 then _ else _)
  refine ⟨ha, ?_⟩
  rw [e1, ← nI_succ]
  by_cases c1 : x / 64 + 1 ≤ w
  · rw [if_pos (nI_le c1 (by omega))]
    intro _
    obtain ⟨f1, f2⟩ := fin M w hw (by omega) (Nat.le_refl _) e1 (fun _ _ => rfl)
    refine ⟨f1, ?_⟩
    refine pd_nn hP ?_
    have f3 := f2
    rw [hP] at f3
    obtain ⟨z, hz1, f4⟩ := f3
    refine ⟨z, hz1, ?_⟩
    unfold cq_ldw at f4 ⊢
    split at f4
    · exact absurd f4 (fun z => z)
    · rename_i hc
      rw [if_neg hc]
      obtain ⟨z2, hz2, f5⟩ := f4
      refine ⟨z2, hz2, ?_⟩
      unfold cq_stw at f5 ⊢
      split at f5
      · exact absurd f5 (fun z => z)
      · rename_i hc2
        rw [if_neg hc2]
        exact ⟨f5.1, fun _ => f5.2⟩
  · rw [if_neg (nI_ge (by omega) (by omega))]
    refine ⟨ha, ?_⟩
    unfold jBd_ensureCapacityD jBd_ensureCapacityD_0
    refine ⟨ha, pd_nn hP ⟨1, hb, ?_⟩⟩
    rw [if_pos (show nI (x / 64 + 1) ≤ nI 1 from nI_le (by omega) (by omega))]
    show 0 = 0 → _
    intro _
    refine ⟨ha, ?_⟩
    show 0 = 0 → _
    intro _
    obtain ⟨f1, f2⟩ := fin (cx_up M (dc a) 1 (nI (x / 64 + 1))) (x / 64 + 1) (by omega) (by omega) (by omega) (by rw [px_up, if_pos ⟨rfl, rfl⟩]) (fun d hd => px_upc hd)
    refine ⟨f1, ?_⟩
    refine pd_nn hP ?_
    have f3 := f2
    rw [hP] at f3
    obtain ⟨z, hz1, f4⟩ := f3
    refine ⟨z, hz1, ?_⟩
    unfold cq_ldw at f4 ⊢
    split at f4
    · exact absurd f4 (fun z => z)
    · rename_i hc
      rw [if_neg hc]
      obtain ⟨z2, hz2, f5⟩ := f4
      refine ⟨z2, hz2, ?_⟩
      unfold cq_stw at f5 ⊢
      split at f5
      · exact absurd f5 (fun z => z)
      · rename_i hc2
        rw [if_neg hc2]
        exact ⟨f5.1, fun _ => f5.2⟩
/-- told: numbers, the word's octets, the two rules; which of the nine -/
abbrev rU : Type := (Nat → Int32) × List Nat × List Int32 × List Int32 × (Nat → Int32)
/-- where the new objects stand: the line, its list, its view, the view's array; the told set, its words -/
abbrev rJ : Type := Nat × Nat × Nat × Nat × Nat × Nat
def rUr (N : dNt) (P : dP) (L : dL) (r : Option Nat) (d : List Int32) : Prop := (d = [] → r = none) ∧ (d ≠ [] → ∃ x, r = some x ∧ pT N.2 L P d.length x d)
/-- the program's side; M0 P0 L0: what was ahead of the line -/
def rUc (N : dNt) (M0 : cx_M) (P0 : dP) (L0 : dL) (a0 : Nat) (J : rJ) (s : Nat) (u : rU) (M : cx_M) (P : dP) (L : dL) : Prop :=
  qd_J (fun _ => False) M0 P0 L0 M P L ∧ (∀ y ∈ L0, y.1 ≠ a0 ∧ y.1 ≠ s ∧ y.1 ≠ J.1 ∧ y.1 ≠ J.2.1 ∧ y.1 ≠ J.2.2.2.2.1 ∧ y.1 ≠ J.2.2.2.2.2) ∧
  ((J.1, (0, 7, 0)) ∈ L ∧ (∀ k, k < 7 → M (dc J.1) k = u.1 k) ∧ P J.1 7 = some J.2.1 ∧ P J.1 10 = some J.2.2.1) ∧ ((J.2.2.1, (0, 14, 0)) ∈ L ∧ P J.2.2.1 0 = some J.2.2.2.1 ∧ (J.2.2.2.1, (1, 0, 4)) ∈ L) ∧
  (∃ d z, al_S N M P L J.2.1 d z u.2.1 ∧ ∀ y ∈ L0, y.1 ≠ d) ∧ (rUr N P L (P J.1 8) u.2.2.1 ∧ rUr N P L (P J.1 9) u.2.2.2.1) ∧ qt_B M P L J.2.2.2.2.1 J.2.2.2.2.2 u.2.2.2.2
/-- the reference's side -/
def rUt (u : rU) (M : cx_M) : Prop :=
  (∀ k, k < 7 → M 3 (10 + k) = u.1 k) ∧ (M 3 17 = nI (max 1 u.2.1.length) ∧ (u.2.1 = [] → M 4 16 = 85) ∧ ∀ i v, u.2.1[i]? = some v → M 4 (16 + i) = nI v) ∧
  (M 3 18 = nI u.2.2.1.length ∧ ∀ i y, u.2.2.1[i]? = some y → M 5 (700 + i) = y) ∧ (M 3 19 = nI u.2.2.2.1.length ∧ ∀ i y, u.2.2.2.1[i]? = some y → M 6 (700 + i) = y)
/-- what is told, in one number -/
def rUx (u : rU) (x : Int32) : Prop := ∀ j : Nat, j < 9 → ((x >>> (nI j &&& 31)) &&& 1 = 1 ↔ u.2.2.2.2 j = 1)
/-- within bounds -/
def rUp (u : rU) (t : rT) : Prop :=
  ((1 ≤ (u.1 0).toInt ∧ (u.1 0).toInt ≤ 8) ∧ (1 ≤ (u.1 4).toInt ∧ (u.1 4).toInt ≤ 16) ∧ (1 ≤ (u.1 6).toInt ∧ (u.1 6).toInt ≤ 8) ∧ (-99 ≤ (u.1 5).toInt ∧ (u.1 5).toInt ≤ 99)) ∧ (u.2.1.length ≤ 16 ∧ ∀ v ∈ u.2.1, v ≤ 255) ∧
  ((u.2.2.1 = [] ∨ rS u.2.2.1.length 31 u.2.2.1) ∧ u.2.2.1.length ≤ t.2.1) ∧ ((u.2.2.2.1 = [] ∨ rS u.2.2.2.1.length 31 u.2.2.2.1) ∧ u.2.2.2.1.length ≤ t.2.1) ∧
  (∀ j, j < 128 → u.2.2.2.2 j = 0 ∨ u.2.2.2.2 j = 1) ∧ (u.2.2.2.2 6 = 0 → u.2.1 = []) ∧ (u.2.2.2.2 7 = 0 → u.2.2.1 = []) ∧ (u.2.2.2.2 8 = 0 → u.2.2.2.1 = [])
/-- what reading a line may change in the reference -/
def rt_G (M M' : cx_M) : Prop := (∀ c, c ≠ 60 → c ≠ 3 → c ≠ 4 → c ≠ 5 → c ≠ 6 → M' c = M c) ∧ (∀ k, k ∉ [10, 13, 15, 16, 17, 18, 19, 20] → M' 60 k = M 60 k) ∧ (∀ k, k < 10 → M' 3 k = M 3 k) ∧ (∀ k, k < 16 → M' 4 k = M 4 k) ∧ ∀ k, k < 700 → M' 5 k = M 5 k ∧ M' 6 k = M 6 k
theorem rt_G.rf {M : cx_M} : rt_G M M := ⟨fun _ _ _ _ _ _ => rfl, fun _ _ => rfl, fun _ _ => rfl, fun _ _ => rfl, fun _ _ => ⟨rfl, rfl⟩⟩
theorem rt_G.tr {M M1 M2 : cx_M} (h : rt_G M M1) (h2 : rt_G M1 M2) : rt_G M M2 :=
  ⟨fun c a b d e f => (h2.1 c a b d e f).trans (h.1 c a b d e f), fun k a => (h2.2.1 k a).trans (h.2.1 k a), fun k a => (h2.2.2.1 k a).trans (h.2.2.1 k a), fun k a => (h2.2.2.2.1 k a).trans (h.2.2.2.1 k a), fun k a => ⟨(h2.2.2.2.2 k a).1.trans (h.2.2.2.2 k a).1, (h2.2.2.2.2 k a).2.trans (h.2.2.2.2 k a).2⟩⟩
theorem rt_F.G {M M' : cx_M} (h : rt_F M M') : rt_G M M' :=
  ⟨fun c a _ _ _ _ => h.1 c a, fun k a => h.2 k (fun z => a (by
    simp only [List.mem_cons, List.not_mem_nil, or_false] at z ⊢
    omega)), fun k _ => by rw [h.1 3 (by decide)], fun k _ => by rw [h.1 4 (by decide)], fun k _ => ⟨by rw [h.1 5 (by decide)], by rw [h.1 6 (by decide)]⟩⟩
theorem rt_W.G {M : cx_M} {κ : Int32} {s : Nat} : rt_G M (rt_W M κ s) := by
  unfold rt_W
  refine ⟨fun c a _ _ _ _ => by rw [px_upc a, px_upc a], fun k a => ?_, fun k _ => by rw [px_upc (by decide), px_upc (by decide)], fun k _ => by rw [px_upc (by decide), px_upc (by decide)], fun k _ => ⟨by rw [px_upc (by decide), px_upc (by decide)], by rw [px_upc (by decide), px_upc (by decide)]⟩⟩
  simp only [List.mem_cons, List.not_mem_nil, or_false] at a
  rw [px_up, if_neg (by omega), px_up, if_neg (by omega)]
theorem rH2.G {r : Nat} {M M' : cx_M} (hr : r < 2) (h : rH2 r 0 M M') : rt_G M M' := by
  refine ⟨fun c a b d e f => h.1 c a b (by omega), fun k a => h.2.1 k (fun z => a (by
    simp only [List.mem_cons, List.not_mem_nil, or_false] at z ⊢
    omega)), fun k a => h.2.2.1 k (by omega), fun k _ => by rw [h.1 4 (by decide) (by decide) (by omega)], fun k hk => ?_⟩
  rcases (show r = 0 ∨ r = 1 by omega) with e | e
  · subst e
    exact ⟨h.2.2.2 k (by omega), by rw [h.1 6 (by decide) (by decide) (by decide)]⟩
  · subst e
    exact ⟨by rw [h.1 5 (by decide) (by decide) (by decide)], h.2.2.2 k (by omega)⟩
/-- told numbers stand while one goes on -/
theorem rUt.F {u : rU} {M M' : cx_M} (h : rUt u M) (hF : rt_F M M') : rUt u M' := by
  obtain ⟨h1, ⟨h2, h3, h4⟩, ⟨h5, h6⟩, ⟨h7, h8⟩⟩ := h
  have e3 := hF.1 3 (by decide)
  have e4 := hF.1 4 (by decide)
  have e5 := hF.1 5 (by decide)
  have e6 := hF.1 6 (by decide)
  exact ⟨fun k hk => by rw [e3]; exact h1 k hk, ⟨by rw [e3]; exact h2, fun z => by rw [e4]; exact h3 z, fun i v hv => by rw [e4]; exact h4 i v hv⟩, ⟨by rw [e3]; exact h5, fun i y hy => by rw [e5]; exact h6 i y hy⟩, ⟨by rw [e3]; exact h7, fun i y hy => by rw [e6]; exact h8 i y hy⟩⟩
section UC
variable {N : dNt} {M0 M M' : cx_M} {P0 P P' : dP} {L0 L L' : dL} {a0 s s' : Nat} {J : rJ} {u : rU}
theorem rUr.fr {r : Option Nat} {d : List Int32} (h : rUr N P L r d) (hL : ∀ x ∈ L, (x.2 = (0, 13, 0) ∨ x.2 = (0, 11, 0) ∨ x.2 = (0, 9, 0) ∨ x.2 = (0, 3, 0)) → (∀ k, P x.1 k = none) ∨ (x ∈ L' ∧ P' x.1 = P x.1)) : rUr N P' L' r d :=
  ⟨h.1, fun z => by
    obtain ⟨x, e, q⟩ := h.2 z
    exact ⟨x, e, pT_fr (fun _ _ => rfl) hL q⟩⟩
/-- all of it stands while the reader goes on -/
theorem rUc.go (h : rUc N M0 P0 L0 a0 J s u M P L) (hu : qd_u L) (ha : (a0, ((0, 10, 0) : dk)) ∈ L) (hs : rc_s a0 s L) (hY : qd_J (fun y => y = a0 ∨ y = s) M P L M' P' L') (hN : rc_N s s' L L') : rUc N M0 P0 L0 a0 J s' u M' P' L' := by
  obtain ⟨h1, h2, ⟨h3, h4, h5, h6⟩, ⟨h7, h8, h9⟩, ⟨d, z, h10, h11⟩, ⟨h12, h13⟩, hab, hb1, hb2, hb3, ⟨w, hb4, hb5, hb6⟩, hb7, hb8⟩ := h
  have nt : ∀ c kd, (c, kd) ∈ L → kd ≠ (0, 10, 0) → kd ≠ (0, 17, 0) → (c, kd) ∈ L' ∧ M' (dc c) = M (dc c) ∧ P' c = P c := by
    intro c kd hc k1 k2
    have n0 : c ≠ a0 := fun e => k1 (hu _ hc _ ha e)
    have ns : c ≠ s := by
      rcases hs with e | e
      · exact fun q => n0 (q.trans e)
      · exact fun q => k2 (hu _ hc _ e q)
    exact ⟨hY.mem hc, hY.2.2 _ hc (fun q => q.elim n0 ns)⟩
  obtain ⟨i1, i2, i3⟩ := nt _ _ h3 (by decide) (by decide)
  obtain ⟨v1, v2, v3⟩ := nt _ _ h7 (by decide) (by decide)
  obtain ⟨w1, w2, w3⟩ := nt _ _ h9 (by decide) (by decide)
  obtain ⟨x1, x2, x3⟩ := nt _ _ hb1 (by decide) (by decide)
  obtain ⟨y1, y2, y3⟩ := nt _ _ hb2 (by decide) (by decide)
  obtain ⟨g1, g2, g3, g4, g5, g6⟩ := h10
  obtain ⟨l1, l2, l3⟩ := nt _ _ g1 (by decide) (by decide)
  obtain ⟨m1, m2, m3⟩ := nt _ _ g3 dk03.symm dk03.symm
  have tr : ∀ x ∈ L, (x.2 = (0, 13, 0) ∨ x.2 = (0, 11, 0) ∨ x.2 = (0, 9, 0) ∨ x.2 = (0, 3, 0)) → (∀ k, P x.1 k = none) ∨ (x ∈ L' ∧ P' x.1 = P x.1) := by
    intro x hx hk
    obtain ⟨q1, -, q3⟩ := nt x.1 x.2 hx (fun e => by rw [e] at hk; exact absurd hk (by decide)) (fun e => by rw [e] at hk; exact absurd hk (by decide))
    exact Or.inr ⟨q1, q3⟩
  refine ⟨h1.tr hY (fun _ _ q => q) (fun y hy q => q.elim (h2 y hy).1 (h2 y hy).2.1), fun y hy => ?_, ⟨i1, fun k hk => by rw [i2]; exact h4 k hk, by rw [i3]; exact h5, by rw [i3]; exact h6⟩, ⟨v1, by rw [v3]; exact h8, w1⟩, ⟨d, z, ⟨l1, by rw [l3]; exact g2, m1, by rw [l2]; exact g4, g5, fun i v hv => ?_⟩, h11⟩, ⟨by rw [i3]; exact h12.fr tr, by rw [i3]; exact h13.fr tr⟩, hab, x1, y1, by rw [x3]; exact hb3, ⟨w, hb4, by rw [x2]; exact hb5, fun q c1 c2 => by rw [y2]; exact hb6 q c1 c2⟩, fun q hq => by rw [y2]; exact hb7 q hq, hb8⟩
  · refine ⟨(h2 y hy).1, ?_, (h2 y hy).2.2⟩
    rcases hN with e | ⟨e, -⟩
    · rw [e]; exact (h2 y hy).2.1
    · exact e y (h1.mem hy)
  · obtain ⟨x, q1, q2⟩ := g6 i v hv
    refine ⟨x, by rw [m3]; exact q1, q2.fr (fun c hc => ?_)⟩
    obtain ⟨r1, -, r3⟩ := nt _ _ hc (by decide) (by decide)
    exact ⟨r1, r3⟩
end UC
