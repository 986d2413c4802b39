/-! READING A LINE, 8: rules, read by both: what each leaves; behind a fault nothing changes -/
section DEAD
variable {N : Nat} {M : cx_M}
theorem dd_is (hN : 20 ≤ N) (h : M 60 19 ≠ 0) {w : Nat} : tw_is N w M = some (M, 0, 0) := by
  unfold tw_is tw_is_0
  rw [px_get, if_neg h]
  unfold tw_is_35 tw_is_36
  obtain ⟨f, rfl⟩ : ∃ q, N = q + 1 := ⟨N - 1, by omega⟩
  rfl
theorem dd_marked (h : M 60 19 ≠ 0) {c : Int32} : tw_isMarked N M c = some (M, 0, 0) := by
  unfold tw_isMarked tw_isMarked_0
  rw [px_get, if_neg h]
theorem dd_lay (h : M 60 19 ≠ 0) {c : Int32} : tw_lay N M c = some (M, 0, 0) := by
  unfold tw_lay tw_lay_0
  rw [px_get, if_neg h]
theorem dd_mark (h : M 60 19 ≠ 0) {c : Int32} : tw_mark N M c = some (M, 0, 0) := by
  unfold tw_mark tw_mark_0 tw_mark_20
  simp only [px_get]
  rw [if_neg h, if_neg h]
theorem dd_wrong (h : M 60 19 ≠ 0) {c : Int32} : tw_wrong N M c = some (M, 0, 0) := by
  unfold tw_wrong tw_wrong_0
  rw [px_get, if_neg h]
theorem dd_number (h : M 60 19 ≠ 0) {x y : Int32} : tw_readNumber N M x y = some (M, 0, 0) := by
  unfold tw_readNumber tw_readNumber_0
  rw [px_get, if_neg h]
theorem dd_part (h : M 60 19 ≠ 0) {rE : cx_M → Int32 → Option cx_R} {x : Int32} : tw_readPart N rE M x = some (M, 0, 0) := by
  unfold tw_readPart tw_readPart_0
  rw [px_get, if_neg h]
theorem dd_product_5 (h : M 60 19 ≠ 0) {rE : cx_M → Int32 → Option cx_R} {f : Nat} (hf : 0 < f) {x : Int32} : tw_readProduct_5 N rE f M x = some (M, 0, 0) := by
  obtain ⟨f, rfl⟩ : ∃ q, f = q + 1 := ⟨f - 1, by omega⟩
  show tw_readProduct_5b N rE (tw_readProduct_5 N rE f) M x = _
  unfold tw_readProduct_5b
  rw [px_cal (dd_marked h), if_pos rfl, px_cal (dd_marked h), if_pos rfl]
theorem dd_product (hN : 20 ≤ N) (h : M 60 19 ≠ 0) {rE : cx_M → Int32 → Option cx_R} {x : Int32} : tw_readProduct N rE M x = some (M, 0, 0) := by
  unfold tw_readProduct tw_readProduct_0
  rw [px_cal (dd_part h)]
  exact dd_product_5 h (by omega)
theorem dd_sum_5 (h : M 60 19 ≠ 0) {rE : cx_M → Int32 → Option cx_R} {f : Nat} (hf : 0 < f) {x : Int32} : tw_readSum_5 N rE f M x = some (M, 0, 0) := by
  obtain ⟨f, rfl⟩ : ∃ q, f = q + 1 := ⟨f - 1, by omega⟩
  show tw_readSum_5b N rE (tw_readSum_5 N rE f) M x = _
  unfold tw_readSum_5b
  rw [px_cal (dd_marked h), if_pos rfl, px_cal (dd_marked h), if_pos rfl]
theorem dd_sum (hN : 20 ≤ N) (h : M 60 19 ≠ 0) {rE : cx_M → Int32 → Option cx_R} {x : Int32} : tw_readSum N rE M x = some (M, 0, 0) := by
  unfold tw_readSum tw_readSum_0
  rw [px_cal (dd_product hN h)]
  exact dd_sum_5 h (by omega)
theorem dd_not_95 (h : M 60 19 ≠ 0) {rE : cx_M → Int32 → Option cx_R} {z : Nat} (hz : z < 1000) : ∀ (m j f : Nat), j + m = z → m < f → tw_readNot_95 N rE f M (nI z) (nI j) = some (M, 0, 0) := by
  intro m
  induction m with
  | zero =>
    intro j f hj hf
    obtain ⟨f, rfl⟩ : ∃ q, f = q + 1 := ⟨f - 1, by omega⟩
    show tw_readNot_95b N rE (tw_readNot_95 N rE f) M (nI z) (nI j) = _
    unfold tw_readNot_95b
    rw [if_pos (nI_le (by omega) (by omega))]
  | succ m ih =>
    intro j f hj hf
    obtain ⟨f, rfl⟩ : ∃ q, f = q + 1 := ⟨f - 1, by omega⟩
    show tw_readNot_95b N rE (tw_readNot_95 N rE f) M (nI z) (nI j) = _
    unfold tw_readNot_95b
    rw [if_neg (nI_ge (by omega) (by omega)), px_cal (dd_lay h), px_let, ← nI_succ j]
    exact ih (j + 1) f (by omega) (by omega)
theorem dd_not_93 (hN : 20 ≤ N) (h : M 60 19 ≠ 0) {rE : cx_M → Int32 → Option cx_R} {z : Nat} (hz : z ≤ 10) : tw_readNot_93 N rE M (nI z) = some (M, 0, 0) := by
  unfold tw_readNot_93
  exact dd_not_95 h (by omega) z 0 N (by omega) (by omega)
theorem dd_not_2 (hN : 20 ≤ N) (h : M 60 19 ≠ 0) {rE : cx_M → Int32 → Option cx_R} {f z : Nat} (hf : 0 < f) (hz : z ≤ 10) {x : Int32} : tw_readNot_2 N rE f M x (nI z) = some (M, 0, 0) := by
  obtain ⟨f, rfl⟩ : ∃ q, f = q + 1 := ⟨f - 1, by omega⟩
  show tw_readNot_2b N rE (tw_readNot_2 N rE f) M x (nI z) = _
  unfold tw_readNot_2b
  rw [px_cal (dd_is hN h), if_pos rfl, px_cal (dd_sum hN h), px_cal (dd_marked h), if_pos rfl, px_cal (dd_marked h), if_pos rfl]
  exact dd_not_93 hN h hz
theorem dd_not (hN : 20 ≤ N) (h : M 60 19 ≠ 0) {rE : cx_M → Int32 → Option cx_R} {x : Int32} : tw_readNot N rE M x = some (M, 0, 0) := by
  unfold tw_readNot tw_readNot_0
  exact dd_not_2 (z := 0) hN h (by omega) (by omega)
theorem dd_and_5 (hN : 20 ≤ N) (h : M 60 19 ≠ 0) {rE : cx_M → Int32 → Option cx_R} {f : Nat} (hf : 0 < f) {x : Int32} : tw_readAnd_5 N rE f M x = some (M, 0, 0) := by
  obtain ⟨f, rfl⟩ : ∃ q, f = q + 1 := ⟨f - 1, by omega⟩
  show tw_readAnd_5b N rE (tw_readAnd_5 N rE f) M x = _
  unfold tw_readAnd_5b
  rw [px_cal (dd_is hN h), if_pos rfl]
theorem dd_and (hN : 20 ≤ N) (h : M 60 19 ≠ 0) {rE : cx_M → Int32 → Option cx_R} {x : Int32} : tw_readAnd N rE M x = some (M, 0, 0) := by
  unfold tw_readAnd tw_readAnd_0
  rw [px_cal (dd_not hN h)]
  exact dd_and_5 hN h (by omega)
theorem dd_or_67 (hN : 20 ≤ N) (h : M 60 19 ≠ 0) {rE : cx_M → Int32 → Option cx_R} {f : Nat} (hf : 0 < f) {x : Int32} : tw_readExpressionB_67 N rE f M x = some (M, 0, 0) := by
  obtain ⟨f, rfl⟩ : ∃ q, f = q + 1 := ⟨f - 1, by omega⟩
  show tw_readExpressionB_67b N rE (tw_readExpressionB_67 N rE f) M x = _
  unfold tw_readExpressionB_67b
  rw [px_cal (dd_is hN h), if_pos rfl]
theorem dd_or_62 (hN : 20 ≤ N) (h : M 60 19 ≠ 0) {rE : cx_M → Int32 → Option cx_R} {x : Int32} : tw_readExpressionB_62 N rE M x = some (M, 0, 0) := by
  unfold tw_readExpressionB_62
  rw [px_cal (dd_and hN h)]
  exact dd_or_67 hN h (by omega)
theorem dd_expr (h : M 60 19 ≠ 0) {rE : cx_M → Int32 → Option cx_R} {x : Int32} : tw_readExpressionB N rE M x = some (M, 0, 0) := by
  unfold tw_readExpressionB tw_readExpressionB_0
  rw [px_get, if_neg h]
end DEAD
/-- what reading a rule may change, so many signs laid before -/
def rH2 (r cnt : Nat) (M M' : cx_M) : Prop := (∀ c, c ≠ 60 → c ≠ 3 → c ≠ 5 + r → M' c = M c) ∧ (∀ k, k ∉ [13, 15, 16, 17, 18, 19, 20] → M' 60 k = M 60 k) ∧ (∀ k, k ≠ 18 + r → M' 3 k = M 3 k) ∧ ∀ k, k < 700 + cnt → M' (5 + r) k = M (5 + r) k
theorem rH2.rf {r cnt : Nat} {M : cx_M} : rH2 r cnt M M := ⟨fun _ _ _ _ => rfl, fun _ _ => rfl, fun _ _ => rfl, fun _ _ => rfl⟩
theorem rH2.tr {r cnt : Nat} {M M1 M2 : cx_M} (h : rH2 r cnt M M1) (h2 : rH2 r cnt M1 M2) : rH2 r cnt M M2 :=
  ⟨fun c a b d => (h2.1 c a b d).trans (h.1 c a b d), fun k a => (h2.2.1 k a).trans (h.2.1 k a), fun k a => (h2.2.2.1 k a).trans (h.2.2.1 k a), fun k a => (h2.2.2.2 k a).trans (h.2.2.2 k a)⟩
theorem rt_F.H2 {r cnt : Nat} {M M' : cx_M} (hr : r < 2) (h : rt_F M M') : rH2 r cnt M M' :=
  ⟨fun c a _ _ => h.1 c a, fun k a => h.2 k (fun z => a (by
    simp only [List.mem_cons, List.not_mem_nil, or_false] at z ⊢
    omega)), fun k _ => by rw [h.1 3 (by decide)], fun k _ => by rw [h.1 (5 + r) (by omega)]⟩
theorem rt_W.H2 {r cnt : Nat} {M : cx_M} {κ : Int32} {s : Nat} (hr : r < 2) : rH2 r cnt M (rt_W M κ s) := by
  unfold rt_W
  refine ⟨fun c a _ _ => by rw [px_upc a, px_upc a], fun k a => ?_, fun k _ => by rw [px_upc (by decide), px_upc (by decide)], fun k _ => by rw [px_upc (by omega), px_upc (by omega)]⟩
  simp only [List.mem_cons, List.not_mem_nil, or_false] at a
  rw [px_up, if_neg (by omega), px_up, if_neg (by omega)]
theorem rt_W.v {M : cx_M} {κ : Int32} {s : Nat} : rt_W M κ s 60 19 = κ ∧ rt_W M κ s 60 20 = nI s := by
  unfold rt_W
  exact ⟨by simp [px_up], by simp [px_up]⟩
/-- what comes of reading: a rule's signs and where one stands then; or a fault's code and place -/
abbrev rO : Type := (List Int32 × rT) ⊕ (Nat × Nat)
def rOp (b : Nat → Int32) (n : Nat) (t : rT) (D : Nat) (l0 : Nat) (o : rO) : Prop := match o with
  | .inl (s, t') => rTok b n t' ∧ t.2.1 ≤ t'.2.1 ∧ (l0 = 0 → t.2.1 < t'.2.1) ∧ rS s.length D s ∧ s.length ≤ l0 + (t'.2.1 - t.2.1)
  | .inr (κ, pl) => (1 ≤ κ ∧ κ ≤ 5) ∧ t.2.1 ≤ pl ∧ pl ≤ n
/-- no rule can begin so -/
def rBad (b : Nat → Int32) (t : rT) : Prop := t.1 ≠ 1 ∧ t.1 ≠ 2 ∧ ¬ (t.1 = 3 ∧ b t.2.1 = 40)
def rGt (b : Nat → Int32) (n r : Nat) (s0 : List Int32) (t : rT) (o : rO) (G : cx_M → Option cx_R) : Prop := ∀ (M : cx_M) (cnt : Nat), rt_A b n t M → M 60 10 = nI r → M 3 (18 + r) = nI (cnt + s0.length) → (∀ i x, s0[i]? = some x → M (5 + r) (700 + cnt + i) = x) → cnt + s0.length ≤ t.2.1 →
  match o with
  | .inl (s, t') => ∃ M', G M = some (M', 0, 0) ∧ rH2 r cnt M M' ∧ rt_A b n t' M' ∧ M' 3 (18 + r) = nI (cnt + s.length) ∧ ∀ i x, s[i]? = some x → M' (5 + r) (700 + cnt + i) = x
  | .inr (κ, pl) => ∃ M', G M = some (M', 0, 0) ∧ rH2 r cnt M M' ∧ M' 60 19 = nI κ ∧ M' 60 20 = nI pl
def rc_s (a0 s : Nat) (L : dL) : Prop := s = a0 ∨ (s, (0, 17, 0)) ∈ L
/-- what the caller is owed -/
def rGq (N : dNt) (b : Nat → Int32) (n a0 : Nat) (e8 : Option Nat) (s : Nat) (t : rT) (M : cx_M) (P : dP) (L : dL) (k m : Nat) (Q : cd_Qt) (o : rO) : Prop := match o with
  | .inl (s', t') => ∀ sx M' P' L' k' m' x, rc_A N b n a0 e8 sx t' M' P' L' → qd_J (fun y => y = a0 ∨ y = s) M P L M' P' L' → rc_N s sx L L' → pT N.2 L' P' s'.length x s' → k' ≤ k + 24 * (t'.2.1 - t.2.1) → m' ≤ m + 110 * (t'.2.1 - t.2.1) → Q M' P' L' 0 (some x) 0 k' m'
  | .inr (κ, pl) => ∀ M' P' L' k' m', qd_u L' → qd_J (fun y => y = a0 ∨ y = s) M P L M' P' L' → k' ≤ k + 24 * (pl - t.2.1) + 12 → m' ≤ m + 110 * (pl - t.2.1) + 60 → Q M' P' L' (nI pl) none (10 + κ) k' m'
/-- an operation of the reader, from the sign t on, a tree at hand or none -/
def rGc (N : dNt) (b : Nat → Int32) (n a0 : Nat) (e8 : Option Nat) (s0 : List Int32) (t : rT) (o : rO) (D : Nat → Nat → cd_Qt → cx_M → dP → dL → Nat → Nat → Option Nat → Prop) : Prop := ∀ (bc bs : Nat) (Q : cd_Qt) (M : cx_M) (P : dP) (L : dL) (k m s x0 : Nat), rc_A N b n a0 e8 s t M P L → rc_s a0 s L → (s0 ≠ [] → pT N.2 L P s0.length x0 s0) → k + 24 * (n + 1 - t.2.1) + 12 ≤ bc → m + 110 * (n + 1 - t.2.1) + 60 ≤ bs → rGq N b n a0 e8 s t M P L k m Q o → D bc bs Q M P L k m (some x0)
/-- the same of an operation that is called -/
def rGf (N : dNt) (b : Nat → Int32) (n a0 : Nat) (e8 : Option Nat) (t : rT) (o : rO) (D : Nat → Nat → cd_Qt → cx_M → dP → dL → Prop) : Prop := ∀ (bc bs : Nat) (Q : cd_Qt) (M : cx_M) (P : dP) (L : dL) (s : Nat), rc_A N b n a0 e8 s t M P L → rc_s a0 s L → 24 * (n + 1 - t.2.1) + 12 ≤ bc → 110 * (n + 1 - t.2.1) + 60 ≤ bs → rGq N b n a0 e8 s t M P L 0 0 Q o → D bc bs Q M P L
theorem rc_s.nx {a0 s s' : Nat} {L L' : dL} (h : rc_s a0 s L) (hN : rc_N s s' L L') (hL : ∀ x ∈ L, x ∈ L') : rc_s a0 s' L' := by
  rcases hN with e | ⟨-, e⟩
  · rw [e]
    exact h.imp id (fun z => hL _ z)
  · exact Or.inr e
/-- trees stand while one reads on -/
theorem rc_tree {N : dNt} {a0 s h x : Nat} {M M' : cx_M} {P P' : dP} {L L' : dL} {s0 : List Int32} (hu : qd_u L) (ha : (a0, ((0, 10, 0) : dk)) ∈ L) (hs : rc_s a0 s L) (hY : qd_J (fun y => y = a0 ∨ y = s) M P L M' P' L') (q : pT N.2 L P h x s0) : pT N.2 L' P' h x s0 := by
  refine pT_fr (fun _ _ => rfl) (fun y hy hk => Or.inr ⟨hY.mem hy, (hY.2.2 y hy ?_).2⟩) q
  have n10 : y.1 ≠ a0 := fun e => by
    have := hu y hy _ ha e
    rw [this] at hk
    exact absurd (show (((0, 10, 0) : dk) = (0, 13, 0) ∨ ((0, 10, 0) : dk) = (0, 11, 0) ∨ ((0, 10, 0) : dk) = (0, 9, 0) ∨ ((0, 10, 0) : dk) = (0, 3, 0)) from hk) (by decide)
  rintro (e | e)
  · exact n10 e
  · rcases hs with z | z
    · exact n10 (e.trans z)
    · have := hu y hy _ z e
      rw [this] at hk
      exact absurd (show (((0, 17, 0) : dk) = (0, 13, 0) ∨ ((0, 17, 0) : dk) = (0, 11, 0) ∨ ((0, 17, 0) : dk) = (0, 9, 0) ∨ ((0, 17, 0) : dk) = (0, 3, 0)) from hk) (by decide)
/-- frames, one behind the other -/
theorem qd_J.nx {a0 s s' : Nat} {M M1 M2 : cx_M} {P P1 P2 : dP} {L L1 L2 : dL} (h : qd_J (fun y => y = a0 ∨ y = s) M P L M1 P1 L1) (hN : rc_N s s' L L1) (h2 : qd_J (fun y => y = a0 ∨ y = s') M1 P1 L1 M2 P2 L2) : qd_J (fun y => y = a0 ∨ y = s) M P L M2 P2 L2 := by
  refine h.tr h2 (fun _ _ z => z) (fun x hx z => ?_)
  rcases z with z | z
  · exact Or.inl z
  · rcases hN with e | ⟨e, -⟩
    · exact Or.inr (z.trans e)
    · exact absurd z (e x hx)
theorem rc_N.tr {s s1 s2 : Nat} {L L1 L2 : dL} (h : rc_N s s1 L L1) (h2 : rc_N s1 s2 L1 L2) (hL1 : ∀ x ∈ L, x ∈ L1) (hL2 : ∀ x ∈ L1, x ∈ L2) : rc_N s s2 L L2 := by
  rcases h2 with e | ⟨e1, e2⟩
  · rcases h with e0 | ⟨g1, g2⟩
    · exact Or.inl (e.trans e0)
    · exact Or.inr ⟨fun x hx => by rw [e]; exact g1 x hx, by rw [e]; exact hL2 _ g2⟩
  · exact Or.inr ⟨fun x hx => e1 x (hL1 x hx), e2⟩
