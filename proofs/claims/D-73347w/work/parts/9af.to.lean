/-! READING A LINE, 15: what both hold of a line half read -/
/-- told: numbers, the word's octets, the two rules; which of the nine -/
abbrev rU : Type := (Nat → Int32) × List Nat × List Int32 × List Int32 × (Nat → Int32)
/-- where the new objects stand: the line, its list, its view, the view's array; the told set, its words -/
abbrev rJ : Type := Nat × Nat × Nat × Nat × Nat × Nat
def rUr (N : dNt) (P : dP) (L : dL) (r : Option Nat) (d : List Int32) : Prop := (d = [] → r = none) ∧ (d ≠ [] → ∃ x, r = some x ∧ pT N.2 L P d.length x d)
/-- the program's side; M0 P0 L0: what was ahead of the line -/
def rUc (N : dNt) (M0 : cx_M) (P0 : dP) (L0 : dL) (a0 : Nat) (J : rJ) (s : Nat) (u : rU) (M : cx_M) (P : dP) (L : dL) : Prop :=
  qd_J (fun _ => False) M0 P0 L0 M P L ∧ (∀ y ∈ L0, y.1 ≠ a0 ∧ y.1 ≠ s ∧ y.1 ≠ J.1 ∧ y.1 ≠ J.2.1 ∧ y.1 ≠ J.2.2.2.2.1 ∧ y.1 ≠ J.2.2.2.2.2) ∧
  ((J.1, (0, 7, 0)) ∈ L ∧ (∀ k, k < 7 → M (dc J.1) k = u.1 k) ∧ P J.1 7 = some J.2.1 ∧ P J.1 10 = some J.2.2.1) ∧ ((J.2.2.1, (0, 14, 0)) ∈ L ∧ P J.2.2.1 0 = some J.2.2.2.1 ∧ (J.2.2.2.1, (1, 0, 4)) ∈ L) ∧
  (∃ d z, al_S N M P L J.2.1 d z u.2.1 ∧ ∀ y ∈ L0, y.1 ≠ d) ∧ (rUr N P L (P J.1 8) u.2.2.1 ∧ rUr N P L (P J.1 9) u.2.2.2.1) ∧ qd_B M P L J.2.2.2.2.1 J.2.2.2.2.2 u.2.2.2.2
/-- the reference's side -/
def rUt (u : rU) (M : cx_M) : Prop :=
  (∀ k, k < 7 → M 3 (10 + k) = u.1 k) ∧ (M 3 17 = nI (max 1 u.2.1.length) ∧ (u.2.1 = [] → M 4 16 = 85) ∧ ∀ i v, u.2.1[i]? = some v → M 4 (16 + i) = nI v) ∧
  (M 3 18 = nI u.2.2.1.length ∧ ∀ i y, u.2.2.1[i]? = some y → M 5 (700 + i) = y) ∧ (M 3 19 = nI u.2.2.2.1.length ∧ ∀ i y, u.2.2.2.1[i]? = some y → M 6 (700 + i) = y)
/-- what is told, in one number -/
def rUx (u : rU) (x : Int32) : Prop := ∀ j : Nat, j < 9 → ((x >>> (nI j &&& 31)) &&& 1 = 1 ↔ u.2.2.2.2 j = 1)
/-- within bounds -/
def rUp (u : rU) (t : rT) : Prop :=
  ((1 ≤ (u.1 0).toInt ∧ (u.1 0).toInt ≤ 8) ∧ (1 ≤ (u.1 4).toInt ∧ (u.1 4).toInt ≤ 16) ∧ (1 ≤ (u.1 6).toInt ∧ (u.1 6).toInt ≤ 8)) ∧ (u.2.1.length ≤ 16 ∧ ∀ v ∈ u.2.1, v ≤ 255) ∧
  ((u.2.2.1 = [] ∨ rS u.2.2.1.length 31 u.2.2.1) ∧ u.2.2.1.length ≤ t.2.1) ∧ ((u.2.2.2.1 = [] ∨ rS u.2.2.2.1.length 31 u.2.2.2.1) ∧ u.2.2.2.1.length ≤ t.2.1) ∧
  (∀ j, j < 128 → u.2.2.2.2 j = 0 ∨ u.2.2.2.2 j = 1) ∧ (u.2.2.2.2 6 = 0 → u.2.1 = []) ∧ (u.2.2.2.2 7 = 0 → u.2.2.1 = []) ∧ (u.2.2.2.2 8 = 0 → u.2.2.2.1 = [])
/-- what reading a line may change in the reference -/
def rt_G (M M' : cx_M) : Prop := (∀ c, c ≠ 60 → c ≠ 3 → c ≠ 4 → c ≠ 5 → c ≠ 6 → M' c = M c) ∧ (∀ k, k ∉ [10, 13, 15, 16, 17, 18, 19, 20] → M' 60 k = M 60 k) ∧ (∀ k, k < 10 → M' 3 k = M 3 k) ∧ (∀ k, k < 16 → M' 4 k = M 4 k) ∧ ∀ k, k < 700 → M' 5 k = M 5 k ∧ M' 6 k = M 6 k
theorem rt_G.rf {M : cx_M} : rt_G M M := ⟨fun _ _ _ _ _ _ => rfl, fun _ _ => rfl, fun _ _ => rfl, fun _ _ => rfl, fun _ _ => ⟨rfl, rfl⟩⟩
theorem rt_G.tr {M M1 M2 : cx_M} (h : rt_G M M1) (h2 : rt_G M1 M2) : rt_G M M2 :=
  ⟨fun c a b d e f => (h2.1 c a b d e f).trans (h.1 c a b d e f), fun k a => (h2.2.1 k a).trans (h.2.1 k a), fun k a => (h2.2.2.1 k a).trans (h.2.2.1 k a), fun k a => (h2.2.2.2.1 k a).trans (h.2.2.2.1 k a), fun k a => ⟨(h2.2.2.2.2 k a).1.trans (h.2.2.2.2 k a).1, (h2.2.2.2.2 k a).2.trans (h.2.2.2.2 k a).2⟩⟩
theorem rt_F.G {M M' : cx_M} (h : rt_F M M') : rt_G M M' :=
  ⟨fun c a _ _ _ _ => h.1 c a, fun k a => h.2 k (fun z => a (by
    simp only [List.mem_cons, List.not_mem_nil, or_false] at z ⊢
    omega)), fun k _ => by rw [h.1 3 (by decide)], fun k _ => by rw [h.1 4 (by decide)], fun k _ => ⟨by rw [h.1 5 (by decide)], by rw [h.1 6 (by decide)]⟩⟩
theorem rt_W.G {M : cx_M} {κ : Int32} {s : Nat} : rt_G M (rt_W M κ s) := by
  unfold rt_W
  refine ⟨fun c a _ _ _ _ => by rw [px_upc a, px_upc a], fun k a => ?_, fun k _ => by rw [px_upc (by decide), px_upc (by decide)], fun k _ => by rw [px_upc (by decide), px_upc (by decide)], fun k _ => ⟨by rw [px_upc (by decide), px_upc (by decide)], by rw [px_upc (by decide), px_upc (by decide)]⟩⟩
  simp only [List.mem_cons, List.not_mem_nil, or_false] at a
  rw [px_up, if_neg (by omega), px_up, if_neg (by omega)]
theorem rH2.G {r : Nat} {M M' : cx_M} (hr : r < 2) (h : rH2 r 0 M M') : rt_G M M' := by
  refine ⟨fun c a b d e f => h.1 c a b (by omega), fun k a => h.2.1 k (fun z => a (by
    simp only [List.mem_cons, List.not_mem_nil, or_false] at z ⊢
    omega)), fun k a => h.2.2.1 k (by omega), fun k _ => by rw [h.1 4 (by decide) (by decide) (by omega)], fun k hk => ?_⟩
  rcases (show r = 0 ∨ r = 1 by omega) with e | e
  · subst e
    exact ⟨h.2.2.2 k (by omega), by rw [h.1 6 (by decide) (by decide) (by decide)]⟩
  · subst e
    exact ⟨by rw [h.1 5 (by decide) (by decide) (by decide)], h.2.2.2 k (by omega)⟩
/-- told numbers stand while one goes on -/
theorem rUt.F {u : rU} {M M' : cx_M} (h : rUt u M) (hF : rt_F M M') : rUt u M' := by
  obtain ⟨h1, ⟨h2, h3, h4⟩, ⟨h5, h6⟩, ⟨h7, h8⟩⟩ := h
  have e3 := hF.1 3 (by decide)
  have e4 := hF.1 4 (by decide)
  have e5 := hF.1 5 (by decide)
  have e6 := hF.1 6 (by decide)
  exact ⟨fun k hk => by rw [e3]; exact h1 k hk, ⟨by rw [e3]; exact h2, fun z => by rw [e4]; exact h3 z, fun i v hv => by rw [e4]; exact h4 i v hv⟩, ⟨by rw [e3]; exact h5, fun i y hy => by rw [e5]; exact h6 i y hy⟩, ⟨by rw [e3]; exact h7, fun i y hy => by rw [e6]; exact h8 i y hy⟩⟩
section UC
variable {N : dNt} {M0 M M' : cx_M} {P0 P P' : dP} {L0 L L' : dL} {a0 s s' : Nat} {J : rJ} {u : rU}
theorem rUr.fr {r : Option Nat} {d : List Int32} (h : rUr N P L r d) (hL : ∀ x ∈ L, (x.2 = (0, 13, 0) ∨ x.2 = (0, 11, 0) ∨ x.2 = (0, 9, 0) ∨ x.2 = (0, 3, 0)) → (∀ k, P x.1 k = none) ∨ (x ∈ L' ∧ P' x.1 = P x.1)) : rUr N P' L' r d :=
  ⟨h.1, fun z => by
    obtain ⟨x, e, q⟩ := h.2 z
    exact ⟨x, e, pT_fr (fun _ _ => rfl) hL q⟩⟩
/-- all of it stands while the reader goes on -/
theorem rUc.go (h : rUc N M0 P0 L0 a0 J s u M P L) (hu : qd_u L) (ha : (a0, ((0, 10, 0) : dk)) ∈ L) (hs : rc_s a0 s L) (hY : qd_J (fun y => y = a0 ∨ y = s) M P L M' P' L') (hN : rc_N s s' L L') : rUc N M0 P0 L0 a0 J s' u M' P' L' := by
  obtain ⟨h1, h2, ⟨h3, h4, h5, h6⟩, ⟨h7, h8, h9⟩, ⟨d, z, h10, h11⟩, ⟨h12, h13⟩, hab, hb1, hb2, hb3, ⟨w, hb4, hb5, hb6⟩, hb7, hb8⟩ := h
  have nt : ∀ c kd, (c, kd) ∈ L → kd ≠ (0, 10, 0) → kd ≠ (0, 17, 0) → (c, kd) ∈ L' ∧ M' (dc c) = M (dc c) ∧ P' c = P c := by
    intro c kd hc k1 k2
    have n0 : c ≠ a0 := fun e => k1 (hu _ hc _ ha e)
    have ns : c ≠ s := by
      rcases hs with e | e
      · exact fun q => n0 (q.trans e)
      · exact fun q => k2 (hu _ hc _ e q)
    exact ⟨hY.mem hc, hY.2.2 _ hc (fun q => q.elim n0 ns)⟩
  obtain ⟨i1, i2, i3⟩ := nt _ _ h3 (by decide) (by decide)
  obtain ⟨v1, v2, v3⟩ := nt _ _ h7 (by decide) (by decide)
  obtain ⟨w1, w2, w3⟩ := nt _ _ h9 (by decide) (by decide)
  obtain ⟨x1, x2, x3⟩ := nt _ _ hb1 (by decide) (by decide)
  obtain ⟨y1, y2, y3⟩ := nt _ _ hb2 (by decide) (by decide)
  obtain ⟨g1, g2, g3, g4, g5, g6⟩ := h10
  obtain ⟨l1, l2, l3⟩ := nt _ _ g1 (by decide) (by decide)
  obtain ⟨m1, m2, m3⟩ := nt _ _ g3 dk03.symm dk03.symm
  have tr : ∀ x ∈ L, (x.2 = (0, 13, 0) ∨ x.2 = (0, 11, 0) ∨ x.2 = (0, 9, 0) ∨ x.2 = (0, 3, 0)) → (∀ k, P x.1 k = none) ∨ (x ∈ L' ∧ P' x.1 = P x.1) := by
    intro x hx hk
    obtain ⟨q1, -, q3⟩ := nt x.1 x.2 hx (fun e => by rw [e] at hk; exact absurd hk (by decide)) (fun e => by rw [e] at hk; exact absurd hk (by decide))
    exact Or.inr ⟨q1, q3⟩
  refine ⟨h1.tr hY (fun _ _ q => q) (fun y hy q => q.elim (h2 y hy).1 (h2 y hy).2.1), fun y hy => ?_, ⟨i1, fun k hk => by rw [i2]; exact h4 k hk, by rw [i3]; exact h5, by rw [i3]; exact h6⟩, ⟨v1, by rw [v3]; exact h8, w1⟩, ⟨d, z, ⟨l1, by rw [l3]; exact g2, m1, by rw [l2]; exact g4, g5, fun i v hv => ?_⟩, h11⟩, ⟨by rw [i3]; exact h12.fr tr, by rw [i3]; exact h13.fr tr⟩, hab, x1, y1, by rw [x3]; exact hb3, ⟨w, hb4, by rw [x2]; exact hb5, fun q c1 c2 => by rw [y2]; exact hb6 q c1 c2⟩, fun q hq => by rw [y2]; exact hb7 q hq, hb8⟩
  · refine ⟨(h2 y hy).1, ?_, (h2 y hy).2.2⟩
    rcases hN with e | ⟨e, -⟩
    · rw [e]; exact (h2 y hy).2.1
    · exact e y (h1.mem hy)
  · obtain ⟨x, q1, q2⟩ := g6 i v hv
    refine ⟨x, by rw [m3]; exact q1, q2.fr (fun c hc => ?_)⟩
    obtain ⟨r1, -, r3⟩ := nt _ _ hc (by decide) (by decide)
    exact ⟨r1, r3⟩
end UC
