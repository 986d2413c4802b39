/-! READING A LINE, 16: what follows a word of a line: numbers, rules -/
abbrev rV : Type := (rU × rT) ⊕ (Nat × Nat)
def rVp (b : Nat → Int32) (n : Nat) (t : rT) (u : rU) (o : rV) : Prop := match o with
  | .inl (u', t') => rTok b n t' ∧ t.2.1 ≤ t'.2.1 ∧ (rUp u' t' ∧ u'.2.2.2.2 = u.2.2.2.2)
  | .inr (κ, pl) => (1 ≤ κ ∧ κ ≤ 5) ∧ t.2.1 ≤ pl ∧ pl ≤ n
def rVt (b : Nat → Int32) (n : Nat) (t : rT) (u : rU) (o : rV) (G : cx_M → Option cx_R) : Prop := ∀ M : cx_M, rt_A b n t M → rUt u M → match o with
  | .inl (u', t') => ∃ M', G M = some (M', 0, 0) ∧ rt_G M M' ∧ rt_A b n t' M' ∧ rUt u' M'
  | .inr (κ, pl) => ∃ M', G M = some (M', 0, 0) ∧ rt_G M M' ∧ M' 60 19 = nI κ ∧ M' 60 20 = nI pl
def rVq (N : dNt) (b : Nat → Int32) (n a0 : Nat) (e8 : Option Nat) (M0 : cx_M) (P0 : dP) (L0 : dL) (J : rJ) (t : rT) (k m : Nat) (Q : cd_Qt) (o : rV) : Prop := match o with
  | .inl (u', t') => ∀ s' M' P' L' k' m', rc_A N b n a0 e8 s' t' M' P' L' → rc_s a0 s' L' → rUc N M0 P0 L0 a0 J s' u' M' P' L' → k' ≤ k + 24 * (t'.2.1 - t.2.1) → m' ≤ m + 110 * (t'.2.1 - t.2.1) → Q M' P' L' 0 none 0 k' m'
  | .inr (κ, pl) => ∀ M' P' L' k' m', qd_u L' → qd_J (fun _ => False) M0 P0 L0 M' P' L' → k' ≤ k + 24 * (pl - t.2.1) + 12 → m' ≤ m + 110 * (pl - t.2.1) + 60 → Q M' P' L' (nI pl) none (10 + κ) k' m'
def rVc (N : dNt) (b : Nat → Int32) (n a0 : Nat) (e8 : Option Nat) (M0 : cx_M) (P0 : dP) (L0 : dL) (J : rJ) (t : rT) (u : rU) (o : rV) (D : Nat → Nat → cd_Qt → cx_M → dP → dL → Nat → Nat → Prop) : Prop := ∀ (bc bs : Nat) (Q : cd_Qt) (M : cx_M) (P : dP) (L : dL) (k m s : Nat), rc_A N b n a0 e8 s t M P L → rc_s a0 s L → rUc N M0 P0 L0 a0 J s u M P L → k + 24 * (n + 1 - t.2.1) + 12 ≤ bc → m + 110 * (n + 1 - t.2.1) + 60 ≤ bs → rVq N b n a0 e8 M0 P0 L0 J t k m Q o → D bc bs Q M P L k m
section TC
variable {Nt : Nat} {M : cx_M} {x : Int32}
theorem tc_163 (h : ¬ 7 ≤ x) : tw_readClause_163 Nt M x = some (M, 0, 0) := by unfold tw_readClause_163; rw [if_neg h]
theorem tc_153 (h : ¬ x = 6 ∧ ¬ 7 ≤ x) : tw_readClause_153 Nt M x = some (M, 0, 0) := by unfold tw_readClause_153; rw [if_neg h.1]; exact tc_163 h.2
theorem tc_134 (h : ¬ x = 5 ∧ ¬ x = 6 ∧ ¬ 7 ≤ x) : tw_readClause_134 Nt M x = some (M, 0, 0) := by unfold tw_readClause_134; rw [if_neg h.1]; exact tc_153 h.2
theorem tc_89 (h : ¬ x = 4 ∧ ¬ x = 5 ∧ ¬ x = 6 ∧ ¬ 7 ≤ x) : tw_readClause_89 Nt M x = some (M, 0, 0) := by unfold tw_readClause_89; rw [if_neg h.1]; exact tc_134 h.2
theorem tc_70 (h : ¬ x = 3 ∧ ¬ x = 4 ∧ ¬ x = 5 ∧ ¬ x = 6 ∧ ¬ 7 ≤ x) : tw_readClause_70 Nt M x = some (M, 0, 0) := by unfold tw_readClause_70; rw [if_neg h.1]; exact tc_89 h.2
theorem tc_37 (h : ¬ x = 2 ∧ ¬ x = 3 ∧ ¬ x = 4 ∧ ¬ x = 5 ∧ ¬ x = 6 ∧ ¬ 7 ≤ x) : tw_readClause_37 Nt M x = some (M, 0, 0) := by unfold tw_readClause_37; rw [if_neg h.1]; exact tc_70 h.2
theorem tc_18 (h : ¬ x = 1 ∧ ¬ x = 2 ∧ ¬ x = 3 ∧ ¬ x = 4 ∧ ¬ x = 5 ∧ ¬ x = 6 ∧ ¬ 7 ≤ x) : tw_readClause_18 Nt M x = some (M, 0, 0) := by unfold tw_readClause_18; rw [if_neg h.1]; exact tc_37 h.2
end TC
section BD
variable {N : dNt} {b : Nat → Int32} {n a0 : Nat} {e8 : Option Nat} {M0 M : cx_M} {P0 P : dP} {L0 L : dL} {J : rJ} {t : rT} {u : rU} {s : Nat}
theorem rt_A.put3 {M : cx_M} {j : Nat} {v : Int32} (h : rt_A b n t M) : rt_A b n t (cx_up M 3 j v) := by
  obtain ⟨⟨a1, a2⟩, a3, a4⟩ := h
  have e : ∀ c, c ≠ 3 → cx_up M 3 j v c = M c := fun c hc => px_upc hc
  refine ⟨⟨by rw [e 60 (by decide)]; exact a1, fun i hi => by rw [e 11 (by decide)]; exact a2 i hi⟩, ?_, by rw [e 60 (by decide)]; exact a4⟩
  unfold rt_M at a3 ⊢
  rw [e 60 (by decide)]
  exact a3
theorem rt_G.put3 {M M' : cx_M} {k : Nat} {v : Int32} (h : rt_G M M') : rt_G M (cx_up M' 3 (10 + k) v) :=
  ⟨fun c a1 a2 a3 a4 a5 => by rw [px_upc a2]; exact h.1 c a1 a2 a3 a4 a5, fun j hj => by rw [px_upc (by decide)]; exact h.2.1 j hj, fun j hj => by rw [px_up, if_neg (by omega)]; exact h.2.2.1 j hj, fun j hj => by rw [px_upc (by decide)]; exact h.2.2.2.1 j hj, fun j hj => ⟨by rw [px_upc (by decide)]; exact (h.2.2.2.2 j hj).1, by rw [px_upc (by decide)]; exact (h.2.2.2.2 j hj).2⟩⟩
theorem rUt.put {M : cx_M} {k : Nat} {v : Int32} (h : rUt u M) (hk : k < 7) : rUt (upd u.1 k v, u.2) (cx_up M 3 (10 + k) v) := by
  obtain ⟨h1, ⟨h2, h3, h4⟩, ⟨h5, h6⟩, ⟨h7, h8⟩⟩ := h
  have e : ∀ j, j ≠ 10 + k → cx_up M 3 (10 + k) v 3 j = M 3 j := fun j hj => by rw [px_up, if_neg (fun z => hj z.2)]
  refine ⟨fun j hj => ?_, ⟨by rw [e _ (by omega)]; exact h2, fun z => by rw [px_upc (by decide)]; exact h3 z, fun i w hw => by rw [px_upc (by decide)]; exact h4 i w hw⟩, ⟨by rw [e _ (by omega)]; exact h5, fun i y hy => by rw [px_upc (by decide)]; exact h6 i y hy⟩, ⟨by rw [e _ (by omega)]; exact h7, fun i y hy => by rw [px_upc (by decide)]; exact h8 i y hy⟩⟩
  show _ = upd u.1 k v j
  unfold upd
  by_cases c : j = k
  · rw [if_pos c, c, px_up, if_pos ⟨rfl, rfl⟩]
  · rw [if_neg c, e _ (by omega)]
    exact h1 j hj
theorem dk12 {c z : Nat} : ((0, c, 0) : dk) ≠ (1, 2, z) := fun e => absurd (show (0 : Nat) = 1 from congrArg Prod.fst e) (by decide)
/-- an object apart from the reader's was changed -/
theorem rc_A.put {c k : Nat} {v : Int32} {kd : dk} (h : rc_A N b n a0 e8 s t M P L) (hc : (c, kd) ∈ L) (h1 : kd ≠ (0, 10, 0)) (h2 : kd ≠ (0, 17, 0)) (h3 : ∀ z, kd ≠ (1, 2, z)) : rc_A N b n a0 e8 s t (cx_up M (dc c) k v) P L := by
  have hu := h.1.1
  have hne : ∀ y ky, (y, ky) ∈ L → kd ≠ ky → cx_up M (dc c) k v (dc y) = M (dc y) := fun y ky hy hk => px_upc (dc_ne (fun e => hk (hu _ hc _ hy e.symm)))
  have e0 := hne _ _ h.1.2.1 h1
  obtain ⟨q1, q2, q3, q4, q5, q6, q7⟩ := h.1
  refine ⟨⟨q1, q2, q3, q4, fun j hj => by rw [px_upc (dc_lo (by decide))]; exact q5 j hj, by rw [e0]; exact q6, by rw [e0]; exact q7⟩, by rw [e0]; exact h.2.1, h.2.2.1, by rw [e0]; exact h.2.2.2.1, fun z => ⟨(h.2.2.2.2 z).1, ?_⟩⟩
  obtain ⟨y1, y2, y3, y4, w, y5, y6, y7, y8⟩ := (h.2.2.2.2 z).2
  have es := hne _ _ y1 h2
  have ew := hne _ _ y7 (h3 _)
  exact ⟨y1, by rw [es]; exact y2, by rw [es]; exact y3, by rw [es]; exact y4, w, y5, y6, y7, fun i hi => by rw [ew]; exact y8 i hi⟩
theorem rUc.put {k : Nat} {v : Int32} (h : rUc N M0 P0 L0 a0 J s u M P L) (hu : qd_u L) (hk : k < 7) : rUc N M0 P0 L0 a0 J s (upd u.1 k v, u.2) (cx_up M (dc J.1) k v) P L := by
  obtain ⟨h1, h2, ⟨h3, h4, h5, h6⟩, h7, ⟨d, z, ⟨g1, g2, g3, g4, g5⟩, h11⟩, h12, hab, hb1, hb2, hb3, ⟨w, hb4, hb5, hb6⟩, hb7, hb8⟩ := h
  have hne : ∀ y ky, (y, ky) ∈ L → ((0, 7, 0) : dk) ≠ ky → cx_up M (dc J.1) k v (dc y) = M (dc y) := fun y ky hy hk => px_upc (dc_ne (fun e => hk (hu _ h3 _ hy e.symm)))
  refine ⟨h1.put (fun y hy e => absurd e (h2 y hy).2.2.1), h2, ⟨h3, fun j hj => ?_, h5, h6⟩, h7, ⟨d, z, ⟨g1, g2, g3, by rw [hne _ _ g1 (by decide)]; exact g4, g5⟩, h11⟩, h12, hab, hb1, hb2, hb3, ⟨w, hb4, by rw [hne _ _ hb1 (by decide)]; exact hb5, fun q c1 c2 => by rw [hne _ _ hb2 (by decide)]; exact hb6 q c1 c2⟩, fun q hq => by rw [hne _ _ hb2 (by decide)]; exact hb7 q hq, hb8⟩
  rw [px_upd]
  show _ = upd u.1 k v j
  unfold upd
  by_cases c : j = k
  · rw [if_pos c, if_pos c]
  · rw [if_neg c, if_neg c]; exact h4 j hj
theorem rUp.mono {t' : rT} (h : rUp u t) (ht : t.2.1 ≤ t'.2.1) : rUp u t' := ⟨h.1, h.2.1, ⟨h.2.2.1.1, by have := h.2.2.1.2; omega⟩, ⟨h.2.2.2.1.1, by have := h.2.2.2.1.2; omega⟩, h.2.2.2.2⟩
theorem rUp.num {t' : rT} {k v lo hi : Nat} (h : rUp u t) (ht : t.2.1 ≤ t'.2.1) (hv : lo ≤ v ∧ v ≤ hi) (hh : hi < 100000) (h0 : k = 0 → 1 ≤ lo ∧ hi ≤ 8) (h4 : k = 4 → 1 ≤ lo ∧ hi ≤ 16) (h6 : k = 6 → 1 ≤ lo ∧ hi ≤ 8) (h5 : k = 5 → hi ≤ 99) : rUp (upd u.1 k (nI v), u.2) t' := by
  have h' := h.mono (t' := t') ht
  have tv := pi_nI (n := v) (by omega)
  refine ⟨?_, h'.2⟩
  obtain ⟨⟨g1, g2, g3, g4⟩, -⟩ := h'
  refine ⟨?_, ?_, ?_, ?_⟩
  · show 1 ≤ (upd u.1 k (nI v) 0).toInt ∧ (upd u.1 k (nI v) 0).toInt ≤ 8
    unfold upd
    by_cases c : 0 = k
    · rw [if_pos c, tv]; have := h0 c.symm; omega
    · rw [if_neg c]; exact g1
  · show 1 ≤ (upd u.1 k (nI v) 4).toInt ∧ (upd u.1 k (nI v) 4).toInt ≤ 16
    unfold upd
    by_cases c : 4 = k
    · rw [if_pos c, tv]; have := h4 c.symm; omega
    · rw [if_neg c]; exact g2
  · show 1 ≤ (upd u.1 k (nI v) 6).toInt ∧ (upd u.1 k (nI v) 6).toInt ≤ 8
    unfold upd
    by_cases c : 6 = k
    · rw [if_pos c, tv]; have := h6 c.symm; omega
    · rw [if_neg c]; exact g3
  · show -99 ≤ (upd u.1 k (nI v) 5).toInt ∧ (upd u.1 k (nI v) 5).toInt ≤ 99
    unfold upd
    by_cases c : 5 = k
    · rw [if_pos c, tv]; have := h5 c.symm; omega
    · rw [if_neg c]; exact g4
/-- where the reading ends in a fault -/
theorem rUc.bad {M' : cx_M} {P' : dP} {L' : dL} (h : rUc N M0 P0 L0 a0 J s u M P L) (hY : qd_J (fun y => y = a0 ∨ y = s) M P L M' P' L') : qd_J (fun _ => False) M0 P0 L0 M' P' L' := h.1.tr hY (fun _ _ z => z) (fun y hy z => z.elim (h.2.1 y hy).1 (h.2.1 y hy).2.1)
/-- a number, told to the line; both -/
theorem b_num {Nt k lo hi : Nat} (hn : n ≤ 700) (hNt : 705 ≤ Nt) (hN : 1100 ≤ N.1) (hKd : rKD N) (hb0 : ∀ j, j < n → 0 ≤ (b j).toInt) (hT : rTok b n t) (hp : rUp u t) (hk : k < 7) (hhi : hi < 100000) (hlo : lo < 100000) (h0 : k = 0 → 1 ≤ lo ∧ hi ≤ 8) (h4 : k = 4 → 1 ≤ lo ∧ hi ≤ 16) (h6 : k = 6 → 1 ≤ lo ∧ hi ≤ 8) (h5 : k = 5 → hi ≤ 99) :
    ∃ o, rVp b n t u o ∧ rVt b n t u o (fun M => cx_cal (tw_readNumber Nt M (nI lo) (nI hi)) fun M1 v2 => cx_put M1 3 (10 + k) v2 fun M3 => some (M3, 0, 0)) ∧
      rVc N b n a0 e8 M0 P0 L0 J t u o (fun bc bs Q M P L k0 m => rd_number N (bc - k0) (bs - m) M P L a0 (nI lo) (nI hi) (fun M19 P20 L21 v22 r23 e9 k24 n25 => (e9 ≠ 0 → Q M19 P20 L21 v22 none e9 (k0 + k24) (m + n25)) ∧ (e9 = 0 → cd_add k0 k24 m n25 fun k26 n27 => (J.1, (0, 7, 0)) ∈ L21 ∧ cq_put M19 (dc J.1) k v22 fun M28 => Q M28 P20 L21 0 none 0 k26 n27))) := by
  obtain ⟨k1, k3, k0, k4, kle, ken⟩ := rTok_k hT
  obtain ⟨t', hx'⟩ := rNx_ex (b := b) (n := n) (p := t.2.2) ken
  have hle := hx'.le
  by_cases hq : rNum b t lo hi
  · have kk := k0 (by have := hq.1; omega)
    refine ⟨.inl ((upd u.1 k (nI (rVal b t.2.1 (t.2.2 - t.2.1))), u.2), t'), ⟨⟨_, hx'⟩, by omega, hp.num (by omega) hq.2.2 hhi h0 h4 h6 h5, rfl⟩, fun M hA hU => ?_, fun bc bs Q M P L k0' m s hA hs hU hb1 hb2 hQ => ?_⟩
    · obtain ⟨M1, e1, e2, e3⟩ := rt_number_ok (N := Nt) hn hNt hb0 hA hT hx' hq hhi
      exact ⟨_, (px_cal e1).trans px_put, (e2.G).put3, e3.put3, (hU.F e2).put hk⟩
    · refine rc_number hn hN hKd hA hT hx' (by omega) (by omega) hlo hhi (fun _ s' M' P' L' kx mx g1 g2 g3 g4 g5 => ⟨fun z => absurd rfl z, fun _ => pd_add ?_⟩) (fun z => absurd hq z)
      have hU' := hU.go hA.1.1 hA.1.2.1 hs g4 g5
      refine ⟨hU'.2.2.1.1, pq_put ?_⟩
      exact hQ s' _ P' L' _ _ (g3.put hU'.2.2.1.1 (by decide) (by decide) (fun z => dk12)) (hs.nx g5 (fun y hy => g4.mem hy)) (hU'.put g3.1.1 hk) (by omega) (by omega)
  · refine ⟨.inr (if t.1 = 2 then 2 else 1, t.2.1), ⟨by split <;> omega, Nat.le_refl _, by omega⟩, fun M hA hU => ?_, fun bc bs Q M P L k0' m s hA hs hU hb1 hb2 hQ => ?_⟩
    · have e1 := rt_number_er (N := Nt) hA hT hn hhi hlo hq
      refine ⟨_, (px_cal e1).trans px_put, (rt_W.G).put3, ?_, ?_⟩
      · rw [px_upc (by decide), rt_W.v.1]; split <;> rfl
      · rw [px_upc (by decide), rt_W.v.2]
    · refine rc_number hn hN hKd hA hT hx' (by omega) (by omega) hlo hhi (fun z => absurd z hq) (fun _ M' P' L' g1 g2 => ⟨fun _ => ?_, fun z => absurd z (by omega)⟩)
      exact hQ M' P' L' _ _ g1 (hU.bad (g2.up (fun _ _ z => z.elim))) (by omega) (by omega)
end BD
