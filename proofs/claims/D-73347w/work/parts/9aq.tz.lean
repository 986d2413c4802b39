/-! READING A LINE, 26: the program's line, whole -/
/-- ahead of a line -/
def lN_H (N : dNt) (M0 : cx_M) (P0 : dP) (L0 : dL) (b : Nat → Int32) (m a0 q q8 w w5 : Nat) : Prop :=
  qd_u L0 ∧ ((a0, (0, 1, 0)) ∈ L0 ∧ M0 (dc a0) 9 = nI m ∧ P0 a0 8 = some (N.2 509) ∧ N.2 508 = 1) ∧ (∀ j, j < m → M0 509 j &&& 255 = b j) ∧
  (P0 a0 3 = some q ∧ (q, (0, 12, 0)) ∈ L0 ∧ P0 q 37 = some q8 ∧ (q8, (1, 0, 64)) ∈ L0) ∧ (P0 a0 1 = some w ∧ (w, (0, 2, 0)) ∈ L0 ∧ P0 w 4 = some w5 ∧ (w5, (1, 0, 3)) ∈ L0)
/-- behind a line well told -/
def lN_O (N : dNt) (M0 : cx_M) (P0 : dP) (L0 : dL) (a0 q q8 w : Nat) (J : rJ) (u : rU) (M1 : cx_M) (P1 : dP) (L1 : dL) : Prop :=
  qd_u L1 ∧ qd_J (fun y => y = a0 ∨ y = q ∨ y = q8 ∨ y = w) M0 P0 L0 M1 P1 L1 ∧ (∀ y ∈ L0, y.1 ≠ J.1 ∧ y.1 ≠ J.2.1 ∧ y.1 ≠ J.2.2.1 ∧ y.1 ≠ J.2.2.2.1) ∧
  ((J.1, (0, 7, 0)) ∈ L1 ∧ (∀ k, k < 7 → M1 (dc J.1) k = u.1 k) ∧ P1 J.1 7 = some J.2.1 ∧ P1 J.1 10 = some J.2.2.1) ∧ ((J.2.2.1, (0, 14, 0)) ∈ L1 ∧ P1 J.2.2.1 0 = some J.2.2.2.1 ∧ (J.2.2.2.1, (1, 0, 4)) ∈ L1) ∧
  (∃ d z, al_S N M1 P1 L1 J.2.1 d z u.2.1 ∧ ∀ y ∈ L0, y.1 ≠ d) ∧ (rUr N P1 L1 (P1 J.1 8) u.2.2.1 ∧ rUr N P1 L1 (P1 J.1 9) u.2.2.2.1) ∧
  ((∀ k, M1 (dc a0) k = if k = 7 ∨ k = 9 then 0 else if k = 10 then -1 else M0 (dc a0) k) ∧ ∀ k, P1 a0 k = if k = 0 then some J.1 else P0 a0 k) ∧
  ((∀ k, M1 (dc w) k = if k = 5 ∨ k = 6 then 0 else M0 (dc w) k) ∧ P1 w = P0 w) ∧
  ((∀ k, M1 (dc q) k = if k = 28 then u.1 5 else if k = 30 then u.1 1 else if k = 31 then u.1 2 else if k = 32 then u.1 3 else if k < 34 then 0 else M0 (dc q) k) ∧ P1 q = P0 q) ∧
  ((∀ k, M1 (dc q8) k = if k < 64 then -1 else M0 (dc q8) k) ∧ P1 q8 = P0 q8)
/-- behind a line refused -/
def lN_R (M0 : cx_M) (P0 : dP) (L0 : dL) (a0 w5 pl : Nat) (M1 : cx_M) (P1 : dP) (L1 : dL) : Prop :=
  qd_u L1 ∧ qd_J (fun y => y = a0 ∨ y = w5) M0 P0 L0 M1 P1 L1 ∧ ((∀ k, M1 (dc a0) k = if k = 9 then 0 else if k = 10 then nI pl else M0 (dc a0) k) ∧ P1 a0 = P0 a0) ∧ ((∀ k, M1 (dc w5) k = if k = 0 then M0 (dc w5) 0 + 1 else M0 (dc w5) k) ∧ P1 w5 = P0 w5)
section LD
variable {N : dNt} {bc bs : Nat} {M0 : cx_M} {P0 : dP} {L0 : dL} {b : Nat → Int32} {Q : cd_Qt} {m a0 q q8 w w5 : Nat}
theorem lD_bad {x : Int32} (H : lN_H N M0 P0 L0 b m a0 q q8 w w5) (hx : x < 0 ∨ ¬ x ≤ nI m) (hbc : 1 ≤ bc) (hbs : 6 ≤ bs) (hQ : Q M0 P0 L0 0 none 2 1 6) : dCc_lineD N bc bs M0 P0 L0 a0 x Q := by
  have key : dCc_lineD_16 N bc bs Q a0 M0 P0 L0 0 0 x := by
    unfold dCc_lineD_16 dCc_lineD_17 cd_thr
    rw [if_pos rfl]
    refine ⟨by omega, by omega, fun _ => ?_, fun z => absurd z (by decide)⟩
    simpa using hQ
  unfold dCc_lineD dCc_lineD_0
  by_cases c : x < 0
  · rw [if_pos c]; exact key
  · rw [if_neg c]
    refine ⟨H.2.1.1, pq_get ?_⟩
    rw [H.2.1.2.1, if_pos (by
      have := hx.resolve_left c
      rw [i32_le] at this
      rw [i32_lt]
      omega)]
    exact key
/-- what reading comes to, on the reference's side -/
def lN_W (Nt n : Nat) (b : Nat → Int32) (t1 : rT) (o : rU ⊕ (Nat × Nat)) : Prop := ∀ f, n + 1 < f → ∀ (M : cx_M) (x : Int32), rt_A b n t1 M → rUt u0 M → rUx u0 x → ∃ M', tw_line_57 Nt f M x = tw_line_80 Nt M' ∧ rt_G M M' ∧ match o with
      | .inl u' => M' 60 19 = 0 ∧ rUt u' M'
      | .inr (κ, pl) => M' 60 19 = nI κ ∧ M' 60 20 = nI pl
theorem lD_go {n Nt : Nat} {t1 : rT} (hn : n ≤ m) (hm : m ≤ 700) (hN : 1100 ≤ N.1) (hKd : rKD N) (hb0 : ∀ j, j < n → 0 ≤ (b j).toInt) (H : lN_H N M0 P0 L0 b m a0 q q8 w w5) (hx : rNx b n 0 t1) (hNt : 705 ≤ Nt) (hbc : 18000 ≤ bc) (hbs : 80000 ≤ bs)
    (K : ∀ o : rU ⊕ (Nat × Nat), wOp n t1 o → lN_W Nt n b t1 o → match o with
      | .inl u => ∀ J M1 P1 L1 k s, k ≤ 18000 → s ≤ 80000 → lN_O N M0 P0 L0 a0 q q8 w J u M1 P1 L1 → Q M1 P1 L1 0 none 0 k s
      | .inr (κ, pl) => ∀ M1 P1 L1 k s, k ≤ 18000 → s ≤ 80000 → lN_R M0 P0 L0 a0 w5 pl M1 P1 L1 → Q M1 P1 L1 (nI κ) none 0 k s) : dCc_lineD N bc bs M0 P0 L0 a0 (nI n) Q := by
  obtain ⟨hu, ⟨h1, h2, h3, h4⟩, h5, ⟨h6, h7, h8, h9⟩, ⟨i1, i2, i3, i4⟩⟩ := H
  have tn := pi_nI (n := n) (by omega)
  have tm := pi_nI (n := m) (by omega)
  have naq : a0 ≠ q := fun e => absurd (show ((0, 1, 0) : dk) = (0, 12, 0) from hu _ h1 _ h7 e) (by decide)
  have na8 : a0 ≠ q8 := fun e => absurd (show ((0, 1, 0) : dk) = (1, 0, 64) from hu _ h1 _ h9 e) (by decide)
  have naw : a0 ≠ w := fun e => absurd (show ((0, 1, 0) : dk) = (0, 2, 0) from hu _ h1 _ i2 e) (by decide)
  have na5 : a0 ≠ w5 := fun e => absurd (show ((0, 1, 0) : dk) = (1, 0, 3) from hu _ h1 _ i4 e) (by decide)
  have nq8 : q ≠ q8 := fun e => absurd (show ((0, 12, 0) : dk) = (1, 0, 64) from hu _ h7 _ h9 e) (by decide)
  have nqw : q ≠ w := fun e => absurd (show ((0, 12, 0) : dk) = (0, 2, 0) from hu _ h7 _ i2 e) (by decide)
  have n8w : q8 ≠ w := fun e => absurd (show ((1, 0, 64) : dk) = (0, 2, 0) from hu _ h9 _ i2 e) (by decide)
  unfold dCc_lineD dCc_lineD_0
  rw [if_neg (by rw [i32_lt, pi_0]; omega)]
  refine ⟨h1, pq_get ?_⟩
  rw [h2, if_neg (by rw [i32_lt]; omega)]
  unfold dCc_lineD_17 cd_thr
  rw [if_neg (by decide)]
  refine ⟨fun z => absurd rfl z, fun _ => pd_add ⟨h1, pq_put ⟨h1, pq_put ?_⟩⟩⟩
  -- what stands behind the two puts
  have hA0 : ∀ k, cx_up (cx_up M0 (dc a0) 9 0) (dc a0) 10 (-1) (dc a0) k = if k = 10 then -1 else if k = 9 then 0 else M0 (dc a0) k := fun k => by rw [px_upd, px_upd]
  have hYa : qd_J (fun y => y = a0) M0 P0 L0 (cx_up (cx_up M0 (dc a0) 9 0) (dc a0) 10 (-1)) P0 L0 := ((qd_J.rf (U := fun y => y = a0)).put (fun _ _ _ => rfl)).put (fun _ _ _ => rfl)
  generalize cx_up (cx_up M0 (dc a0) 9 0) (dc a0) 10 (-1) = Ma at hA0 hYa ⊢
  refine pd_new (by omega) (by omega) (fun a12 ha12 => ⟨mem_old h1, by rw [dPn_ne (ha12 _ h1)]; exact h3, ?_⟩)
  have hY0 : qd_J (fun _ => False) Ma P0 L0 (cx_set Ma (dc a12) (fun _ => 0)) (dPn P0 a12) (L0 ++ [(a12, (0, 10, 0))]) := qd_J.rf.new ha12
  have hu0 : qd_u (L0 ++ [(a12, ((0, 10, 0) : dk))]) := hu.snoc ha12
  refine rd_init_s (t1 := t1) (b := b) (by omega) hN hKd hx hu0 mem_new (by rw [px_new]) h4 (fun j hj => by rw [px_setc (dc_lo (by decide)), hYa.1 509 (by decide)]; exact h5 j (by omega)) (by omega) (by omega) (fun a2 b2 s M1 P1 L1 k1 m1 hk1 hm1 hA1 hs1 hB1 hY1 hf1 hfs => ?_)
  intro _
  refine pd_add ⟨hA1.1.2.1, ?_⟩
  have hYb : qd_J (fun _ => False) Ma P0 L0 M1 P1 L1 := hY0.tr hY1 (fun _ _ z => z) (fun x hx z => absurd z (ha12 x hx))
  -- the new line
  unfold rd_whole rd_whole_0
  refine pd_new (by omega) (by omega) (fun a1 ha1 => ?_)
  refine rLn_s (hA1.1.1.snoc ha1) mem_new (by rw [px_new]) dPn_at dPn_at (by omega) (by omega) (fun a7 d a23 a24 M2 P2 L2 k2 m2 hk2 hm2 hu2 hY2 hf2 g1 g2 g3 g4 g5 g6 g7 g8 g9 => ?_)
  intro _
  refine pd_add ?_
  have n1 : a12 ≠ a1 := ha1 _ hA1.1.2.1
  have hYn : qd_J (fun _ => False) M1 P1 L1 (cx_set M1 (dc a1) (fun _ => 0)) (dPn P1 a1) (L1 ++ [(a1, (0, 7, 0))]) := qd_J.rf.new ha1
  have hYl : qd_J (fun _ => False) M1 P1 L1 M2 P2 L2 := hYn.tr hY2 (fun _ _ z => z) (fun x hx z => absurd z (ha1 x hx))
  have hYc : qd_J (fun _ => False) Ma P0 L0 M2 P2 L2 := hYb.tr hYl (fun _ _ z => z) (fun _ _ z => z)
  have hP2 : rc_P N b n a12 (some a2) t1.2.2 M2 P2 L2 := hA1.1.Y hYl hu2 (fun z => z)
  have old : ∀ y ∈ L0, y ∈ L1 := fun y hy => hYb.mem hy
  have hT2 : rc_T N b a12 s t1 M2 P2 L2 := by
    obtain ⟨e1, e2⟩ := hYl.2.2 _ hA1.1.2.1 (fun z => z)
    obtain ⟨c1, c2, c3, c4⟩ := hA1.2
    refine ⟨by rw [e1]; exact c1, by rw [e2]; exact c2, fun z => by rw [e1]; exact c3 z, fun z => ?_⟩
    obtain ⟨c5, y1, y2, y3, y4, v, y5, y6, y7, y8⟩ := c4 z
    obtain ⟨e3, e4⟩ := hYl.2.2 _ y1 (fun z => z)
    obtain ⟨e5, -⟩ := hYl.2.2 _ y7 (fun z => z)
    exact ⟨by rw [e2]; exact c5, hYl.mem y1, by rw [e3]; exact y2, by rw [e3]; exact y3, by rw [e3]; exact y4, v, by rw [e4]; exact y5, y6, hYl.mem y7, fun i hi => by rw [e5]; exact y8 i hi⟩
  have hs2 : rc_s a12 s L2 := hs1.imp id (fun z => hYl.mem z)
  have hB2 : qt_B M2 P2 L2 a2 b2 (fun _ => 0) := hB1.J hYl (fun z => z) (fun z => z)
  have hUc : rUc N Ma P0 L0 a12 (a1, a7, a23, a24, a2, b2) s u0 M2 P2 L2 := by
    refine ⟨hYc, fun y hy => ⟨ha12 y hy, ?_, ha1 y (old y hy), (hf2 y (mem_old (old y hy))).1, (hf1 y (mem_old hy)).1, (hf1 y (mem_old hy)).2⟩, ⟨hY2.mem mem_new, g1, g2, g5⟩, ⟨g7, g8, g9⟩, ⟨d, 1, g6, fun y hy => (hf2 y (mem_old (old y hy))).2.1⟩, ⟨⟨fun _ => g3, fun z => absurd rfl z⟩, ⟨fun _ => g4, fun z => absurd rfl z⟩⟩, hB2⟩
    rcases hfs with e | e
    · rw [e]; exact ha12 y hy
    · exact e y (mem_old hy)
  obtain ⟨o, p1, p2, p3⟩ := j_whole (a0 := a12) (M0 := Ma) (P0 := P0) (L0 := L0) (J := (a1, a7, a23, a24, a2, b2)) (Nt := Nt) (by omega) hNt hN hKd hb0 (n + 1) t1 u0 ⟨0, hx⟩ (by omega) u0_p
  have hK := K o p1 p2
  have fresh : ∀ y ∈ L0, y.1 ≠ a23 ∧ y.1 ≠ a24 := fun y hy => ⟨(hf2 y (mem_old (old y hy))).2.2.1, (hf2 y (mem_old (old y hy))).2.2.2⟩
  have hpn : n + 1 - t1.2.1 ≤ 701 := by omega
  refine p3 N.1 (by omega) _ _ _ _ _ _ _ _ s ⟨hP2, hT2⟩ hs2 hUc (by omega) (by omega) ?_
  clear p3 hUc hB2 hT2 hP2 hs2 hYc hYl hYn hYb hA1 hs1 hB1 hY1 hfs hf1 hf2 hY2
  cases o with
  | inl u =>
    intro s' M3 P3 L3 k3 m3 hu3 hU3 hk3 hm3
    have hK : ∀ J M1 P1 L1 k s, k ≤ 18000 → s ≤ 80000 → lN_O N M0 P0 L0 a0 q q8 w J u M1 P1 L1 → Q M1 P1 L1 0 none 0 k s := hK
    obtain ⟨hY3, f3, ⟨l1, l2, l3, l4⟩, ⟨v1, v2, v3⟩, ⟨dd, zz, ⟨c1, c2, c3, c4, c5, c6⟩, c7⟩, ⟨r1, r2⟩, -⟩ := hU3
    dsimp only at l1 l2 l3 l4 v1 v2 v3 c1 c2 c4 r1 r2 f3
    obtain ⟨ea, ep⟩ := hY3.2.2 _ h1 (fun z => z)
    obtain ⟨eqa, eqp⟩ := hY3.2.2 _ h7 (fun z => z)
    obtain ⟨e8a, e8p⟩ := hY3.2.2 _ h9 (fun z => z)
    obtain ⟨ewa, ewp⟩ := hY3.2.2 _ i2 (fun z => z)
    have ma := hY3.mem h1
    have mq := hY3.mem h7
    have m8 := hY3.mem h9
    have mw := hY3.mem i2
    have n1a : a1 ≠ a0 := fun e => absurd (show ((0, 7, 0) : dk) = (0, 1, 0) from hu3 _ l1 _ ma e) (by decide)
    have n1q : a1 ≠ q := fun e => absurd (show ((0, 7, 0) : dk) = (0, 12, 0) from hu3 _ l1 _ mq e) (by decide)
    refine ⟨fun z => absurd rfl z, fun _ => pd_add ⟨ma, pd_put ⟨ma, pd_let ⟨ma, pd_let (pd_nn (a := q) (by rw [dPu_at, if_neg (by decide), ep]; exact h6) (pd_nn (a := a1) (by rw [dPu_at, if_pos rfl]) ⟨mq, ?_⟩))⟩⟩⟩⟩
    refine dSt_begins_s hN mq (by rw [dPu_ne naq.symm, eqp]; exact h8) m8 l1 n1q nq8.symm (fun M4 w1 w2 w3 => ?_)
    intro _
    refine pd_add ⟨ma, pd_let (pd_nn (a := w) (by rw [dPu_at, if_neg (by decide), ep]; exact i1) ⟨mw, pq_put ⟨ma, pd_let (pd_nn (a := w) (by rw [dPu_at, if_neg (by decide), ep]; exact i1) ⟨mw, pq_put ⟨ma, pq_put ?_⟩⟩)⟩⟩)⟩
    -- all that was there, but four
    have oth : ∀ c, c ≠ a0 → c ≠ q → c ≠ q8 → c ≠ w → cx_up (cx_up (cx_up M4 (dc w) 5 0) (dc w) 6 0) (dc a0) 7 0 (dc c) = M3 (dc c) := fun c x1 x2 x3 x4 => by
      rw [px_upc (dc_ne x1), px_upc (dc_ne x4), px_upc (dc_ne x4), w1 _ (dc_ne x3) (dc_ne x2)]
    have kd : ∀ c kk, (c, kk) ∈ L3 → kk ≠ (0, 1, 0) → kk ≠ (0, 12, 0) → kk ≠ (1, 0, 64) → kk ≠ (0, 2, 0) → c ≠ a0 ∧ c ≠ q ∧ c ≠ q8 ∧ c ≠ w := fun c kk hc x1 x2 x3 x4 =>
      ⟨fun e => x1 (hu3 _ hc _ ma e), fun e => x2 (hu3 _ hc _ mq e), fun e => x3 (hu3 _ hc _ m8 e), fun e => x4 (hu3 _ hc _ mw e)⟩
    have tr : ∀ x ∈ L3, (x.2 = (0, 13, 0) ∨ x.2 = (0, 11, 0) ∨ x.2 = (0, 9, 0) ∨ x.2 = (0, 3, 0)) → (∀ k, P3 x.1 k = none) ∨ (x ∈ L3 ∧ dPu P3 a0 0 (some a1) x.1 = P3 x.1) := fun x hx hk =>
      Or.inr ⟨hx, dPu_ne (fun e => by
        have e2 : x.2 = (0, 1, 0) := hu3 _ hx _ ma e
        rw [e2] at hk
        exact absurd hk (by decide))⟩
    obtain ⟨x1, x2, x3, x4⟩ := kd _ _ l1 (by decide) (by decide) (by decide) (by decide)
    obtain ⟨y1, y2, y3, y4⟩ := kd _ _ c1 (by decide) (by decide) (by decide) (by decide)
    obtain ⟨z1, z2, z3, z4⟩ := kd _ _ v1 (by decide) (by decide) (by decide) (by decide)
    have d1 : dd ≠ a0 := fun e => c7 _ h1 e.symm
    refine hK (a1, a7, a23, a24, a2, b2) _ _ _ _ _ (by omega) (by omega) ⟨hu3, ⟨fun c hc => ?_, hY3.2.1, fun x hx hU => ⟨?_, ?_⟩⟩, fun y hy => ⟨(f3 y hy).2.2.1, (f3 y hy).2.2.2.1, (fresh y hy).1, (fresh y hy).2⟩, ⟨l1, fun k hk => ?_, ?_, ?_⟩, ⟨v1, ?_, v3⟩, ⟨dd, zz, ⟨c1, ?_, c3, ?_, c5, fun i v hv => ?_⟩, c7⟩, ⟨?_, ?_⟩, ⟨fun k => ?_, fun k => ?_⟩, ⟨fun k => ?_, ?_⟩, ⟨fun k => ?_, ?_⟩, ⟨fun k => ?_, ?_⟩⟩
    · rw [px_upc (dc_lo hc), px_upc (dc_lo hc), px_upc (dc_lo hc), w1 _ (dc_lo hc) (dc_lo hc), hY3.1 c hc, hYa.1 c hc]
    · have hU : ¬ (x.1 = a0 ∨ x.1 = q ∨ x.1 = q8 ∨ x.1 = w) := hU
      rw [oth x.1 (fun e => hU (Or.inl e)) (fun e => hU (Or.inr (Or.inl e))) (fun e => hU (Or.inr (Or.inr (Or.inl e)))) (fun e => hU (Or.inr (Or.inr (Or.inr e)))), (hY3.2.2 x hx (fun z => z)).1, (hYa.2.2 x hx (fun e => hU (Or.inl e))).1]
    · have hU : ¬ (x.1 = a0 ∨ x.1 = q ∨ x.1 = q8 ∨ x.1 = w) := hU
      rw [dPu_ne (fun e => hU (Or.inl e)), (hY3.2.2 x hx (fun z => z)).2]
    · show cx_up _ _ _ _ (dc a1) k = _
      rw [oth a1 x1 x2 x3 x4]; exact l2 k hk
    · show dPu P3 a0 0 (some a1) a1 7 = some a7
      rw [dPu_ne x1]; exact l3
    · show dPu P3 a0 0 (some a1) a1 10 = some a23
      rw [dPu_ne x1]; exact l4
    · show dPu P3 a0 0 (some a1) a23 0 = some a24
      rw [dPu_ne z1]; exact v2
    · show dPu P3 a0 0 (some a1) a7 1 = some dd
      rw [dPu_ne y1]; exact c2
    · show cx_up _ _ _ _ (dc a7) 2 = _
      rw [oth a7 y1 y2 y3 y4]; exact c4
    · obtain ⟨x, g1, g2⟩ := c6 i v hv
      refine ⟨x, by rw [dPu_ne d1]; exact g1, g2.fr (fun c hc => ⟨hc, dPu_ne (kd _ _ hc (by decide) (by decide) (by decide) (by decide)).1⟩)⟩
    · show rUr N _ _ (dPu P3 a0 0 (some a1) a1 8) _
      rw [dPu_ne x1]; exact r1.fr tr
    · show rUr N _ _ (dPu P3 a0 0 (some a1) a1 9) _
      rw [dPu_ne x1]; exact r2.fr tr
    · rw [px_upd, px_upc (dc_ne naw), px_upc (dc_ne naw), w1 _ (dc_ne na8) (dc_ne naq), ea, hA0 k]
      by_cases k7 : k = 7
      · rw [if_pos k7, if_pos (Or.inl k7)]
      · rw [if_neg k7]
        by_cases k10 : k = 10
        · rw [if_pos k10, if_neg (by omega), if_pos k10]
        · rw [if_neg k10]
          by_cases k9 : k = 9
          · rw [if_pos k9, if_pos (Or.inr k9)]
          · rw [if_neg k9, if_neg (by omega), if_neg k10]
    · show dPu P3 a0 0 (some a1) a0 k = if k = 0 then some a1 else P0 a0 k
      rw [dPu_at, ep]
    · rw [px_upc (dc_ne naw.symm), px_upd, px_upd, w1 _ (dc_ne n8w.symm) (dc_ne nqw.symm), ewa, (hYa.2.2 _ i2 naw.symm).1]
      by_cases k6 : k = 6
      · rw [if_pos k6, if_pos (Or.inr k6)]
      · rw [if_neg k6]
        by_cases k5 : k = 5
        · rw [if_pos k5, if_pos (Or.inl k5)]
        · rw [if_neg k5, if_neg (by omega)]
    · rw [dPu_ne naw.symm, ewp]
    · rw [px_upc (dc_ne naq.symm), px_upc (dc_ne nqw), px_upc (dc_ne nqw), w3 k, l2 5 (by decide), l2 1 (by decide), l2 2 (by decide), l2 3 (by decide), eqa, (hYa.2.2 _ h7 naq.symm).1]
    · rw [dPu_ne naq.symm, eqp]
    · rw [px_upc (dc_ne na8.symm), px_upc (dc_ne n8w), px_upc (dc_ne n8w), w2 k, e8a, (hYa.2.2 _ h9 na8.symm).1]
    · rw [dPu_ne na8.symm, e8p]
  | inr v =>
    obtain ⟨κ, pl⟩ := v
    intro M3 P3 L3 k3 m3 hu3 hY3 hk3 hm3
    have hK : ∀ M1 P1 L1 k s, k ≤ 18000 → s ≤ 80000 → lN_R M0 P0 L0 a0 w5 pl M1 P1 L1 → Q M1 P1 L1 (nI κ) none 0 k s := hK
    obtain ⟨ea, ep⟩ := hY3.2.2 _ h1 (fun z => z)
    obtain ⟨ewa, ewp⟩ := hY3.2.2 _ i2 (fun z => z)
    obtain ⟨e5a, e5p⟩ := hY3.2.2 _ i4 (fun z => z)
    have ma := hY3.mem h1
    have mw := hY3.mem i2
    have m5 := hY3.mem i4
    refine ⟨fun _ => ⟨by omega, fun x hx => ?_⟩, fun z => absurd z (by omega)⟩
    obtain ⟨x1, x2, x3⟩ := hx
    have xa : x ≠ a0 := fun e => absurd (show ((0, 5, 0) : dk) = (0, 1, 0) from hu3 _ x1 _ ma e) (by decide)
    have x5 : x ≠ w5 := fun e => absurd (show ((0, 5, 0) : dk) = (1, 0, 3) from hu3 _ x1 _ m5 e) (by decide)
    refine pd_add ⟨x1, pq_get ⟨ma, pq_put ⟨ma, pd_let (pd_nn (a := w) (by rw [ep]; exact i1) ⟨mw, pd_let (pd_nn (a := w5) (by rw [ewp]; exact i3) ⟨3, m5, pq_ld (by decide) (by decide) ⟨3, m5, pq_st (by decide) (by decide) ⟨x1, pq_get ?_⟩⟩⟩)⟩)⟩⟩⟩
    have p0 : pn (0 : Int32) = 0 := rfl
    rw [p0, x3, px_upc (dc_ne x5), px_upc (dc_ne xa), x2, Nat.add_sub_cancel_left]
    refine hK _ _ _ _ _ (by omega) (by omega) ⟨hu3, ⟨fun c hc => ?_, hY3.2.1, fun y hy hU => ⟨?_, (hY3.2.2 y hy (fun z => z)).2⟩⟩, ⟨fun k => ?_, ep⟩, ⟨fun k => ?_, e5p⟩⟩
    · rw [px_upc (dc_lo hc), px_upc (dc_lo hc), hY3.1 c hc, hYa.1 c hc]
    · have hU : ¬ (y.1 = a0 ∨ y.1 = w5) := hU
      rw [px_upc (dc_ne (fun e => hU (Or.inr e))), px_upc (dc_ne (fun e => hU (Or.inl e))), (hY3.2.2 y hy (fun z => z)).1, (hYa.2.2 y hy (fun e => hU (Or.inl e))).1]
    · rw [px_upc (dc_ne na5), px_upd, ea, hA0 k]
      by_cases k10 : k = 10
      · rw [if_pos k10, if_neg (by omega), if_pos k10]
      · by_cases k9 : k = 9
        · simp only [if_neg k10, if_pos k9]
        · simp only [if_neg k10, if_neg k9]
    · rw [px_upd, px_upc (dc_ne na5.symm), e5a, (hYa.2.2 _ i4 na5.symm).1]
end LD
