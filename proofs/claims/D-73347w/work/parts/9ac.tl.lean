/-! READING A LINE, 12: nots, comparisons, rules -/
def rNots (s : List Int32) : Nat → List Int32
  | 0 => s
  | z + 1 => rNots (s ++ [-28]) z
theorem rNots_len : ∀ (z : Nat) (s : List Int32), (rNots s z).length = s.length + z
  | 0, _ => rfl
  | z + 1, s => by
    show (rNots (s ++ [-28]) z).length = _
    rw [rNots_len z, List.length_append]
    show s.length + 1 + z = s.length + (z + 1)
    omega
theorem rNots_S {D : Nat} : ∀ (z : Nat) (s : List Int32), rS s.length D s → rS (rNots s z).length D (rNots s z)
  | 0, _, h => h
  | z + 1, s, h => rNots_S z (s ++ [-28]) (by
    rw [List.length_append]
    exact Or.inr (Or.inr (Or.inl ⟨s, rfl, h⟩)))
section NT
variable {N : dNt} {b : Nat → Int32} {n a0 : Nat} {e8 : Option Nat}
/-- so many nots around a tree -/
theorem cl_nots {bc bs sx : Nat} {Q : cd_Qt} {rEc : Nat → Nat → cx_M → dP → dL → Nat → Int32 → cd_Qt → Prop} {t1 : rT} : ∀ (z f : Nat) (s0 : List Int32) (x0 : Nat) (M : cx_M) (P : dP) (L : dL) (k m : Nat), z < f → z < 1000 → rc_A N b n a0 e8 sx t1 M P L → pT N.2 L P s0.length x0 s0 → k + z ≤ bc → m + z ≤ bs →
    (∀ M' P' L' x, rc_A N b n a0 e8 sx t1 M' P' L' → qd_J (fun _ => False) M P L M' P' L' → pT N.2 L' P' (rNots s0 z).length x (rNots s0 z) → Q M' P' L' 0 (some x) 0 (k + z) (m + z)) → rd_not_91 N bc bs Q rEc a0 f M P L k m (nI z) (some x0) := by
  intro z
  induction z with
  | zero =>
    intro f s0 x0 M P L k m hf hz hA hx hb1 hb2 hy
    obtain ⟨f, rfl⟩ : ∃ q, f = q + 1 := ⟨f - 1, by omega⟩
    show rd_not_91b N bc bs Q rEc a0 (rd_not_91 N bc bs Q rEc a0 f) M P L k m (nI 0) (some x0)
    unfold rd_not_91b
    rw [if_pos (by decide)]
    exact hy M P L x0 hA qd_J.rf hx
  | succ z ih =>
    intro f s0 x0 M P L k m hf hz hA hx hb1 hb2 hy
    obtain ⟨f, rfl⟩ : ∃ q, f = q + 1 := ⟨f - 1, by omega⟩
    show rd_not_91b N bc bs Q rEc a0 (rd_not_91 N bc bs Q rEc a0 f) M P L k m (nI (z + 1)) (some x0)
    unfold rd_not_91b
    rw [if_neg (by rw [i32_le, pi_nI (by omega), pi_0]; omega)]
    refine pd_new (by omega) (by omega) (fun a ha => ?_)
    unfold rNo_init rNo_init_0 rEx_init rEx_init_0
    intro _
    refine pd_add ⟨mem_new, pd_put ?_⟩
    intro _
    refine pd_add (pq_let ?_)
    rw [show nI (z + 1) - 1 = nI z by rw [show (1 : Int32) = nI 1 from rfl, nI_sub (by omega) (by omega), Nat.add_sub_cancel]]
    have hA1 := (hA.new (kd := (0, 9, 0)) (f := fun _ => 0) ha).ref (k := 0) (v := some x0) mem_new (by decide) (by decide)
    have hY : qd_J (fun _ => False) M P L (cx_set M (dc a) (fun _ => 0)) (dPu (dPn P a) a 0 (some x0)) (L ++ [(a, (0, 9, 0))]) := (qd_J.rf.new ha).ref (fun x hx e => absurd e (ha x hx))
    have hx1 : pT N.2 (L ++ [(a, (0, 9, 0))]) (dPu (dPn P a) a 0 (some x0)) s0.length x0 s0 := pT_fr (fun _ _ => rfl) (fun y hy _ => Or.inr ⟨mem_old hy, by rw [dPu_ne (ha y hy), dPn_ne (ha y hy)]⟩) hx
    have hx2 : pT N.2 (L ++ [(a, (0, 9, 0))]) (dPu (dPn P a) a 0 (some x0)) (s0 ++ [-28]).length a (s0 ++ [-28]) := by
      rw [List.length_append]
      exact Or.inr (Or.inr (Or.inl ⟨x0, s0, rfl, mem_new, by rw [dPu_at, if_pos rfl], hx1⟩))
    refine ih f (s0 ++ [-28]) a _ _ _ _ _ (by omega) (by omega) hA1 hx2 (by omega) (by omega) (fun M' P' L' x y1 y2 y3 => ?_)
    have key := hy M' P' L' x y1 (hY.tr y2 (fun _ _ z => z) (fun _ _ z => z)) y3
    rw [show k + 1 + 0 + z = k + (z + 1) by omega, show m + 1 + 0 + z = m + (z + 1) by omega]
    exact key
theorem tw_nots {Nt r cnt : Nat} {t1 : rT} {rEt : cx_M → Int32 → Option cx_R} (hr : r < 2) {c : Nat} (hc : c < 1000) : ∀ (z j f : Nat) (s0 : List Int32) (M : cx_M), j + z = c → z < f → rt_A b n t1 M → M 60 10 = nI r → M 3 (18 + r) = nI (cnt + s0.length) → (∀ i y, s0[i]? = some y → M (5 + r) (700 + cnt + i) = y) → cnt + s0.length + z ≤ 700 →
    ∃ M', tw_readNot_95 Nt rEt f M (nI c) (nI j) = some (M', 0, 0) ∧ rH2 r cnt M M' ∧ rt_A b n t1 M' ∧ M' 3 (18 + r) = nI (cnt + (rNots s0 z).length) ∧ ∀ i y, (rNots s0 z)[i]? = some y → M' (5 + r) (700 + cnt + i) = y := by
  intro z
  induction z with
  | zero =>
    intro j f s0 M hj hf hA h10 h3 hrow hl
    obtain ⟨f, rfl⟩ : ∃ q, f = q + 1 := ⟨f - 1, by omega⟩
    refine ⟨M, ?_, rH2.rf, hA, h3, hrow⟩
    show tw_readNot_95b Nt rEt (tw_readNot_95 Nt rEt f) M (nI c) (nI j) = _
    unfold tw_readNot_95b
    rw [if_pos (nI_le (by omega) (by omega))]
  | succ z ih =>
    intro j f s0 M hj hf hA h10 h3 hrow hl
    obtain ⟨f, rfl⟩ : ∃ q, f = q + 1 := ⟨f - 1, by omega⟩
    obtain ⟨M1, e1, e2, e3, e4, e5, e6⟩ := rt_laid (N := Nt) (s := s0) (cnt := cnt) (x := -28) hr hA h10 h3 hrow (by omega)
    obtain ⟨M2, f1, f2, f3, f4, f5⟩ := ih (j + 1) f (s0 ++ [-28]) M1 (by omega) (by omega) e3 e4 e5 e6 (by rw [List.length_append]; show cnt + (s0.length + 1) + z ≤ 700; omega)
    refine ⟨M2, ?_, e2.tr f2, f3, f4, f5⟩
    show tw_readNot_95b Nt rEt (tw_readNot_95 Nt rEt f) M (nI c) (nI j) = _
    unfold tw_readNot_95b
    rw [if_neg (nI_ge (by omega) (by omega)), px_cal e1, px_let, ← nI_succ j]
    exact f1
/-- the same as rGt, so many nots ahead -/
def rGz (b : Nat → Int32) (n r z : Nat) (t : rT) (o : rO) (G : cx_M → Option cx_R) : Prop := ∀ (M : cx_M) (cnt : Nat), rt_A b n t M → M 60 10 = nI r → M 3 (18 + r) = nI cnt → cnt + z ≤ t.2.1 →
  match o with
  | .inl (s, t') => ∃ M', G M = some (M', 0, 0) ∧ rH2 r cnt M M' ∧ rt_A b n t' M' ∧ M' 3 (18 + r) = nI (cnt + s.length) ∧ ∀ i x, s[i]? = some x → M' (5 + r) (700 + cnt + i) = x
  | .inr (κ, pl) => ∃ M', G M = some (M', 0, 0) ∧ rH2 r cnt M M' ∧ M' 60 19 = nI κ ∧ M' 60 20 = nI pl
theorem tw_n0 {Nt x1 z : Nat} {rEt : cx_M → Int32 → Option cx_R} (hn : n ≤ 700) (hNt : 705 ≤ Nt) {t : rT} (hT : rTok b n t) (hop2 : ¬ (t.1 = 1 ∧ rW b t (twSbyt.getD 13 []))) : ∀ (f : Nat) (M M1 : cx_M), rt_A b n t M → tw_readSum Nt rEt M (nI x1) = some (M1, 0, 0) → tw_readNot_2 Nt rEt (f + 1) M (nI x1) (nI z) = (cx_cal (tw_isMarked Nt M1 60) fun M4 v5 =>
    if v5 = 0 then (
      cx_cal (tw_isMarked Nt M4 61) fun M6 v7 =>
      if v7 = 0 then (
        tw_readNot_93 Nt rEt M6 (nI z))
      else (
        tw_readNot_62 Nt rEt M6 (nI x1) (nI z)))
    else (
      tw_readNot_62 Nt rEt M4 (nI x1) (nI z))) := by
  intro f M M1 hA e1
  show tw_readNot_2b Nt rEt (tw_readNot_2 Nt rEt f) M (nI x1) (nI z) = _
  unfold tw_readNot_2b
  rw [px_cal (rt_is hn hNt hA hT (by decide)), if_neg hop2, if_pos rfl, px_cal e1]
theorem cl_n0 {x1 z : Nat} {rEc : Nat → Nat → cx_M → dP → dL → Nat → Int32 → cd_Qt → Prop} (hn : n ≤ 700) (hN : 1100 ≤ N.1) (hKd : rKD N) {t : rT} {o1 : rO} (hT : rTok b n t) (hop : ¬ (t.1 = 1 ∧ rW b t (rdS.getD 15 []))) (p3 : rGf N b n a0 e8 t o1 (fun bc bs Q M P L => rd_sum N bc bs M P L rEc a0 (nI x1) Q)) : ∀ (f bc bs : Nat) (Q : cd_Qt) (M : cx_M) (P : dP) (L : dL) (k m s : Nat), rc_A N b n a0 e8 s t M P L → rc_s a0 s L → k + z + 24 * (n + 1 - t.2.1) + 12 ≤ bc → m + z + 110 * (n + 1 - t.2.1) + 60 ≤ bs →
    rGq N b n a0 e8 s t M P L 0 0 (fun M10 P11 L12 v13 r14 e9 k15 n16 => (e9 ≠ 0 → Q M10 P11 L12 v13 none e9 (k + 0 + k15) (m + 0 + n16)) ∧ (e9 = 0 → cd_add (k + 0) k15 (m + 0) n16 fun k17 n18 =>
      (a0, (0, 10, 0)) ∈ L12 ∧
      rd_is N (bc - k17) (bs - n18) M10 P11 L12 a0 16 (fun M19 P20 L21 v22 r23 e9 k24 n25 => e9 = 0 → cd_add k17 k24 n18 n25 fun k26 n27 =>
      if v22 = 0 then (
        (a0, (0, 10, 0)) ∈ L21 ∧
        rd_is N (bc - k26) (bs - n27) M19 P20 L21 a0 17 (fun M28 P29 L30 v31 r32 e9 k33 n34 => e9 = 0 → cd_add k26 k33 n27 n34 fun k35 n36 =>
        if v31 = 0 then (
          rd_not_91 N bc bs Q rEc a0 N.1 M28 P29 L30 k35 n36 (nI z) r14)
        else (
          rd_not_61 N bc bs Q rEc a0 M28 P29 L30 k35 n36 (nI x1) (nI z) r14)))
      else (
        rd_not_61 N bc bs Q rEc a0 M19 P20 L21 k26 n27 (nI x1) (nI z) r14)))) o1 → rd_not_2 N bc bs Q rEc a0 (f + 1) M P L k m (nI x1) (nI z) := by
  intro f bc bs Q M P L k m s hA hs hb1 hb2 hq
  show rd_not_2b N bc bs Q rEc a0 (rd_not_2 N bc bs Q rEc a0 f) M P L k m (nI x1) (nI z)
  unfold rd_not_2b
  refine ⟨hA.1.2.1, ?_⟩
  refine rc_isW hKd hN hA hT hn (by decide) (by decide) ?_
  rw [if_neg hop]
  intro _
  refine pd_add ?_
  rw [if_pos rfl]
  exact ⟨hA.1.2.1, p3 _ _ _ M P L s hA hs (by omega) (by omega) hq⟩
theorem tw_n1 {Nt x1 z : Nat} {rEt : cx_M → Int32 → Option cx_R} (hn : n ≤ 700) (hNt : 705 ≤ Nt) {t t1 : rT} {c : Int32} (hT : rTok b n t) (hT1 : rTok b n t1) (hop2 : ¬ (t.1 = 1 ∧ rW b t (twSbyt.getD 13 []))) (hcm : t1.1 = 3 ∧ (b t1.2.1 = 60 ∨ b t1.2.1 = 61)) (hbc : b t1.2.1 = c) : ∀ (f : Nat) (M M1 M2 M3 M4 : cx_M), rt_A b n t M → tw_readSum Nt rEt M (nI x1) = some (M1, 0, 0) → rt_A b n t1 M1 → tw_stepOn Nt M1 = some (M2, 0, 0) → tw_readSum Nt rEt M2 (nI x1) = some (M3, 0, 0) → tw_lay Nt M3 (sx_act c) = some (M4, 0, 0) → tw_readNot_2 Nt rEt (f + 1) M (nI x1) (nI z) = tw_readNot_93 Nt rEt M4 (nI z) := by
  intro f M M1 M2 M3 M4 hA e1 hA1 e2 e3 e4
  rw [tw_n0 hn hNt hT hop2 f M M1 hA e1]
  have e78 : tw_readNot_78 Nt rEt M1 (nI x1) (nI z) (sx_act c) = tw_readNot_93 Nt rEt M4 (nI z) := by
    unfold tw_readNot_78
    rw [px_cal e2, px_cal e3, px_cal e4]
  have e62 : tw_readNot_62 Nt rEt M1 (nI x1) (nI z) = tw_readNot_93 Nt rEt M4 (nI z) := by
    unfold tw_readNot_62
    rw [px_cal (rt_marked hn hA1 hT1)]
    by_cases q : b t1.2.1 = 60
    · rw [if_pos (show t1.1 = 3 ∧ b t1.2.1 = 60 from ⟨hcm.1, q⟩), if_neg (by decide)]
      rw [show sx_act c = -24 by rw [← hbc, q]; decide] at e78
      exact e78
    · rw [if_neg (show ¬ (t1.1 = 3 ∧ b t1.2.1 = 60) from fun y => q y.2), if_pos rfl]
      rw [show sx_act c = -25 by rw [← hbc, hcm.2.resolve_left q]; decide] at e78
      exact e78
  rw [px_cal (rt_marked hn hA1 hT1)]
  by_cases q : b t1.2.1 = 60
  · rw [if_pos (show t1.1 = 3 ∧ b t1.2.1 = 60 from ⟨hcm.1, q⟩), if_neg (by decide)]
    exact e62
  · rw [if_neg (show ¬ (t1.1 = 3 ∧ b t1.2.1 = 60) from fun y => q y.2), if_pos rfl, px_cal (rt_marked hn hA1 hT1), if_pos (show t1.1 = 3 ∧ b t1.2.1 = 61 from ⟨hcm.1, hcm.2.resolve_left q⟩), if_neg (by decide)]
    exact e62
theorem cl_n1 {x1 z D2 : Nat} {rEc : Nat → Nat → cx_M → dP → dL → Nat → Int32 → cd_Qt → Prop} (hn : n ≤ 700) (hN : 1100 ≤ N.1) (hKd : rKD N) {t t1 t' : rT} {s1 : List Int32} {c : Int32} (hT : rTok b n t) (hT1 : rTok b n t1) (hx' : rNx b n t1.2.2 t') (hop : ¬ (t.1 = 1 ∧ rW b t (rdS.getD 15 []))) (hcm : t1.1 = 3 ∧ (b t1.2.1 = 60 ∨ b t1.2.1 = 61)) (hc : c ∈ sx_acts) (hbc : b t1.2.1 = c) (p1 : rOp b n t D2 0 (.inl (s1, t1))) (p3 : rGf N b n a0 e8 t (.inl (s1, t1)) (fun bc bs Q M P L => rd_sum N bc bs M P L rEc a0 (nI x1) Q)) : ∀ (f bc bs : Nat) (Q : cd_Qt) (M : cx_M) (P : dP) (L : dL) (k m s : Nat), rc_A N b n a0 e8 s t M P L → rc_s a0 s L → k + z + 24 * (n + 1 - t.2.1) + 12 ≤ bc → m + z + 110 * (n + 1 - t.2.1) + 60 ≤ bs →
    (∀ sx M1 P1 L1 k1 m1 x0 s2 M2 P2 L2 k2 m2, rc_A N b n a0 e8 sx t1 M1 P1 L1 → qd_J (fun y => y = a0 ∨ y = s) M P L M1 P1 L1 → rc_N s sx L L1 → pT N.2 L1 P1 s1.length x0 s1 → k1 ≤ k + 24 * (t1.2.1 - t.2.1) → m1 ≤ m + 110 * (t1.2.1 - t.2.1) →
      rc_A N b n a0 e8 s2 t' M2 P2 L2 → qd_J (fun y => y = a0 ∨ y = sx) M1 P1 L1 M2 P2 L2 → rc_N sx s2 L1 L2 → k2 ≤ k1 + 5 → m2 ≤ m1 + 50 →
      cd_new bc bs k2 m2 3 (0, 3, 0) M2 P2 L2 fun a21 M22 P23 L24 k25 n26 =>
      (a0, (0, 10, 0)) ∈ L24 ∧
      rd_sum N (bc - k25) (bs - n26) M22 P23 L24 rEc a0 (nI x1) (fun M27 P28 L29 v30 r31 e9 k32 n33 => (e9 ≠ 0 → Q M27 P28 L29 v30 none e9 (k25 + k32) (n26 + n33)) ∧ (e9 = 0 → cd_add k25 k32 n26 n33 fun k34 n35 =>
      rBo_init N (bc - k34) (bs - n35) M27 P28 L29 a21 c (some x0) r31 (fun M36 P37 L38 v39 r40 e9 k41 n42 => e9 = 0 → cd_add k34 k41 n35 n42 fun k43 n44 =>
      rd_not_91 N bc bs Q rEc a0 N.1 M36 P37 L38 k43 n44 (nI z) ((some a21)))))) → rd_not_2 N bc bs Q rEc a0 (f + 1) M P L k m (nI x1) (nI z) := by
  intro f bc bs Q M P L k m s hA hs hb1 hb2 hq
  have j3 := (rTok_k hT1).2.1
  have q2 := p1.2.1
  have q3 := p1.2.2.1 rfl
  have jle := (rTok_k hT1).2.2.2.2.1
  have jen := (rTok_k hT1).2.2.2.2.2
  refine cl_n0 hn hN hKd hT hop p3 f bc bs Q M P L k m s hA hs hb1 hb2 ?_
  intro sx M1 P1 L1 k1 m1 x0 y1 y2 y3 y4 y5 y6
  refine ⟨fun z => absurd rfl z, fun _ => pd_add ⟨y1.1.2.1, ?_⟩⟩
  have hS := (y1.2.2.2.2 (Or.inr hcm.1)).2
  have e61 : ∀ k' m' : Nat, k' = k + k1 → m' = m + m1 → rd_not_61 N bc bs Q rEc a0 M1 P1 L1 k' m' (nI x1) (nI z) (some x0) := by
    intro k' m' ek em
    subst ek em
    unfold rd_not_61
    refine ⟨y1.1.2.1, pd_let (pd_nn (y1.2.2.2.2 (Or.inr hcm.1)).1 ⟨hS.1, ?_⟩)⟩
    have hfst : b (t1.2.1 + 0) = c := by rw [Nat.add_zero]; exact hbc
    refine st_first hS (by have := (j3 hcm.1).1; omega) (by show rb_t (b (t1.2.1 + 0)); rw [hfst]; exact (sx_acts_t hc).1) ?_
    show 0 = 0 → _
    rw [hfst]
    intro _
    refine pd_add ⟨y1.1.2.1, ?_⟩
    refine rc_next hn hN hKd hx' y1 (by omega) (by omega) (fun s2 M2 P2 L2 k2 m2 g1 g2 g3 g4 g5 => ?_)
    intro _
    refine pd_add ?_
    exact hq sx M1 P1 L1 (k + k1) (m + m1) x0 s2 M2 P2 L2 _ _ y1 y2 y3 y4 (by omega) (by omega) g3 g4 g5 (by omega) (by omega)
  refine rc_isM (c := 60) hKd hN y1 hT1 hn (by decide) rfl (by decide) ?_
  intro _
  refine pd_add ?_
  by_cases q : b t1.2.1 = 60
  · rw [if_pos (show t1.1 = 3 ∧ b t1.2.1 = 60 from ⟨hcm.1, q⟩), if_neg (by decide)]
    exact e61 _ _ (by omega) (by omega)
  · rw [if_neg (show ¬ (t1.1 = 3 ∧ b t1.2.1 = 60) from fun y => q y.2), if_pos rfl]
    refine ⟨y1.1.2.1, ?_⟩
    refine rc_isM (c := 61) hKd hN y1 hT1 hn (by decide) rfl (by decide) ?_
    rw [if_pos (show t1.1 = 3 ∧ b t1.2.1 = 61 from ⟨hcm.1, hcm.2.resolve_left q⟩)]
    intro _
    refine pd_add ?_
    rw [if_neg (by decide)]
    exact e61 _ _ (by omega) (by omega)
theorem j_not_base {Nt x1 D2 D : Nat} {rEt : cx_M → Int32 → Option cx_R} {rEc : Nat → Nat → cx_M → dP → dL → Nat → Int32 → cd_Qt → Prop} (hn : n ≤ 700) (hNt : 705 ≤ Nt) (hN : 1100 ≤ N.1) (hKd : rKD N) (hb0 : ∀ j, j < n → 0 ≤ (b j).toInt)
    (HP : ∀ t, rTok b n t → ∃ o, rOp b n t D2 0 o ∧ (∀ r, r < 2 → rGt b n r [] t o (fun M => tw_readSum Nt rEt M (nI x1))) ∧ rGf N b n a0 e8 t o (fun bc bs Q M P L => rd_sum N bc bs M P L rEc a0 (nI x1) Q) ∧ (rBad b t → o = .inr (1, t.2.1))) (hD : D2 + 1 ≤ D) {t : rT} {z : Nat} (hT : rTok b n t) (hz : z ≤ 6) (hop : ¬ (t.1 = 1 ∧ rW b t (rdS.getD 15 []))) :
    ∃ o, rOp b n t D z o ∧ (∀ r, r < 2 → ∀ f, 1 ≤ f → rGz b n r z t o (fun M => tw_readNot_2 Nt rEt f M (nI x1) (nI z))) ∧
      (∀ f, 1 ≤ f → ∀ (bc bs : Nat) (Q : cd_Qt) (M : cx_M) (P : dP) (L : dL) (k m s : Nat), rc_A N b n a0 e8 s t M P L → rc_s a0 s L → k + z + 24 * (n + 1 - t.2.1) + 12 ≤ bc → m + z + 110 * (n + 1 - t.2.1) + 60 ≤ bs → rGq N b n a0 e8 s t M P L (k + z) (m + z) Q o → rd_not_2 N bc bs Q rEc a0 f M P L k m (nI x1) (nI z)) ∧ (z = 0 → rBad b t → o = .inr (1, t.2.1)) := by
  obtain ⟨k1, k3, k0, k4, kle, ken⟩ := rTok_k hT
  have hop2 : ¬ (t.1 = 1 ∧ rW b t (twSbyt.getD 13 [])) := hop
  obtain ⟨o1, p1, p2, p3, p4⟩ := HP t hT
  match o1, p1, p2, p3, p4 with
  | .inr (κ, pl), p1, p2, p3, p4 =>
    refine ⟨.inr (κ, pl), p1, fun r hr f hf M cnt hA h10 h3 hcn => ?_, fun f hf bc bs Q M P L k m s hA hs hb1 hb2 hQ => ?_, fun _ q => p4 q⟩
    · obtain ⟨f, rfl⟩ : ∃ q, f = q + 1 := ⟨f - 1, by omega⟩
      obtain ⟨M1, e1, e2, e3, e4⟩ := p2 r hr M cnt hA h10 h3 (fun i y hy => absurd hy (by simp)) (by show cnt + 0 ≤ t.2.1; omega)
      have hne : M1 60 19 ≠ 0 := fun q => by
        have := nI_inj (k := 0) (by have := p1.1; omega) (by omega) (e3.symm.trans q)
        have := p1.1
        omega
      refine ⟨M1, ?_, e2, e3, e4⟩
      show tw_readNot_2 Nt rEt (f + 1) M (nI x1) (nI z) = _
      rw [tw_n0 hn hNt hT hop2 f M M1 hA e1, px_cal (dd_marked hne), if_pos rfl, px_cal (dd_marked hne), if_pos rfl]
      exact dd_not_93 (by omega) hne (by omega)
    · obtain ⟨f, rfl⟩ : ∃ q, f = q + 1 := ⟨f - 1, by omega⟩
      refine cl_n0 hn hN hKd hT hop p3 f bc bs Q M P L k m s hA hs hb1 hb2 ?_
      intro M' P' L' k' m' y1 y2 y3 y4
      exact ⟨fun _ => hQ M' P' L' _ _ y1 y2 (by omega) (by omega), fun z => absurd z (by omega)⟩
  | .inl (s1, t1), p1, p2, p3, p4 =>
    have hT1 := p1.1
    have q2 := p1.2.1
    have q3 := p1.2.2.1 rfl
    have q5 := p1.2.2.2.2
    obtain ⟨j1, j3, j0, j4, jle, jen⟩ := rTok_k hT1
    by_cases hcm : t1.1 = 3 ∧ (b t1.2.1 = 60 ∨ b t1.2.1 = 61)
    · -- two compared
      have kk := j0 (by omega)
      obtain ⟨t', hx'⟩ := rNx_ex (b := b) (n := n) (p := t1.2.2) jen
      have hT' : rTok b n t' := ⟨_, hx'⟩
      have hle := hx'.le
      obtain ⟨o2, r1, r2, r3, -⟩ := HP t' hT'
      obtain ⟨c, hc, hbc⟩ : ∃ c, c ∈ sx_acts ∧ b t1.2.1 = c := ⟨_, by rcases hcm.2 with q | q <;> rw [q] <;> decide, rfl⟩
      match o2, r1, r2, r3 with
      | .inr (κ, pl), r1, r2, r3 =>
        refine ⟨.inr (κ, pl), ⟨r1.1, by have := r1.2.1; omega, r1.2.2⟩, fun r hr f hf M cnt hA h10 h3 hcn => ?_, fun f hf bc bs Q M P L k m s hA hs hb1 hb2 hQ => ?_, fun _ q => absurd (p4 q) (by simp)⟩
        · obtain ⟨f, rfl⟩ : ∃ q, f = q + 1 := ⟨f - 1, by omega⟩
          obtain ⟨M1, e1, e2, e3, e4, e5⟩ := p2 r hr M cnt hA h10 h3 (fun i y hy => absurd hy (by simp)) (by show cnt + 0 ≤ t.2.1; omega)
          obtain ⟨M2, f1, M3, g1, g2, g3, g4, g5⟩ := tw_both (x := sx_act c) hn hNt hb0 hr hx' kk e3 (by rw [e2.bnd]; exact h10) e4 e5 (by omega) r1 (r2 r hr)
          refine ⟨M3, ?_, e2.tr g2, g3, g4⟩
          show tw_readNot_2 Nt rEt (f + 1) M (nI x1) (nI z) = some (M3, 0, 0)
          rw [tw_n1 hn hNt hT hT1 hop2 hcm hbc f M M1 M2 M3 M3 hA e1 e3 f1 g1 (dd_lay g5)]
          exact dd_not_93 (by omega) g5 (by omega)
        · obtain ⟨f, rfl⟩ : ∃ q, f = q + 1 := ⟨f - 1, by omega⟩
          refine cl_n1 hn hN hKd hT hT1 hx' hop hcm hc hbc p1 p3 f bc bs Q M P L k m s hA hs hb1 hb2 (fun sx M1 P1 L1 k1 m1 x0 s2 M2 P2 L2 k2 m2 y1 y2 y3 y4 y5 y6 z1 z2 z3 z4 z5 => ?_)
          have hsx := hs.nx y3 (fun x hx => y2.mem hx)
          exact cl_both (s0 := s1) (t := t1) hc (by omega) (by omega) z1 z2 z3 hsx (rc_tree y1.1.1 y1.1.2.1 hsx z2 y4) z4 z5 (by omega) (by omega) r1 r3 (fun κ' pl' e M' P' L' k' m' w1 w2 w3 w4 => by
            cases e
            exact hQ M' P' L' k' m' w1 (y2.nx y3 w2) (by have := r1.2.1; omega) (by have := r1.2.1; omega)) (fun s2 t2 e => absurd e (by simp))
      | .inl (s2, t2), r1, r2, r3 =>
        have hT2 := r1.1
        have u2 := r1.2.1
        have u3 := r1.2.2.1 rfl
        have u5 := r1.2.2.2.2
        have hk2 := rTok_k hT2
        have hlen : (s1 ++ s2 ++ [sx_act c]).length = s1.length + s2.length + 1 := by rw [List.length_append, List.length_append]; rfl
        refine ⟨.inl (rNots (s1 ++ s2 ++ [sx_act c]) z, t2), ⟨hT2, by omega, fun _ => by omega, rNots_S z _ (rS_both hc (rS_m p1.2.2.2.1 (by omega)) r1.2.2.2.1 hD), by rw [rNots_len, hlen]; omega⟩, fun r hr f hf M cnt hA h10 h3 hcn => ?_, fun f hf bc bs Q M P L k m s hA hs hb1 hb2 hQ => ?_, fun _ q => absurd (p4 q) (by simp)⟩
        · obtain ⟨f, rfl⟩ : ∃ q, f = q + 1 := ⟨f - 1, by omega⟩
          obtain ⟨M1, e1, e2, e3, e4, e5⟩ := p2 r hr M cnt hA h10 h3 (fun i y hy => absurd hy (by simp)) (by show cnt + 0 ≤ t.2.1; omega)
          obtain ⟨M2, f1, M3, M4, g1, g2, g3, g4, g5, g6, g7, g8⟩ := tw_both (x := sx_act c) hn hNt hb0 hr hx' kk e3 (by rw [e2.bnd]; exact h10) e4 e5 (by omega) r1 (r2 r hr)
          obtain ⟨M5, v1, v2, v3, v4, v5⟩ := tw_nots (Nt := Nt) (rEt := rEt) (cnt := cnt) hr (c := z) (by omega) z 0 Nt (s1 ++ s2 ++ [sx_act c]) M4 (by omega) (by omega) g4 g5 g6 g7 (by rw [hlen]; omega)
          refine ⟨M5, ?_, (e2.tr g3).tr v2, v3, v4, v5⟩
          show tw_readNot_2 Nt rEt (f + 1) M (nI x1) (nI z) = some (M5, 0, 0)
          rw [tw_n1 hn hNt hT hT1 hop2 hcm hbc f M M1 M2 M3 M4 hA e1 e3 f1 g1 g2]
          exact v1
        · obtain ⟨f, rfl⟩ : ∃ q, f = q + 1 := ⟨f - 1, by omega⟩
          refine cl_n1 hn hN hKd hT hT1 hx' hop hcm hc hbc p1 p3 f bc bs Q M P L k m s hA hs hb1 hb2 (fun sx M1 P1 L1 k1 m1 x0 s2' M2 P2 L2 k2 m2 y1 y2 y3 y4 y5 y6 z1 z2 z3 z4 z5 => ?_)
          have hsx := hs.nx y3 (fun x hx => y2.mem hx)
          refine cl_both (s0 := s1) (t := t1) hc (by omega) (by omega) z1 z2 z3 hsx (rc_tree y1.1.1 y1.1.2.1 hsx z2 y4) z4 z5 (by omega) (by omega) r1 r3 (fun κ' pl' e => absurd e (by simp)) (fun s3 t3 e sy M' P' L' k' m' x w1 w2 w3 w4 w5 w6 => ?_)
          cases e
          refine cl_nots (t1 := t2) (sx := sy) z N.1 (s1 ++ s2 ++ [sx_act c]) x M' P' L' k' m' (by omega) (by omega) w1 w4 (by omega) (by omega) (fun M3 P3 L3 x3 a1 a2 a3 => ?_)
          have hY3 := (y2.nx y3 w2).tr a2 (U := fun y => y = a0 ∨ y = s) (fun _ _ z => z) (fun _ _ z => z.elim)
          have hN3 : rc_N s sy L L3 := (rc_N.tr y3 w3 (fun x hx => y2.mem hx) (fun x hx => w2.mem hx)).imp id (fun q => ⟨q.1, a2.mem q.2⟩)
          exact hQ sy M3 P3 L3 _ _ x3 a1 hY3 hN3 a3 (by omega) (by omega)
    · -- no more than a sum
      refine ⟨.inl (rNots s1 z, t1), ⟨hT1, q2, fun _ => q3, rNots_S z _ (rS_m p1.2.2.2.1 (by omega)), by rw [rNots_len]; omega⟩, fun r hr f hf M cnt hA h10 h3 hcn => ?_, fun f hf bc bs Q M P L k m s hA hs hb1 hb2 hQ => ?_, fun _ q => absurd (p4 q) (by simp)⟩
      · obtain ⟨f, rfl⟩ : ∃ q, f = q + 1 := ⟨f - 1, by omega⟩
        obtain ⟨M1, e1, e2, e3, e4, e5⟩ := p2 r hr M cnt hA h10 h3 (fun i y hy => absurd hy (by simp)) (by show cnt + 0 ≤ t.2.1; omega)
        obtain ⟨M5, v1, v2, v3, v4, v5⟩ := tw_nots (Nt := Nt) (rEt := rEt) (cnt := cnt) hr (c := z) (by omega) z 0 Nt s1 M1 (by omega) (by omega) e3 (by rw [e2.bnd]; exact h10) e4 e5 (by omega)
        refine ⟨M5, ?_, e2.tr v2, v3, v4, v5⟩
        show tw_readNot_2 Nt rEt (f + 1) M (nI x1) (nI z) = some (M5, 0, 0)
        rw [tw_n0 hn hNt hT hop2 f M M1 hA e1, px_cal (rt_marked hn e3 hT1), if_neg (show ¬ (t1.1 = 3 ∧ b t1.2.1 = 60) from fun q => hcm ⟨q.1, Or.inl q.2⟩), if_pos rfl, px_cal (rt_marked hn e3 hT1), if_neg (show ¬ (t1.1 = 3 ∧ b t1.2.1 = 61) from fun q => hcm ⟨q.1, Or.inr q.2⟩), if_pos rfl]
        exact v1
      · obtain ⟨f, rfl⟩ : ∃ q, f = q + 1 := ⟨f - 1, by omega⟩
        refine cl_n0 hn hN hKd hT hop p3 f bc bs Q M P L k m s hA hs hb1 hb2 ?_
        intro sx M1 P1 L1 k1 m1 x0 y1 y2 y3 y4 y5 y6
        refine ⟨fun z => absurd rfl z, fun _ => pd_add ⟨y1.1.2.1, ?_⟩⟩
        refine rc_isM (c := 60) hKd hN y1 hT1 hn (by decide) rfl (by decide) ?_
        rw [if_neg (show ¬ (t1.1 = 3 ∧ b t1.2.1 = 60) from fun q => hcm ⟨q.1, Or.inl q.2⟩)]
        intro _
        refine pd_add ?_
        rw [if_pos rfl]
        refine ⟨y1.1.2.1, ?_⟩
        refine rc_isM (c := 61) hKd hN y1 hT1 hn (by decide) rfl (by decide) ?_
        rw [if_neg (show ¬ (t1.1 = 3 ∧ b t1.2.1 = 61) from fun q => hcm ⟨q.1, Or.inr q.2⟩)]
        intro _
        refine pd_add ?_
        rw [if_pos rfl]
        refine cl_nots (t1 := t1) (sx := sx) z N.1 s1 x0 M1 P1 L1 _ _ (by omega) (by omega) y1 y4 (by omega) (by omega) (fun M3 P3 L3 x3 a1 a2 a3 => ?_)
        have hY3 := y2.tr a2 (U := fun y => y = a0 ∨ y = s) (fun _ _ z => z) (fun _ _ z => z.elim)
        have hN3 : rc_N s sx L L3 := y3.imp id (fun q => ⟨q.1, a2.mem q.2⟩)
        exact hQ sx M3 P3 L3 _ _ x3 a1 hY3 hN3 a3 (by omega) (by omega)
theorem j_not_loop {Nt x1 D2 D : Nat} {rEt : cx_M → Int32 → Option cx_R} {rEc : Nat → Nat → cx_M → dP → dL → Nat → Int32 → cd_Qt → Prop} (hn : n ≤ 700) (hNt : 705 ≤ Nt) (hN : 1100 ≤ N.1) (hKd : rKD N) (hb0 : ∀ j, j < n → 0 ≤ (b j).toInt)
    (HP : ∀ t, rTok b n t → ∃ o, rOp b n t D2 0 o ∧ (∀ r, r < 2 → rGt b n r [] t o (fun M => tw_readSum Nt rEt M (nI x1))) ∧ rGf N b n a0 e8 t o (fun bc bs Q M P L => rd_sum N bc bs M P L rEc a0 (nI x1) Q) ∧ (rBad b t → o = .inr (1, t.2.1))) (hD : D2 + 1 ≤ D) :
    ∀ (w : Nat) (t : rT) (z : Nat), rTok b n t → n + 1 - t.2.1 ≤ w → z ≤ 6 → ∃ o, rOp b n t D z o ∧ (∀ r, r < 2 → ∀ f, w ≤ f → rGz b n r z t o (fun M => tw_readNot_2 Nt rEt f M (nI x1) (nI z))) ∧
      (∀ f, w ≤ f → ∀ (bc bs : Nat) (Q : cd_Qt) (M : cx_M) (P : dP) (L : dL) (k m s : Nat), rc_A N b n a0 e8 s t M P L → rc_s a0 s L → k + z + 24 * (n + 1 - t.2.1) + 12 ≤ bc → m + z + 110 * (n + 1 - t.2.1) + 60 ≤ bs → rGq N b n a0 e8 s t M P L (k + z) (m + z) Q o → rd_not_2 N bc bs Q rEc a0 f M P L k m (nI x1) (nI z)) ∧ (z = 0 → rBad b t → o = .inr (1, t.2.1)) := by
  intro w
  induction w with
  | zero =>
    intro t z hT hw
    have := (rTok_k hT).2.2.2.2
    omega
  | succ w ih =>
    intro t z hT hw hz
    obtain ⟨k1, k3, k0, k4, kle, ken⟩ := rTok_k hT
    by_cases hop : t.1 = 1 ∧ rW b t (rdS.getD 15 [])
    · -- a not
      have kk := k0 (by omega)
      have hop2 : t.1 = 1 ∧ rW b t (twSbyt.getD 13 []) := hop
      obtain ⟨t', hx'⟩ := rNx_ex (b := b) (n := n) (p := t.2.2) ken
      have hT' : rTok b n t' := ⟨_, hx'⟩
      have hle := hx'.le
      have cls : ∀ (f bc bs : Nat) (Q : cd_Qt) (M : cx_M) (P : dP) (L : dL) (k m s : Nat), rc_A N b n a0 e8 s t M P L → (∀ k' m' : Nat, k' = k → m' = m → rd_not_23 N bc bs Q rEc a0 (rd_not_2 N bc bs Q rEc a0 f) M P L k' m' (nI x1) (nI z) (if 6 ≤ z then 0 else 1)) → rd_not_2 N bc bs Q rEc a0 (f + 1) M P L k m (nI x1) (nI z) := by
        intro f bc bs Q M P L k m s hA hq
        show rd_not_2b N bc bs Q rEc a0 (rd_not_2 N bc bs Q rEc a0 f) M P L k m (nI x1) (nI z)
        unfold rd_not_2b
        refine ⟨hA.1.2.1, ?_⟩
        refine rc_isW hKd hN hA hT hn (by decide) (by decide) ?_
        rw [if_pos hop]
        intro _
        refine pd_add ?_
        rw [if_neg (by decide)]
        have := hq (k + 0) (m + 0) rfl rfl
        by_cases c : 6 ≤ z
        · rw [if_pos (show (6 : Int32) ≤ nI z from nI_le (a := 6) c (by omega))]
          rw [if_pos c] at this
          exact this
        · rw [if_neg (show ¬ (6 : Int32) ≤ nI z from nI_ge (a := z) (b := 6) (by omega) (by omega))]
          rw [if_neg c] at this
          exact this
      by_cases c6 : z = 6
      · subst c6
        refine ⟨.inr (2, t.2.1), ⟨⟨by omega, by omega⟩, Nat.le_refl _, by omega⟩, fun r hr f hf M cnt hA h10 h3 hcn => ?_, fun f hf bc bs Q M P L k m s hA hs hb1 hb2 hQ => ?_, fun z => absurd z (by decide)⟩
        · obtain ⟨f, rfl⟩ : ∃ q, f = q + 1 := ⟨f - 1, by omega⟩
          have hne : rt_W M 2 t.2.1 60 19 ≠ 0 := by rw [rt_W.v.1]; decide
          refine ⟨rt_W M 2 t.2.1, ?_, rt_W.H2 hr, rt_W.v.1, rt_W.v.2⟩
          show tw_readNot_2b Nt rEt (tw_readNot_2 Nt rEt f) M (nI x1) (nI 6) = _
          unfold tw_readNot_2b
          rw [px_cal (rt_is hn hNt hA hT (by decide)), if_pos hop2, if_neg (by decide), if_pos (by decide), px_cal (rt_wrong hA)]
          unfold tw_readNot_22
          rw [px_let, px_get, if_neg hne, show nI 6 + 1 = nI 7 by decide]
          exact dd_not_2 (z := 7) (by omega) hne (by omega) (by omega)
        · obtain ⟨f, rfl⟩ : ∃ q, f = q + 1 := ⟨f - 1, by omega⟩
          refine cls f bc bs Q M P L k m s hA (fun k' m' ek em => ?_)
          subst ek em
          rw [if_pos (by omega)]
          unfold rd_not_23
          refine ⟨hA.1.2.1, rc_fault (κ := 2) hA (by omega) (by omega) (fun M' P' L' g1 g2 => ⟨fun _ => ?_, fun z => absurd z (by decide)⟩)⟩
          exact hQ M' P' L' _ _ g1 (g2.up (fun _ _ z => z.elim)) (by omega) (by omega)
      · obtain ⟨o, r1, r2, r3, -⟩ := ih t' (z + 1) hT' (by omega) (by omega)
        have hop' : rOp b n t D z o := by
          match o, r1 with
          | .inl (s, t2), r1 => exact ⟨r1.1, by have := r1.2.1; omega, fun _ => by have := r1.2.1; omega, r1.2.2.2.1, by have := r1.2.2.2.2; have := r1.2.1; omega⟩
          | .inr (κ, pl), r1 => exact ⟨r1.1, by have := r1.2.1; omega, r1.2.2⟩
        refine ⟨o, hop', fun r hr f hf M cnt hA h10 h3 hcn => ?_, fun f hf bc bs Q M P L k m s hA hs hb1 hb2 hQ => ?_, fun _ q => absurd hop.1 q.1⟩
        · obtain ⟨f, rfl⟩ : ∃ q, f = q + 1 := ⟨f - 1, by omega⟩
          obtain ⟨M1, e1, e2, e3⟩ := rt_next (N := Nt) hn hNt hb0 hA hx'
          have key := r2 r hr f (by omega) M1 cnt e3 (by rw [e2.2 10 (by decide)]; exact h10) (by rw [e2.1 3 (by decide)]; exact h3) (by omega)
          have ee : tw_readNot_2 Nt rEt (f + 1) M (nI x1) (nI z) = tw_readNot_2 Nt rEt f M1 (nI x1) (nI (z + 1)) := by
            show tw_readNot_2b Nt rEt (tw_readNot_2 Nt rEt f) M (nI x1) (nI z) = _
            unfold tw_readNot_2b
            rw [px_cal (rt_is hn hNt hA hT (by decide)), if_pos hop2, if_neg (by decide), if_neg (show ¬ nI z = 6 from fun q => c6 (nI_inj (k := 6) (by omega) (by omega) q))]
            unfold tw_readNot_22
            rw [px_let, px_get, hA.2.2, if_pos rfl, px_cal e1, ← nI_succ z]
          match o, key with
          | .inl (s, t2), key =>
            obtain ⟨M4, y1, y2, y3, y4, y5⟩ := key
            exact ⟨M4, ee.trans y1, (e2.H2 hr).tr y2, y3, y4, y5⟩
          | .inr (κ, pl), key =>
            obtain ⟨M4, y1, y2, y3, y4⟩ := key
            exact ⟨M4, ee.trans y1, (e2.H2 hr).tr y2, y3, y4⟩
        · obtain ⟨f, rfl⟩ : ∃ q, f = q + 1 := ⟨f - 1, by omega⟩
          refine cls f bc bs Q M P L k m s hA (fun k' m' ek em => ?_)
          subst ek em
          rw [if_neg (by omega)]
          unfold rd_not_23
          refine ⟨hA.1.2.1, rc_fine ⟨fun z => absurd rfl z, fun _ => pd_add ⟨hA.1.2.1, ?_⟩⟩⟩
          refine rc_next hn hN hKd hx' hA (by omega) (by omega) (fun s1 M1 P1 L1 k1 m1 g1 g2 g3 g4 g5 => ?_)
          intro _
          refine pd_add (pq_let ?_)
          rw [← nI_succ z]
          exact r3 f (by omega) bc bs Q M1 P1 L1 _ _ s1 g3 (hs.nx g5 (fun x hx => g4.mem hx)) (by omega) (by omega) (hQ.nx g4 g5 (by omega) (by omega) (by omega) r1)
    · -- a sum, or two compared
      obtain ⟨o, r1, r2, r3, r4⟩ := j_not_base (a0 := a0) hn hNt hN hKd hb0 HP hD hT hz hop
      exact ⟨o, r1, fun r hr f hf => r2 r hr f (by omega), fun f hf => r3 f (by omega), r4⟩
theorem j_not {Nt x1 D2 D : Nat} {rEt : cx_M → Int32 → Option cx_R} {rEc : Nat → Nat → cx_M → dP → dL → Nat → Int32 → cd_Qt → Prop} (hn : n ≤ 700) (hNt : 705 ≤ Nt) (hN : 1100 ≤ N.1) (hKd : rKD N) (hb0 : ∀ j, j < n → 0 ≤ (b j).toInt)
    (HP : ∀ t, rTok b n t → ∃ o, rOp b n t D2 0 o ∧ (∀ r, r < 2 → rGt b n r [] t o (fun M => tw_readSum Nt rEt M (nI x1))) ∧ rGf N b n a0 e8 t o (fun bc bs Q M P L => rd_sum N bc bs M P L rEc a0 (nI x1) Q) ∧ (rBad b t → o = .inr (1, t.2.1))) (hD : D2 + 1 ≤ D) {t : rT} (hT : rTok b n t) :
    ∃ o, rOp b n t D 0 o ∧ (∀ r, r < 2 → rGt b n r [] t o (fun M => tw_readNot Nt rEt M (nI x1))) ∧ rGf N b n a0 e8 t o (fun bc bs Q M P L => rd_not N bc bs M P L rEc a0 (nI x1) Q) ∧ (rBad b t → o = .inr (1, t.2.1)) := by
  obtain ⟨o, p1, p2, p3, p4⟩ := j_not_loop (a0 := a0) hn hNt hN hKd hb0 HP hD (n + 1) t 0 hT (by omega) (by omega)
  refine ⟨o, p1, fun r hr M cnt hA h10 h3 _ hc => ?_, fun bc bs Q M P L s hA hs hb1 hb2 hQ => ?_, p4 rfl⟩
  · exact p2 r hr Nt (by omega) M cnt hA h10 h3 hc
  · exact p3 N.1 (by omega) bc bs Q M P L 0 0 s hA hs (by omega) (by omega) hQ
end NT
