/-! READING A LINE, 11: products, sums, ands, ors -/
section LP
variable {N : dNt} {b : Nat → Int32} {n a0 : Nat} {e8 : Option Nat}
/-- prod: the loop -/
theorem j_prod_loop {Nt x1 D2 D : Nat} {rEt : cx_M → Int32 → Option cx_R} {rEc : Nat → Nat → cx_M → dP → dL → Nat → Int32 → cd_Qt → Prop} (hn : n ≤ 700) (hNt : 705 ≤ Nt) (hN : 1100 ≤ N.1) (hKd : rKD N) (hb0 : ∀ j, j < n → 0 ≤ (b j).toInt)
    (HP : ∀ t, rTok b n t → ∃ o, rOp b n t D2 0 o ∧ (∀ r, r < 2 → rGt b n r [] t o (fun M => tw_readPart Nt rEt M (nI x1))) ∧ rGf N b n a0 e8 t o (fun bc bs Q M P L => rd_part N bc bs M P L rEc a0 (nI x1) Q) ∧ (rBad b t → o = .inr (1, t.2.1))) (hD : D2 + 1 ≤ D) :
    ∀ (w : Nat) (t : rT) (s0 : List Int32), rTok b n t → n + 1 - t.2.1 ≤ w → s0 ≠ [] → rS s0.length D s0 → ∃ o, rOp b n t D s0.length o ∧ (∀ r, r < 2 → ∀ f, w ≤ f → rGt b n r s0 t o (fun M => tw_readProduct_5 Nt rEt f M (nI x1))) ∧ (∀ f, w ≤ f → rGc N b n a0 e8 s0 t o (fun bc bs Q M P L k m x => rd_product_6 N bc bs Q rEc a0 f M P L k m (nI x1) x)) := by
  intro w
  induction w with
  | zero =>
    intro t s0 hT hw
    have := (rTok_k hT).2.2.2.2
    omega
  | succ w ih =>
    intro t s0 hT hw h0 hS
    obtain ⟨k1, k3, k0, k4, kle, ken⟩ := rTok_k hT
    by_cases hop : t.1 = 3 ∧ (b t.2.1 = 42 ∨ b t.2.1 = 47)
    · -- one more
      have kk := k0 (by omega)
      obtain ⟨t', hx'⟩ := rNx_ex (b := b) (n := n) (p := t.2.2) ken
      have hT' : rTok b n t' := ⟨_, hx'⟩
      have hle := hx'.le
      obtain ⟨o1, p1, p2, p3, -⟩ := HP t' hT'
      obtain ⟨c, hc, hbc⟩ : ∃ c, c ∈ sx_acts ∧ b t.2.1 = c := ⟨_, by rcases hop.2 with z | z <;> rw [z] <;> decide, rfl⟩
      have hcc : c = 42 ∨ c = 47 := by rw [← hbc]; exact hop.2
      have hact : (if c = 42 then ((-22) : Int32) else (-23)) = sx_act c := by rcases hcc with z | z <;> rw [z] <;> decide
      -- the reference's way
      have tw : ∀ (f : Nat) (M M1 M2 M3 : cx_M), rt_A b n t M → tw_stepOn Nt M = some (M1, 0, 0) → tw_readPart Nt rEt M1 (nI x1) = some (M2, 0, 0) → tw_lay Nt M2 (sx_act c) = some (M3, 0, 0) → tw_readProduct_5 Nt rEt (f + 1) M (nI x1) = tw_readProduct_5 Nt rEt f M3 (nI x1) := by
        intro f M M1 M2 M3 hA e1 e2 e3
        show tw_readProduct_5b Nt rEt (tw_readProduct_5 Nt rEt f) M (nI x1) = _
        have e39 : tw_readProduct_39 Nt rEt (tw_readProduct_5 Nt rEt f) M (nI x1) (sx_act c) = tw_readProduct_5 Nt rEt f M3 (nI x1) := by
          unfold tw_readProduct_39
          rw [px_cal e1, px_cal e2, px_cal e3]
        have e23 : tw_readProduct_23 Nt rEt (tw_readProduct_5 Nt rEt f) M (nI x1) = tw_readProduct_5 Nt rEt f M3 (nI x1) := by
          unfold tw_readProduct_23
          rw [px_cal (rt_marked hn hA hT)]
          by_cases z : b t.2.1 = 42
          · rw [if_pos (show t.1 = 3 ∧ b t.2.1 = 42 from ⟨hop.1, z⟩), if_neg (by decide)]
            rw [show sx_act c = (-22) by rw [← hbc, z]; decide] at e39
            exact e39
          · rw [if_neg (show ¬ (t.1 = 3 ∧ b t.2.1 = 42) from fun q => z q.2), if_pos rfl]
            rw [show sx_act c = (-23) by rw [← hbc, hop.2.resolve_left z]; decide] at e39
            exact e39
        unfold tw_readProduct_5b
        rw [px_cal (rt_marked hn hA hT)]
        by_cases z : b t.2.1 = 42
        · rw [if_pos (show t.1 = 3 ∧ b t.2.1 = 42 from ⟨hop.1, z⟩), if_neg (by decide)]
          exact e23
        · rw [if_neg (show ¬ (t.1 = 3 ∧ b t.2.1 = 42) from fun q => z q.2), if_pos rfl, px_cal (rt_marked hn hA hT), if_pos (show t.1 = 3 ∧ b t.2.1 = 47 from ⟨hop.1, hop.2.resolve_left z⟩), if_neg (by decide)]
          exact e23
      -- the program's way
      have cl : ∀ (f bc bs : Nat) (Q : cd_Qt) (M : cx_M) (P : dP) (L : dL) (k m s x0 : Nat), rc_A N b n a0 e8 s t M P L → k + 24 * (n + 1 - t.2.1) + 12 ≤ bc → m + 110 * (n + 1 - t.2.1) + 60 ≤ bs →
          (∀ s1 M1 P1 L1 k1 m1, k1 ≤ k + 5 → m1 ≤ m + 50 → rc_A N b n a0 e8 s1 t' M1 P1 L1 → qd_J (fun y => y = a0 ∨ y = s) M P L M1 P1 L1 → rc_N s s1 L L1 → cd_new bc bs k1 m1 3 (0, 3, 0) M1 P1 L1 fun a21 M22 P23 L24 k25 n26 =>
            (a0, (0, 10, 0)) ∈ L24 ∧
            rd_part N (bc - k25) (bs - n26) M22 P23 L24 rEc a0 (nI x1) (fun M27 P28 L29 v30 r31 e9 k32 n33 => (e9 ≠ 0 → Q M27 P28 L29 v30 none e9 (k25 + k32) (n26 + n33)) ∧ (e9 = 0 → cd_add k25 k32 n26 n33 fun k34 n35 =>
            rBo_init N (bc - k34) (bs - n35) M27 P28 L29 a21 c (some x0) r31 (fun M36 P37 L38 v39 r40 e9 k41 n42 => e9 = 0 → cd_add k34 k41 n35 n42 fun k43 n44 =>
            rd_product_6 N bc bs Q rEc a0 f M36 P37 L38 k43 n44 (nI x1) ((some a21)))))) →
          rd_product_6 N bc bs Q rEc a0 (f + 1) M P L k m (nI x1) (some x0) := by
        intro f bc bs Q M P L k m s x0 hA hb1 hb2 hq
        have hS := (hA.2.2.2.2 (Or.inr hop.1)).2
        have e24 : ∀ k' m' : Nat, k' = k → m' = m → rd_product_24 N bc bs Q rEc a0 (rd_product_6 N bc bs Q rEc a0 f) M P L k' m' (nI x1) (some x0) := by
          intro k' m' ek em
          subst ek em
          unfold rd_product_24
          refine ⟨hA.1.2.1, pd_let (pd_nn (hA.2.2.2.2 (Or.inr hop.1)).1 ⟨hS.1, ?_⟩)⟩
          have hfst : b (t.2.1 + 0) = c := by rw [Nat.add_zero]; exact hbc
          refine st_first hS (by have := (k3 hop.1).1; omega) (by show rb_t (b (t.2.1 + 0)); rw [hfst]; exact (sx_acts_t hc).1) ?_
          show 0 = 0 → _
          rw [hfst]
          intro _
          refine pd_add ⟨hA.1.2.1, ?_⟩
          refine rc_next hn hN hKd hx' hA (by omega) (by omega) (fun s1 M1 P1 L1 k1 m1 g1 g2 g3 g4 g5 => ?_)
          intro _
          refine pd_add ?_
          exact hq s1 M1 P1 L1 _ _ (by omega) (by omega) g3 g4 g5
        show rd_product_6b N bc bs Q rEc a0 (rd_product_6 N bc bs Q rEc a0 f) M P L k m (nI x1) (some x0)
        unfold rd_product_6b
        refine ⟨hA.1.2.1, ?_⟩
        refine rc_isM (c := 42) hKd hN hA hT hn (by decide) rfl (by decide) ?_
        intro _
        refine pd_add ?_
        by_cases z : b t.2.1 = 42
        · rw [if_pos (show t.1 = 3 ∧ b t.2.1 = 42 from ⟨hop.1, z⟩), if_neg (by decide)]
          exact e24 _ _ rfl rfl
        · rw [if_neg (show ¬ (t.1 = 3 ∧ b t.2.1 = 42) from fun q => z q.2), if_pos rfl]
          refine ⟨hA.1.2.1, ?_⟩
          refine rc_isM (c := 47) hKd hN hA hT hn (by decide) rfl (by decide) ?_
          rw [if_pos (show t.1 = 3 ∧ b t.2.1 = 47 from ⟨hop.1, hop.2.resolve_left z⟩)]
          intro _
          refine pd_add ?_
          rw [if_neg (by decide)]
          exact e24 _ _ rfl rfl
      match o1, p1, p2, p3 with
      | .inr (κ, pl), p1, p2, p3 =>
        refine ⟨.inr (κ, pl), ⟨p1.1, by have := p1.2.1; omega, p1.2.2⟩, fun r hr f hf M cnt hA h10 h3 hrow hcn => ?_, fun f hf bc bs Q M P L k m s x0 hA hs hx0 hb1 hb2 hQ => ?_⟩
        · obtain ⟨f, rfl⟩ : ∃ q, f = q + 1 := ⟨f - 1, by omega⟩
          obtain ⟨M1, e1, M2, f1, f2, f3, f4, f5⟩ := tw_both (x := sx_act c) hn hNt hb0 hr hx' kk hA h10 h3 hrow hcn p1 (p2 r hr)
          refine ⟨M2, ?_, f2, f3, f4⟩
          show tw_readProduct_5 Nt rEt (f + 1) M (nI x1) = some (M2, 0, 0)
          rw [tw f M M1 M2 M2 hA e1 f1 (dd_lay f5)]
          exact dd_product_5 f5 (by have := (rTok_k hT').2.2.2.2; omega)
        · obtain ⟨f, rfl⟩ : ∃ q, f = q + 1 := ⟨f - 1, by omega⟩
          refine cl f bc bs Q M P L k m s x0 hA hb1 hb2 (fun s1 M1 P1 L1 k1 m1 g1 g2 g3 g4 g5 => ?_)
          exact cl_both (s0 := s0) hc (by omega) (by omega) g3 g4 g5 hs (rc_tree hA.1.1 hA.1.2.1 hs g4 (hx0 h0)) g1 g2 hb1 hb2 p1 p3 (fun κ' pl' e M' P' L' k' m' y1 y2 y3 y4 => by cases e; exact hQ M' P' L' k' m' y1 y2 y3 y4) (fun s2 t2 e => absurd e (by simp))
      | .inl (s1, t1), p1, p2, p3 =>
        have hT1 := p1.1
        have q2 := p1.2.1
        have q3 := p1.2.2.1 rfl
        have hk1 := rTok_k hT1
        obtain ⟨o2, r1, r2, r3⟩ := ih t1 (s0 ++ s1 ++ [sx_act c]) hT1 (by omega) (by simp) (rS_both hc hS p1.2.2.2.1 hD)
        refine ⟨o2, rOp_step h0 (by omega) p1 r1, fun r hr f hf M cnt hA h10 h3 hrow hcn => ?_, fun f hf bc bs Q M P L k m s x0 hA hs hx0 hb1 hb2 hQ => ?_⟩
        · obtain ⟨f, rfl⟩ : ∃ q, f = q + 1 := ⟨f - 1, by omega⟩
          obtain ⟨M1, e1, M2, M3, f1, f2, f3, f4, f5, f6, f7, f8⟩ := tw_both (x := sx_act c) hn hNt hb0 hr hx' kk hA h10 h3 hrow hcn p1 (p2 r hr)
          have key := r2 r hr f (by omega) M3 cnt f4 f5 f6 f7 f8
          have ee : tw_readProduct_5 Nt rEt (f + 1) M (nI x1) = tw_readProduct_5 Nt rEt f M3 (nI x1) := tw f M M1 M2 M3 hA e1 f1 f2
          match o2, key with
          | .inl (s, t2), key =>
            obtain ⟨M4, y1, y2, y3, y4, y5⟩ := key
            exact ⟨M4, ee.trans y1, f3.tr y2, y3, y4, y5⟩
          | .inr (κ, pl), key =>
            obtain ⟨M4, y1, y2, y3, y4⟩ := key
            exact ⟨M4, ee.trans y1, f3.tr y2, y3, y4⟩
        · obtain ⟨f, rfl⟩ : ∃ q, f = q + 1 := ⟨f - 1, by omega⟩
          refine cl f bc bs Q M P L k m s x0 hA hb1 hb2 (fun s1' M1 P1 L1 k1 m1 g1 g2 g3 g4 g5 => ?_)
          refine cl_both (s0 := s0) hc (by omega) (by omega) g3 g4 g5 hs (rc_tree hA.1.1 hA.1.2.1 hs g4 (hx0 h0)) g1 g2 hb1 hb2 p1 p3 (fun κ' pl' e => absurd e (by simp)) (fun s2 t2 e sx M' P' L' k' m' x y1 y2 y3 y4 y5 y6 => ?_)
          cases e
          exact r3 f (by omega) bc bs Q M' P' L' k' m' sx x y1 (hs.nx y3 (fun x hx => y2.mem hx)) (fun _ => y4) (by omega) (by omega) (hQ.nx y2 y3 y5 y6 (by omega) r1)
    · -- no more
      refine ⟨.inl (s0, t), ⟨hT, Nat.le_refl _, fun z => absurd (List.length_eq_zero_iff.mp z) h0, hS, by omega⟩, fun r hr f hf M cnt hA h10 h3 hrow hcn => ?_, fun f hf bc bs Q M P L k m s x0 hA hs hx0 hb1 hb2 hQ => ?_⟩
      · obtain ⟨f, rfl⟩ : ∃ q, f = q + 1 := ⟨f - 1, by omega⟩
        refine ⟨M, ?_, rH2.rf, hA, h3, hrow⟩
        show tw_readProduct_5b Nt rEt (tw_readProduct_5 Nt rEt f) M (nI x1) = _
        unfold tw_readProduct_5b
        rw [px_cal (rt_marked hn hA hT), if_neg (show ¬ (t.1 = 3 ∧ b t.2.1 = 42) from fun z => hop ⟨z.1, Or.inl z.2⟩), if_pos rfl, px_cal (rt_marked hn hA hT), if_neg (show ¬ (t.1 = 3 ∧ b t.2.1 = 47) from fun z => hop ⟨z.1, Or.inr z.2⟩), if_pos rfl]
      · obtain ⟨f, rfl⟩ : ∃ q, f = q + 1 := ⟨f - 1, by omega⟩
        show rd_product_6b N bc bs Q rEc a0 (rd_product_6 N bc bs Q rEc a0 f) M P L k m (nI x1) (some x0)
        unfold rd_product_6b
        refine ⟨hA.1.2.1, ?_⟩
        refine rc_isM (c := 42) hKd hN hA hT hn (by decide) rfl (by decide) ?_
        rw [if_neg (show ¬ (t.1 = 3 ∧ b t.2.1 = 42) from fun z => hop ⟨z.1, Or.inl z.2⟩)]
        intro _
        refine pd_add ?_
        rw [if_pos rfl]
        refine ⟨hA.1.2.1, ?_⟩
        refine rc_isM (c := 47) hKd hN hA hT hn (by decide) rfl (by decide) ?_
        rw [if_neg (show ¬ (t.1 = 3 ∧ b t.2.1 = 47) from fun z => hop ⟨z.1, Or.inr z.2⟩)]
        intro _
        refine pd_add ?_
        rw [if_pos rfl]
        exact hQ s M P L _ _ x0 hA qd_J.rf (Or.inl rfl) (hx0 h0) (by omega) (by omega)
/-- prod -/
theorem j_prod {Nt x1 D2 D : Nat} {rEt : cx_M → Int32 → Option cx_R} {rEc : Nat → Nat → cx_M → dP → dL → Nat → Int32 → cd_Qt → Prop} (hn : n ≤ 700) (hNt : 705 ≤ Nt) (hN : 1100 ≤ N.1) (hKd : rKD N) (hb0 : ∀ j, j < n → 0 ≤ (b j).toInt)
    (HP : ∀ t, rTok b n t → ∃ o, rOp b n t D2 0 o ∧ (∀ r, r < 2 → rGt b n r [] t o (fun M => tw_readPart Nt rEt M (nI x1))) ∧ rGf N b n a0 e8 t o (fun bc bs Q M P L => rd_part N bc bs M P L rEc a0 (nI x1) Q) ∧ (rBad b t → o = .inr (1, t.2.1))) (hD : D2 + 1 ≤ D) {t : rT} (hT : rTok b n t) :
    ∃ o, rOp b n t D 0 o ∧ (∀ r, r < 2 → rGt b n r [] t o (fun M => tw_readProduct Nt rEt M (nI x1))) ∧ rGf N b n a0 e8 t o (fun bc bs Q M P L => rd_product N bc bs M P L rEc a0 (nI x1) Q) ∧ (rBad b t → o = .inr (1, t.2.1)) := by
  obtain ⟨o1, p1, p2, p3, p4⟩ := HP t hT
  match o1, p1, p2, p3, p4 with
  | .inr (κ, pl), p1, p2, p3, p4 =>
    exact ⟨.inr (κ, pl), p1, fun r hr => tq_seqE (G := fun M => tw_readPart Nt rEt M (nI x1)) (H := fun M => tw_readProduct_5 Nt rEt Nt M (nI x1)) (p2 r hr) p1 (fun M hM => dd_product_5 hM (by omega)),
      fun bc bs Q M P L s hA hs hb1 hb2 hQ => by
        show _ ∧ _
        exact ⟨hA.1.2.1, cq_seqE (SUB := fun bc bs M P L Q => rd_part N bc bs M P L rEc a0 (nI x1) Q) (LOOP := fun bc bs Q M P L k m x => rd_product_6 N bc bs Q rEc a0 N.1 M P L k m (nI x1) x) p3 bc bs Q M P L s hA hs hb1 hb2 hQ⟩, p4⟩
  | .inl (s1, t1), p1, p2, p3, p4 =>
    have hk1 := rTok_k p1.1
    have hs1 : s1 ≠ [] := fun z => by
      have := p1.2.2.2.1
      rw [z] at this
      exact this
    obtain ⟨o2, r1, r2, r3⟩ := j_prod_loop hn hNt hN hKd hb0 HP hD (n + 1) t1 s1 p1.1 (by omega) hs1 (rS_m p1.2.2.2.1 (by omega))
    refine ⟨o2, rOp_seq p1 r1, fun r hr => tq_seq (G := fun M => tw_readPart Nt rEt M (nI x1)) (H := fun M => tw_readProduct_5 Nt rEt Nt M (nI x1)) (p2 r hr) (r2 r hr Nt (by omega)) p1 r1,
      fun bc bs Q M P L s hA hs hb1 hb2 hQ => by
        show _ ∧ _
        exact ⟨hA.1.2.1, cq_seq (SUB := fun bc bs M P L Q => rd_part N bc bs M P L rEc a0 (nI x1) Q) (LOOP := fun bc bs Q M P L k m x => rd_product_6 N bc bs Q rEc a0 N.1 M P L k m (nI x1) x) p1.2.1 (by omega) p3 (r3 N.1 (by omega)) r1 bc bs Q M P L s hA hs hb1 hb2 hQ⟩, fun z => absurd (p4 z) (by simp)⟩
/-- sum: the loop -/
theorem j_sum_loop {Nt x1 D2 D : Nat} {rEt : cx_M → Int32 → Option cx_R} {rEc : Nat → Nat → cx_M → dP → dL → Nat → Int32 → cd_Qt → Prop} (hn : n ≤ 700) (hNt : 705 ≤ Nt) (hN : 1100 ≤ N.1) (hKd : rKD N) (hb0 : ∀ j, j < n → 0 ≤ (b j).toInt)
    (HP : ∀ t, rTok b n t → ∃ o, rOp b n t D2 0 o ∧ (∀ r, r < 2 → rGt b n r [] t o (fun M => tw_readProduct Nt rEt M (nI x1))) ∧ rGf N b n a0 e8 t o (fun bc bs Q M P L => rd_product N bc bs M P L rEc a0 (nI x1) Q) ∧ (rBad b t → o = .inr (1, t.2.1))) (hD : D2 + 1 ≤ D) :
    ∀ (w : Nat) (t : rT) (s0 : List Int32), rTok b n t → n + 1 - t.2.1 ≤ w → s0 ≠ [] → rS s0.length D s0 → ∃ o, rOp b n t D s0.length o ∧ (∀ r, r < 2 → ∀ f, w ≤ f → rGt b n r s0 t o (fun M => tw_readSum_5 Nt rEt f M (nI x1))) ∧ (∀ f, w ≤ f → rGc N b n a0 e8 s0 t o (fun bc bs Q M P L k m x => rd_sum_6 N bc bs Q rEc a0 f M P L k m (nI x1) x)) := by
  intro w
  induction w with
  | zero =>
    intro t s0 hT hw
    have := (rTok_k hT).2.2.2.2
    omega
  | succ w ih =>
    intro t s0 hT hw h0 hS
    obtain ⟨k1, k3, k0, k4, kle, ken⟩ := rTok_k hT
    by_cases hop : t.1 = 3 ∧ (b t.2.1 = 43 ∨ b t.2.1 = 45)
    · -- one more
      have kk := k0 (by omega)
      obtain ⟨t', hx'⟩ := rNx_ex (b := b) (n := n) (p := t.2.2) ken
      have hT' : rTok b n t' := ⟨_, hx'⟩
      have hle := hx'.le
      obtain ⟨o1, p1, p2, p3, -⟩ := HP t' hT'
      obtain ⟨c, hc, hbc⟩ : ∃ c, c ∈ sx_acts ∧ b t.2.1 = c := ⟨_, by rcases hop.2 with z | z <;> rw [z] <;> decide, rfl⟩
      have hcc : c = 43 ∨ c = 45 := by rw [← hbc]; exact hop.2
      have hact : (if c = 43 then ((-20) : Int32) else (-21)) = sx_act c := by rcases hcc with z | z <;> rw [z] <;> decide
      -- the reference's way
      have tw : ∀ (f : Nat) (M M1 M2 M3 : cx_M), rt_A b n t M → tw_stepOn Nt M = some (M1, 0, 0) → tw_readProduct Nt rEt M1 (nI x1) = some (M2, 0, 0) → tw_lay Nt M2 (sx_act c) = some (M3, 0, 0) → tw_readSum_5 Nt rEt (f + 1) M (nI x1) = tw_readSum_5 Nt rEt f M3 (nI x1) := by
        intro f M M1 M2 M3 hA e1 e2 e3
        show tw_readSum_5b Nt rEt (tw_readSum_5 Nt rEt f) M (nI x1) = _
        have e39 : tw_readSum_39 Nt rEt (tw_readSum_5 Nt rEt f) M (nI x1) (sx_act c) = tw_readSum_5 Nt rEt f M3 (nI x1) := by
          unfold tw_readSum_39
          rw [px_cal e1, px_cal e2, px_cal e3]
        have e23 : tw_readSum_23 Nt rEt (tw_readSum_5 Nt rEt f) M (nI x1) = tw_readSum_5 Nt rEt f M3 (nI x1) := by
          unfold tw_readSum_23
          rw [px_cal (rt_marked hn hA hT)]
          by_cases z : b t.2.1 = 43
          · rw [if_pos (show t.1 = 3 ∧ b t.2.1 = 43 from ⟨hop.1, z⟩), if_neg (by decide)]
            rw [show sx_act c = (-20) by rw [← hbc, z]; decide] at e39
            exact e39
          · rw [if_neg (show ¬ (t.1 = 3 ∧ b t.2.1 = 43) from fun q => z q.2), if_pos rfl]
            rw [show sx_act c = (-21) by rw [← hbc, hop.2.resolve_left z]; decide] at e39
            exact e39
        unfold tw_readSum_5b
        rw [px_cal (rt_marked hn hA hT)]
        by_cases z : b t.2.1 = 43
        · rw [if_pos (show t.1 = 3 ∧ b t.2.1 = 43 from ⟨hop.1, z⟩), if_neg (by decide)]
          exact e23
        · rw [if_neg (show ¬ (t.1 = 3 ∧ b t.2.1 = 43) from fun q => z q.2), if_pos rfl, px_cal (rt_marked hn hA hT), if_pos (show t.1 = 3 ∧ b t.2.1 = 45 from ⟨hop.1, hop.2.resolve_left z⟩), if_neg (by decide)]
          exact e23
      -- the program's way
      have cl : ∀ (f bc bs : Nat) (Q : cd_Qt) (M : cx_M) (P : dP) (L : dL) (k m s x0 : Nat), rc_A N b n a0 e8 s t M P L → k + 24 * (n + 1 - t.2.1) + 12 ≤ bc → m + 110 * (n + 1 - t.2.1) + 60 ≤ bs →
          (∀ s1 M1 P1 L1 k1 m1, k1 ≤ k + 5 → m1 ≤ m + 50 → rc_A N b n a0 e8 s1 t' M1 P1 L1 → qd_J (fun y => y = a0 ∨ y = s) M P L M1 P1 L1 → rc_N s s1 L L1 → cd_new bc bs k1 m1 3 (0, 3, 0) M1 P1 L1 fun a21 M22 P23 L24 k25 n26 =>
            (a0, (0, 10, 0)) ∈ L24 ∧
            rd_product N (bc - k25) (bs - n26) M22 P23 L24 rEc a0 (nI x1) (fun M27 P28 L29 v30 r31 e9 k32 n33 => (e9 ≠ 0 → Q M27 P28 L29 v30 none e9 (k25 + k32) (n26 + n33)) ∧ (e9 = 0 → cd_add k25 k32 n26 n33 fun k34 n35 =>
            rBo_init N (bc - k34) (bs - n35) M27 P28 L29 a21 c (some x0) r31 (fun M36 P37 L38 v39 r40 e9 k41 n42 => e9 = 0 → cd_add k34 k41 n35 n42 fun k43 n44 =>
            rd_sum_6 N bc bs Q rEc a0 f M36 P37 L38 k43 n44 (nI x1) ((some a21)))))) →
          rd_sum_6 N bc bs Q rEc a0 (f + 1) M P L k m (nI x1) (some x0) := by
        intro f bc bs Q M P L k m s x0 hA hb1 hb2 hq
        have hS := (hA.2.2.2.2 (Or.inr hop.1)).2
        have e24 : ∀ k' m' : Nat, k' = k → m' = m → rd_sum_24 N bc bs Q rEc a0 (rd_sum_6 N bc bs Q rEc a0 f) M P L k' m' (nI x1) (some x0) := by
          intro k' m' ek em
          subst ek em
          unfold rd_sum_24
          refine ⟨hA.1.2.1, pd_let (pd_nn (hA.2.2.2.2 (Or.inr hop.1)).1 ⟨hS.1, ?_⟩)⟩
          have hfst : b (t.2.1 + 0) = c := by rw [Nat.add_zero]; exact hbc
          refine st_first hS (by have := (k3 hop.1).1; omega) (by show rb_t (b (t.2.1 + 0)); rw [hfst]; exact (sx_acts_t hc).1) ?_
          show 0 = 0 → _
          rw [hfst]
          intro _
          refine pd_add ⟨hA.1.2.1, ?_⟩
          refine rc_next hn hN hKd hx' hA (by omega) (by omega) (fun s1 M1 P1 L1 k1 m1 g1 g2 g3 g4 g5 => ?_)
          intro _
          refine pd_add ?_
          exact hq s1 M1 P1 L1 _ _ (by omega) (by omega) g3 g4 g5
        show rd_sum_6b N bc bs Q rEc a0 (rd_sum_6 N bc bs Q rEc a0 f) M P L k m (nI x1) (some x0)
        unfold rd_sum_6b
        refine ⟨hA.1.2.1, ?_⟩
        refine rc_isM (c := 43) hKd hN hA hT hn (by decide) rfl (by decide) ?_
        intro _
        refine pd_add ?_
        by_cases z : b t.2.1 = 43
        · rw [if_pos (show t.1 = 3 ∧ b t.2.1 = 43 from ⟨hop.1, z⟩), if_neg (by decide)]
          exact e24 _ _ rfl rfl
        · rw [if_neg (show ¬ (t.1 = 3 ∧ b t.2.1 = 43) from fun q => z q.2), if_pos rfl]
          refine ⟨hA.1.2.1, ?_⟩
          refine rc_isM (c := 45) hKd hN hA hT hn (by decide) rfl (by decide) ?_
          rw [if_pos (show t.1 = 3 ∧ b t.2.1 = 45 from ⟨hop.1, hop.2.resolve_left z⟩)]
          intro _
          refine pd_add ?_
          rw [if_neg (by decide)]
          exact e24 _ _ rfl rfl
      match o1, p1, p2, p3 with
      | .inr (κ, pl), p1, p2, p3 =>
        refine ⟨.inr (κ, pl), ⟨p1.1, by have := p1.2.1; omega, p1.2.2⟩, fun r hr f hf M cnt hA h10 h3 hrow hcn => ?_, fun f hf bc bs Q M P L k m s x0 hA hs hx0 hb1 hb2 hQ => ?_⟩
        · obtain ⟨f, rfl⟩ : ∃ q, f = q + 1 := ⟨f - 1, by omega⟩
          obtain ⟨M1, e1, M2, f1, f2, f3, f4, f5⟩ := tw_both (x := sx_act c) hn hNt hb0 hr hx' kk hA h10 h3 hrow hcn p1 (p2 r hr)
          refine ⟨M2, ?_, f2, f3, f4⟩
          show tw_readSum_5 Nt rEt (f + 1) M (nI x1) = some (M2, 0, 0)
          rw [tw f M M1 M2 M2 hA e1 f1 (dd_lay f5)]
          exact dd_sum_5 f5 (by have := (rTok_k hT').2.2.2.2; omega)
        · obtain ⟨f, rfl⟩ : ∃ q, f = q + 1 := ⟨f - 1, by omega⟩
          refine cl f bc bs Q M P L k m s x0 hA hb1 hb2 (fun s1 M1 P1 L1 k1 m1 g1 g2 g3 g4 g5 => ?_)
          exact cl_both (s0 := s0) hc (by omega) (by omega) g3 g4 g5 hs (rc_tree hA.1.1 hA.1.2.1 hs g4 (hx0 h0)) g1 g2 hb1 hb2 p1 p3 (fun κ' pl' e M' P' L' k' m' y1 y2 y3 y4 => by cases e; exact hQ M' P' L' k' m' y1 y2 y3 y4) (fun s2 t2 e => absurd e (by simp))
      | .inl (s1, t1), p1, p2, p3 =>
        have hT1 := p1.1
        have q2 := p1.2.1
        have q3 := p1.2.2.1 rfl
        have hk1 := rTok_k hT1
        obtain ⟨o2, r1, r2, r3⟩ := ih t1 (s0 ++ s1 ++ [sx_act c]) hT1 (by omega) (by simp) (rS_both hc hS p1.2.2.2.1 hD)
        refine ⟨o2, rOp_step h0 (by omega) p1 r1, fun r hr f hf M cnt hA h10 h3 hrow hcn => ?_, fun f hf bc bs Q M P L k m s x0 hA hs hx0 hb1 hb2 hQ => ?_⟩
        · obtain ⟨f, rfl⟩ : ∃ q, f = q + 1 := ⟨f - 1, by omega⟩
          obtain ⟨M1, e1, M2, M3, f1, f2, f3, f4, f5, f6, f7, f8⟩ := tw_both (x := sx_act c) hn hNt hb0 hr hx' kk hA h10 h3 hrow hcn p1 (p2 r hr)
          have key := r2 r hr f (by omega) M3 cnt f4 f5 f6 f7 f8
          have ee : tw_readSum_5 Nt rEt (f + 1) M (nI x1) = tw_readSum_5 Nt rEt f M3 (nI x1) := tw f M M1 M2 M3 hA e1 f1 f2
          match o2, key with
          | .inl (s, t2), key =>
            obtain ⟨M4, y1, y2, y3, y4, y5⟩ := key
            exact ⟨M4, ee.trans y1, f3.tr y2, y3, y4, y5⟩
          | .inr (κ, pl), key =>
            obtain ⟨M4, y1, y2, y3, y4⟩ := key
            exact ⟨M4, ee.trans y1, f3.tr y2, y3, y4⟩
        · obtain ⟨f, rfl⟩ : ∃ q, f = q + 1 := ⟨f - 1, by omega⟩
          refine cl f bc bs Q M P L k m s x0 hA hb1 hb2 (fun s1' M1 P1 L1 k1 m1 g1 g2 g3 g4 g5 => ?_)
          refine cl_both (s0 := s0) hc (by omega) (by omega) g3 g4 g5 hs (rc_tree hA.1.1 hA.1.2.1 hs g4 (hx0 h0)) g1 g2 hb1 hb2 p1 p3 (fun κ' pl' e => absurd e (by simp)) (fun s2 t2 e sx M' P' L' k' m' x y1 y2 y3 y4 y5 y6 => ?_)
          cases e
          exact r3 f (by omega) bc bs Q M' P' L' k' m' sx x y1 (hs.nx y3 (fun x hx => y2.mem hx)) (fun _ => y4) (by omega) (by omega) (hQ.nx y2 y3 y5 y6 (by omega) r1)
    · -- no more
      refine ⟨.inl (s0, t), ⟨hT, Nat.le_refl _, fun z => absurd (List.length_eq_zero_iff.mp z) h0, hS, by omega⟩, fun r hr f hf M cnt hA h10 h3 hrow hcn => ?_, fun f hf bc bs Q M P L k m s x0 hA hs hx0 hb1 hb2 hQ => ?_⟩
      · obtain ⟨f, rfl⟩ : ∃ q, f = q + 1 := ⟨f - 1, by omega⟩
        refine ⟨M, ?_, rH2.rf, hA, h3, hrow⟩
        show tw_readSum_5b Nt rEt (tw_readSum_5 Nt rEt f) M (nI x1) = _
        unfold tw_readSum_5b
        rw [px_cal (rt_marked hn hA hT), if_neg (show ¬ (t.1 = 3 ∧ b t.2.1 = 43) from fun z => hop ⟨z.1, Or.inl z.2⟩), if_pos rfl, px_cal (rt_marked hn hA hT), if_neg (show ¬ (t.1 = 3 ∧ b t.2.1 = 45) from fun z => hop ⟨z.1, Or.inr z.2⟩), if_pos rfl]
      · obtain ⟨f, rfl⟩ : ∃ q, f = q + 1 := ⟨f - 1, by omega⟩
        show rd_sum_6b N bc bs Q rEc a0 (rd_sum_6 N bc bs Q rEc a0 f) M P L k m (nI x1) (some x0)
        unfold rd_sum_6b
        refine ⟨hA.1.2.1, ?_⟩
        refine rc_isM (c := 43) hKd hN hA hT hn (by decide) rfl (by decide) ?_
        rw [if_neg (show ¬ (t.1 = 3 ∧ b t.2.1 = 43) from fun z => hop ⟨z.1, Or.inl z.2⟩)]
        intro _
        refine pd_add ?_
        rw [if_pos rfl]
        refine ⟨hA.1.2.1, ?_⟩
        refine rc_isM (c := 45) hKd hN hA hT hn (by decide) rfl (by decide) ?_
        rw [if_neg (show ¬ (t.1 = 3 ∧ b t.2.1 = 45) from fun z => hop ⟨z.1, Or.inr z.2⟩)]
        intro _
        refine pd_add ?_
        rw [if_pos rfl]
        exact hQ s M P L _ _ x0 hA qd_J.rf (Or.inl rfl) (hx0 h0) (by omega) (by omega)
/-- sum -/
theorem j_sum {Nt x1 D2 D : Nat} {rEt : cx_M → Int32 → Option cx_R} {rEc : Nat → Nat → cx_M → dP → dL → Nat → Int32 → cd_Qt → Prop} (hn : n ≤ 700) (hNt : 705 ≤ Nt) (hN : 1100 ≤ N.1) (hKd : rKD N) (hb0 : ∀ j, j < n → 0 ≤ (b j).toInt)
    (HP : ∀ t, rTok b n t → ∃ o, rOp b n t D2 0 o ∧ (∀ r, r < 2 → rGt b n r [] t o (fun M => tw_readProduct Nt rEt M (nI x1))) ∧ rGf N b n a0 e8 t o (fun bc bs Q M P L => rd_product N bc bs M P L rEc a0 (nI x1) Q) ∧ (rBad b t → o = .inr (1, t.2.1))) (hD : D2 + 1 ≤ D) {t : rT} (hT : rTok b n t) :
    ∃ o, rOp b n t D 0 o ∧ (∀ r, r < 2 → rGt b n r [] t o (fun M => tw_readSum Nt rEt M (nI x1))) ∧ rGf N b n a0 e8 t o (fun bc bs Q M P L => rd_sum N bc bs M P L rEc a0 (nI x1) Q) ∧ (rBad b t → o = .inr (1, t.2.1)) := by
  obtain ⟨o1, p1, p2, p3, p4⟩ := HP t hT
  match o1, p1, p2, p3, p4 with
  | .inr (κ, pl), p1, p2, p3, p4 =>
    exact ⟨.inr (κ, pl), p1, fun r hr => tq_seqE (G := fun M => tw_readProduct Nt rEt M (nI x1)) (H := fun M => tw_readSum_5 Nt rEt Nt M (nI x1)) (p2 r hr) p1 (fun M hM => dd_sum_5 hM (by omega)),
      fun bc bs Q M P L s hA hs hb1 hb2 hQ => by
        show _ ∧ _
        exact ⟨hA.1.2.1, cq_seqE (SUB := fun bc bs M P L Q => rd_product N bc bs M P L rEc a0 (nI x1) Q) (LOOP := fun bc bs Q M P L k m x => rd_sum_6 N bc bs Q rEc a0 N.1 M P L k m (nI x1) x) p3 bc bs Q M P L s hA hs hb1 hb2 hQ⟩, p4⟩
  | .inl (s1, t1), p1, p2, p3, p4 =>
    have hk1 := rTok_k p1.1
    have hs1 : s1 ≠ [] := fun z => by
      have := p1.2.2.2.1
      rw [z] at this
      exact this
    obtain ⟨o2, r1, r2, r3⟩ := j_sum_loop hn hNt hN hKd hb0 HP hD (n + 1) t1 s1 p1.1 (by omega) hs1 (rS_m p1.2.2.2.1 (by omega))
    refine ⟨o2, rOp_seq p1 r1, fun r hr => tq_seq (G := fun M => tw_readProduct Nt rEt M (nI x1)) (H := fun M => tw_readSum_5 Nt rEt Nt M (nI x1)) (p2 r hr) (r2 r hr Nt (by omega)) p1 r1,
      fun bc bs Q M P L s hA hs hb1 hb2 hQ => by
        show _ ∧ _
        exact ⟨hA.1.2.1, cq_seq (SUB := fun bc bs M P L Q => rd_product N bc bs M P L rEc a0 (nI x1) Q) (LOOP := fun bc bs Q M P L k m x => rd_sum_6 N bc bs Q rEc a0 N.1 M P L k m (nI x1) x) p1.2.1 (by omega) p3 (r3 N.1 (by omega)) r1 bc bs Q M P L s hA hs hb1 hb2 hQ⟩, fun z => absurd (p4 z) (by simp)⟩
/-- and: the loop -/
theorem j_and_loop {Nt x1 D2 D : Nat} {rEt : cx_M → Int32 → Option cx_R} {rEc : Nat → Nat → cx_M → dP → dL → Nat → Int32 → cd_Qt → Prop} (hn : n ≤ 700) (hNt : 705 ≤ Nt) (hN : 1100 ≤ N.1) (hKd : rKD N) (hb0 : ∀ j, j < n → 0 ≤ (b j).toInt)
    (HP : ∀ t, rTok b n t → ∃ o, rOp b n t D2 0 o ∧ (∀ r, r < 2 → rGt b n r [] t o (fun M => tw_readNot Nt rEt M (nI x1))) ∧ rGf N b n a0 e8 t o (fun bc bs Q M P L => rd_not N bc bs M P L rEc a0 (nI x1) Q) ∧ (rBad b t → o = .inr (1, t.2.1))) (hD : D2 + 1 ≤ D) :
    ∀ (w : Nat) (t : rT) (s0 : List Int32), rTok b n t → n + 1 - t.2.1 ≤ w → s0 ≠ [] → rS s0.length D s0 → ∃ o, rOp b n t D s0.length o ∧ (∀ r, r < 2 → ∀ f, w ≤ f → rGt b n r s0 t o (fun M => tw_readAnd_5 Nt rEt f M (nI x1))) ∧ (∀ f, w ≤ f → rGc N b n a0 e8 s0 t o (fun bc bs Q M P L k m x => rd_and_6 N bc bs Q rEc a0 f M P L k m (nI x1) x)) := by
  intro w
  induction w with
  | zero =>
    intro t s0 hT hw
    have := (rTok_k hT).2.2.2.2
    omega
  | succ w ih =>
    intro t s0 hT hw h0 hS
    obtain ⟨k1, k3, k0, k4, kle, ken⟩ := rTok_k hT
    by_cases hop : t.1 = 1 ∧ rW b t (rdS.getD 14 [])
    · -- one more
      have kk := k0 (by omega)
      obtain ⟨t', hx'⟩ := rNx_ex (b := b) (n := n) (p := t.2.2) ken
      have hT' : rTok b n t' := ⟨_, hx'⟩
      have hle := hx'.le
      obtain ⟨o1, p1, p2, p3, -⟩ := HP t' hT'
      have hc : (38 : Int32) ∈ sx_acts := by decide
      have hop2 : t.1 = 1 ∧ rW b t (twSbyt.getD 14 []) := hop
      -- the reference's way
      have tw : ∀ (f : Nat) (M M1 M2 M3 : cx_M), rt_A b n t M → tw_stepOn Nt M = some (M1, 0, 0) → tw_readNot Nt rEt M1 (nI x1) = some (M2, 0, 0) → tw_lay Nt M2 (sx_act 38) = some (M3, 0, 0) → tw_readAnd_5 Nt rEt (f + 1) M (nI x1) = tw_readAnd_5 Nt rEt f M3 (nI x1) := by
        intro f M M1 M2 M3 hA e1 e2 e3
        show tw_readAnd_5b Nt rEt (tw_readAnd_5 Nt rEt f) M (nI x1) = _
        unfold tw_readAnd_5b
        rw [px_cal (rt_is hn hNt hA hT (by decide)), if_pos hop2, if_neg (by decide), px_cal e1, px_cal e2]
        have e3 : tw_lay Nt M2 (-26) = some (M3, 0, 0) := e3
        rw [px_cal e3]
      -- the program's way
      have cl : ∀ (f bc bs : Nat) (Q : cd_Qt) (M : cx_M) (P : dP) (L : dL) (k m s x0 : Nat), rc_A N b n a0 e8 s t M P L → k + 24 * (n + 1 - t.2.1) + 12 ≤ bc → m + 110 * (n + 1 - t.2.1) + 60 ≤ bs →
          (∀ s1 M1 P1 L1 k1 m1, k1 ≤ k + 5 → m1 ≤ m + 50 → rc_A N b n a0 e8 s1 t' M1 P1 L1 → qd_J (fun y => y = a0 ∨ y = s) M P L M1 P1 L1 → rc_N s s1 L L1 → cd_new bc bs k1 m1 3 (0, 3, 0) M1 P1 L1 fun a21 M22 P23 L24 k25 n26 =>
            (a0, (0, 10, 0)) ∈ L24 ∧
            rd_not N (bc - k25) (bs - n26) M22 P23 L24 rEc a0 (nI x1) (fun M27 P28 L29 v30 r31 e9 k32 n33 => (e9 ≠ 0 → Q M27 P28 L29 v30 none e9 (k25 + k32) (n26 + n33)) ∧ (e9 = 0 → cd_add k25 k32 n26 n33 fun k34 n35 =>
            rBo_init N (bc - k34) (bs - n35) M27 P28 L29 a21 38 (some x0) r31 (fun M36 P37 L38 v39 r40 e9 k41 n42 => e9 = 0 → cd_add k34 k41 n35 n42 fun k43 n44 =>
            rd_and_6 N bc bs Q rEc a0 f M36 P37 L38 k43 n44 (nI x1) ((some a21)))))) →
          rd_and_6 N bc bs Q rEc a0 (f + 1) M P L k m (nI x1) (some x0) := by
        intro f bc bs Q M P L k m s x0 hA hb1 hb2 hq
        show rd_and_6b N bc bs Q rEc a0 (rd_and_6 N bc bs Q rEc a0 f) M P L k m (nI x1) (some x0)
        unfold rd_and_6b
        refine ⟨hA.1.2.1, ?_⟩
        refine rc_isW hKd hN hA hT hn (by decide) (by decide) ?_
        rw [if_pos hop]
        intro _
        refine pd_add ?_
        rw [if_neg (by decide)]
        refine ⟨hA.1.2.1, ?_⟩
        refine rc_next hn hN hKd hx' hA (by omega) (by omega) (fun s1 M1 P1 L1 k1 m1 g1 g2 g3 g4 g5 => ?_)
        intro _
        refine pd_add ?_
        exact hq s1 M1 P1 L1 _ _ (by omega) (by omega) g3 g4 g5
      match o1, p1, p2, p3 with
      | .inr (κ, pl), p1, p2, p3 =>
        refine ⟨.inr (κ, pl), ⟨p1.1, by have := p1.2.1; omega, p1.2.2⟩, fun r hr f hf M cnt hA h10 h3 hrow hcn => ?_, fun f hf bc bs Q M P L k m s x0 hA hs hx0 hb1 hb2 hQ => ?_⟩
        · obtain ⟨f, rfl⟩ : ∃ q, f = q + 1 := ⟨f - 1, by omega⟩
          obtain ⟨M1, e1, M2, f1, f2, f3, f4, f5⟩ := tw_both (x := sx_act 38) hn hNt hb0 hr hx' kk hA h10 h3 hrow hcn p1 (p2 r hr)
          refine ⟨M2, ?_, f2, f3, f4⟩
          show tw_readAnd_5 Nt rEt (f + 1) M (nI x1) = some (M2, 0, 0)
          rw [tw f M M1 M2 M2 hA e1 f1 (dd_lay f5)]
          exact dd_and_5 (by omega) f5 (by have := (rTok_k hT').2.2.2.2; omega)
        · obtain ⟨f, rfl⟩ : ∃ q, f = q + 1 := ⟨f - 1, by omega⟩
          refine cl f bc bs Q M P L k m s x0 hA hb1 hb2 (fun s1 M1 P1 L1 k1 m1 g1 g2 g3 g4 g5 => ?_)
          exact cl_both (s0 := s0) hc (by omega) (by omega) g3 g4 g5 hs (rc_tree hA.1.1 hA.1.2.1 hs g4 (hx0 h0)) g1 g2 hb1 hb2 p1 p3 (fun κ' pl' e M' P' L' k' m' y1 y2 y3 y4 => by cases e; exact hQ M' P' L' k' m' y1 y2 y3 y4) (fun s2 t2 e => absurd e (by simp))
      | .inl (s1, t1), p1, p2, p3 =>
        have hT1 := p1.1
        have q2 := p1.2.1
        have q3 := p1.2.2.1 rfl
        have hk1 := rTok_k hT1
        obtain ⟨o2, r1, r2, r3⟩ := ih t1 (s0 ++ s1 ++ [sx_act 38]) hT1 (by omega) (by simp) (rS_both hc hS p1.2.2.2.1 hD)
        refine ⟨o2, rOp_step h0 (by omega) p1 r1, fun r hr f hf M cnt hA h10 h3 hrow hcn => ?_, fun f hf bc bs Q M P L k m s x0 hA hs hx0 hb1 hb2 hQ => ?_⟩
        · obtain ⟨f, rfl⟩ : ∃ q, f = q + 1 := ⟨f - 1, by omega⟩
          obtain ⟨M1, e1, M2, M3, f1, f2, f3, f4, f5, f6, f7, f8⟩ := tw_both (x := sx_act 38) hn hNt hb0 hr hx' kk hA h10 h3 hrow hcn p1 (p2 r hr)
          have key := r2 r hr f (by omega) M3 cnt f4 f5 f6 f7 f8
          have ee : tw_readAnd_5 Nt rEt (f + 1) M (nI x1) = tw_readAnd_5 Nt rEt f M3 (nI x1) := tw f M M1 M2 M3 hA e1 f1 f2
          match o2, key with
          | .inl (s, t2), key =>
            obtain ⟨M4, y1, y2, y3, y4, y5⟩ := key
            exact ⟨M4, ee.trans y1, f3.tr y2, y3, y4, y5⟩
          | .inr (κ, pl), key =>
            obtain ⟨M4, y1, y2, y3, y4⟩ := key
            exact ⟨M4, ee.trans y1, f3.tr y2, y3, y4⟩
        · obtain ⟨f, rfl⟩ : ∃ q, f = q + 1 := ⟨f - 1, by omega⟩
          refine cl f bc bs Q M P L k m s x0 hA hb1 hb2 (fun s1' M1 P1 L1 k1 m1 g1 g2 g3 g4 g5 => ?_)
          refine cl_both (s0 := s0) hc (by omega) (by omega) g3 g4 g5 hs (rc_tree hA.1.1 hA.1.2.1 hs g4 (hx0 h0)) g1 g2 hb1 hb2 p1 p3 (fun κ' pl' e => absurd e (by simp)) (fun s2 t2 e sx M' P' L' k' m' x y1 y2 y3 y4 y5 y6 => ?_)
          cases e
          exact r3 f (by omega) bc bs Q M' P' L' k' m' sx x y1 (hs.nx y3 (fun x hx => y2.mem hx)) (fun _ => y4) (by omega) (by omega) (hQ.nx y2 y3 y5 y6 (by omega) r1)
    · -- no more
      have hop2 : ¬ (t.1 = 1 ∧ rW b t (twSbyt.getD 14 [])) := hop
      refine ⟨.inl (s0, t), ⟨hT, Nat.le_refl _, fun z => absurd (List.length_eq_zero_iff.mp z) h0, hS, by omega⟩, fun r hr f hf M cnt hA h10 h3 hrow hcn => ?_, fun f hf bc bs Q M P L k m s x0 hA hs hx0 hb1 hb2 hQ => ?_⟩
      · obtain ⟨f, rfl⟩ : ∃ q, f = q + 1 := ⟨f - 1, by omega⟩
        refine ⟨M, ?_, rH2.rf, hA, h3, hrow⟩
        show tw_readAnd_5b Nt rEt (tw_readAnd_5 Nt rEt f) M (nI x1) = _
        unfold tw_readAnd_5b
        rw [px_cal (rt_is hn hNt hA hT (by decide)), if_neg hop2, if_pos rfl]
      · obtain ⟨f, rfl⟩ : ∃ q, f = q + 1 := ⟨f - 1, by omega⟩
        show rd_and_6b N bc bs Q rEc a0 (rd_and_6 N bc bs Q rEc a0 f) M P L k m (nI x1) (some x0)
        unfold rd_and_6b
        refine ⟨hA.1.2.1, ?_⟩
        refine rc_isW hKd hN hA hT hn (by decide) (by decide) ?_
        rw [if_neg hop]
        intro _
        refine pd_add ?_
        rw [if_pos rfl]
        exact hQ s M P L _ _ x0 hA qd_J.rf (Or.inl rfl) (hx0 h0) (by omega) (by omega)
/-- and -/
theorem j_and {Nt x1 D2 D : Nat} {rEt : cx_M → Int32 → Option cx_R} {rEc : Nat → Nat → cx_M → dP → dL → Nat → Int32 → cd_Qt → Prop} (hn : n ≤ 700) (hNt : 705 ≤ Nt) (hN : 1100 ≤ N.1) (hKd : rKD N) (hb0 : ∀ j, j < n → 0 ≤ (b j).toInt)
    (HP : ∀ t, rTok b n t → ∃ o, rOp b n t D2 0 o ∧ (∀ r, r < 2 → rGt b n r [] t o (fun M => tw_readNot Nt rEt M (nI x1))) ∧ rGf N b n a0 e8 t o (fun bc bs Q M P L => rd_not N bc bs M P L rEc a0 (nI x1) Q) ∧ (rBad b t → o = .inr (1, t.2.1))) (hD : D2 + 1 ≤ D) {t : rT} (hT : rTok b n t) :
    ∃ o, rOp b n t D 0 o ∧ (∀ r, r < 2 → rGt b n r [] t o (fun M => tw_readAnd Nt rEt M (nI x1))) ∧ rGf N b n a0 e8 t o (fun bc bs Q M P L => rd_and N bc bs M P L rEc a0 (nI x1) Q) ∧ (rBad b t → o = .inr (1, t.2.1)) := by
  obtain ⟨o1, p1, p2, p3, p4⟩ := HP t hT
  match o1, p1, p2, p3, p4 with
  | .inr (κ, pl), p1, p2, p3, p4 =>
    exact ⟨.inr (κ, pl), p1, fun r hr => tq_seqE (G := fun M => tw_readNot Nt rEt M (nI x1)) (H := fun M => tw_readAnd_5 Nt rEt Nt M (nI x1)) (p2 r hr) p1 (fun M hM => dd_and_5 (by omega) hM (by omega)),
      fun bc bs Q M P L s hA hs hb1 hb2 hQ => by
        show _ ∧ _
        exact ⟨hA.1.2.1, cq_seqE (SUB := fun bc bs M P L Q => rd_not N bc bs M P L rEc a0 (nI x1) Q) (LOOP := fun bc bs Q M P L k m x => rd_and_6 N bc bs Q rEc a0 N.1 M P L k m (nI x1) x) p3 bc bs Q M P L s hA hs hb1 hb2 hQ⟩, p4⟩
  | .inl (s1, t1), p1, p2, p3, p4 =>
    have hk1 := rTok_k p1.1
    have hs1 : s1 ≠ [] := fun z => by
      have := p1.2.2.2.1
      rw [z] at this
      exact this
    obtain ⟨o2, r1, r2, r3⟩ := j_and_loop hn hNt hN hKd hb0 HP hD (n + 1) t1 s1 p1.1 (by omega) hs1 (rS_m p1.2.2.2.1 (by omega))
    refine ⟨o2, rOp_seq p1 r1, fun r hr => tq_seq (G := fun M => tw_readNot Nt rEt M (nI x1)) (H := fun M => tw_readAnd_5 Nt rEt Nt M (nI x1)) (p2 r hr) (r2 r hr Nt (by omega)) p1 r1,
      fun bc bs Q M P L s hA hs hb1 hb2 hQ => by
        show _ ∧ _
        exact ⟨hA.1.2.1, cq_seq (SUB := fun bc bs M P L Q => rd_not N bc bs M P L rEc a0 (nI x1) Q) (LOOP := fun bc bs Q M P L k m x => rd_and_6 N bc bs Q rEc a0 N.1 M P L k m (nI x1) x) p1.2.1 (by omega) p3 (r3 N.1 (by omega)) r1 bc bs Q M P L s hA hs hb1 hb2 hQ⟩, fun z => absurd (p4 z) (by simp)⟩
/-- or: the loop -/
theorem j_or_loop {Nt x1 D2 D : Nat} {rEt : cx_M → Int32 → Option cx_R} {rEc : Nat → Nat → cx_M → dP → dL → Nat → Int32 → cd_Qt → Prop} (hn : n ≤ 700) (hNt : 705 ≤ Nt) (hN : 1100 ≤ N.1) (hKd : rKD N) (hb0 : ∀ j, j < n → 0 ≤ (b j).toInt)
    (HP : ∀ t, rTok b n t → ∃ o, rOp b n t D2 0 o ∧ (∀ r, r < 2 → rGt b n r [] t o (fun M => tw_readAnd Nt rEt M (nI x1))) ∧ rGf N b n a0 e8 t o (fun bc bs Q M P L => rd_and N bc bs M P L rEc a0 (nI x1) Q) ∧ (rBad b t → o = .inr (1, t.2.1))) (hD : D2 + 1 ≤ D) :
    ∀ (w : Nat) (t : rT) (s0 : List Int32), rTok b n t → n + 1 - t.2.1 ≤ w → s0 ≠ [] → rS s0.length D s0 → ∃ o, rOp b n t D s0.length o ∧ (∀ r, r < 2 → ∀ f, w ≤ f → rGt b n r s0 t o (fun M => tw_readExpressionB_67 Nt rEt f M (nI x1))) ∧ (∀ f, w ≤ f → rGc N b n a0 e8 s0 t o (fun bc bs Q M P L k m x => rd_exprB_51 N bc bs Q rEc a0 f M P L k m (nI x1) x)) := by
  intro w
  induction w with
  | zero =>
    intro t s0 hT hw
    have := (rTok_k hT).2.2.2.2
    omega
  | succ w ih =>
    intro t s0 hT hw h0 hS
    obtain ⟨k1, k3, k0, k4, kle, ken⟩ := rTok_k hT
    by_cases hop : t.1 = 1 ∧ rW b t (rdS.getD 13 [])
    · -- one more
      have kk := k0 (by omega)
      obtain ⟨t', hx'⟩ := rNx_ex (b := b) (n := n) (p := t.2.2) ken
      have hT' : rTok b n t' := ⟨_, hx'⟩
      have hle := hx'.le
      obtain ⟨o1, p1, p2, p3, -⟩ := HP t' hT'
      have hc : (124 : Int32) ∈ sx_acts := by decide
      have hop2 : t.1 = 1 ∧ rW b t (twSbyt.getD 15 []) := hop
      -- the reference's way
      have tw : ∀ (f : Nat) (M M1 M2 M3 : cx_M), rt_A b n t M → tw_stepOn Nt M = some (M1, 0, 0) → tw_readAnd Nt rEt M1 (nI x1) = some (M2, 0, 0) → tw_lay Nt M2 (sx_act 124) = some (M3, 0, 0) → tw_readExpressionB_67 Nt rEt (f + 1) M (nI x1) = tw_readExpressionB_67 Nt rEt f M3 (nI x1) := by
        intro f M M1 M2 M3 hA e1 e2 e3
        show tw_readExpressionB_67b Nt rEt (tw_readExpressionB_67 Nt rEt f) M (nI x1) = _
        unfold tw_readExpressionB_67b
        rw [px_cal (rt_is hn hNt hA hT (by decide)), if_pos hop2, if_neg (by decide), px_cal e1, px_cal e2]
        have e3 : tw_lay Nt M2 (-27) = some (M3, 0, 0) := e3
        rw [px_cal e3]
      -- the program's way
      have cl : ∀ (f bc bs : Nat) (Q : cd_Qt) (M : cx_M) (P : dP) (L : dL) (k m s x0 : Nat), rc_A N b n a0 e8 s t M P L → k + 24 * (n + 1 - t.2.1) + 12 ≤ bc → m + 110 * (n + 1 - t.2.1) + 60 ≤ bs →
          (∀ s1 M1 P1 L1 k1 m1, k1 ≤ k + 5 → m1 ≤ m + 50 → rc_A N b n a0 e8 s1 t' M1 P1 L1 → qd_J (fun y => y = a0 ∨ y = s) M P L M1 P1 L1 → rc_N s s1 L L1 → cd_new bc bs k1 m1 3 (0, 3, 0) M1 P1 L1 fun a21 M22 P23 L24 k25 n26 =>
            (a0, (0, 10, 0)) ∈ L24 ∧
            rd_and N (bc - k25) (bs - n26) M22 P23 L24 rEc a0 (nI x1) (fun M27 P28 L29 v30 r31 e9 k32 n33 => (e9 ≠ 0 → Q M27 P28 L29 v30 none e9 (k25 + k32) (n26 + n33)) ∧ (e9 = 0 → cd_add k25 k32 n26 n33 fun k34 n35 =>
            rBo_init N (bc - k34) (bs - n35) M27 P28 L29 a21 124 (some x0) r31 (fun M36 P37 L38 v39 r40 e9 k41 n42 => e9 = 0 → cd_add k34 k41 n35 n42 fun k43 n44 =>
            rd_exprB_51 N bc bs Q rEc a0 f M36 P37 L38 k43 n44 (nI x1) ((some a21)))))) →
          rd_exprB_51 N bc bs Q rEc a0 (f + 1) M P L k m (nI x1) (some x0) := by
        intro f bc bs Q M P L k m s x0 hA hb1 hb2 hq
        show rd_exprB_51b N bc bs Q rEc a0 (rd_exprB_51 N bc bs Q rEc a0 f) M P L k m (nI x1) (some x0)
        unfold rd_exprB_51b
        refine ⟨hA.1.2.1, ?_⟩
        refine rc_isW hKd hN hA hT hn (by decide) (by decide) ?_
        rw [if_pos hop]
        intro _
        refine pd_add ?_
        rw [if_neg (by decide)]
        refine ⟨hA.1.2.1, ?_⟩
        refine rc_next hn hN hKd hx' hA (by omega) (by omega) (fun s1 M1 P1 L1 k1 m1 g1 g2 g3 g4 g5 => ?_)
        intro _
        refine pd_add ?_
        exact hq s1 M1 P1 L1 _ _ (by omega) (by omega) g3 g4 g5
      match o1, p1, p2, p3 with
      | .inr (κ, pl), p1, p2, p3 =>
        refine ⟨.inr (κ, pl), ⟨p1.1, by have := p1.2.1; omega, p1.2.2⟩, fun r hr f hf M cnt hA h10 h3 hrow hcn => ?_, fun f hf bc bs Q M P L k m s x0 hA hs hx0 hb1 hb2 hQ => ?_⟩
        · obtain ⟨f, rfl⟩ : ∃ q, f = q + 1 := ⟨f - 1, by omega⟩
          obtain ⟨M1, e1, M2, f1, f2, f3, f4, f5⟩ := tw_both (x := sx_act 124) hn hNt hb0 hr hx' kk hA h10 h3 hrow hcn p1 (p2 r hr)
          refine ⟨M2, ?_, f2, f3, f4⟩
          show tw_readExpressionB_67 Nt rEt (f + 1) M (nI x1) = some (M2, 0, 0)
          rw [tw f M M1 M2 M2 hA e1 f1 (dd_lay f5)]
          exact dd_or_67 (by omega) f5 (by have := (rTok_k hT').2.2.2.2; omega)
        · obtain ⟨f, rfl⟩ : ∃ q, f = q + 1 := ⟨f - 1, by omega⟩
          refine cl f bc bs Q M P L k m s x0 hA hb1 hb2 (fun s1 M1 P1 L1 k1 m1 g1 g2 g3 g4 g5 => ?_)
          exact cl_both (s0 := s0) hc (by omega) (by omega) g3 g4 g5 hs (rc_tree hA.1.1 hA.1.2.1 hs g4 (hx0 h0)) g1 g2 hb1 hb2 p1 p3 (fun κ' pl' e M' P' L' k' m' y1 y2 y3 y4 => by cases e; exact hQ M' P' L' k' m' y1 y2 y3 y4) (fun s2 t2 e => absurd e (by simp))
      | .inl (s1, t1), p1, p2, p3 =>
        have hT1 := p1.1
        have q2 := p1.2.1
        have q3 := p1.2.2.1 rfl
        have hk1 := rTok_k hT1
        obtain ⟨o2, r1, r2, r3⟩ := ih t1 (s0 ++ s1 ++ [sx_act 124]) hT1 (by omega) (by simp) (rS_both hc hS p1.2.2.2.1 hD)
        refine ⟨o2, rOp_step h0 (by omega) p1 r1, fun r hr f hf M cnt hA h10 h3 hrow hcn => ?_, fun f hf bc bs Q M P L k m s x0 hA hs hx0 hb1 hb2 hQ => ?_⟩
        · obtain ⟨f, rfl⟩ : ∃ q, f = q + 1 := ⟨f - 1, by omega⟩
          obtain ⟨M1, e1, M2, M3, f1, f2, f3, f4, f5, f6, f7, f8⟩ := tw_both (x := sx_act 124) hn hNt hb0 hr hx' kk hA h10 h3 hrow hcn p1 (p2 r hr)
          have key := r2 r hr f (by omega) M3 cnt f4 f5 f6 f7 f8
          have ee : tw_readExpressionB_67 Nt rEt (f + 1) M (nI x1) = tw_readExpressionB_67 Nt rEt f M3 (nI x1) := tw f M M1 M2 M3 hA e1 f1 f2
          match o2, key with
          | .inl (s, t2), key =>
            obtain ⟨M4, y1, y2, y3, y4, y5⟩ := key
            exact ⟨M4, ee.trans y1, f3.tr y2, y3, y4, y5⟩
          | .inr (κ, pl), key =>
            obtain ⟨M4, y1, y2, y3, y4⟩ := key
            exact ⟨M4, ee.trans y1, f3.tr y2, y3, y4⟩
        · obtain ⟨f, rfl⟩ : ∃ q, f = q + 1 := ⟨f - 1, by omega⟩
          refine cl f bc bs Q M P L k m s x0 hA hb1 hb2 (fun s1' M1 P1 L1 k1 m1 g1 g2 g3 g4 g5 => ?_)
          refine cl_both (s0 := s0) hc (by omega) (by omega) g3 g4 g5 hs (rc_tree hA.1.1 hA.1.2.1 hs g4 (hx0 h0)) g1 g2 hb1 hb2 p1 p3 (fun κ' pl' e => absurd e (by simp)) (fun s2 t2 e sx M' P' L' k' m' x y1 y2 y3 y4 y5 y6 => ?_)
          cases e
          exact r3 f (by omega) bc bs Q M' P' L' k' m' sx x y1 (hs.nx y3 (fun x hx => y2.mem hx)) (fun _ => y4) (by omega) (by omega) (hQ.nx y2 y3 y5 y6 (by omega) r1)
    · -- no more
      have hop2 : ¬ (t.1 = 1 ∧ rW b t (twSbyt.getD 15 [])) := hop
      refine ⟨.inl (s0, t), ⟨hT, Nat.le_refl _, fun z => absurd (List.length_eq_zero_iff.mp z) h0, hS, by omega⟩, fun r hr f hf M cnt hA h10 h3 hrow hcn => ?_, fun f hf bc bs Q M P L k m s x0 hA hs hx0 hb1 hb2 hQ => ?_⟩
      · obtain ⟨f, rfl⟩ : ∃ q, f = q + 1 := ⟨f - 1, by omega⟩
        refine ⟨M, ?_, rH2.rf, hA, h3, hrow⟩
        show tw_readExpressionB_67b Nt rEt (tw_readExpressionB_67 Nt rEt f) M (nI x1) = _
        unfold tw_readExpressionB_67b
        rw [px_cal (rt_is hn hNt hA hT (by decide)), if_neg hop2, if_pos rfl]
      · obtain ⟨f, rfl⟩ : ∃ q, f = q + 1 := ⟨f - 1, by omega⟩
        show rd_exprB_51b N bc bs Q rEc a0 (rd_exprB_51 N bc bs Q rEc a0 f) M P L k m (nI x1) (some x0)
        unfold rd_exprB_51b
        refine ⟨hA.1.2.1, ?_⟩
        refine rc_isW hKd hN hA hT hn (by decide) (by decide) ?_
        rw [if_neg hop]
        intro _
        refine pd_add ?_
        rw [if_pos rfl]
        exact hQ s M P L _ _ x0 hA qd_J.rf (Or.inl rfl) (hx0 h0) (by omega) (by omega)
/-- or -/
theorem j_or {Nt x1 D2 D : Nat} {rEt : cx_M → Int32 → Option cx_R} {rEc : Nat → Nat → cx_M → dP → dL → Nat → Int32 → cd_Qt → Prop} (hn : n ≤ 700) (hNt : 705 ≤ Nt) (hN : 1100 ≤ N.1) (hKd : rKD N) (hb0 : ∀ j, j < n → 0 ≤ (b j).toInt)
    (HP : ∀ t, rTok b n t → ∃ o, rOp b n t D2 0 o ∧ (∀ r, r < 2 → rGt b n r [] t o (fun M => tw_readAnd Nt rEt M (nI x1))) ∧ rGf N b n a0 e8 t o (fun bc bs Q M P L => rd_and N bc bs M P L rEc a0 (nI x1) Q) ∧ (rBad b t → o = .inr (1, t.2.1))) (hD : D2 + 1 ≤ D) {t : rT} (hT : rTok b n t) :
    ∃ o, rOp b n t D 0 o ∧ (∀ r, r < 2 → rGt b n r [] t o (fun M => tw_readExpressionB_62 Nt rEt M (nI x1))) ∧ rGf N b n a0 e8 t o (fun bc bs Q M P L => rd_exprB_45 N bc bs Q rEc a0 M P L 0 0 (nI x1)) ∧ (rBad b t → o = .inr (1, t.2.1)) := by
  obtain ⟨o1, p1, p2, p3, p4⟩ := HP t hT
  match o1, p1, p2, p3, p4 with
  | .inr (κ, pl), p1, p2, p3, p4 =>
    exact ⟨.inr (κ, pl), p1, fun r hr => tq_seqE (G := fun M => tw_readAnd Nt rEt M (nI x1)) (H := fun M => tw_readExpressionB_67 Nt rEt Nt M (nI x1)) (p2 r hr) p1 (fun M hM => dd_or_67 (by omega) hM (by omega)),
      fun bc bs Q M P L s hA hs hb1 hb2 hQ => by
        show _ ∧ _
        exact ⟨hA.1.2.1, cq_seqE (SUB := fun bc bs M P L Q => rd_and N bc bs M P L rEc a0 (nI x1) Q) (LOOP := fun bc bs Q M P L k m x => rd_exprB_51 N bc bs Q rEc a0 N.1 M P L k m (nI x1) x) p3 bc bs Q M P L s hA hs hb1 hb2 hQ⟩, p4⟩
  | .inl (s1, t1), p1, p2, p3, p4 =>
    have hk1 := rTok_k p1.1
    have hs1 : s1 ≠ [] := fun z => by
      have := p1.2.2.2.1
      rw [z] at this
      exact this
    obtain ⟨o2, r1, r2, r3⟩ := j_or_loop hn hNt hN hKd hb0 HP hD (n + 1) t1 s1 p1.1 (by omega) hs1 (rS_m p1.2.2.2.1 (by omega))
    refine ⟨o2, rOp_seq p1 r1, fun r hr => tq_seq (G := fun M => tw_readAnd Nt rEt M (nI x1)) (H := fun M => tw_readExpressionB_67 Nt rEt Nt M (nI x1)) (p2 r hr) (r2 r hr Nt (by omega)) p1 r1,
      fun bc bs Q M P L s hA hs hb1 hb2 hQ => by
        show _ ∧ _
        exact ⟨hA.1.2.1, cq_seq (SUB := fun bc bs M P L Q => rd_and N bc bs M P L rEc a0 (nI x1) Q) (LOOP := fun bc bs Q M P L k m x => rd_exprB_51 N bc bs Q rEc a0 N.1 M P L k m (nI x1) x) p1.2.1 (by omega) p3 (r3 N.1 (by omega)) r1 bc bs Q M P L s hA hs hb1 hb2 hQ⟩, fun z => absurd (p4 z) (by simp)⟩
end LP
