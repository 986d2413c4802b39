/-! READING A LINE, 13: a rule -/
section EXP
variable {N : dNt} {b : Nat → Int32} {n a0 : Nat} {t : rT} {e8 : Option Nat}
/-- where no rule can begin, the program says so -/
theorem cl_bad {rEc : Nat → Nat → cx_M → dP → dL → Nat → Int32 → cd_Qt → Prop} {x : Int32} (hn : n ≤ 700) (hN : 1100 ≤ N.1) (hKd : rKD N) (hT : rTok b n t) (hb : rBad b t) : rGf N b n a0 e8 t (.inr (1, t.2.1)) (fun bc bs Q M P L => rd_exprB_45 N bc bs Q rEc a0 M P L 0 0 x) := by
  obtain ⟨k1, k3, k0, k4, kle, ken⟩ := rTok_k hT
  obtain ⟨b1, b2, b3⟩ := hb
  have hpart : rGf N b n a0 e8 t (.inr (1, t.2.1)) (fun bc bs Q M P L => rd_part N bc bs M P L rEc a0 x Q) := by
    intro bc bs Q M P L s hA hs hbc hbs hQ
    unfold rd_part rd_part_0
    refine ⟨hA.1.2.1, pd_let ?_⟩
    rw [hA.2.2.1]
    refine rKd_if (i := 1) hKd k4 (by decide) (fun e => absurd e b2) (fun _ => ⟨hA.1.2.1, ?_⟩)
    refine rc_isM (c := 40) hKd hN hA hT hn (by decide) rfl (by decide) ?_
    rw [if_neg b3]
    intro _
    refine pd_add ?_
    rw [if_pos rfl]
    refine ⟨hA.1.2.1, pd_let ?_⟩
    rw [hA.2.2.1]
    refine rKd_if (i := 0) hKd k4 (by decide) (fun e => absurd e b1) (fun _ => ?_)
    unfold rd_part_72
    refine ⟨hA.1.2.1, rc_fault (κ := 1) hA (by omega) (by omega) (fun M' P' L' g1 g2 => ⟨fun _ => ?_, fun z => absurd z (by decide)⟩)⟩
    exact hQ M' P' L' _ _ g1 (g2.up (fun _ _ z => z.elim)) (by omega) (by omega)
  have hprod : rGf N b n a0 e8 t (.inr (1, t.2.1)) (fun bc bs Q M P L => rd_product N bc bs M P L rEc a0 x Q) := fun bc bs Q M P L s hA hs hb1 hb2 hQ => by
    show _ ∧ _
    exact ⟨hA.1.2.1, cq_seqE (SUB := fun bc bs M P L Q => rd_part N bc bs M P L rEc a0 x Q) (LOOP := fun bc bs Q M P L k m y => rd_product_6 N bc bs Q rEc a0 N.1 M P L k m x y) hpart bc bs Q M P L s hA hs hb1 hb2 hQ⟩
  have hsum : rGf N b n a0 e8 t (.inr (1, t.2.1)) (fun bc bs Q M P L => rd_sum N bc bs M P L rEc a0 x Q) := fun bc bs Q M P L s hA hs hb1 hb2 hQ => by
    show _ ∧ _
    exact ⟨hA.1.2.1, cq_seqE (SUB := fun bc bs M P L Q => rd_product N bc bs M P L rEc a0 x Q) (LOOP := fun bc bs Q M P L k m y => rd_sum_6 N bc bs Q rEc a0 N.1 M P L k m x y) hprod bc bs Q M P L s hA hs hb1 hb2 hQ⟩
  have hnot : rGf N b n a0 e8 t (.inr (1, t.2.1)) (fun bc bs Q M P L => rd_not N bc bs M P L rEc a0 x Q) := by
    intro bc bs Q M P L s hA hs hbc hbs hQ
    unfold rd_not rd_not_0
    obtain ⟨f, hf⟩ : ∃ f, N.1 = f + 1 := ⟨N.1 - 1, by omega⟩
    rw [hf]
    show rd_not_2b N bc bs Q rEc a0 (rd_not_2 N bc bs Q rEc a0 f) M P L 0 0 x 0
    unfold rd_not_2b
    refine ⟨hA.1.2.1, ?_⟩
    refine rc_isW hKd hN hA hT hn (by decide) (by decide) ?_
    rw [if_neg (fun z => b1 z.1)]
    intro _
    refine pd_add ?_
    rw [if_pos rfl]
    refine ⟨hA.1.2.1, hsum _ _ _ M P L s hA hs (by omega) (by omega) ?_⟩
    intro M' P' L' k' m' y1 y2 y3 y4
    exact ⟨fun _ => hQ M' P' L' _ _ y1 y2 (by omega) (by omega), fun z => absurd z (by omega)⟩
  have hand : rGf N b n a0 e8 t (.inr (1, t.2.1)) (fun bc bs Q M P L => rd_and N bc bs M P L rEc a0 x Q) := fun bc bs Q M P L s hA hs hb1 hb2 hQ => by
    show _ ∧ _
    exact ⟨hA.1.2.1, cq_seqE (SUB := fun bc bs M P L Q => rd_not N bc bs M P L rEc a0 x Q) (LOOP := fun bc bs Q M P L k m y => rd_and_6 N bc bs Q rEc a0 N.1 M P L k m x y) hnot bc bs Q M P L s hA hs hb1 hb2 hQ⟩
  exact fun bc bs Q M P L s hA hs hb1 hb2 hQ => by
    show _ ∧ _
    exact ⟨hA.1.2.1, cq_seqE (SUB := fun bc bs M P L Q => rd_and N bc bs M P L rEc a0 x Q) (LOOP := fun bc bs Q M P L k m y => rd_exprB_51 N bc bs Q rEc a0 N.1 M P L k m x y) hand bc bs Q M P L s hA hs hb1 hb2 hQ⟩
noncomputable def tE (Nt : Nat) : Nat → cx_M → Int32 → Option cx_R := cx_fix (fun _ _ => none) (fun rE => tw_readExpressionB Nt rE)
theorem tE_dead {Nt f : Nat} {M : cx_M} {x : Int32} (hf : 0 < f) (h : M 60 19 ≠ 0) : tE Nt f M x = some (M, 0, 0) := by
  obtain ⟨f, rfl⟩ : ∃ q, f = q + 1 := ⟨f - 1, by omega⟩
  exact dd_expr h
theorem j_expr {Nt : Nat} (hn : n ≤ 700) (hNt : 705 ≤ Nt) (hN : 1100 ≤ N.1) (hKd : rKD N) (hb0 : ∀ j, j < n → 0 ≤ (b j).toInt) : ∀ (d x1 f : Nat), x1 + d = 6 → d < f → ∀ t, rTok b n t →
    ∃ o, rOp b n t (5 * d + 1) 0 o ∧ (∀ r, r < 2 → rGt b n r [] t o (fun M => tE Nt f M (nI x1))) ∧ rGf N b n a0 e8 t o (fun bc bs Q M P L => rd_exprN N f bc bs M P L a0 (nI x1) Q) := by
  intro d
  induction d with
  | zero =>
    intro x1 f hx hf t hT
    obtain ⟨f, rfl⟩ : ∃ q, f = q + 1 := ⟨f - 1, by omega⟩
    obtain ⟨k1, k3, k0, k4, kle, ken⟩ := rTok_k hT
    have e6 : x1 = 6 := by omega
    subst e6
    by_cases hb : rBad b t
    · refine ⟨.inr (1, t.2.1), ⟨⟨by omega, by omega⟩, Nat.le_refl _, by omega⟩, fun r hr M cnt hA h10 h3 hrow hc => ?_, fun bc bs Q M P L s hA hs hbc hbs hQ => ?_⟩
      · have hne : rt_W M 1 t.2.1 60 19 ≠ 0 := by rw [rt_W.v.1]; decide
        refine ⟨rt_W M 1 t.2.1, ?_, rt_W.H2 hr, rt_W.v.1, rt_W.v.2⟩
        show tw_readExpressionB Nt (tE Nt f) M (nI 6) = _
        unfold tw_readExpressionB tw_readExpressionB_0
        simp only [px_get]
        rw [hA.2.2, if_pos rfl, hA.2.1.2.1, if_neg (show ¬ nI t.1 = 2 from fun z => hb.2.1 (nI_inj (k := 2) (by omega) (by omega) z)), if_neg (show ¬ nI t.1 = 1 from fun z => hb.1 (nI_inj (k := 1) (by omega) (by omega) z)), px_cal (rt_marked hn hA hT), if_neg hb.2.2, if_pos rfl]
        unfold tw_readExpressionB_38
        rw [if_pos rfl, px_cal (rt_wrong hA)]
        exact dd_or_62 (by omega) hne
      · show rd_exprB N bc bs M P L (rd_exprN N f) a0 (nI 6) Q
        unfold rd_exprB rd_exprB_0
        rw [if_neg (by decide)]
        refine ⟨hA.1.2.1, pd_let ?_⟩
        rw [hA.2.2.1]
        refine rKd_if (i := 1) hKd k4 (by decide) (fun e => absurd e hb.2.1) (fun _ => ⟨hA.1.2.1, pd_let ?_⟩)
        try rw [hA.2.2.1]
        refine rKd_if (i := 0) hKd k4 (by decide) (fun e => absurd e hb.1) (fun _ => ⟨hA.1.2.1, ?_⟩)
        refine rc_isM (c := 40) hKd hN hA hT hn (by decide) rfl (by decide) ?_
        rw [if_neg hb.2.2]
        intro _
        refine pd_add ?_
        rw [if_pos rfl]
        unfold rd_exprB_41
        refine ⟨hA.1.2.1, rc_fine ⟨fun z => absurd rfl z, fun _ => pd_add ?_⟩⟩
        exact cl_bad hn hN hKd hT hb bc bs Q M P L s hA hs (by omega) (by omega) hQ
    · have cls : ∀ (bc bs : Nat) (Q : cd_Qt) (M : cx_M) (P : dP) (L : dL) (s : Nat), rc_A N b n a0 e8 s t M P L → rd_exprB_40 N bc bs Q (rd_exprN N f) a0 M P L 0 0 (nI 6) → rd_exprN N (f + 1) bc bs M P L a0 (nI 6) Q := by
        intro bc bs Q M P L s hA hq
        show rd_exprB N bc bs M P L (rd_exprN N f) a0 (nI 6) Q
        unfold rd_exprB rd_exprB_0
        rw [if_neg (by decide)]
        refine ⟨hA.1.2.1, pd_let ?_⟩
        rw [hA.2.2.1]
        refine rKd_if (i := 1) hKd k4 (by decide) (fun _ => hq) (fun e2 => ⟨hA.1.2.1, pd_let ?_⟩)
        try rw [hA.2.2.1]
        refine rKd_if (i := 0) hKd k4 (by decide) (fun _ => hq) (fun e1 => ⟨hA.1.2.1, ?_⟩)
        refine rc_isM (c := 40) hKd hN hA hT hn (by decide) rfl (by decide) ?_
        have h40 : t.1 = 3 ∧ b t.2.1 = 40 := Decidable.byContradiction (fun z => hb ⟨e1, e2, z⟩)
        rw [if_pos h40]
        intro _
        refine pd_add ?_
        rw [if_neg (by decide)]
        exact hq
      refine ⟨.inr (2, t.2.1), ⟨⟨by omega, by omega⟩, Nat.le_refl _, by omega⟩, fun r hr M cnt hA h10 h3 hrow hc => ?_, fun bc bs Q M P L s hA hs hbc hbs hQ => cls bc bs Q M P L s hA ?_⟩
      · have hne : rt_W M 2 t.2.1 60 19 ≠ 0 := by rw [rt_W.v.1]; decide
        refine ⟨rt_W M 2 t.2.1, ?_, rt_W.H2 hr, rt_W.v.1, rt_W.v.2⟩
        have e33 : tw_readExpressionB_33 Nt (tE Nt f) M (nI 6) = some (rt_W M 2 t.2.1, 0, 0) := by
          unfold tw_readExpressionB_33 tw_readExpressionB_38
          rw [if_neg (by decide), if_pos (by decide), px_cal (rt_wrong hA)]
          exact dd_or_62 (by omega) hne
        show tw_readExpressionB Nt (tE Nt f) M (nI 6) = _
        unfold tw_readExpressionB tw_readExpressionB_0
        simp only [px_get]
        rw [hA.2.2, if_pos rfl, hA.2.1.2.1]
        by_cases e2 : t.1 = 2
        · rw [if_pos (show nI t.1 = 2 by rw [e2]; rfl)]; exact e33
        · rw [if_neg (show ¬ nI t.1 = 2 from fun z => e2 (nI_inj (k := 2) (by omega) (by omega) z))]
          by_cases e1 : t.1 = 1
          · rw [if_pos (show nI t.1 = 1 by rw [e1]; rfl)]; exact e33
          · have h40 : t.1 = 3 ∧ b t.2.1 = 40 := Decidable.byContradiction (fun z => hb ⟨e1, e2, z⟩)
            rw [if_neg (show ¬ nI t.1 = 1 from fun z => e1 (nI_inj (k := 1) (by omega) (by omega) z)), px_cal (rt_marked hn hA hT), if_pos h40, if_neg (by decide)]
            exact e33
      · unfold rd_exprB_40 rd_exprB_41
        refine ⟨hA.1.2.1, rc_fault (κ := 2) hA (by omega) (by omega) (fun M' P' L' g1 g2 => ⟨fun _ => ?_, fun z => absurd z (by decide)⟩)⟩
        exact hQ M' P' L' _ _ g1 (g2.up (fun _ _ z => z.elim)) (by omega) (by omega)
  | succ d ih =>
    intro x1 f hx hf t hT
    obtain ⟨f, rfl⟩ : ∃ q, f = q + 1 := ⟨f - 1, by omega⟩
    obtain ⟨k1, k3, k0, k4, kle, ken⟩ := rTok_k hT
    have HE := fun t hT => ih (x1 + 1) f (by omega) (by omega) t hT
    have Hp := fun t hT => j_part (a0 := a0) (t := t) (x1 := x1) (rEt := tE Nt f) (rEc := rd_exprN N f) (DE := 5 * d + 1) (D := 5 * d + 1) hn hNt hN hKd hb0 HE (by omega) (Nat.le_refl _) (fun M hM => tE_dead (by omega) hM) hT
    have Hr := fun t hT => j_prod (a0 := a0) (t := t) (x1 := x1) (rEt := tE Nt f) (rEc := rd_exprN N f) (D2 := 5 * d + 1) (D := 5 * d + 2) hn hNt hN hKd hb0 Hp (by omega) hT
    have Hs := fun t hT => j_sum (a0 := a0) (t := t) (x1 := x1) (rEt := tE Nt f) (rEc := rd_exprN N f) (D2 := 5 * d + 2) (D := 5 * d + 3) hn hNt hN hKd hb0 Hr (by omega) hT
    have Hn := fun t hT => j_not (a0 := a0) (t := t) (x1 := x1) (rEt := tE Nt f) (rEc := rd_exprN N f) (D2 := 5 * d + 3) (D := 5 * d + 4) hn hNt hN hKd hb0 Hs (by omega) hT
    have Ha := fun t hT => j_and (a0 := a0) (t := t) (x1 := x1) (rEt := tE Nt f) (rEc := rd_exprN N f) (D2 := 5 * d + 4) (D := 5 * d + 5) hn hNt hN hKd hb0 Hn (by omega) hT
    obtain ⟨o, p1, p2, p3, p4⟩ := j_or (a0 := a0) (t := t) (x1 := x1) (rEt := tE Nt f) (rEc := rd_exprN N f) (D2 := 5 * d + 5) (D := 5 * (d + 1) + 1) hn hNt hN hKd hb0 Ha (by omega) hT
    refine ⟨o, p1, fun r hr M cnt hA h10 h3 hrow hc => ?_, fun bc bs Q M P L s hA hs hbc hbs hQ => ?_⟩
    · have go : ¬ rBad b t → tE Nt (f + 1) M (nI x1) = tw_readExpressionB_62 Nt (tE Nt f) M (nI x1) := by
        intro hb
        have e33 : tw_readExpressionB_33 Nt (tE Nt f) M (nI x1) = tw_readExpressionB_62 Nt (tE Nt f) M (nI x1) := by
          unfold tw_readExpressionB_33 tw_readExpressionB_38
          rw [if_neg (by decide), if_neg (show ¬ nI x1 = 6 from fun z => absurd (nI_inj (k := 6) (by omega) (by omega) z) (by omega))]
        show tw_readExpressionB Nt (tE Nt f) M (nI x1) = _
        unfold tw_readExpressionB tw_readExpressionB_0
        simp only [px_get]
        rw [hA.2.2, if_pos rfl, hA.2.1.2.1]
        by_cases e2 : t.1 = 2
        · rw [if_pos (show nI t.1 = 2 by rw [e2]; rfl)]; exact e33
        · rw [if_neg (show ¬ nI t.1 = 2 from fun z => e2 (nI_inj (k := 2) (by omega) (by omega) z))]
          by_cases e1 : t.1 = 1
          · rw [if_pos (show nI t.1 = 1 by rw [e1]; rfl)]; exact e33
          · have h40 : t.1 = 3 ∧ b t.2.1 = 40 := Decidable.byContradiction (fun z => hb ⟨e1, e2, z⟩)
            rw [if_neg (show ¬ nI t.1 = 1 from fun z => e1 (nI_inj (k := 1) (by omega) (by omega) z)), px_cal (rt_marked hn hA hT), if_pos h40, if_neg (by decide)]
            exact e33
      by_cases hb : rBad b t
      · have eo := p4 hb
        subst eo
        have hne : rt_W M 1 t.2.1 60 19 ≠ 0 := by rw [rt_W.v.1]; decide
        refine ⟨rt_W M 1 t.2.1, ?_, rt_W.H2 hr, rt_W.v.1, rt_W.v.2⟩
        show tw_readExpressionB Nt (tE Nt f) M (nI x1) = _
        unfold tw_readExpressionB tw_readExpressionB_0
        simp only [px_get]
        rw [hA.2.2, if_pos rfl, hA.2.1.2.1, if_neg (show ¬ nI t.1 = 2 from fun z => hb.2.1 (nI_inj (k := 2) (by omega) (by omega) z)), if_neg (show ¬ nI t.1 = 1 from fun z => hb.1 (nI_inj (k := 1) (by omega) (by omega) z)), px_cal (rt_marked hn hA hT), if_neg hb.2.2, if_pos rfl]
        unfold tw_readExpressionB_38
        rw [if_pos rfl, px_cal (rt_wrong hA)]
        exact dd_or_62 (by omega) hne
      · have key := p2 r hr M cnt hA h10 h3 hrow hc
        have ee := go hb
        match o, key with
        | .inl (s, t2), key =>
          obtain ⟨M4, y1, y2, y3, y4, y5⟩ := key
          exact ⟨M4, ee.trans y1, y2, y3, y4, y5⟩
        | .inr (κ, pl), key =>
          obtain ⟨M4, y1, y2, y3, y4⟩ := key
          exact ⟨M4, ee.trans y1, y2, y3, y4⟩
    · show rd_exprB N bc bs M P L (rd_exprN N f) a0 (nI x1) Q
      unfold rd_exprB rd_exprB_0
      rw [if_pos (show nI x1 < 6 by rw [i32_lt, pi_nI (by omega), show (6 : Int32).toInt = 6 from rfl]; omega)]
      exact p3 bc bs Q M P L s hA hs hbc hbs hQ
/-- a rule, from the outermost level -/
theorem j_rule {Nt : Nat} (hn : n ≤ 700) (hNt : 705 ≤ Nt) (hN : 1100 ≤ N.1) (hKd : rKD N) (hb0 : ∀ j, j < n → 0 ≤ (b j).toInt) (hT : rTok b n t) :
    ∃ o, rOp b n t 31 0 o ∧ (∀ r, r < 2 → rGt b n r [] t o (fun M => tw_readExpression Nt M 0)) ∧ rGf N b n a0 e8 t o (fun bc bs Q M P L => rd_expr N bc bs M P L a0 0 Q) :=
  j_expr hn hNt hN hKd hb0 6 0 8 (by omega) (by omega) t hT
end EXP
