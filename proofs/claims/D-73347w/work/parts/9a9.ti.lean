/-! READING A LINE, 9: a part of a rule -/
theorem lay_H2 {r cnt i v : Nat} {M : cx_M} {x : Int32} (hr : r < 2) (hi : cnt ≤ i) : rH2 r cnt M (cx_up (cx_up M (5 + r) (700 + i) x) 3 (18 + r) (nI v)) := by
  refine ⟨fun c a b d => by rw [px_upc b, px_upc d], fun k a => by rw [px_upc (by decide), px_upc (by omega)], fun k a => by rw [px_up, if_neg (fun z => a z.2), px_upc (by omega)], fun k a => ?_⟩
  rw [px_upc (by omega), px_up, if_neg (by omega)]
theorem rt_laid {N : Nat} {b : Nat → Int32} {n r cnt : Nat} {t : rT} {M : cx_M} {s : List Int32} {x : Int32} (hr : r < 2) (hA : rt_A b n t M) (h10 : M 60 10 = nI r) (h3 : M 3 (18 + r) = nI (cnt + s.length)) (hrow : ∀ i y, s[i]? = some y → M (5 + r) (700 + cnt + i) = y) (hc : cnt + s.length < 700) :
    ∃ M', tw_lay N M x = some (M', 0, 0) ∧ rH2 r cnt M M' ∧ rt_A b n t M' ∧ M' 60 10 = nI r ∧ M' 3 (18 + r) = nI (cnt + (s ++ [x]).length) ∧ ∀ i y, (s ++ [x])[i]? = some y → M' (5 + r) (700 + cnt + i) = y := by
  refine ⟨_, rt_lay hr hA.2.2 h10 h3 hc, lay_H2 hr (by omega), ?_, ?_, ?_, fun i y hy => ?_⟩
  · obtain ⟨⟨a1, a2⟩, a3, a4⟩ := hA
    have e60 : ∀ v, cx_up (cx_up M (5 + r) (700 + (cnt + s.length)) x) 3 (18 + r) v 60 = M 60 := fun v => by rw [px_upc (by decide), px_upc (by omega)]
    have e11 : ∀ v, cx_up (cx_up M (5 + r) (700 + (cnt + s.length)) x) 3 (18 + r) v 11 = M 11 := fun v => by rw [px_upc (by decide), px_upc (by omega)]
    refine ⟨⟨by rw [e60]; exact a1, fun j hj => by rw [e11]; exact a2 j hj⟩, ?_, by rw [e60]; exact a4⟩
    unfold rt_M at a3 ⊢
    rw [e60]
    exact a3
  · rw [px_upc (by decide), px_upc (by omega)]; exact h10
  · rw [px_up, if_pos ⟨rfl, rfl⟩, List.length_append]; rfl
  · rw [px_upc (by omega), px_up]
    by_cases e : i = s.length
    · subst e
      rw [List.getElem?_append_right (Nat.le_refl _), Nat.sub_self] at hy
      rw [if_pos ⟨rfl, by omega⟩]
      exact Option.some.inj hy
    · have hi : i < s.length := by
        have := (List.getElem?_eq_some_iff.mp hy).1
        rw [List.length_append] at this
        have : i < s.length + 1 := this
        omega
      rw [List.getElem?_append_left hi] at hy
      rw [if_neg (by omega)]
      exact hrow i y hy
theorem cd_num_v {v : Nat} (h : v < 2 ^ 31) : cd_num (nI v) = some v := by
  unfold cd_num
  refine congrArg some ?_
  have e := pi_nI (n := v) (by omega)
  have h2 : (nI v).toBitVec.toInt = (v : Int) := e
  have h3 := (nI v).toBitVec.isLt
  rw [BitVec.toInt_eq_toNat_cond] at h2
  split at h2 <;> omega
section PART
variable {N : dNt} {M : cx_M} {P : dP} {L : dL} {b : Nat → Int32} {n a0 s : Nat} {t : rT} {e8 : Option Nat}
theorem sS.Y {M' : cx_M} {P' : dP} {L' : dL} {m : Nat} {f : Nat → Int32} (h : sS M P L s m f) (hY : qd_J (fun _ => False) M P L M' P' L') : sS M' P' L' s m f := by
  obtain ⟨y1, y2, y3, y4, w, y5, y6, y7, y8⟩ := h
  obtain ⟨e1, e2⟩ := hY.2.2 _ y1 (fun z => z)
  obtain ⟨e3, -⟩ := hY.2.2 _ y7 (fun z => z)
  exact ⟨hY.mem y1, by rw [e1]; exact y2, by rw [e1]; exact y3, by rw [e1]; exact y4, w, by rw [e2]; exact y5, y6, hY.mem y7, fun i hi => by rw [e3]; exact y8 i hi⟩
theorem rc_A.Y {M' : cx_M} {P' : dP} {L' : dL} (h : rc_A N b n a0 e8 s t M P L) (hY : qd_J (fun _ => False) M P L M' P' L') (hu : qd_u L') : rc_A N b n a0 e8 s t M' P' L' := by
  obtain ⟨e1, e2⟩ := hY.2.2 _ h.1.2.1 (fun z => z)
  exact ⟨h.1.Y hY hu (fun z => z), by rw [e1]; exact h.2.1, by rw [e2]; exact h.2.2.1, by rw [e1]; exact h.2.2.2.1, fun z => ⟨by rw [e2]; exact (h.2.2.2.2 z).1, (h.2.2.2.2 z).2.Y hY⟩⟩
theorem rc_A.new {a : Nat} {kd : dk} {f : Nat → Int32} (h : rc_A N b n a0 e8 s t M P L) (ha : ∀ x ∈ L, x.1 ≠ a) : rc_A N b n a0 e8 s t (cx_set M (dc a) f) (dPn P a) (L ++ [(a, kd)]) := h.Y (qd_J.rf.new ha) (h.1.1.snoc ha)
theorem rc_A.ref {a k : Nat} {v : Option Nat} {kd : dk} (h : rc_A N b n a0 e8 s t M P L) (ha : (a, kd) ∈ L) (h10 : kd ≠ (0, 10, 0)) (h17 : kd ≠ (0, 17, 0)) : rc_A N b n a0 e8 s t M (dPu P a k v) L := by
  have hne : ∀ c kc, (c, kc) ∈ L → kd ≠ kc → c ≠ a := fun c kc hc hk e => hk (h.1.1 _ ha _ hc e.symm)
  have e0 : ∀ k, dPu P a k v a0 = P a0 := fun k => dPu_ne (hne _ _ h.1.2.1 h10)
  refine ⟨⟨h.1.1, h.1.2.1, by rw [e0]; exact h.1.2.2.1, ⟨h.1.2.2.2.1.1, by rw [e0]; exact h.1.2.2.2.1.2⟩, h.1.2.2.2.2⟩, h.2.1, by rw [e0]; exact h.2.2.1, h.2.2.2.1, fun z => ⟨by rw [e0]; exact (h.2.2.2.2 z).1, ?_⟩⟩
  obtain ⟨y1, y2, y3, y4, w, y5, y6, y7, y8⟩ := (h.2.2.2.2 z).2
  exact ⟨y1, y2, y3, y4, w, by rw [dPu_ne (hne _ _ y1 h17)]; exact y5, y6, y7, y8⟩
theorem rc_N.of {s' : Nat} {L1 L' : dL} (h : rc_N s s' L1 L') (hL : ∀ x ∈ L, x ∈ L1) : rc_N s s' L L' := by
  rcases h with e | ⟨e1, e2⟩
  · exact Or.inl e
  · exact Or.inr ⟨fun x hx => e1 x (hL x hx), e2⟩
theorem rH2.bnd {r cnt : Nat} {M M' : cx_M} (h : rH2 r cnt M M') : M' 60 10 = M 60 10 := h.2.1 10 (by decide)
/-- a part of a rule: both read it alike -/
theorem j_part {Nt x1 DE D : Nat} {rEt : cx_M → Int32 → Option cx_R} {rEc : Nat → Nat → cx_M → dP → dL → Nat → Int32 → cd_Qt → Prop} (hn : n ≤ 700) (hNt : 705 ≤ Nt) (hN : 1100 ≤ N.1) (hKd : rKD N) (hb0 : ∀ j, j < n → 0 ≤ (b j).toInt)
    (HE : ∀ t, rTok b n t → ∃ o, rOp b n t DE 0 o ∧ (∀ r, r < 2 → rGt b n r [] t o (fun M => rEt M (nI (x1 + 1)))) ∧ rGf N b n a0 e8 t o (fun bc bs Q M P L => rEc bc bs M P L a0 (nI (x1 + 1)) Q)) (hD1 : 1 ≤ D) (hDE : DE ≤ D)
    (hEd : ∀ M, M 60 19 ≠ 0 → rEt M (nI (x1 + 1)) = some (M, 0, 0)) (hT : rTok b n t) :
    ∃ o, rOp b n t D 0 o ∧ (∀ r, r < 2 → rGt b n r [] t o (fun M => tw_readPart Nt rEt M (nI x1))) ∧ rGf N b n a0 e8 t o (fun bc bs Q M P L => rd_part N bc bs M P L rEc a0 (nI x1) Q) ∧ (rBad b t → o = .inr (1, t.2.1)) := by
  obtain ⟨k1, k3, k0, k4, kle, ken⟩ := rTok_k hT
  obtain ⟨t', hx'⟩ := rNx_ex (b := b) (n := n) (p := t.2.2) ken
  have hT' : rTok b n t' := ⟨_, hx'⟩
  obtain ⟨l1, l2, l3, l4, l5⟩ := hx'.le
  have h10F : ∀ {M M' : cx_M} {r : Nat}, rt_F M M' → M 60 10 = nI r → M' 60 10 = nI r := fun hF h => by rw [hF.2 10 (by decide)]; exact h
  have h3F : ∀ {M M' : cx_M} {k : Nat}, rt_F M M' → M' 3 k = M 3 k := fun hF => by rw [hF.1 3 (by decide)]
  by_cases c2 : t.1 = 2
  · have kk := k0 (by omega)
    by_cases hq : rNum b t 0 9999
    · -- a number
      have hv := rTok_num hT c2 hq.2.1
      refine ⟨.inl ([nI (rVal b t.2.1 (t.2.2 - t.2.1))], t'), ⟨hT', by omega, fun _ => by omega, Or.inl ⟨_, hv, rfl, hD1⟩, by show 1 ≤ 0 + (t'.2.1 - t.2.1); omega⟩, fun r hr M cnt hA h10 h3 hrow hc => ?_, fun bc bs Q M P L s hA hs hbc hbs hQ => ?_, fun z => absurd c2 z.2.1⟩
      · obtain ⟨M1, e1, e2, e3⟩ := rt_number_ok (N := Nt) hn hNt hb0 (lo := 0) (hi := 9999) hA hT hx' hq (by decide)
        have h3' : M 3 (18 + r) = nI (cnt + 0) := h3
        have hc' : cnt + 0 ≤ t.2.1 := hc
        obtain ⟨M2, f1, f2, f3, f4, f5, f6⟩ := rt_laid (N := Nt) (s := []) (cnt := cnt) (x := nI (rVal b t.2.1 (t.2.2 - t.2.1))) hr e3 (h10F e2 h10) (by rw [h3F e2]; exact h3) (fun i y hy => absurd hy (by simp)) (by show cnt + 0 < 700; omega)
        refine ⟨M2, ?_, (e2.H2 hr).tr f2, f3, f5, f6⟩
        unfold tw_readPart tw_readPart_0
        simp only [px_get]
        rw [hA.2.2, if_pos rfl, hA.2.1.2.1, if_pos (by rw [c2]; rfl), px_cal (show tw_readNumber Nt M 0 9999 = _ from e1), px_cal f1]
      · unfold rd_part rd_part_0
        refine ⟨hA.1.2.1, pd_let ?_⟩
        rw [hA.2.2.1]
        refine rKd_if (i := 1) hKd k4 (by decide) (fun _ => ?_) (fun e => absurd c2 e)
        refine pd_new (by omega) (by omega) (fun a ha => ⟨mem_old hA.1.2.1, ?_⟩)
        have hA1 := hA.new (kd := (0, 13, 0)) (f := fun _ => 0) ha
        show rd_number N _ _ _ _ _ a0 (nI 0) (nI 9999) _
        refine rc_number hn hN hKd hA1 hT hx' (by omega) (by omega) (by decide) (by decide) (fun _ s' M' P' L' k m g1 g2 g3 g4 g5 => ⟨fun z => absurd rfl z, fun _ => pd_add ?_⟩) (fun z => absurd hq z)
        unfold rTo_init rTo_init_0 rEx_init rEx_init_0
        intro _
        have ham : (a, ((0, 13, 0) : dk)) ∈ L' := g4.mem mem_new
        refine pd_add ⟨ham, pd_putn ?_⟩
        rw [cd_num_v (by omega)]
        intro _
        refine pd_add ?_
        have hfr : qd_J (fun y => y = a0 ∨ y = s) M P L M' (dPu P' a 0 (some (rVal b t.2.1 (t.2.2 - t.2.1)))) L' := ((qd_J.rf.new (U := fun y => y = a0 ∨ y = s) ha).tr g4 (fun _ _ z => z) (fun _ _ z => z)).ref (fun x hx e => absurd e (ha x hx))
        exact hQ s' M' _ L' _ _ a (g3.ref ham (by decide) (by decide)) hfr (g5.of (fun x hx => mem_old hx)) (Or.inl ⟨_, by omega, rfl, ham, by rw [dPu_at, if_pos rfl]⟩) (by omega) (by omega)
    · -- a number out of bounds
      refine ⟨.inr (2, t.2.1), ⟨⟨by omega, by omega⟩, Nat.le_refl _, by omega⟩, fun r hr M cnt hA h10 h3 hrow hc => ?_, fun bc bs Q M P L s hA hs hbc hbs hQ => ?_, fun z => absurd c2 z.2.1⟩
      · have e1 := rt_number_er (N := Nt) (lo := 0) (hi := 9999) hA hT hn (by decide) (by decide) hq
        rw [if_pos c2] at e1
        refine ⟨rt_W M 2 t.2.1, ?_, rt_W.H2 hr, rt_W.v.1, rt_W.v.2⟩
        unfold tw_readPart tw_readPart_0
        simp only [px_get]
        rw [hA.2.2, if_pos rfl, hA.2.1.2.1, if_pos (by rw [c2]; rfl), px_cal (show tw_readNumber Nt M 0 9999 = _ from e1), px_cal (dd_lay (by rw [rt_W.v.1]; decide))]
      · unfold rd_part rd_part_0
        refine ⟨hA.1.2.1, pd_let ?_⟩
        rw [hA.2.2.1]
        refine rKd_if (i := 1) hKd k4 (by decide) (fun _ => ?_) (fun e => absurd c2 e)
        refine pd_new (by omega) (by omega) (fun a ha => ⟨mem_old hA.1.2.1, ?_⟩)
        have hA1 := hA.new (kd := (0, 13, 0)) (f := fun _ => 0) ha
        show rd_number N _ _ _ _ _ a0 (nI 0) (nI 9999) _
        refine rc_number hn hN hKd hA1 hT hx' (by omega) (by omega) (by decide) (by decide) (fun z => absurd z hq) (fun _ M' P' L' g1 g2 => ⟨fun _ => ?_, fun z => absurd z (by omega)⟩)
        have hfr : qd_J (fun y => y = a0 ∨ y = s) M P L M' P' L' := (qd_J.rf.new (U := fun y => y = a0 ∨ y = s) ha).tr g2 (fun _ _ z => z) (fun _ _ z => z.elim)
        rw [if_pos c2]
        exact hQ M' P' L' _ _ g1 hfr (by omega) (by omega)
  · have nb : ∀ {M : cx_M}, rt_A b n t M → ¬ M 60 15 = 2 := fun hA z => c2 (nI_inj (k := 2) (by omega) (by omega) (hA.2.1.2.1.symm.trans z))
    by_cases cp : t.1 = 3 ∧ b t.2.1 = 40
    · -- a rule in brackets
      have kk := k0 (by omega)
      obtain ⟨oE, hop, hGt, hGf⟩ := HE t' hT'
      have n1 : ∀ {M : cx_M}, rt_A b n t M → ¬ M 60 15 = 1 := fun hA z => by
        have := nI_inj (k := 1) (by omega) (by omega) (hA.2.1.2.1.symm.trans z)
        omega
      have cls : ∀ {bc bs : Nat} {Q : cd_Qt} {M : cx_M} {P : dP} {L : dL} {s : Nat}, rc_A N b n a0 e8 s t M P L → rc_s a0 s L → 24 * (n + 1 - t.2.1) + 12 ≤ bc → 110 * (n + 1 - t.2.1) + 60 ≤ bs →
          (∀ s1 M1 P1 L1 k1 m1, k1 ≤ 5 → m1 ≤ 50 → rc_A N b n a0 e8 s1 t' M1 P1 L1 → qd_J (fun y => y = a0 ∨ y = s) M P L M1 P1 L1 → rc_N s s1 L L1 → rGq N b n a0 e8 s1 t' M1 P1 L1 0 0 (fun M21 P22 L23 v24 r25 e9 k26 n27 => (e9 ≠ 0 → Q M21 P22 L23 v24 none e9 (k1 + k26) (m1 + n27)) ∧ (e9 = 0 → cd_add k1 k26 m1 n27 fun k28 n29 =>
            (a0, (0, 10, 0)) ∈ L23 ∧
            rd_need N (bc - k28) (bs - n29) M21 P22 L23 a0 21 (fun M30 P31 L32 v33 r34 e9 k35 n36 => (e9 ≠ 0 → Q M30 P31 L32 v33 none e9 (k28 + k35) (n29 + n36)) ∧ (e9 = 0 → cd_add k28 k35 n29 n36 fun k37 n38 =>
            Q M30 P31 L32 0 r25 0 k37 n38)))) oE) → rd_part N bc bs M P L rEc a0 (nI x1) Q := by
        intro bc bs Q M P L s hA hs hbc hbs hq
        unfold rd_part rd_part_0
        refine ⟨hA.1.2.1, pd_let ?_⟩
        rw [hA.2.2.1]
        refine rKd_if (i := 1) hKd k4 (by decide) (fun e => absurd e c2) (fun _ => ⟨hA.1.2.1, ?_⟩)
        refine rc_isM (c := 40) hKd hN hA hT hn (by decide) rfl (by decide) ?_
        rw [if_pos cp]
        intro _
        refine pd_add ?_
        rw [if_neg (by decide)]
        refine ⟨hA.1.2.1, ?_⟩
        refine rc_next hn hN hKd hx' hA (by omega) (by omega) (fun s1 M1 P1 L1 k1 m1 g1 g2 g3 g4 g5 => ?_)
        intro _
        refine pd_add ⟨g3.1.2.1, ?_⟩
        rw [← nI_succ x1]
        have hbud1 : 24 * (n + 1 - t'.2.1) + 12 ≤ bc - (0 + 0 + k1) := by omega
        have hbud2 : 110 * (n + 1 - t'.2.1) + 60 ≤ bs - (0 + 0 + m1) := by omega
        have hq1 := hq s1 M1 P1 L1 k1 m1 g1 g2 g3 g4 g5
        refine hGf _ _ _ M1 P1 L1 s1 g3 (hs.nx g5 (fun x hx => g4.mem hx)) hbud1 hbud2 ?_
        simp only [Nat.zero_add]
        exact hq1
      cases oE with
      | inr w =>
        obtain ⟨κ, pl⟩ := w
        obtain ⟨p1, p2, p3⟩ := hop
        refine ⟨.inr (κ, pl), ⟨p1, by omega, p3⟩, fun r hr M cnt hA h10 h3 hrow hc => ?_, fun bc bs Q M P L s hA hs hbc hbs hQ => cls hA hs hbc hbs (fun s1 M1 P1 L1 k1 m1 g1 g2 g3 g4 g5 M' P' L' k' m' y1 y2 y3 y4 => ⟨fun _ => ?_, fun z => absurd z (by omega)⟩), fun z => absurd cp z.2.2⟩
        · obtain ⟨M1, e1, e2, e3⟩ := rt_mark_ok (N := Nt) hn hNt hb0 hA hT hx' cp
          obtain ⟨M2, f1, f2, f3, f4⟩ := hGt r hr M1 cnt e3 (h10F e2 h10) (by rw [h3F e2]; exact h3) (fun i y hy => absurd hy (by simp)) (by have : cnt + 0 ≤ t.2.1 := hc; show cnt + 0 ≤ t'.2.1; omega)
          have hne : M2 60 19 ≠ 0 := by
            rw [f3]
            intro z
            have := nI_inj (k := 0) (by omega) (by omega) z
            omega
          refine ⟨M2, ?_, (e2.H2 hr).tr f2, f3, f4⟩
          have f1 : rEt M1 (nI (x1 + 1)) = some (M2, 0, 0) := f1
          unfold tw_readPart tw_readPart_0
          simp only [px_get]
          rw [hA.2.2, if_pos rfl, if_neg (nb hA), if_neg (n1 hA), px_cal e1, ← nI_succ x1, px_cal f1, px_cal (dd_mark hne)]
        · exact hQ M' P' L' _ _ y1 (g4.nx g5 y2) (by omega) (by omega)
      | inl w =>
        obtain ⟨s1, t1⟩ := w
        obtain ⟨hT1, p2, p3, p4, p5⟩ := hop
        have p3 := p3 rfl
        obtain ⟨k11, k13, k10, k14, k1le, k1en⟩ := rTok_k hT1
        obtain ⟨t2, hx2⟩ := rNx_ex (b := b) (n := n) (p := t1.2.2) k1en
        have hle2 := hx2.le
        have twin : ∀ r, r < 2 → ∀ (M : cx_M) (cnt : Nat), rt_A b n t M → M 60 10 = nI r → M 3 (18 + r) = nI (cnt + ([] : List Int32).length) → cnt + ([] : List Int32).length ≤ t.2.1 → ∃ M2, (∀ R, tw_mark Nt M2 41 = some (R, 0, 0) → tw_readPart Nt rEt M (nI x1) = some (R, 0, 0)) ∧ rH2 r cnt M M2 ∧ rt_A b n t1 M2 ∧ M2 3 (18 + r) = nI (cnt + s1.length) ∧ ∀ i x, s1[i]? = some x → M2 (5 + r) (700 + cnt + i) = x := by
          intro r hr M cnt hA h10 h3 hc
          obtain ⟨M1, e1, e2, e3⟩ := rt_mark_ok (N := Nt) hn hNt hb0 hA hT hx' cp
          obtain ⟨M2, f1, f2, f3, f4, f5⟩ := hGt r hr M1 cnt e3 (h10F e2 h10) (by rw [h3F e2]; exact h3) (fun i y hy => absurd hy (by simp)) (by have : cnt + 0 ≤ t.2.1 := hc; show cnt + 0 ≤ t'.2.1; omega)
          refine ⟨M2, fun R hR => ?_, (e2.H2 hr).tr f2, f3, f4, f5⟩
          have f1 : rEt M1 (nI (x1 + 1)) = some (M2, 0, 0) := f1
          unfold tw_readPart tw_readPart_0
          simp only [px_get]
          rw [hA.2.2, if_pos rfl, if_neg (nb hA), if_neg (n1 hA), px_cal e1, ← nI_succ x1, px_cal f1, px_cal hR]
        by_cases cq : t1.1 = 3 ∧ b t1.2.1 = 41
        · have kk1 := k10 (by omega)
          refine ⟨.inl (s1, t2), ⟨⟨_, hx2⟩, by omega, fun _ => by omega, rS_m p4 hDE, by omega⟩, fun r hr M cnt hA h10 h3 hrow hc => ?_, fun bc bs Q M P L s hA hs hbc hbs hQ => cls hA hs hbc hbs (fun s1' M1 P1 L1 k1 m1 g1 g2 g3 g4 g5 sx M' P' L' k' m' x y1 y2 y3 y4 y5 y6 => ⟨fun z => absurd rfl z, fun _ => pd_add ⟨y1.1.2.1, ?_⟩⟩), fun z => absurd cp z.2.2⟩
          · obtain ⟨M2, e0, e1, e2, e3, e4⟩ := twin r hr M cnt hA h10 h3 hc
            obtain ⟨M3, f1, f2, f3⟩ := rt_mark_ok (N := Nt) hn hNt hb0 e2 hT1 hx2 cq
            refine ⟨M3, e0 M3 f1, e1.tr (f2.H2 hr), f3, by rw [h3F f2]; exact e3, fun i x hx => by rw [f2.1 _ (by omega)]; exact e4 i x hx⟩
          · refine rc_need (c := 41) hn hN hKd y1 hT1 hx2 (by omega) (by omega) (by decide) rfl (by decide) (fun _ sy M3 P3 L3 k3 m3 z1 z2 z3 z4 z5 => ⟨fun z => absurd rfl z, fun _ => pd_add ?_⟩) (fun z => absurd cq z)
            have hs1 := hs.nx g5 (fun x hx => g4.mem hx)
            have hsx := hs1.nx y3 (fun x hx => y2.mem hx)
            have hY2 := g4.nx g5 y2
            have hN2 := rc_N.tr g5 y3 (fun x hx => g4.mem hx) (fun x hx => y2.mem hx)
            exact hQ sy M3 P3 L3 _ _ x z3 (hY2.nx hN2 z4) (rc_N.tr hN2 z5 (fun x hx => hY2.mem hx) (fun x hx => z4.mem hx)) (rc_tree y1.1.1 y1.1.2.1 hsx z4 y4) (by omega) (by omega)
        · refine ⟨.inr (1, t1.2.1), ⟨⟨by omega, by omega⟩, by omega, by omega⟩, fun r hr M cnt hA h10 h3 hrow hc => ?_, fun bc bs Q M P L s hA hs hbc hbs hQ => cls hA hs hbc hbs (fun s1' M1 P1 L1 k1 m1 g1 g2 g3 g4 g5 sx M' P' L' k' m' x y1 y2 y3 y4 y5 y6 => ⟨fun z => absurd rfl z, fun _ => pd_add ⟨y1.1.2.1, ?_⟩⟩), fun z => absurd cp z.2.2⟩
          · obtain ⟨M2, e0, e1, e2, e3, e4⟩ := twin r hr M cnt hA h10 h3 hc
            exact ⟨rt_W M2 1 t1.2.1, e0 _ (rt_mark_er hn e2 hT1 cq), e1.tr (rt_W.H2 hr), rt_W.v.1, rt_W.v.2⟩
          · refine rc_need (t' := t2) (c := 41) hn hN hKd y1 hT1 hx2 (by omega) (by omega) (by decide) rfl (by decide) (fun z => absurd z cq) (fun _ M3 P3 L3 z1 z2 => ⟨fun _ => ?_, fun z => absurd z (by decide)⟩)
            have hY2 := g4.nx g5 y2
            exact hQ M3 P3 L3 _ _ z1 (hY2.tr z2 (fun _ _ z => z) (fun _ _ z => z.elim)) (by omega) (by omega)
    · by_cases c1 : t.1 = 1
      · -- what is seen
        have kk := k0 (by omega)
        have clsW : ∀ {bc bs : Nat} {Q : cd_Qt} {M : cx_M} {P : dP} {L : dL} {s : Nat}, rc_A N b n a0 e8 s t M P L → rd_part_72 N bc bs Q rEc a0 M P L 0 0 1 → rd_part N bc bs M P L rEc a0 (nI x1) Q := by
          intro bc bs Q M P L s hA hq
          unfold rd_part rd_part_0
          refine ⟨hA.1.2.1, pd_let ?_⟩
          rw [hA.2.2.1]
          refine rKd_if (i := 1) hKd k4 (by decide) (fun e => absurd e c2) (fun _ => ⟨hA.1.2.1, ?_⟩)
          refine rc_isM (c := 40) hKd hN hA hT hn (by decide) rfl (by decide) ?_
          rw [if_neg cp]
          intro _
          refine pd_add ?_
          rw [if_pos rfl]
          refine ⟨hA.1.2.1, pd_let ?_⟩
          rw [hA.2.2.1]
          exact rKd_if (i := 0) hKd k4 (by decide) (fun _ => hq) (fun e => absurd c1 e)
        by_cases hq : ∃ e, e < 4 ∧ rW b t (twSbyt.getD e [])
        · obtain ⟨e, he, hw⟩ := hq
          refine ⟨.inl ([-1 - nI e], t'), ⟨hT', by omega, fun _ => by omega, Or.inr (Or.inl ⟨e, he, rfl, hD1⟩), by show 1 ≤ 0 + (t'.2.1 - t.2.1); omega⟩, fun r hr M cnt hA h10 h3 hrow hc => ?_, fun bc bs Q M P L s hA hs hbc hbs hQ => clsW hA ?_, fun z => absurd c1 z.1⟩
          · have h3' : M 3 (18 + r) = nI (cnt + 0) := h3
            have hc' : cnt + 0 ≤ t.2.1 := hc
            obtain ⟨v, e1, hv⟩ := rt_which (N := Nt) hn hNt hA hT (w := 0) (by decide)
            have ev : v = nI e := by
              rcases hv with ⟨i, g1, g2, -, g4⟩ | ⟨-, g2⟩
              · rw [Nat.mul_zero, Nat.zero_add] at g4
                have := rW_two g4 hw
                rw [g2]
                have hi : i < 4 := g1
                exact congrArg nI ((by decide +kernel : ∀ i, i < 4 → ∀ e, e < 4 → twSbyt.getD i [] = twSbyt.getD e [] → i = e) i hi e he this)
              · refine absurd ⟨c1, ?_⟩ (g2 e he)
                rw [Nat.mul_zero, Nat.zero_add]
                exact hw
            subst ev
            obtain ⟨M2, f1, f2, f3, f4, f5, f6⟩ := rt_laid (N := Nt) (s := []) (cnt := cnt) (x := -1 - nI e) hr hA h10 h3 (fun i y hy => absurd hy (by simp)) (by show cnt + 0 < 700; omega)
            obtain ⟨M3, g1, g2, g3⟩ := rt_next (N := Nt) hn hNt hb0 f3 hx'
            refine ⟨M3, ?_, f2.tr (g2.H2 hr), g3, by rw [h3F g2]; exact f5, fun i x hx => by rw [g2.1 _ (by omega)]; exact f6 i x hx⟩
            have hne : ¬ nI e = -1 := fun z => by
              have := congrArg Int32.toInt z
              rw [pi_nI (by omega), show (-1 : Int32).toInt = -1 from rfl] at this
              omega
            unfold tw_readPart tw_readPart_0 tw_readPart_56
            simp only [px_get]
            rw [hA.2.2, if_pos rfl, if_neg (nb hA), hA.2.1.2.1, if_pos (by rw [c1]; rfl), px_cal e1, if_neg hne, px_cal f1, f3.2.2, if_pos rfl, px_cal g1]
          · unfold rd_part_72
            refine ⟨hA.1.2.1, rc_fine ⟨fun z => absurd rfl z, fun _ => pd_add ⟨hA.1.2.1, pd_let ⟨hA.1.2.1, ?_⟩⟩⟩⟩
            rw [(hA.2.2.2.2 (Or.inl c1)).1]
            have hsm : (s, ((0, 17, 0) : dk)) ∈ L := (hA.2.2.2.2 (Or.inl c1)).2.1
            have hs0 : a0 ≠ s := fun z => absurd (show ((0, 10, 0) : dk) = (0, 17, 0) from hA.1.1 _ hA.1.2.1 _ hsm z) (by decide)
            refine rc_value hN hA hT hn c1 (fun e' he' hw' M' hM' => ?_) (fun z => absurd hw (z e he))
            have ee : e' = e := (by decide +kernel : ∀ i, i < 4 → ∀ e, e < 4 → twSbyt.getD i [] = twSbyt.getD e [] → i = e) e' he' e he (rW_two hw' hw)
            subst ee
            intro _
            refine pd_add (pd_if1 rfl ?_)
            unfold rd_part_95
            have hYs : qd_J (fun y => y = s) M P L M' P L := ⟨fun c hc => hM' c (dc_lo hc), ⟨[], (List.append_nil L).symm, fun y hy => absurd hy (by simp)⟩, fun x hx hu => ⟨hM' _ (dc_ne hu), rfl⟩⟩
            have hP' : rc_P N b n a0 e8 t.2.2 M' P L := hA.1.Y hYs hA.1.1 hs0
            refine ⟨hP'.2.1, rc_fine ⟨fun z => absurd rfl z, fun _ => pd_add ⟨hP'.2.1, ?_⟩⟩⟩
            refine rc_go (s0 := s) hn hN hKd hx' hP' (by omega) (by omega) (fun s' M2 P2 L2 k m g1 g2 _ g3 g4 g5 g6 => ?_)
            intro _
            refine pd_add ?_
            refine pd_new (by omega) (by omega) (fun a ha => ?_)
            unfold rSe_init rSe_init_0 rEx_init rEx_init_0
            intro _
            refine pd_add ⟨mem_new, pd_put ?_⟩
            intro _
            refine pd_add ?_
            have hA3 : rc_A N b n a0 e8 s' t' (cx_set M2 (dc a) (fun _ => 0)) (dPn P2 a) (L2 ++ [(a, (0, 11, 0))]) := rc_A.new ⟨g3, g4⟩ ha
            have hY1 : qd_J (fun y => y = a0 ∨ y = s) M P L M2 P2 L2 := hYs.tr g5 (fun _ _ z => Or.inr z) (fun _ _ z => Or.inl z)
            have haL : ∀ x ∈ L, x.1 ≠ a := fun x hx => ha x (g5.mem hx)
            exact hQ s' _ _ _ _ _ a (hA3.ref mem_new (by decide) (by decide)) ((hY1.new ha).ref (fun x hx z => absurd z (haL x hx))) (by
              rcases g6 with z | ⟨z1, z2⟩
              · exact Or.inl z
              · exact Or.inr ⟨z1, mem_old z2⟩) (Or.inr (Or.inl ⟨e', he, rfl, mem_new, by rw [dPu_at, if_pos rfl]⟩)) (by omega) (by omega)
        · have hq : ∀ e, e < 4 → ¬ rW b t (twSbyt.getD e []) := fun e he z => hq ⟨e, he, z⟩
          refine ⟨.inr (3, t.2.1), ⟨⟨by omega, by omega⟩, Nat.le_refl _, by omega⟩, fun r hr M cnt hA h10 h3 hrow hc => ?_, fun bc bs Q M P L s hA hs hbc hbs hQ => clsW hA ?_, fun z => absurd c1 z.1⟩
          · obtain ⟨v, e1, hv⟩ := rt_which (N := Nt) hn hNt hA hT (w := 0) (by decide)
            have ev : v = -1 := by
              rcases hv with ⟨i, g1, g2, -, g4⟩ | ⟨g1, -⟩
              · rw [Nat.mul_zero, Nat.zero_add] at g4
                exact absurd g4 (hq i g1)
              · exact g1
            subst ev
            have hne : rt_W M 3 t.2.1 60 19 ≠ 0 := by rw [rt_W.v.1]; decide
            refine ⟨rt_W M 3 t.2.1, ?_, rt_W.H2 hr, rt_W.v.1, rt_W.v.2⟩
            unfold tw_readPart tw_readPart_0 tw_readPart_56
            simp only [px_get]
            rw [hA.2.2, if_pos rfl, if_neg (nb hA), hA.2.1.2.1, if_pos (by rw [c1]; rfl), px_cal e1, if_pos rfl, px_cal (rt_wrong hA), px_cal (dd_lay hne), if_neg hne]
          · unfold rd_part_72
            refine ⟨hA.1.2.1, rc_fine ⟨fun z => absurd rfl z, fun _ => pd_add ⟨hA.1.2.1, pd_let ⟨hA.1.2.1, ?_⟩⟩⟩⟩
            rw [(hA.2.2.2.2 (Or.inl c1)).1]
            have hsm : (s, ((0, 17, 0) : dk)) ∈ L := (hA.2.2.2.2 (Or.inl c1)).2.1
            have hs0 : a0 ≠ s := fun z => absurd (show ((0, 10, 0) : dk) = (0, 17, 0) from hA.1.1 _ hA.1.2.1 _ hsm z) (by decide)
            refine rc_value hN hA hT hn c1 (fun e he hw => absurd hw (hq e he)) (fun _ M' hM' => ?_)
            intro _
            refine pd_add (pd_if0 rfl ?_)
            unfold rd_part_95
            have hYs : qd_J (fun y => y = s) M P L M' P L := ⟨fun c hc => hM' c (dc_lo hc), ⟨[], (List.append_nil L).symm, fun y hy => absurd hy (by simp)⟩, fun x hx hu => ⟨hM' _ (dc_ne hu), rfl⟩⟩
            have hP' : rc_P N b n a0 e8 t.2.2 M' P L := hA.1.Y hYs hA.1.1 hs0
            refine ⟨hP'.2.1, ?_⟩
            refine rc_fault2 (κ := 3) hP' (by rw [hM' _ (dc_ne hs0)]; exact hA.2.1) (by omega) (by omega) (fun M2 P2 L2 g1 g2 => ⟨fun _ => ?_, fun z => absurd z (by decide)⟩)
            exact hQ M2 P2 L2 _ _ g1 (hYs.tr g2 (fun _ _ z => Or.inr z) (fun _ _ z => z.elim)) (by omega) (by omega)
      · -- none of these
        refine ⟨.inr (1, t.2.1), ⟨⟨by omega, by omega⟩, Nat.le_refl _, by omega⟩, fun r hr M cnt hA h10 h3 hrow hc => ?_, fun bc bs Q M P L s hA hs hbc hbs hQ => ?_, fun _ => rfl⟩
        · have n1 : ¬ M 60 15 = 1 := fun z => c1 (nI_inj (k := 1) (by omega) (by omega) (hA.2.1.2.1.symm.trans z))
          have hne : rt_W M 1 t.2.1 60 19 ≠ 0 := by rw [rt_W.v.1]; decide
          refine ⟨rt_W M 1 t.2.1, ?_, rt_W.H2 hr, rt_W.v.1, rt_W.v.2⟩
          unfold tw_readPart tw_readPart_0
          simp only [px_get]
          rw [hA.2.2, if_pos rfl, if_neg (nb hA), if_neg n1, px_cal (rt_mark_er hn hA hT cp), ← nI_succ x1, px_cal (hEd _ hne), px_cal (dd_mark hne)]
        · unfold rd_part rd_part_0
          refine ⟨hA.1.2.1, pd_let ?_⟩
          rw [hA.2.2.1]
          refine rKd_if (i := 1) hKd k4 (by decide) (fun e => absurd e c2) (fun _ => ⟨hA.1.2.1, ?_⟩)
          refine rc_isM (c := 40) hKd hN hA hT hn (by decide) rfl (by decide) ?_
          rw [if_neg cp]
          intro _
          refine pd_add ?_
          rw [if_pos rfl]
          refine ⟨hA.1.2.1, pd_let ?_⟩
          rw [hA.2.2.1]
          refine rKd_if (i := 0) hKd k4 (by decide) (fun e => absurd e c1) (fun _ => ?_)
          unfold rd_part_72
          refine ⟨hA.1.2.1, rc_fault (κ := 1) hA (by omega) (by omega) (fun M' P' L' g1 g2 => ⟨fun _ => ?_, fun z => absurd z (by decide)⟩)⟩
          exact hQ M' P' L' _ _ g1 (g2.up (fun _ _ z => z.elim)) (by omega) (by omega)
end PART
