/-! READING A LINE, 10: one operation behind the other; two parts and what joins them -/
section SEQ
variable {N : dNt} {b : Nat → Int32} {n a0 : Nat} {t t1 : rT} {e8 : Option Nat}
theorem rGq.nx {M M' : cx_M} {P P' : dP} {L L' : dL} {s sx k m k' m' D l0 : Nat} {Q : cd_Qt} {o : rO} (hq : rGq N b n a0 e8 s t M P L k m Q o) (hY : qd_J (fun y => y = a0 ∨ y = s) M P L M' P' L') (hN : rc_N s sx L L') (hk : k' ≤ k + 24 * (t1.2.1 - t.2.1)) (hm : m' ≤ m + 110 * (t1.2.1 - t.2.1)) (ht : t.2.1 ≤ t1.2.1) (hop : rOp b n t1 D l0 o) : rGq N b n a0 e8 sx t1 M' P' L' k' m' Q o := by
  match o, hq, hop with
  | .inl (s', t'), hq, hop =>
    obtain ⟨-, p2, -⟩ := hop
    intro sy M2 P2 L2 k2 m2 x z1 z2 z3 z4 z5 z6
    exact hq sy M2 P2 L2 k2 m2 x z1 (hY.nx hN z2) (rc_N.tr hN z3 (fun x hx => hY.mem hx) (fun x hx => z2.mem hx)) z4 (by omega) (by omega)
  | .inr (κ, pl), hq, hop =>
    obtain ⟨-, p2, p3⟩ := hop
    intro M2 P2 L2 k2 m2 z1 z2 z3 z4
    exact hq M2 P2 L2 k2 m2 z1 (hY.nx hN z2) (by omega) (by omega)
/-- a part, and what follows it -/
theorem cq_seq {s1 : List Int32} {o2 : rO} {D l0 : Nat} {SUB : Nat → Nat → cx_M → dP → dL → cd_Qt → Prop} {LOOP : Nat → Nat → cd_Qt → cx_M → dP → dL → Nat → Nat → Option Nat → Prop} (ht : t.2.1 ≤ t1.2.1) (hen : t1.2.1 ≤ n) (hs : rGf N b n a0 e8 t (.inl (s1, t1)) (fun bc bs Q M P L => SUB bc bs M P L Q)) (hl : rGc N b n a0 e8 s1 t1 o2 LOOP) (hop : rOp b n t1 D l0 o2) :
    rGf N b n a0 e8 t o2 (fun bc bs Q M P L => SUB (bc - 0) (bs - 0) M P L (fun M1 P2 L3 v4 r5 e9 k6 n7 => (e9 ≠ 0 → Q M1 P2 L3 v4 none e9 (0 + k6) (0 + n7)) ∧ (e9 = 0 → cd_add 0 k6 0 n7 fun k8 n9 => LOOP bc bs Q M1 P2 L3 k8 n9 r5))) := by
  intro bc bs Q M P L s hA hs0 hbc hbs hQ
  refine hs _ _ _ M P L s hA hs0 (by omega) (by omega) ?_
  intro sx M' P' L' k' m' x y1 y2 y3 y4 y5 y6
  refine ⟨fun z => absurd rfl z, fun _ => pd_add ?_⟩
  exact hl bc bs Q M' P' L' _ _ sx x y1 (hs0.nx y3 (fun x hx => y2.mem hx)) (fun _ => y4) (by omega) (by omega) (hQ.nx y2 y3 (by omega) (by omega) ht hop)
/-- a part that is at fault -/
theorem cq_seqE {κ pl : Nat} {SUB : Nat → Nat → cx_M → dP → dL → cd_Qt → Prop} {LOOP : Nat → Nat → cd_Qt → cx_M → dP → dL → Nat → Nat → Option Nat → Prop} (hs : rGf N b n a0 e8 t (.inr (κ, pl)) (fun bc bs Q M P L => SUB bc bs M P L Q)) :
    rGf N b n a0 e8 t (.inr (κ, pl)) (fun bc bs Q M P L => SUB (bc - 0) (bs - 0) M P L (fun M1 P2 L3 v4 r5 e9 k6 n7 => (e9 ≠ 0 → Q M1 P2 L3 v4 none e9 (0 + k6) (0 + n7)) ∧ (e9 = 0 → cd_add 0 k6 0 n7 fun k8 n9 => LOOP bc bs Q M1 P2 L3 k8 n9 r5))) := by
  intro bc bs Q M P L s hA hs0 hbc hbs hQ
  refine hs _ _ _ M P L s hA hs0 (by omega) (by omega) ?_
  intro M' P' L' k' m' y1 y2 y3 y4
  exact ⟨fun _ => hQ M' P' L' _ _ y1 y2 (by omega) (by omega), fun z => absurd z (by omega)⟩
theorem pT_len {adr : Nat → Nat} {Lx : dL} {Px : dP} {a1 a2 a : Nat} {s1 s2 : List Int32} {c : Int32} (hc : c ∈ sx_acts) (hm : (a, ((0, 3, 0) : dk)) ∈ Lx) (h0 : nI ((Px a 0).getD 0) = c) (h1 : Px a 1 = some a1) (h2 : Px a 2 = some a2) (q1 : pT adr Lx Px s1.length a1 s1) (q2 : pT adr Lx Px s2.length a2 s2) : pT adr Lx Px (s1 ++ s2 ++ [sx_act c]).length a (s1 ++ s2 ++ [sx_act c]) := by
  have e : (s1 ++ s2 ++ [sx_act c]).length = (s1.length + s2.length) + 1 := by rw [List.length_append, List.length_append]; rfl
  rw [e]
  exact Or.inr (Or.inr (Or.inr ⟨c, a1, a2, s1, s2, hc, rfl, hm, h0, h1, h2, pT_leS (by omega) q1, pT_leS (by omega) q2⟩))
theorem rS_both {s1 s2 : List Int32} {c : Int32} {D D2 : Nat} (hc : c ∈ sx_acts) (q1 : rS s1.length D s1) (q2 : rS s2.length D2 s2) (hD : D2 + 1 ≤ D) : rS (s1 ++ s2 ++ [sx_act c]).length D (s1 ++ s2 ++ [sx_act c]) := by
  have e : (s1 ++ s2 ++ [sx_act c]).length = (s1.length + s2.length) + 1 := by rw [List.length_append, List.length_append]; rfl
  rw [e]
  exact Or.inr (Or.inr (Or.inr ⟨c, s1, s2, D2, hc, rfl, rS_le (by omega) q1, rS_le (by omega) q2, hD⟩))
theorem sx_acts_t {c : Int32} (hc : c ∈ sx_acts) : rb_t c ∧ cx_char c = c := by
  simp only [sx_acts, List.mem_cons, List.not_mem_nil, or_false] at hc
  rcases hc with rfl | rfl | rfl | rfl | rfl | rfl | rfl | rfl <;> exact ⟨⟨by decide, by decide⟩, by decide⟩
/-- the object that joins two parts: made ahead of the second -/
theorem cl_both {t' : rT} {s0 : List Int32} {o1 : rO} {c : Int32} {SUB : Nat → Nat → cx_M → dP → dL → cd_Qt → Prop} {R : cx_M → dP → dL → Nat → Nat → Option Nat → Prop} {D2 : Nat} (hc : c ∈ sx_acts)
    {bc bs : Nat} {Q : cd_Qt} {M M1 : cx_M} {P P1 : dP} {L L1 : dL} {k m k1 m1 s s1 x0 : Nat} (ht : t.2.1 < t'.2.1) (htn : t'.2.1 ≤ n) (g3 : rc_A N b n a0 e8 s1 t' M1 P1 L1) (g4 : qd_J (fun y => y = a0 ∨ y = s) M P L M1 P1 L1) (g5 : rc_N s s1 L L1) (hs : rc_s a0 s L) (hx0 : pT N.2 L1 P1 s0.length x0 s0)
    (hk1 : k1 ≤ k + 5) (hm1 : m1 ≤ m + 50) (hbc : k + 24 * (n + 1 - t.2.1) + 12 ≤ bc) (hbs : m + 110 * (n + 1 - t.2.1) + 60 ≤ bs) (hop : rOp b n t' D2 0 o1) (hsub : rGf N b n a0 e8 t' o1 (fun bc bs Q M P L => SUB bc bs M P L Q))
    (he : ∀ κ pl, o1 = .inr (κ, pl) → ∀ M' P' L' k' m', qd_u L' → qd_J (fun y => y = a0 ∨ y = s) M P L M' P' L' → k' ≤ k + 24 * (pl - t.2.1) + 12 → m' ≤ m + 110 * (pl - t.2.1) + 60 → Q M' P' L' (nI pl) none (10 + κ) k' m')
    (hy : ∀ s2 t2, o1 = .inl (s2, t2) → ∀ sx M' P' L' k' m' x, rc_A N b n a0 e8 sx t2 M' P' L' → qd_J (fun y => y = a0 ∨ y = s) M P L M' P' L' → rc_N s sx L L' → pT N.2 L' P' (s0 ++ s2 ++ [sx_act c]).length x (s0 ++ s2 ++ [sx_act c]) → k' ≤ k + 24 * (t2.2.1 - t.2.1) → m' ≤ m + 110 * (t2.2.1 - t.2.1) → R M' P' L' k' m' (some x)) :
    cd_new bc bs k1 m1 3 (0, 3, 0) M1 P1 L1 fun a21 M22 P23 L24 k25 n26 =>
      (a0, (0, 10, 0)) ∈ L24 ∧
      SUB (bc - k25) (bs - n26) M22 P23 L24 (fun M27 P28 L29 v30 r31 e9 k32 n33 => (e9 ≠ 0 → Q M27 P28 L29 v30 none e9 (k25 + k32) (n26 + n33)) ∧ (e9 = 0 → cd_add k25 k32 n26 n33 fun k34 n35 =>
      rBo_init N (bc - k34) (bs - n35) M27 P28 L29 a21 c (some x0) r31 (fun M36 P37 L38 v39 r40 e9 k41 n42 => e9 = 0 → cd_add k34 k41 n35 n42 fun k43 n44 =>
      R M36 P37 L38 k43 n44 ((some a21))))) := by
  refine pd_new (by omega) (by omega) (fun a ha => ⟨mem_old g3.1.2.1, ?_⟩)
  have hA1 := g3.new (kd := (0, 3, 0)) (f := fun _ => 0) ha
  have hs1 : rc_s a0 s1 L1 := hs.nx g5 (fun x hx => g4.mem hx)
  have hs1' : rc_s a0 s1 (L1 ++ [(a, (0, 3, 0))]) := hs1.imp id mem_old
  have haL : ∀ x ∈ L, x.1 ≠ a := fun x hx => ha x (g4.mem hx)
  have hYn : qd_J (fun y => y = a0 ∨ y = s) M P L (cx_set M1 (dc a) (fun _ => 0)) (dPn P1 a) (L1 ++ [(a, (0, 3, 0))]) := g4.new ha
  have hNn : rc_N s s1 L (L1 ++ [(a, (0, 3, 0))]) := g5.imp id (fun z => ⟨z.1, mem_old z.2⟩)
  refine hsub _ _ _ _ _ _ s1 hA1 hs1' (by omega) (by omega) ?_
  match o1, hop, he, hy with
  | .inr (κ, pl), hop, he, hy =>
    obtain ⟨-, p2, p3⟩ := hop
    intro M' P' L' k' m' y1 y2 y3 y4
    exact ⟨fun _ => he κ pl rfl M' P' L' _ _ y1 (hYn.nx hNn y2) (by omega) (by omega), fun z => absurd z (by omega)⟩
  | .inl (s2, t2), hop, he, hy =>
    obtain ⟨-, p2, p3, -, p5⟩ := hop
    have p3 := p3 rfl
    intro sx M' P' L' k' m' x y1 y2 y3 y4 y5 y6
    refine ⟨fun z => absurd rfl z, fun _ => pd_add ?_⟩
    unfold rBo_init rBo_init_0 rEx_init rEx_init_0
    intro _
    refine pd_add ?_
    have ham : (a, ((0, 3, 0) : dk)) ∈ L' := y2.mem mem_new
    unfold cq_cr
    rw [if_pos (sx_acts_t hc).2]
    refine ⟨ham, pd_putn ⟨ham, pd_put ⟨ham, pd_put ?_⟩⟩⟩
    intro _
    refine pd_add ?_
    have hx1 : pT N.2 (L1 ++ [(a, (0, 3, 0))]) (dPn P1 a) s0.length x0 s0 := pT_fr (fun _ _ => rfl) (fun y hy _ => Or.inr ⟨mem_old hy, dPn_ne (ha y hy)⟩) hx0
    have hx2 : pT N.2 L' P' s0.length x0 s0 := rc_tree hA1.1.1 hA1.1.2.1 hs1' y2 hx1
    have hcv : cd_num c = some c.toInt.toNat := by
      have hct := (sx_acts_t hc).1
      have := cd_num_v (v := c.toInt.toNat) (by have := hct.2; omega)
      rw [← rc_nI hct.1] at this
      exact this
    have hfr : qd_J (fun y => y = a0 ∨ y = s) M P L M' (dPu (dPu (dPu P' a 0 (cd_num c)) a 1 (some x0)) a 2 (some x)) L' := (((hYn.nx hNn y2).ref (fun x hx z => absurd z (haL x hx))).ref (fun x hx z => absurd z (haL x hx))).ref (fun x hx z => absurd z (haL x hx))
    have hA3 : rc_A N b n a0 e8 sx t2 M' (dPu (dPu (dPu P' a 0 (cd_num c)) a 1 (some x0)) a 2 (some x)) L' := ((y1.ref ham (by decide) (by decide)).ref ham (by decide) (by decide)).ref ham (by decide) (by decide)
    have ha0 : a ≠ a0 := fun z => ha _ g3.1.2.1 z.symm
    have has : a ≠ s1 := by
      rcases hs1 with z | z
      · exact fun e => ha0 (e.trans z)
      · exact fun e => ha _ z e.symm
    have hPa : P' a = dPn P1 a a := (y2.2.2 _ mem_new (fun z => z.elim ha0 has)).2
    have hPn : ∀ k, P' a k = none := fun k => by
      rw [hPa]
      unfold dPn
      rw [if_pos rfl]
    have tr : ∀ {h y : Nat} {z : List Int32}, pT N.2 L' P' h y z → pT N.2 L' (dPu (dPu (dPu P' a 0 (cd_num c)) a 1 (some x0)) a 2 (some x)) h y z := fun q => pT_fr (fun _ _ => rfl) (fun y hy _ => by
      by_cases e : y.1 = a
      · exact Or.inl (by rw [e]; exact hPn)
      · exact Or.inr ⟨hy, by rw [dPu_ne e, dPu_ne e, dPu_ne e]⟩) q
    refine hy s2 t2 rfl sx M' _ L' _ _ a hA3 hfr (rc_N.tr hNn y3 (fun x hx => mem_old (g4.mem hx)) (fun x hx => y2.mem hx)) (pT_len hc ham ?_ ?_ ?_ (tr hx2) (tr y4)) (by omega) (by omega)
    · rw [dPu_at, if_neg (by decide), dPu_at, if_neg (by decide), dPu_at, if_pos rfl, hcv]
      exact (rc_nI (sx_acts_t hc).1.1).symm
    · rw [dPu_at, if_neg (by decide), dPu_at, if_pos rfl]
    · rw [dPu_at, if_pos rfl]
/-- the reference: a part, and the sign that joins it -/
theorem tw_both {Nt r cnt : Nat} {t' : rT} {s0 : List Int32} {o1 : rO} {x : Int32} {G : cx_M → Option cx_R} {D2 : Nat} {M : cx_M} (hn : n ≤ 700) (hNt : 705 ≤ Nt) (hb0 : ∀ j, j < n → 0 ≤ (b j).toInt) (hr : r < 2) (hx : rNx b n t.2.2 t') (ht : t.2.1 < t.2.2) (hA : rt_A b n t M) (h10 : M 60 10 = nI r) (h3 : M 3 (18 + r) = nI (cnt + s0.length)) (hrow : ∀ i y, s0[i]? = some y → M (5 + r) (700 + cnt + i) = y) (hc : cnt + s0.length ≤ t.2.1) (hop : rOp b n t' D2 0 o1) (hG : rGt b n r [] t' o1 G) :
    ∃ M1, tw_stepOn Nt M = some (M1, 0, 0) ∧ match o1 with
    | .inl (s1, t1) => ∃ M2 M3, G M1 = some (M2, 0, 0) ∧ tw_lay Nt M2 x = some (M3, 0, 0) ∧ rH2 r cnt M M3 ∧ rt_A b n t1 M3 ∧ M3 60 10 = nI r ∧ M3 3 (18 + r) = nI (cnt + (s0 ++ s1 ++ [x]).length) ∧ (∀ i y, (s0 ++ s1 ++ [x])[i]? = some y → M3 (5 + r) (700 + cnt + i) = y) ∧ cnt + (s0 ++ s1 ++ [x]).length ≤ t1.2.1
    | .inr (κ, pl) => ∃ M2, G M1 = some (M2, 0, 0) ∧ rH2 r cnt M M2 ∧ M2 60 19 = nI κ ∧ M2 60 20 = nI pl ∧ M2 60 19 ≠ 0 := by
  obtain ⟨M1, e1, e2, e3⟩ := rt_next (N := Nt) hn hNt hb0 hA hx
  have hle := hx.le
  have h10' : M1 60 10 = nI r := by rw [e2.2 10 (by decide)]; exact h10
  have h3' : M1 3 (18 + r) = nI (cnt + s0.length + 0) := by rw [e2.1 3 (by decide)]; exact h3
  have key := hG M1 (cnt + s0.length) e3 h10' h3' (fun i y hy => absurd hy (by simp)) (by show cnt + s0.length + 0 ≤ t'.2.1; omega)
  have mono : ∀ {A B : cx_M}, rH2 r (cnt + s0.length) A B → rH2 r cnt A B := fun h => ⟨h.1, h.2.1, h.2.2.1, fun k hk => h.2.2.2 k (by omega)⟩
  refine ⟨M1, e1, ?_⟩
  match o1, hop, key with
  | .inr (κ, pl), hop, key =>
    obtain ⟨p1, -, -⟩ := hop
    obtain ⟨M2, f1, f2, f3, f4⟩ := key
    refine ⟨M2, f1, (e2.H2 hr).tr (mono f2), f3, f4, fun z => ?_⟩
    have := nI_inj (k := 0) (by omega) (by omega) (f3.symm.trans z)
    omega
  | .inl (s1, t1), hop, key =>
    obtain ⟨hT1, p2, p3, p4, p5⟩ := hop
    have p3 := p3 rfl
    obtain ⟨-, -, -, -, kle, ken⟩ := rTok_k hT1
    obtain ⟨M2, f1, f2, f3, f4, f5⟩ := key
    have hl : (s0 ++ s1).length = s0.length + s1.length := List.length_append
    have row2 : ∀ i y, (s0 ++ s1)[i]? = some y → M2 (5 + r) (700 + cnt + i) = y := by
      intro i y hy
      by_cases ci : i < s0.length
      · rw [List.getElem?_append_left ci] at hy
        rw [f2.2.2.2 _ (by omega), e2.1 _ (by omega)]
        exact hrow i y hy
      · rw [List.getElem?_append_right (by omega)] at hy
        have := f5 _ _ hy
        rw [show 700 + cnt + i = 700 + (cnt + s0.length) + (i - s0.length) by omega]
        exact this
    obtain ⟨M3, g1, g2, g3, g4, g5, g6⟩ := rt_laid (N := Nt) (s := s0 ++ s1) (cnt := cnt) (x := x) hr f3 (by rw [f2.bnd]; exact h10') (by rw [f4, hl, Nat.add_assoc]) row2 (by rw [hl]; omega)
    refine ⟨M2, M3, f1, g1, ((e2.H2 hr).tr (mono f2)).tr g2, g3, g4, g5, g6, ?_⟩
    rw [List.length_append, hl]
    show cnt + (s0.length + s1.length + 1) ≤ t1.2.1
    omega
theorem rOp_step {t' : rT} {s0 s1 : List Int32} {x : Int32} {o2 : rO} {D1 D2 : Nat} (h0 : s0 ≠ []) (ht : t.2.1 < t'.2.1) (hop : rOp b n t' D2 0 (.inl (s1, t1))) (h2 : rOp b n t1 D1 (s0 ++ s1 ++ [x]).length o2) : rOp b n t D1 s0.length o2 := by
  obtain ⟨-, p2, p3, -, p5⟩ := hop
  have hl : (s0 ++ s1 ++ [x]).length = s0.length + s1.length + 1 := by rw [List.length_append, List.length_append]; rfl
  rw [hl] at h2
  match o2, h2 with
  | .inl (s, t2), h2 =>
    obtain ⟨q1, q2, -, q4, q5⟩ := h2
    exact ⟨q1, by omega, fun z => absurd (List.length_eq_zero_iff.mp z) h0, q4, by omega⟩
  | .inr (κ, pl), h2 =>
    obtain ⟨q1, q2, q3⟩ := h2
    exact ⟨q1, by omega, q3⟩
theorem rOp_seq {s1 : List Int32} {o2 : rO} {D1 D2 : Nat} (hop : rOp b n t D2 0 (.inl (s1, t1))) (h2 : rOp b n t1 D1 s1.length o2) : rOp b n t D1 0 o2 := by
  obtain ⟨-, p2, p3, -, p5⟩ := hop
  have p3 := p3 rfl
  match o2, h2 with
  | .inl (s, t2), h2 =>
    obtain ⟨q1, q2, -, q4, q5⟩ := h2
    exact ⟨q1, by omega, fun _ => by omega, q4, by omega⟩
  | .inr (κ, pl), h2 =>
    obtain ⟨q1, q2, q3⟩ := h2
    exact ⟨q1, by omega, q3⟩
/-- the reference: a part, and what follows it -/
theorem tq_seq {r D D1 l0 : Nat} {s1 : List Int32} {o2 : rO} {G H : cx_M → Option cx_R} (hs : rGt b n r [] t (.inl (s1, t1)) G) (hl : rGt b n r s1 t1 o2 H) (hp : rOp b n t D 0 (.inl (s1, t1))) (hop : rOp b n t1 D1 l0 o2) : rGt b n r [] t o2 (fun M => cx_cal (G M) fun M1 _ => H M1) := by
  intro M cnt hA h10 h3 hrow hc
  obtain ⟨-, p2, -, -, p5⟩ := hp
  obtain ⟨M1, e1, e2, e3, e4, e5⟩ := hs M cnt hA h10 h3 hrow hc
  have hc0 : cnt + 0 ≤ t.2.1 := hc
  have key := hl M1 cnt e3 (by rw [e2.bnd]; exact h10) e4 e5 (by omega)
  match o2, hop, key with
  | .inl (s, t2), hop, key =>
    obtain ⟨M2, f1, f2, f3, f4, f5⟩ := key
    exact ⟨M2, (px_cal e1).trans f1, e2.tr f2, f3, f4, f5⟩
  | .inr (κ, pl), hop, key =>
    obtain ⟨M2, f1, f2, f3, f4⟩ := key
    exact ⟨M2, (px_cal e1).trans f1, e2.tr f2, f3, f4⟩
theorem tq_seqE {r κ pl D l0 : Nat} {G H : cx_M → Option cx_R} (hs : rGt b n r [] t (.inr (κ, pl)) G) (hop : rOp b n t D l0 (.inr (κ, pl))) (hd : ∀ M, M 60 19 ≠ 0 → H M = some (M, 0, 0)) : rGt b n r [] t (.inr (κ, pl)) (fun M => cx_cal (G M) fun M1 _ => H M1) := by
  intro M cnt hA h10 h3 hrow hc
  obtain ⟨p1, -, -⟩ := hop
  obtain ⟨M1, e1, e2, e3, e4⟩ := hs M cnt hA h10 h3 hrow hc
  have hne : M1 60 19 ≠ 0 := fun z => by
    have := nI_inj (k := 0) (by omega) (by omega) (e3.symm.trans z)
    omega
  exact ⟨M1, (px_cal e1).trans (hd M1 hne), e2, e3, e4⟩
end SEQ
