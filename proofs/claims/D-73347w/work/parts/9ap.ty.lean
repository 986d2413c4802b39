/-! READING A LINE, 25: the program's line: the reader, the new line, the state that begins -/
theorem dPn_at {P : dP} {a k : Nat} : dPn P a a k = none := by unfold dPn; rw [if_pos rfl]
theorem qt_B.J {M M' : cx_M} {P P' : dP} {L L' : dL} {U : Nat → Prop} {a b : Nat} {f : Nat → Int32} (h : qt_B M P L a b f) (hY : qd_J U M P L M' P' L') (ha : ¬ U a) (hb : ¬ U b) : qt_B M' P' L' a b f := by
  obtain ⟨g1, g2, g3, g4, ⟨w, g5, g6, g7⟩, g8, g9⟩ := h
  obtain ⟨e1, e2⟩ := hY.2.2 _ g2 ha
  obtain ⟨e3, -⟩ := hY.2.2 _ g3 hb
  exact ⟨g1, hY.mem g2, hY.mem g3, by rw [e2]; exact g4, ⟨w, g5, by rw [e1]; exact g6, fun q h1 h2 => by rw [e3]; exact g7 q h1 h2⟩, fun q hq => by rw [e3]; exact g8 q hq, g9⟩
section LN
variable {N : dNt} {bc bs : Nat} {M : cx_M} {P : dP} {L : dL} {b : Nat → Int32} {Q : cd_Qt}
/-- the reader begins -/
theorem rd_init_s {n a12 : Nat} {t1 : rT} (hn : n ≤ 700) (hN : 1100 ≤ N.1) (hKd : rKD N) (hx : rNx b n 0 t1) (hu : qd_u L) (ha : (a12, (0, 10, 0)) ∈ L) (h2 : M (dc a12) 2 = 0) (h8 : N.2 508 = 1) (hby : ∀ j, j < n → M 509 j &&& 255 = b j) (hbc : 7 ≤ bc) (hbs : 64 ≤ bs)
    (hy : ∀ a2 b2 s M' P' L' k m, k ≤ 7 → m ≤ 54 → rc_A N b n a12 (some a2) s t1 M' P' L' → rc_s a12 s L' → qt_B M' P' L' a2 b2 (fun _ => 0) → qd_J (fun y => y = a12) M P L M' P' L' → (∀ y ∈ L, y.1 ≠ a2 ∧ y.1 ≠ b2) → (s = a12 ∨ ∀ y ∈ L, y.1 ≠ s) → Q M' P' L' 0 none 0 k m) : rd_init N bc bs M P L a12 (nI n) Q := by
  unfold rd_init rd_init_0
  refine ⟨ha, pd_put (pd_new (by omega) (by omega) (fun a2 ha2 => ?_))⟩
  refine qt_init mem_new (by omega) (by omega) (fun b2 M1 P1 hb2 hB hY1 => ?_)
  intro _
  have n2 : a12 ≠ a2 := ha2 _ ha
  have nb : a12 ≠ b2 := hb2 _ (mem_old ha)
  have hY : qd_J (fun y => y = a12) M P L M1 P1 (L ++ [(a2, (0, 21, 0))] ++ [(b2, (2, 0, 1))]) :=
    (((qd_J.rf (U := fun y => y = a12)).ref (fun _ _ _ => rfl)).new ha2).tr hY1 (fun _ _ z => z) (fun x hx z => absurd z (ha2 x hx))
  have hm : (a12, ((0, 10, 0) : dk)) ∈ L ++ [(a2, ((0, 21, 0) : dk))] ++ [(b2, ((2, 0, 1) : dk))] := mem_old (mem_old ha)
  refine pd_add ⟨hm, pd_put ⟨hm, pd_put ⟨hm, pq_put ⟨hm, ?_⟩⟩⟩⟩
  obtain ⟨e1, e2⟩ := hY1.2.2 (a12, ((0, 10, 0) : dk)) (mem_old ha) n2
  have hu2 : qd_u (L ++ [(a2, ((0, 21, 0) : dk))] ++ [(b2, ((2, 0, 1) : dk))]) := (hu.snoc ha2).snoc hb2
  have hP : rc_P N b n a12 (some a2) 0 (cx_up M1 (dc a12) 1 (nI n)) (dPu (dPu P1 a12 8 (some a2)) a12 0 (some (N.2 509))) (L ++ [(a2, (0, 21, 0))] ++ [(b2, (2, 0, 1))]) := by
    refine ⟨hu2, hm, by rw [dPu_at, if_pos rfl], ⟨h8, by rw [dPu_at, if_neg (by decide), dPu_at, if_pos rfl]⟩, fun j hj => ?_, by rw [px_upd, if_pos rfl], ?_⟩
    · rw [px_upc (dc_lo (by decide)), hY.1 509 (by decide)]; exact hby j hj
    · rw [px_upd, if_neg (by decide), e1, px_setc (dc_ne n2), h2]; rfl
  have hYp : qd_J (fun y => y = a12) M P L (cx_up M1 (dc a12) 1 (nI n)) (dPu (dPu P1 a12 8 (some a2)) a12 0 (some (N.2 509))) (L ++ [(a2, (0, 21, 0))] ++ [(b2, (2, 0, 1))]) := ((hY.ref (fun _ _ _ => rfl)).ref (fun _ _ _ => rfl)).put (fun _ _ _ => rfl)
  have hB' : qt_B (cx_up M1 (dc a12) 1 (nI n)) (dPu (dPu P1 a12 8 (some a2)) a12 0 (some (N.2 509))) (L ++ [(a2, (0, 21, 0))] ++ [(b2, (2, 0, 1))]) a2 b2 (fun _ => 0) :=
    hB.J (U := fun y => y = a12) ((((qd_J.rf (U := fun y => y = a12)).ref (fun _ _ _ => rfl)).ref (fun _ _ _ => rfl)).put (fun _ _ _ => rfl)) n2.symm nb.symm
  refine rc_go (s0 := a12) hn hN hKd hx hP (by omega) (by omega) (fun s M' P' L' k m g1 g2 _ g3 g4 g5 g6 => ?_)
  intro _
  refine pd_add ?_
  refine hy a2 b2 s M' P' L' _ _ (by omega) (by omega) ⟨g3, g4⟩ ?_ (hB'.J g5 n2.symm nb.symm) (hYp.tr g5 (fun _ _ z => z) (fun _ _ z => z)) (fun y hy => ⟨ha2 y hy, hb2 y (mem_old hy)⟩) ?_
  · rcases g6 with e | ⟨-, e⟩
    · exact Or.inl e
    · exact Or.inr e
  · rcases g6 with e | ⟨e, -⟩
    · exact Or.inl e
    · exact Or.inr (fun y hy => e y (mem_old (mem_old hy)))
/-- a new line -/
theorem rLn_s {a1 : Nat} (hu : qd_u L) (ha : (a1, (0, 7, 0)) ∈ L) (h5 : M (dc a1) 5 = 0) (h8 : P a1 8 = none) (h9 : P a1 9 = none) (hbc : 5 ≤ bc) (hbs : 13 ≤ bs)
    (hy : ∀ a7 d a23 a24 M' P' L' k m, k ≤ 5 → m ≤ 13 → qd_u L' → qd_J (fun y => y = a1) M P L M' P' L' → (∀ y ∈ L, y.1 ≠ a7 ∧ y.1 ≠ d ∧ y.1 ≠ a23 ∧ y.1 ≠ a24) → (∀ k, k < 7 → M' (dc a1) k = u0.1 k) → P' a1 7 = some a7 → P' a1 8 = none → P' a1 9 = none → P' a1 10 = some a23 → al_S N M' P' L' a7 d 1 [] → (a23, (0, 14, 0)) ∈ L' → P' a23 0 = some a24 → (a24, (1, 0, 4)) ∈ L' → Q M' P' L' 0 none 0 k m) : rLn_init N bc bs M P L a1 Q := by
  unfold rLn_init rLn_init_0
  refine ⟨ha, pq_put ⟨ha, pq_put ⟨ha, pq_put ⟨ha, pq_put ⟨ha, pq_put ⟨ha, pq_put ?_⟩⟩⟩⟩⟩⟩
  have hM1 : ∀ k, k < 7 → cx_up (cx_up (cx_up (cx_up (cx_up (cx_up M (dc a1) 0 4) (dc a1) 1 12) (dc a1) 2 4) (dc a1) 3 1) (dc a1) 4 8) (dc a1) 6 1 (dc a1) k = u0.1 k := by
    intro k hk
    rcases (show k = 0 ∨ k = 1 ∨ k = 2 ∨ k = 3 ∨ k = 4 ∨ k = 5 ∨ k = 6 by omega) with rfl | rfl | rfl | rfl | rfl | rfl | rfl
    all_goals simp only [px_upd]
    all_goals first | rfl | (rw [if_neg (by decide), if_neg (by decide), if_neg (by decide), if_neg (by decide), if_neg (by decide), if_neg (by decide), h5]; rfl)
  have hY1 : qd_J (fun y => y = a1) M P L (cx_up (cx_up (cx_up (cx_up (cx_up (cx_up M (dc a1) 0 4) (dc a1) 1 12) (dc a1) 2 4) (dc a1) 3 1) (dc a1) 4 8) (dc a1) 6 1) P L :=
    ((((((qd_J.rf (U := fun y => y = a1)).put (fun _ _ _ => rfl)).put (fun _ _ _ => rfl)).put (fun _ _ _ => rfl)).put (fun _ _ _ => rfl)).put (fun _ _ _ => rfl)).put (fun _ _ _ => rfl)
  generalize cx_up (cx_up (cx_up (cx_up (cx_up (cx_up M (dc a1) 0 4) (dc a1) 1 12) (dc a1) 2 4) (dc a1) 3 1) (dc a1) 4 8) (dc a1) 6 1 = M1 at hM1 hY1 ⊢
  refine pd_new (by omega) (by omega) (fun a7 ha7 => ?_)
  unfold jAl_init jAl_init_0 jAbl_initA jAbl_initA_0 jAbc_initA jAbc_initA_0
  intro _
  refine pd_add ⟨mem_new, pq_put ?_⟩
  intro _
  refine pd_add ?_
  rw [if_neg (by decide)]
  refine pd_newa (by decide) (by decide) (pd_new (show 0 + 0 + 1 ≤ bc - (0 + 1) by omega) (show 0 + 0 + 1 ≤ bs - (0 + 3) by omega) (fun d hd => ⟨mem_old mem_new, pd_put ?_⟩))
  intro _
  refine pd_add ⟨mem_old (mem_old ha), pd_put ?_⟩
  refine pd_new (show 0 + 1 + (0 + 0 + 1) + 1 ≤ bc by omega) (show 0 + 3 + (0 + 0 + 1) + 1 ≤ bs by omega) (fun a23 ha23 => ?_)
  unfold rVw_init rVw_init_0
  refine ⟨show 0 + 1 ≤ bc - (0 + 1 + (0 + 0 + 1) + 1) by omega, show 0 + 4 ≤ bs - (0 + 3 + (0 + 0 + 1) + 1) by omega, ?_⟩
  refine pd_newa (by decide) (by decide) (pd_new (show 0 + 1 + 1 ≤ bc - (0 + 1 + (0 + 0 + 1) + 1) by omega) (show 0 + 4 + 4 ≤ bs - (0 + 3 + (0 + 0 + 1) + 1) by omega) (fun a24 ha24 => ⟨mem_old mem_new, pd_put ?_⟩))
  intro _
  have h1 : (a1, ((0, 7, 0) : dk)) ∈ L ++ [(a7, ((0, 20, 0) : dk))] ++ [(d, ((3, 4, 1) : dk))] ++ [(a23, ((0, 14, 0) : dk))] ++ [(a24, ((1, 0, 4) : dk))] := mem_old (mem_old (mem_old (mem_old ha)))
  refine pd_add ⟨h1, pd_put ?_⟩
  have h7m : (a7, ((0, 20, 0) : dk)) ∈ L ++ [(a7, ((0, 20, 0) : dk))] := mem_new
  have n17 : a1 ≠ a7 := ha7 _ ha
  have n1d : a1 ≠ d := hd _ (mem_old ha)
  have n1v : a1 ≠ a23 := ha23 _ (mem_old (mem_old ha))
  have n1w : a1 ≠ a24 := ha24 _ (mem_old (mem_old (mem_old ha)))
  have n7d : a7 ≠ d := hd _ h7m
  have n7v : a7 ≠ a23 := ha23 _ (mem_old h7m)
  have n7w : a7 ≠ a24 := ha24 _ (mem_old (mem_old h7m))
  have nvw : a23 ≠ a24 := ha24 _ mem_new
  have hY := ((((((((((hY1.new (f := fun _ => 0) (kd := (0, 20, 0)) ha7).put (a := a7) (k := 0) (v := 0) (fun x hx e => absurd e (ha7 x hx))).new (f := fun _ => 0) (kd := (3, 4, 1)) hd).ref (a := a7) (k := 1) (v := some d) (fun x hx e => absurd e (ha7 x hx))).ref (a := a1) (k := 7) (v := some a7) (fun _ _ _ => rfl)).new (f := fun _ => 0) (kd := (0, 14, 0)) ha23).new (f := fun _ => 0) (kd := (1, 0, 4)) ha24).ref (a := a23) (k := 0) (v := some a24) (fun x hx e => absurd e (ha23 x (mem_old (mem_old hx))))).ref (a := a1) (k := 10) (v := some a23) (fun _ _ _ => rfl)))
  refine hy a7 d a23 a24 _ _ _ _ _ (by decide) (by decide) ((((hu.snoc ha7).snoc hd).snoc ha23).snoc ha24) hY (fun y hy => ⟨ha7 y hy, hd y (mem_old hy), ha23 y (mem_old (mem_old hy)), ha24 y (mem_old (mem_old (mem_old hy)))⟩) (fun k hk => ?_) ?_ ?_ ?_ ?_ ?_ (mem_old mem_new) ?_ mem_new
  · rw [px_setc (dc_ne n1w), px_setc (dc_ne n1v), px_setc (dc_ne n1d), px_upc (dc_ne n17), px_setc (dc_ne n17)]
    exact hM1 k hk
  · rw [dPu_at, if_neg (by decide), dPu_ne n1v, dPn_ne n1w, dPn_ne n1v, dPu_at, if_pos rfl]
  · rw [dPu_at, if_neg (by decide), dPu_ne n1v, dPn_ne n1w, dPn_ne n1v, dPu_at, if_neg (by decide), dPu_ne n17, dPn_ne n1d, dPn_ne n17]
    exact h8
  · rw [dPu_at, if_neg (by decide), dPu_ne n1v, dPn_ne n1w, dPn_ne n1v, dPu_at, if_neg (by decide), dPu_ne n17, dPn_ne n1d, dPn_ne n17]
    exact h9
  · rw [dPu_at, if_pos rfl]
  · refine ⟨mem_old (mem_old (mem_old h7m)), ?_, mem_old (mem_old mem_new), ?_, ⟨by decide, by decide, by decide⟩, fun i v hv => absurd hv (by simp)⟩
    · rw [dPu_ne n17.symm, dPu_ne n7v, dPn_ne n7w, dPn_ne n7v, dPu_ne n17.symm, dPu_at, if_pos rfl]
    · rw [px_setc (dc_ne n7w), px_setc (dc_ne n7v), px_setc (dc_ne n7d), px_upd, if_neg (by decide), px_new]
      rfl
  · rw [dPu_ne n1v.symm, dPu_at, if_pos rfl]
/-- the state begins -/
theorem dSt_empties_s {q q8 : Nat} (hq : (q, (0, 12, 0)) ∈ L) (hP : P q 37 = some q8) (hq8 : (q8, (1, 0, 64)) ∈ L) : ∀ (d j f : Nat) (M : cx_M), j + d = 64 → d < f → (∀ M', (∀ c, c ≠ dc q8 → M' c = M c) → (∀ k, M' (dc q8) k = if j ≤ k ∧ k < 64 then -1 else M (dc q8) k) → Q M' P L 0 none 0 0 0) → dSt_emptiesD_2 N bc bs Q q f M P L 0 0 (nI j) := by
  intro d
  induction d with
  | zero =>
    intro j f M hj hf hy
    obtain ⟨f, rfl⟩ : ∃ q, f = q + 1 := ⟨f - 1, by omega⟩
    show dSt_emptiesD_2b N bc bs Q q (dSt_emptiesD_2 N bc bs Q q f) M P L 0 0 (nI j)
    unfold dSt_emptiesD_2b
    rw [if_pos (show (64 : Int32) ≤ nI j from nI_le (a := 64) (by omega) (by omega))]
    exact hy M (fun _ _ => rfl) (fun k => by rw [if_neg (by omega)])
  | succ d ih =>
    intro j f M hj hf hy
    obtain ⟨f, rfl⟩ : ∃ q, f = q + 1 := ⟨f - 1, by omega⟩
    have tj := pi_nI (n := j) (by omega)
    show dSt_emptiesD_2b N bc bs Q q (dSt_emptiesD_2 N bc bs Q q f) M P L 0 0 (nI j)
    unfold dSt_emptiesD_2b
    rw [if_neg (show ¬ (64 : Int32) ≤ nI j from nI_ge (b := 64) (by omega) (by omega))]
    refine ⟨hq, pd_let (pd_nn hP ⟨64, hq8, pq_st (by omega) (by omega) (pq_let ?_)⟩)⟩
    rw [pn_I (by omega), ← nI_succ j]
    refine ih (j + 1) f _ (by omega) (by omega) (fun M' h1 h2 => hy M' (fun c hc => by rw [h1 c hc, px_upc hc]) (fun k => ?_))
    rw [h2 k, px_upd]
    by_cases c : k = j
    · subst c
      rw [if_neg (by omega), if_pos rfl, if_pos (by omega)]
    · rw [if_neg c]
      by_cases e : j + 1 ≤ k ∧ k < 64
      · rw [if_pos e, if_pos (by omega)]
      · rw [if_neg e, if_neg (by omega)]
theorem dSt_begins_s {q q8 a1 : Nat} (hN : 1100 ≤ N.1) (hq : (q, (0, 12, 0)) ∈ L) (hP : P q 37 = some q8) (hq8 : (q8, (1, 0, 64)) ∈ L) (h1 : (a1, (0, 7, 0)) ∈ L) (hne : a1 ≠ q) (hne8 : q8 ≠ q)
    (hy : ∀ M', (∀ c, c ≠ dc q8 → c ≠ dc q → M' c = M c) → (∀ k, M' (dc q8) k = if k < 64 then -1 else M (dc q8) k) → (∀ k, M' (dc q) k = if k = 28 then M (dc a1) 5 else if k = 30 then M (dc a1) 1 else if k = 31 then M (dc a1) 2 else if k = 32 then M (dc a1) 3 else if k < 34 then 0 else M (dc q) k) → Q M' P L 0 none 0 0 0) : dSt_beginsD N bc bs M P L q a1 Q := by
  unfold dSt_beginsD dSt_beginsD_0
  iterate 30 refine ⟨hq, pq_put ?_⟩
  have hx : ∀ k, cx_up (cx_up (cx_up (cx_up (cx_up (cx_up (cx_up (cx_up (cx_up (cx_up (cx_up (cx_up (cx_up (cx_up (cx_up (cx_up (cx_up (cx_up (cx_up (cx_up (cx_up (cx_up (cx_up (cx_up (cx_up (cx_up (cx_up (cx_up (cx_up (cx_up M (dc q) 7 0) (dc q) 6 0) (dc q) 5 0) (dc q) 4 0) (dc q) 3 0) (dc q) 2 0) (dc q) 1 0) (dc q) 0 0) (dc q) 8 0) (dc q) 33 0) (dc q) 29 0) (dc q) 27 0) (dc q) 26 0) (dc q) 25 0) (dc q) 24 0) (dc q) 23 0) (dc q) 22 0) (dc q) 21 0) (dc q) 20 0) (dc q) 19 0) (dc q) 18 0) (dc q) 17 0) (dc q) 16 0) (dc q) 15 0) (dc q) 14 0) (dc q) 13 0) (dc q) 12 0) (dc q) 11 0) (dc q) 10 0) (dc q) 9 0 (dc q) k = if k < 28 ∨ k = 29 ∨ k = 33 then 0 else M (dc q) k := by
    intro k
    simp only [px_upd]
    by_cases c : k < 28 ∨ k = 29 ∨ k = 33
    · rw [if_pos c]
      have : k ≤ 33 := by omega
      have key : ∀ k, k ≤ 33 → (k < 28 ∨ k = 29 ∨ k = 33) → ∀ x : Int32, (if k = 9 then 0 else if k = 10 then 0 else if k = 11 then 0 else if k = 12 then 0 else if k = 13 then 0 else if k = 14 then 0 else if k = 15 then 0 else if k = 16 then 0 else if k = 17 then 0 else if k = 18 then 0 else if k = 19 then 0 else if k = 20 then 0 else if k = 21 then 0 else if k = 22 then 0 else if k = 23 then 0 else if k = 24 then 0 else if k = 25 then 0 else if k = 26 then 0 else if k = 27 then 0 else if k = 29 then 0 else if k = 33 then 0 else if k = 8 then 0 else if k = 0 then 0 else if k = 1 then 0 else if k = 2 then 0 else if k = 3 then 0 else if k = 4 then 0 else if k = 5 then 0 else if k = 6 then 0 else if k = 7 then 0 else x) = 0 := by
        intro k hk hk2 x
        match k, hk, hk2 with
        | 0, _, _ => rfl
        | 1, _, _ => rfl
        | 2, _, _ => rfl
        | 3, _, _ => rfl
        | 4, _, _ => rfl
        | 5, _, _ => rfl
        | 6, _, _ => rfl
        | 7, _, _ => rfl
        | 8, _, _ => rfl
        | 9, _, _ => rfl
        | 10, _, _ => rfl
        | 11, _, _ => rfl
        | 12, _, _ => rfl
        | 13, _, _ => rfl
        | 14, _, _ => rfl
        | 15, _, _ => rfl
        | 16, _, _ => rfl
        | 17, _, _ => rfl
        | 18, _, _ => rfl
        | 19, _, _ => rfl
        | 20, _, _ => rfl
        | 21, _, _ => rfl
        | 22, _, _ => rfl
        | 23, _, _ => rfl
        | 24, _, _ => rfl
        | 25, _, _ => rfl
        | 26, _, _ => rfl
        | 27, _, _ => rfl
        | 28, _, h => exact absurd h (by omega)
        | 29, _, _ => rfl
        | 30, _, h => exact absurd h (by omega)
        | 31, _, h => exact absurd h (by omega)
        | 32, _, h => exact absurd h (by omega)
        | 33, _, _ => rfl
        | k + 34, h, _ => exact absurd h (by omega)
      exact key k this c _
    · rw [if_neg c]
      repeat rw [if_neg (by omega)]
  have ho : ∀ c, c ≠ dc q → cx_up (cx_up (cx_up (cx_up (cx_up (cx_up (cx_up (cx_up (cx_up (cx_up (cx_up (cx_up (cx_up (cx_up (cx_up (cx_up (cx_up (cx_up (cx_up (cx_up (cx_up (cx_up (cx_up (cx_up (cx_up (cx_up (cx_up (cx_up (cx_up (cx_up M (dc q) 7 0) (dc q) 6 0) (dc q) 5 0) (dc q) 4 0) (dc q) 3 0) (dc q) 2 0) (dc q) 1 0) (dc q) 0 0) (dc q) 8 0) (dc q) 33 0) (dc q) 29 0) (dc q) 27 0) (dc q) 26 0) (dc q) 25 0) (dc q) 24 0) (dc q) 23 0) (dc q) 22 0) (dc q) 21 0) (dc q) 20 0) (dc q) 19 0) (dc q) 18 0) (dc q) 17 0) (dc q) 16 0) (dc q) 15 0) (dc q) 14 0) (dc q) 13 0) (dc q) 12 0) (dc q) 11 0) (dc q) 10 0) (dc q) 9 0 c = M c := by
    intro c hc
    iterate 30 rw [px_upc hc]
  generalize cx_up (cx_up (cx_up (cx_up (cx_up (cx_up (cx_up (cx_up (cx_up (cx_up (cx_up (cx_up (cx_up (cx_up (cx_up (cx_up (cx_up (cx_up (cx_up (cx_up (cx_up (cx_up (cx_up (cx_up (cx_up (cx_up (cx_up (cx_up (cx_up (cx_up M (dc q) 7 0) (dc q) 6 0) (dc q) 5 0) (dc q) 4 0) (dc q) 3 0) (dc q) 2 0) (dc q) 1 0) (dc q) 0 0) (dc q) 8 0) (dc q) 33 0) (dc q) 29 0) (dc q) 27 0) (dc q) 26 0) (dc q) 25 0) (dc q) 24 0) (dc q) 23 0) (dc q) 22 0) (dc q) 21 0) (dc q) 20 0) (dc q) 19 0) (dc q) 18 0) (dc q) 17 0) (dc q) 16 0) (dc q) 15 0) (dc q) 14 0) (dc q) 13 0) (dc q) 12 0) (dc q) 11 0) (dc q) 10 0) (dc q) 9 0 = M1 at hx ho ⊢
  have hd : dc a1 ≠ dc q := dc_ne hne
  have hd8 : dc q8 ≠ dc q := dc_ne hne8
  refine ⟨h1, pq_get ⟨hq, pq_put ⟨h1, pq_get ⟨hq, pq_put ⟨h1, pq_get ⟨hq, pq_put ⟨h1, pq_get ⟨hq, pq_put ⟨hq, ?_⟩⟩⟩⟩⟩⟩⟩⟩⟩
  unfold dSt_emptiesD dSt_emptiesD_0
  simp only [px_upc hd, ho _ hd]
  refine dSt_empties_s hq hP hq8 64 0 N.1 _ (by decide) (by omega) (fun M' g1 g2 => ?_)
  intro _
  refine pd_add ?_
  refine hy M' (fun c c1 c2 => ?_) (fun k => ?_) (fun k => ?_)
  · rw [g1 c c1, px_upc c2, px_upc c2, px_upc c2, px_upc c2, ho c c2]
  · rw [g2 k, px_upc hd8, px_upc hd8, px_upc hd8, px_upc hd8, ho _ hd8]
    by_cases c : k < 64
    · rw [if_pos ⟨Nat.zero_le _, c⟩, if_pos c]
    · rw [if_neg (fun z => c z.2), if_neg c]
  · rw [g1 _ hd8.symm, px_upd, px_upd, px_upd, px_upd, hx k]
    by_cases e0 : k = 28
    · rw [if_neg (by omega), if_neg (by omega), if_neg (by omega), if_pos e0, if_pos e0]
    by_cases e1 : k = 30
    · rw [if_neg (by omega), if_neg (by omega), if_pos e1, if_neg e0, if_pos e1]
    by_cases e2 : k = 31
    · rw [if_neg (by omega), if_pos e2, if_neg e0, if_neg e1, if_pos e2]
    by_cases e3 : k = 32
    · rw [if_pos e3, if_neg e0, if_neg e1, if_neg e2, if_pos e3]
    rw [if_neg e3, if_neg e2, if_neg e1, if_neg e0, if_neg e0, if_neg e1, if_neg e2, if_neg e3]
    by_cases e4 : k < 34
    · rw [if_pos e4, if_pos (by omega)]
    · rw [if_neg e4, if_neg (by omega)]
end LN
