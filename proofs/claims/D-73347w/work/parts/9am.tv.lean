/-! READING A LINE, 22: a clause with its mark, both; the whole line -/
section STW
variable {N : dNt} {b : Nat → Int32} {n a0 : Nat} {M0 M : cx_M} {P0 P : dP} {L0 L : dL} {J : rJ} {t : rT} {u : rU} {s : Nat}
/-- the program's code of a clause and its mark; R goes on -/
def cStep (N : dNt) (a0 a1 bc bs : Nat) (Q : cd_Qt) (R : cx_M → dP → dL → Nat → Nat → Prop) (M : cx_M) (P : dP) (L : dL) (k n : Nat) : Prop :=
  rd_clause N (bc - k) (bs - n) M P L a0 a1 (fun M2 P3 L4 v5 r6 e9 k7 n8 => (e9 ≠ 0 → Q M2 P3 L4 v5 none e9 (k + k7) (n + n8)) ∧ (e9 = 0 → cd_add k k7 n n8 fun k9 n10 =>
    (a0, (0, 10, 0)) ∈ L4 ∧
    rd_need N (bc - k9) (bs - n10) M2 P3 L4 a0 1 (fun M11 P12 L13 v14 r15 e9 k16 n17 => (e9 ≠ 0 → Q M11 P12 L13 v14 none e9 (k9 + k16) (n10 + n17)) ∧ (e9 = 0 → cd_add k9 k16 n10 n17 fun k18 n19 =>
    R M11 P12 L13 k18 n19))))
theorem rUp.told {j : Nat} {t' : rT} (h : rUp u t) (ht : t.2.1 ≤ t'.2.1) (hj : j < 9) : rUp (uTold u j) t' := by
  obtain ⟨g1, g2, g3, g4, g5, g6, g7, g8⟩ := h.mono (t' := t') ht
  have z : ∀ i, upd u.2.2.2.2 j 1 i = 0 → u.2.2.2.2 i = 0 := by
    intro i hi
    unfold upd at hi
    by_cases c : i = j
    · rw [if_pos c] at hi; exact absurd hi (by decide)
    · rw [if_neg c] at hi; exact hi
  refine ⟨g1, g2, g3, g4, fun i hi => ?_, fun q => g6 (z 6 q), fun q => g7 (z 7 q), fun q => g8 (z 8 q)⟩
  show upd u.2.2.2.2 j 1 i = 0 ∨ upd u.2.2.2.2 j 1 i = 1
  unfold upd
  by_cases c : i = j
  · rw [if_pos c]; exact Or.inr rfl
  · rw [if_neg c]; exact g5 i hi
theorem j_step {Nt : Nat} (hn : n ≤ 700) (hNt : 705 ≤ Nt) (hN : 1100 ≤ N.1) (hKd : rKD N) (hb0 : ∀ j, j < n → 0 ≤ (b j).toInt) (hT : rTok b n t) (h0 : t.1 ≠ 0) (hp : rUp u t) :
    ∃ o : rV, (match o with
      | .inl (u', t') => rTok b n t' ∧ t.2.1 < t'.2.1 ∧ rUp u' t'
      | .inr (κ, pl) => (1 ≤ κ ∧ κ ≤ 5) ∧ t.2.1 ≤ pl ∧ pl ≤ n) ∧
    (∀ (M : cx_M) (x : Int32), rt_A b n t M → rUt u M → rUx u x → match o with
      | .inl (u', t') => ∃ M' x', tw_readLine Nt M x = some (M', x', 0) ∧ rt_G M M' ∧ rt_A b n t' M' ∧ rUt u' M' ∧ rUx u' x'
      | .inr (κ, pl) => ∃ M' x', tw_readLine Nt M x = some (M', x', 0) ∧ rt_G M M' ∧ M' 60 19 = nI κ ∧ M' 60 20 = nI pl) ∧
    (∀ (bc bs : Nat) (Q : cd_Qt) (R : cx_M → dP → dL → Nat → Nat → Prop) (M : cx_M) (P : dP) (L : dL) (k m s : Nat), rc_A N b n a0 (some J.2.2.2.2.1) s t M P L → rc_s a0 s L → rUc N M0 P0 L0 a0 J s u M P L → k + 24 * (n + 1 - t.2.1) + 12 ≤ bc → m + 110 * (n + 1 - t.2.1) + 60 ≤ bs →
      (match o with
      | .inl (u', t') => ∀ s' M' P' L' k' m', rc_A N b n a0 (some J.2.2.2.2.1) s' t' M' P' L' → rc_s a0 s' L' → rUc N M0 P0 L0 a0 J s' u' M' P' L' → k' ≤ k + 24 * (t'.2.1 - t.2.1) → m' ≤ m + 110 * (t'.2.1 - t.2.1) → R M' P' L' k' m'
      | .inr (κ, pl) => ∀ M' P' L' k' m', qd_u L' → qd_J (fun _ => False) M0 P0 L0 M' P' L' → k' ≤ k + 24 * (pl - t.2.1) + 12 → m' ≤ m + 110 * (pl - t.2.1) + 60 → Q M' P' L' (nI pl) none (10 + κ) k' m') → cStep N a0 J.1 bc bs Q R M P L k m) := by
  obtain ⟨k1, k3, k0, k4, kle, ken⟩ := rTok_k hT
  have kk := k0 h0
  by_cases hq : ∃ j, j < 9 ∧ t.1 = 1 ∧ rW b t (twSbyt.getD (4 + j) [])
  · obtain ⟨j, hj, h1, hw⟩ := hq
    have uniq : ∀ i, i < 9 → rW b t (twSbyt.getD (4 + i) []) → i = j := fun i hi hwi => (by decide +kernel : ∀ i, i < 9 → ∀ j, j < 9 → twSbyt.getD (4 + i) [] = twSbyt.getD (4 + j) [] → i = j) i hi j hj (rW_two hwi hw)
    -- the reference finds the word
    have twW : ∀ M : cx_M, rt_A b n t M → tw_which Nt 1 M = some (M, nI j, 0) := by
      intro M hA
      obtain ⟨v, e1, hv⟩ := rt_which (N := Nt) hn hNt hA hT (w := 1) (by decide)
      rcases hv with ⟨i, g1, g2, -, g4⟩ | ⟨-, g2⟩
      · have hi : i < 9 := g1
        rw [e1, g2, uniq i hi g4]
      · exact absurd ⟨h1, hw⟩ (g2 j hj)
    have hne : ¬ nI j = -1 := fun z => by
      have := congrArg Int32.toInt z
      rw [pi_nI (by omega), show (-1 : Int32).toInt = -1 from rfl] at this
      omega
    by_cases hf : u.2.2.2.2 j = 0
    · -- not told before
      obtain ⟨t', hx'⟩ := rNx_ex (b := b) (n := n) (p := t.2.2) ken
      have hT' : rTok b n t' := ⟨_, hx'⟩
      have hle := hx'.le
      have hp1 : rUp (uTold u j) t' := hp.told (by omega) hj
      have hf1 : (uTold u j).2.2.2.2 j = 1 := by show upd u.2.2.2.2 j 1 j = 1; unfold upd; rw [if_pos rfl]
      obtain ⟨-, -, -, -, -, e6, e7, e8⟩ := hp
      obtain ⟨o, p1, p2, p3⟩ := j_body (j := j) (a0 := a0) (e8 := some J.2.2.2.2.1) (M0 := M0) (P0 := P0) (L0 := L0) (J := J) hn hNt hN hKd hb0 hT' hp1 hj hf1 (fun e => e6 (by rw [← e]; exact hf)) (fun e => e7 (by rw [← e]; exact hf)) (fun e => e8 (by rw [← e]; exact hf))
      -- the reference, up to what follows the word
      have tw1 : ∀ (M : cx_M) (x : Int32), rt_A b n t M → rUt u M → rUx u x → ∃ M1, rt_F M M1 ∧ rt_A b n t' M1 ∧ rUt (uTold u j) M1 ∧ ∀ M2, tw_readClause Nt M1 (nI j) = some (M2, 0, 0) → ∀ M3, tw_mark Nt M2 59 = some (M3, 0, 0) → tw_readLine Nt M x = some (M3, x ||| ((1 : Int32) <<< (nI j &&& 31)), 0) := by
        intro M x hA hU hX
        obtain ⟨M1, e1, e2, e3⟩ := rt_next (N := Nt) hn hNt hb0 hA hx'
        have hUF := hU.F e2
        refine ⟨M1, e2, e3, hUF, fun M2 f1 M3 f2 => ?_⟩
        have hnt : ¬ ((x >>> (nI j &&& 31)) &&& 1 = 1) := fun z => by
          have := (hX j hj).mp z
          rw [hf] at this
          exact absurd this (by decide)
        unfold tw_readLine tw_readLine_0
        rw [px_cal (twW M hA), if_neg hne, px_cal tw_isOf_s, if_neg hnt, if_pos rfl]
        unfold tw_readLine_35
        rw [px_get, hA.2.2, if_pos rfl, px_cal e1, px_cal f1, px_cal f2]
      -- the program, up to there
      have cl1 : ∀ (bc bs : Nat) (Q1 : cd_Qt) (M : cx_M) (P : dP) (L : dL) (s : Nat), rc_A N b n a0 (some J.2.2.2.2.1) s t M P L → rc_s a0 s L → rUc N M0 P0 L0 a0 J s u M P L → 24 * (n + 1 - t.2.1) + 12 ≤ bc → 110 * (n + 1 - t.2.1) + 60 ≤ bs → rVq N b n a0 (some J.2.2.2.2.1) M0 P0 L0 J t 0 0 Q1 o → rd_clause N bc bs M P L a0 J.1 Q1 := by
        intro bc bs Q1 M P L s hA hs hU hb1 hb2 hQ
        refine rc_clause hN hKd hn hA hT (by omega) (by omega) (fun _ i hi hwi M' hY hP' h3' => ?_) (fun z => absurd ⟨h1, hw⟩ (z j hj))
        have ei := uniq i hi hwi
        subst ei
        have hYU := hY.up (U' := fun y => y = a0 ∨ y = s) (fun _ _ z => Or.inr z)
        have hU' := hU.go hA.1.1 hA.1.2.1 hs hYU (Or.inl rfl)
        refine rc_238 hn hN hKd hi hP' h3' hs hU' hx' (by omega) (by omega) (fun _ s1 M1 P1 L1 k m g1 g2 g3 g4 g5 => ?_) (fun z => absurd hf z)
        refine p3 bc bs Q1 M1 P1 L1 k m s1 g3 g4 g5 (by omega) (by omega) ?_
        match o, p1, hQ with
        | .inl (u', t2), p1, hQ =>
          intro s' M' P' L' k' m' y1 y2 y3 y4 y5
          exact hQ s' M' P' L' k' m' y1 y2 y3 (by have := p1.2.1; omega) (by have := p1.2.1; omega)
        | .inr (κ, pl), p1, hQ =>
          intro M' P' L' k' m' y1 y2 y3 y4
          exact hQ M' P' L' k' m' y1 y2 (by have := p1.2.1; omega) (by have := p1.2.1; omega)
      match o, p1, p2, cl1 with
      | .inr (κ, pl), p1, p2, cl1 =>
        refine ⟨.inr (κ, pl), ⟨p1.1, by have := p1.2.1; omega, p1.2.2⟩, fun M x hA hU hX => ?_, fun bc bs Q R M P L k m s hA hs hU hb1 hb2 hQ => ?_⟩
        · obtain ⟨M1, e2, e3, e4, e5⟩ := tw1 M x hA hU hX
          obtain ⟨M2, f1, f2, f3, f4⟩ := p2 M1 e3 e4
          have hn2 : M2 60 19 ≠ 0 := fun z => by
            have h11 := p1.1
            have := nI_inj (k := 0) (by omega) (by omega) (f3.symm.trans z)
            omega
          exact ⟨M2, _, e5 M2 f1 M2 (dd_mark hn2), (e2.G).tr f2, f3, f4⟩
        · unfold cStep
          refine cl1 _ _ _ M P L s hA hs hU (by omega) (by omega) ?_
          intro M' P' L' k' m' y1 y2 y3 y4
          exact ⟨fun _ => hQ M' P' L' _ _ y1 y2 (by omega) (by omega), fun z => absurd z (by omega)⟩
      | .inl (u', t2), p1, p2, cl1 =>
        obtain ⟨hT2, q2, q3, q4⟩ := p1
        obtain ⟨i1, i3, i0, i4, ile, ien⟩ := rTok_k hT2
        obtain ⟨t3, hx3⟩ := rNx_ex (b := b) (n := n) (p := t2.2.2) ien
        have hle3 := hx3.le
        by_cases hm : t2.1 = 3 ∧ b t2.2.1 = 59
        · have kk2 := i0 (by have := hm.1; omega)
          refine ⟨.inl (u', t3), ⟨⟨_, hx3⟩, by omega, q3.mono (by omega)⟩, fun M x hA hU hX => ?_, fun bc bs Q R M P L k m s hA hs hU hb1 hb2 hQ => ?_⟩
          · obtain ⟨M1, e2, e3, e4, e5⟩ := tw1 M x hA hU hX
            obtain ⟨M2, f1, f2, f3, f4⟩ := p2 M1 e3 e4
            obtain ⟨M3, g1, g2, g3⟩ := rt_mark_ok (N := Nt) hn hNt hb0 f3 hT2 hx3 hm
            refine ⟨M3, _, e5 M2 f1 M3 g1, ((e2.G).tr f2).tr g2.G, g3, f4.F g2, ?_⟩
            intro i hi
            rw [q4]
            exact hX.told hj i hi
          · unfold cStep
            refine cl1 _ _ _ M P L s hA hs hU (by omega) (by omega) ?_
            intro s' M' P' L' k' m' y1 y2 y3 y4 y5
            refine ⟨fun z => absurd rfl z, fun _ => pd_add ⟨y1.1.2.1, ?_⟩⟩
            refine rc_need (c := 59) hn hN hKd y1 hT2 hx3 (by omega) (by omega) (by decide) rfl (by decide) (fun _ sy M3 P3 L3 k3' m3 z1 z2 z3 z4 z5 => ⟨fun z => absurd rfl z, fun _ => pd_add ?_⟩) (fun z => absurd hm z)
            exact hQ sy M3 P3 L3 _ _ z3 (y2.nx z5 (fun y hy => z4.mem hy)) (y3.go y1.1.1 y1.1.2.1 y2 z4 z5) (by omega) (by omega)
        · refine ⟨.inr (1, t2.2.1), ⟨⟨by omega, by omega⟩, by omega, by omega⟩, fun M x hA hU hX => ?_, fun bc bs Q R M P L k m s hA hs hU hb1 hb2 hQ => ?_⟩
          · obtain ⟨M1, e2, e3, e4, e5⟩ := tw1 M x hA hU hX
            obtain ⟨M2, f1, f2, f3, f4⟩ := p2 M1 e3 e4
            exact ⟨rt_W M2 1 t2.2.1, _, e5 M2 f1 _ (rt_mark_er hn f3 hT2 hm), ((e2.G).tr f2).tr rt_W.G, rt_W.v.1, rt_W.v.2⟩
          · unfold cStep
            refine cl1 _ _ _ M P L s hA hs hU (by omega) (by omega) ?_
            intro s' M' P' L' k' m' y1 y2 y3 y4 y5
            refine ⟨fun z => absurd rfl z, fun _ => pd_add ⟨y1.1.2.1, ?_⟩⟩
            refine rc_need (t' := t3) (c := 59) hn hN hKd y1 hT2 hx3 (by omega) (by omega) (by decide) rfl (by decide) (fun z => absurd z hm) (fun _ M3 P3 L3 z1 z2 => ⟨fun _ => ?_, fun z => absurd z (by decide)⟩)
            exact hQ M3 P3 L3 _ _ z1 (y3.bad (z2.up (fun _ _ z => z.elim))) (by omega) (by omega)
    · -- told before
      have hf1 : u.2.2.2.2 j = 1 := (hp.2.2.2.2.1 j (by omega)).resolve_left hf
      refine ⟨.inr (5, t.2.1), ⟨⟨by omega, by omega⟩, Nat.le_refl _, by omega⟩, fun M x hA hU hX => ?_, fun bc bs Q R M P L k m s hA hs hU hb1 hb2 hQ => ?_⟩
      · refine ⟨rt_W M 5 t.2.1, x, ?_, rt_W.G, rt_W.v.1, rt_W.v.2⟩
        have hn5 : ¬ rt_W M 5 t.2.1 60 19 = 0 := by rw [rt_W.v.1]; decide
        unfold tw_readLine tw_readLine_0
        rw [px_cal (twW M hA), if_neg hne, px_cal tw_isOf_s, if_pos ((hX j hj).mpr hf1), if_neg (by decide), px_cal (rt_wrong hA)]
        unfold tw_readLine_35
        rw [px_get, if_neg hn5]
      · unfold cStep
        refine rc_clause hN hKd hn hA hT (by omega) (by omega) (fun _ i hi hwi M' hY hP' h3' => ?_) (fun z => absurd ⟨h1, hw⟩ (z j hj))
        have ei := uniq i hi hwi
        subst ei
        obtain ⟨t', hx'⟩ := rNx_ex (b := b) (n := n) (p := t.2.2) ken
        have hYU := hY.up (U' := fun y => y = a0 ∨ y = s) (fun _ _ z => Or.inr z)
        have hU' := hU.go hA.1.1 hA.1.2.1 hs hYU (Or.inl rfl)
        refine rc_238 hn hN hKd hi hP' h3' hs hU' hx' (by omega) (by omega) (fun z => absurd z hf) (fun _ M2 P2 L2 g1 g2 => ⟨fun _ => ?_, fun z => absurd z (by decide)⟩)
        exact hQ M2 P2 L2 _ _ g1 (hU'.bad (g2.up (fun _ _ z => z.elim))) (by omega) (by omega)
  · -- none of the nine
    have hq : ∀ j, j < 9 → ¬ (t.1 = 1 ∧ rW b t (twSbyt.getD (4 + j) [])) := fun j hj z => hq ⟨j, hj, z⟩
    refine ⟨.inr (1, t.2.1), ⟨⟨by omega, by omega⟩, Nat.le_refl _, by omega⟩, fun M x hA hU hX => ?_, fun bc bs Q R M P L k m s hA hs hU hb1 hb2 hQ => ?_⟩
    · obtain ⟨v, e1, hv⟩ := rt_which (N := Nt) hn hNt hA hT (w := 1) (by decide)
      have ev : v = -1 := by
        rcases hv with ⟨i, g1, g2, g3, g4⟩ | ⟨g1, -⟩
        · exact absurd ⟨g3, g4⟩ (hq i g1)
        · exact g1
      subst ev
      have hn1 : ¬ rt_W M 1 t.2.1 60 19 = 0 := by rw [rt_W.v.1]; decide
      refine ⟨rt_W M 1 t.2.1, x, ?_, rt_W.G, rt_W.v.1, rt_W.v.2⟩
      unfold tw_readLine tw_readLine_0
      rw [px_cal e1, if_pos rfl, px_cal (rt_wrong hA)]
      unfold tw_readLine_35
      rw [px_get, if_neg hn1]
    · unfold cStep
      refine rc_clause hN hKd hn hA hT (by omega) (by omega) (fun h1 i hi hwi => absurd ⟨h1, hwi⟩ (hq i hi)) (fun _ M' P' L' g1 g2 => ⟨fun _ => ?_, fun z => absurd z (by decide)⟩)
      exact hQ M' P' L' _ _ g1 (hU.bad (g2.up (fun _ _ z => Or.inr z))) (by omega) (by omega)
def wOp (n : Nat) (t : rT) (o : rU ⊕ (Nat × Nat)) : Prop := match o with
  | .inl u' => ∃ t' : rT, t'.2.1 ≤ n ∧ rUp u' t'
  | .inr (κ, pl) => (1 ≤ κ ∧ κ ≤ 5) ∧ t.2.1 ≤ pl ∧ pl ≤ n
/-- all clauses, to the line's end -/
theorem j_whole {Nt : Nat} (hn : n ≤ 700) (hNt : 705 ≤ Nt) (hN : 1100 ≤ N.1) (hKd : rKD N) (hb0 : ∀ j, j < n → 0 ≤ (b j).toInt) : ∀ (w : Nat) (t : rT) (u : rU), rTok b n t → n + 1 - t.2.1 ≤ w → rUp u t →
    ∃ o : rU ⊕ (Nat × Nat), wOp n t o ∧
    (∀ f, w < f → ∀ (M : cx_M) (x : Int32), rt_A b n t M → rUt u M → rUx u x → ∃ M', tw_line_57 Nt f M x = tw_line_80 Nt M' ∧ rt_G M M' ∧ match o with
      | .inl u' => M' 60 19 = 0 ∧ rUt u' M'
      | .inr (κ, pl) => M' 60 19 = nI κ ∧ M' 60 20 = nI pl) ∧
    (∀ f, w ≤ f → ∀ (bc bs : Nat) (Q : cd_Qt) (M : cx_M) (P : dP) (L : dL) (k m s : Nat), rc_A N b n a0 (some J.2.2.2.2.1) s t M P L → rc_s a0 s L → rUc N M0 P0 L0 a0 J s u M P L → k + 24 * (n + 1 - t.2.1) + 12 ≤ bc → m + 110 * (n + 1 - t.2.1) + 60 ≤ bs →
      (match o with
      | .inl u' => ∀ s' M' P' L' k' m', qd_u L' → rUc N M0 P0 L0 a0 J s' u' M' P' L' → k' ≤ k + 24 * (n + 1 - t.2.1) → m' ≤ m + 110 * (n + 1 - t.2.1) → Q M' P' L' 0 (some J.1) 0 k' m'
      | .inr (κ, pl) => ∀ M' P' L' k' m', qd_u L' → qd_J (fun _ => False) M0 P0 L0 M' P' L' → k' ≤ k + 24 * (n + 1 - t.2.1) + 12 → m' ≤ m + 110 * (n + 1 - t.2.1) + 60 → Q M' P' L' (nI pl) none (10 + κ) k' m') → rd_whole_8 N bc bs Q a0 f M P L k m J.1) := by
  intro w
  induction w with
  | zero =>
    intro t u hT hw
    have := (rTok_k hT).2.2.2.2
    omega
  | succ w ih =>
    intro t u hT hw hp
    obtain ⟨k1, k3, k0, k4, kle, ken⟩ := rTok_k hT
    by_cases c0 : t.1 = 0
    · -- the end
      refine ⟨.inl u, ⟨t, by omega, hp⟩, fun f hf M x hA hU hX => ⟨M, ?_, rt_G.rf, hA.2.2, hU⟩, fun f hf bc bs Q M P L k m s hA hs hU hb1 hb2 hQ => ?_⟩
      · obtain ⟨f, rfl⟩ : ∃ q, f = q + 1 := ⟨f - 1, by omega⟩
        show tw_line_57b Nt (tw_line_57 Nt f) M x = _
        unfold tw_line_57b
        simp only [px_get]
        rw [hA.2.2, if_pos rfl, hA.2.1.2.1, if_pos (show nI t.1 = 0 by rw [c0]; rfl)]
      · obtain ⟨f, rfl⟩ : ∃ q, f = q + 1 := ⟨f - 1, by omega⟩
        show rd_whole_8b N bc bs Q a0 (rd_whole_8 N bc bs Q a0 f) M P L k m J.1
        unfold rd_whole_8b
        refine ⟨hA.1.2.1, pd_let ?_⟩
        rw [hA.2.2.1]
        refine rKd_if (i := 4) hKd k4 (by decide) (fun _ => ?_) (fun e => absurd c0 e)
        exact hQ s M P L k m hA.1.1 hU (by omega) (by omega)
    · obtain ⟨o1, p1, p2, p3⟩ := j_step (a0 := a0) (M0 := M0) (P0 := P0) (L0 := L0) (J := J) hn hNt hN hKd hb0 hT c0 hp
      have cls : ∀ (f bc bs : Nat) (Q : cd_Qt) (M : cx_M) (P : dP) (L : dL) (k m s : Nat), rc_A N b n a0 (some J.2.2.2.2.1) s t M P L → cStep N a0 J.1 bc bs Q (fun M P L k m => rd_whole_8 N bc bs Q a0 f M P L k m J.1) M P L k m → rd_whole_8 N bc bs Q a0 (f + 1) M P L k m J.1 := by
        intro f bc bs Q M P L k m s hA hq
        show rd_whole_8b N bc bs Q a0 (rd_whole_8 N bc bs Q a0 f) M P L k m J.1
        unfold rd_whole_8b
        refine ⟨hA.1.2.1, pd_let ?_⟩
        rw [hA.2.2.1]
        exact rKd_if (i := 4) hKd k4 (by decide) (fun e => absurd e c0) (fun _ => ⟨hA.1.2.1, hq⟩)
      have twf : ∀ (f : Nat) (M M' : cx_M) (x x' : Int32), rt_A b n t M → tw_readLine Nt M x = some (M', x', 0) → tw_line_57 Nt (f + 1) M x = tw_line_57 Nt f M' x' := by
        intro f M M' x x' hA e
        show tw_line_57b Nt (tw_line_57 Nt f) M x = _
        unfold tw_line_57b
        simp only [px_get]
        rw [hA.2.2, if_pos rfl, hA.2.1.2.1, if_neg (show ¬ nI t.1 = 0 from fun z => c0 (nI_inj (k := 0) (by omega) (by omega) z)), px_cal e]
      match o1, p1, p2, p3 with
      | .inr (κ, pl), p1, p2, p3 =>
        refine ⟨.inr (κ, pl), p1, fun f hf M x hA hU hX => ?_, fun f hf bc bs Q M P L k m s hA hs hU hb1 hb2 hQ => ?_⟩
        · obtain ⟨M', x', e1, e2, e3, e4⟩ := p2 M x hA hU hX
          obtain ⟨f, rfl⟩ : ∃ q, f = q + 2 := ⟨f - 2, by omega⟩
          refine ⟨M', ?_, e2, e3, e4⟩
          rw [twf (f + 1) M M' x x' hA e1]
          have hne : ¬ M' 60 19 = 0 := fun z => by
            have h11 := p1.1
            have := nI_inj (k := 0) (by omega) (by omega) (e3.symm.trans z)
            omega
          show tw_line_57b Nt (tw_line_57 Nt f) M' x' = _
          unfold tw_line_57b
          rw [px_get, if_neg hne]
        · obtain ⟨f, rfl⟩ : ∃ q, f = q + 1 := ⟨f - 1, by omega⟩
          refine cls f bc bs Q M P L k m s hA (p3 bc bs Q _ M P L k m s hA hs hU hb1 hb2 ?_)
          intro M' P' L' k' m' y1 y2 y3 y4
          exact hQ M' P' L' k' m' y1 y2 (by have := p1.2; omega) (by have := p1.2; omega)
      | .inl (u', t'), p1, p2, p3 =>
        obtain ⟨hT', q2, q3⟩ := p1
        have hk' := rTok_k hT'
        obtain ⟨o2, r1, r2, r3⟩ := ih t' u' hT' (by omega) q3
        have hop : wOp n t o2 := by
          match o2, r1 with
          | .inl u2, r1 => exact r1
          | .inr (κ, pl), r1 => exact ⟨r1.1, by have := r1.2.1; omega, r1.2.2⟩
        refine ⟨o2, hop, fun f hf M x hA hU hX => ?_, fun f hf bc bs Q M P L k m s hA hs hU hb1 hb2 hQ => ?_⟩
        · obtain ⟨M', x', e1, e2, e3, e4, e5⟩ := p2 M x hA hU hX
          obtain ⟨f, rfl⟩ : ∃ q, f = q + 1 := ⟨f - 1, by omega⟩
          obtain ⟨M2, f1, f2, f3⟩ := r2 f (by omega) M' x' e3 e4 e5
          exact ⟨M2, (twf f M M' x x' hA e1).trans f1, e2.tr f2, f3⟩
        · obtain ⟨f, rfl⟩ : ∃ q, f = q + 1 := ⟨f - 1, by omega⟩
          refine cls f bc bs Q M P L k m s hA (p3 bc bs Q _ M P L k m s hA hs hU hb1 hb2 ?_)
          intro s' M' P' L' k' m' y1 y2 y3 y4 y5
          refine r3 f (by omega) bc bs Q M' P' L' k' m' s' y1 y2 y3 (by omega) (by omega) ?_
          match o2, hQ with
          | .inl u2, hQ =>
            intro s2 M2 P2 L2 k2 m2 z1 z2 z3 z4
            exact hQ s2 M2 P2 L2 k2 m2 z1 z2 (by omega) (by omega)
          | .inr (κ, pl), hQ =>
            intro M2 P2 L2 k2 m2 z1 z2 z3 z4
            exact hQ M2 P2 L2 k2 m2 z1 z2 (by omega) (by omega)
end STW
