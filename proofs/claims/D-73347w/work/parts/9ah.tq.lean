/-! READING A LINE, 17: gains, the offset, the two rules -/
section BE
variable {N : dNt} {b : Nat → Int32} {n a0 : Nat} {e8 : Option Nat} {M0 M : cx_M} {P0 P : dP} {L0 L : dL} {J : rJ} {t : rT} {u : rU} {s : Nat}
theorem b_gain {Nt : Nat} (hn : n ≤ 700) (hNt : 705 ≤ Nt) (hN : 1100 ≤ N.1) (hKd : rKD N) (hb0 : ∀ j, j < n → 0 ≤ (b j).toInt) (hT : rTok b n t) (hp : rUp u t) :
    ∃ o, rVp b n t u o ∧ rVt b n t u o (fun M => cx_cal (tw_readNumber Nt M 0 9) fun M1 v2 => cx_put M1 3 12 v2 fun M3 => cx_cal (tw_readNumber Nt M3 0 9) fun M4 v5 => cx_put M4 3 13 v5 fun M6 => some (M6, 0, 0)) ∧
      rVc N b n a0 e8 M0 P0 L0 J t u o (fun bc bs Q M P L k0 m => rd_number N (bc - k0) (bs - m) M P L a0 0 9 (fun M57 P58 L59 v60 r61 e9 k62 n63 => (e9 ≠ 0 → Q M57 P58 L59 v60 none e9 (k0 + k62) (m + n63)) ∧ (e9 = 0 → cd_add k0 k62 m n63 fun k64 n65 =>
        (J.1, (0, 7, 0)) ∈ L59 ∧ cq_put M57 (dc J.1) 2 v60 fun M66 =>
        (a0, (0, 10, 0)) ∈ L59 ∧
        rd_number N (bc - k64) (bs - n65) M66 P58 L59 a0 0 9 (fun M67 P68 L69 v70 r71 e9 k72 n73 => (e9 ≠ 0 → Q M67 P68 L69 v70 none e9 (k64 + k72) (n65 + n73)) ∧ (e9 = 0 → cd_add k64 k72 n65 n73 fun k74 n75 =>
        (J.1, (0, 7, 0)) ∈ L69 ∧ cq_put M67 (dc J.1) 3 v70 fun M76 =>
        Q M76 P68 L69 0 none 0 k74 n75))))) := by
  obtain ⟨k1, k3, k0, k4, kle, ken⟩ := rTok_k hT
  obtain ⟨t', hx'⟩ := rNx_ex (b := b) (n := n) (p := t.2.2) ken
  have hT' : rTok b n t' := ⟨_, hx'⟩
  have hle := hx'.le
  by_cases hq : rNum b t 0 9
  · have kk := k0 (by have := hq.1; omega)
    obtain ⟨j1, j3, j0, j4, jle, jen⟩ := rTok_k hT'
    obtain ⟨t2, hx2⟩ := rNx_ex (b := b) (n := n) (p := t'.2.2) jen
    have hle2 := hx2.le
    have hp1 : rUp (upd u.1 2 (nI (rVal b t.2.1 (t.2.2 - t.2.1))), u.2) t' := hp.num (by omega) hq.2.2 (by decide) (by omega) (by omega) (by omega) (by omega)
    -- behind the first number
    have cl : ∀ (bc bs : Nat) (Q : cd_Qt) (M : cx_M) (P : dP) (L : dL) (k0 m s : Nat), rc_A N b n a0 e8 s t M P L → rc_s a0 s L → rUc N M0 P0 L0 a0 J s u M P L → k0 + 24 * (n + 1 - t.2.1) + 12 ≤ bc → m + 110 * (n + 1 - t.2.1) + 60 ≤ bs →
        (∀ s1 M1 P1 L1 k1 m1, k1 ≤ k0 + 5 → m1 ≤ m + 50 → rc_A N b n a0 e8 s1 t' M1 P1 L1 → rc_s a0 s1 L1 → rUc N M0 P0 L0 a0 J s1 (upd u.1 2 (nI (rVal b t.2.1 (t.2.2 - t.2.1))), u.2) M1 P1 L1 →
          rd_number N (bc - k1) (bs - m1) M1 P1 L1 a0 0 9 (fun M67 P68 L69 v70 r71 e9 k72 n73 => (e9 ≠ 0 → Q M67 P68 L69 v70 none e9 (k1 + k72) (m1 + n73)) ∧ (e9 = 0 → cd_add k1 k72 m1 n73 fun k74 n75 =>
            (J.1, (0, 7, 0)) ∈ L69 ∧ cq_put M67 (dc J.1) 3 v70 fun M76 =>
            Q M76 P68 L69 0 none 0 k74 n75))) →
        rd_number N (bc - k0) (bs - m) M P L a0 0 9 (fun M57 P58 L59 v60 r61 e9 k62 n63 => (e9 ≠ 0 → Q M57 P58 L59 v60 none e9 (k0 + k62) (m + n63)) ∧ (e9 = 0 → cd_add k0 k62 m n63 fun k64 n65 =>
        (J.1, (0, 7, 0)) ∈ L59 ∧ cq_put M57 (dc J.1) 2 v60 fun M66 =>
        (a0, (0, 10, 0)) ∈ L59 ∧
        rd_number N (bc - k64) (bs - n65) M66 P58 L59 a0 0 9 (fun M67 P68 L69 v70 r71 e9 k72 n73 => (e9 ≠ 0 → Q M67 P68 L69 v70 none e9 (k64 + k72) (n65 + n73)) ∧ (e9 = 0 → cd_add k64 k72 n65 n73 fun k74 n75 =>
        (J.1, (0, 7, 0)) ∈ L69 ∧ cq_put M67 (dc J.1) 3 v70 fun M76 =>
        Q M76 P68 L69 0 none 0 k74 n75)))) := by
      intro bc bs Q M P L k0' m s hA hs hU hb1 hb2 hq2
      refine rc_number (lo := 0) (hi := 9) hn hN hKd hA hT hx' (by omega) (by omega) (by decide) (by decide) (fun _ s' M' P' L' kx mx g1 g2 g3 g4 g5 => ⟨fun z => absurd rfl z, fun _ => pd_add ?_⟩) (fun z => absurd hq z)
      have hU' := hU.go hA.1.1 hA.1.2.1 hs g4 g5
      have hA1 := g3.put (k := 2) (v := nI (rVal b t.2.1 (t.2.2 - t.2.1))) hU'.2.2.1.1 (by decide) (by decide) (fun z => dk12)
      exact ⟨hU'.2.2.1.1, pq_put ⟨hA1.1.2.1, hq2 s' _ P' L' _ _ (by omega) (by omega) hA1 (hs.nx g5 (fun y hy => g4.mem hy)) (hU'.put g3.1.1 (by decide))⟩⟩
    by_cases hq2 : rNum b t' 0 9
    · have kk2 := j0 (by have := hq2.1; omega)
      refine ⟨.inl ((upd (upd u.1 2 (nI (rVal b t.2.1 (t.2.2 - t.2.1)))) 3 (nI (rVal b t'.2.1 (t'.2.2 - t'.2.1))), u.2), t2), ⟨⟨_, hx2⟩, by omega, hp1.num (by omega) hq2.2.2 (by decide) (by omega) (by omega) (by omega) (by omega), rfl⟩, fun M hA hU => ?_, fun bc bs Q M P L k0' m s hA hs hU hb1 hb2 hQ => cl bc bs Q M P L k0' m s hA hs hU hb1 hb2 (fun s1 M1 P1 L1 k1' m1 g1 g2 g3 g4 g5 => ?_)⟩
      · obtain ⟨M1, e1, e2, e3⟩ := rt_number_ok (N := Nt) (lo := 0) (hi := 9) hn hNt hb0 hA hT hx' hq (by decide)
        have hA1 := e3.put3 (j := 12) (v := nI (rVal b t.2.1 (t.2.2 - t.2.1)))
        obtain ⟨M2, f1, f2, f3⟩ := rt_number_ok (N := Nt) (lo := 0) (hi := 9) hn hNt hb0 hA1 hT' hx2 hq2 (by decide)
        have e1 : tw_readNumber Nt M 0 9 = _ := e1
        have f1 : tw_readNumber Nt (cx_up M1 3 12 (nI (rVal b t.2.1 (t.2.2 - t.2.1)))) 0 9 = _ := f1
        exact ⟨_, (px_cal e1).trans (px_put.trans ((px_cal f1).trans px_put)), (((e2.G).put3 (k := 2)).tr f2.G).put3 (k := 3), f3.put3, (((hU.F e2).put (k := 2) (by decide)).F f2).put (k := 3) (by decide)⟩
      · refine rc_number (lo := 0) (hi := 9) hn hN hKd g3 hT' hx2 (by omega) (by omega) (by decide) (by decide) (fun _ s' M' P' L' kx mx y1 y2 y3 y4 y5 => ⟨fun z => absurd rfl z, fun _ => pd_add ?_⟩) (fun z => absurd hq2 z)
        have hU' := g5.go g3.1.1 g3.1.2.1 g4 y4 y5
        refine ⟨hU'.2.2.1.1, pq_put ?_⟩
        exact hQ s' _ P' L' _ _ (y3.put hU'.2.2.1.1 (by decide) (by decide) (fun z => dk12)) (g4.nx y5 (fun y hy => y4.mem hy)) (hU'.put y3.1.1 (by decide)) (by omega) (by omega)
    · refine ⟨.inr (if t'.1 = 2 then 2 else 1, t'.2.1), ⟨by split <;> omega, by omega, by omega⟩, fun M hA hU => ?_, fun bc bs Q M P L k0' m s hA hs hU hb1 hb2 hQ => cl bc bs Q M P L k0' m s hA hs hU hb1 hb2 (fun s1 M1 P1 L1 k1' m1 g1 g2 g3 g4 g5 => ?_)⟩
      · obtain ⟨M1, e1, e2, e3⟩ := rt_number_ok (N := Nt) (lo := 0) (hi := 9) hn hNt hb0 hA hT hx' hq (by decide)
        have hA1 := e3.put3 (j := 12) (v := nI (rVal b t.2.1 (t.2.2 - t.2.1)))
        have f1 := rt_number_er (N := Nt) (lo := 0) (hi := 9) hA1 hT' hn (by decide) (by decide) hq2
        have e1 : tw_readNumber Nt M 0 9 = _ := e1
        have f1 : tw_readNumber Nt (cx_up M1 3 12 (nI (rVal b t.2.1 (t.2.2 - t.2.1)))) 0 9 = _ := f1
        refine ⟨_, (px_cal e1).trans (px_put.trans ((px_cal f1).trans px_put)), (((e2.G).put3 (k := 2)).tr rt_W.G).put3 (k := 3), ?_, ?_⟩
        · rw [px_upc (by decide), rt_W.v.1]; split <;> rfl
        · rw [px_upc (by decide), rt_W.v.2]
      · refine rc_number (t' := t2) (lo := 0) (hi := 9) hn hN hKd g3 hT' hx2 (by omega) (by omega) (by decide) (by decide) (fun z => absurd z hq2) (fun _ M' P' L' y1 y2 => ⟨fun _ => ?_, fun z => absurd z (by omega)⟩)
        exact hQ M' P' L' _ _ y1 (g5.bad (y2.up (fun _ _ z => z.elim))) (by omega) (by omega)
  · refine ⟨.inr (if t.1 = 2 then 2 else 1, t.2.1), ⟨by split <;> omega, Nat.le_refl _, by omega⟩, fun M hA hU => ?_, fun bc bs Q M P L k0' m s hA hs hU hb1 hb2 hQ => ?_⟩
    · have e1 := rt_number_er (N := Nt) (lo := 0) (hi := 9) hA hT hn (by decide) (by decide) hq
      have e1 : tw_readNumber Nt M 0 9 = _ := e1
      have hne : cx_up (rt_W M (if t.1 = 2 then 2 else 1) t.2.1) 3 12 0 60 19 ≠ 0 := by rw [px_upc (by decide), rt_W.v.1]; split <;> decide
      refine ⟨_, (px_cal e1).trans (px_put.trans ((px_cal (dd_number hne)).trans px_put)), ((rt_W.G).put3 (k := 2)).put3 (k := 3), ?_, ?_⟩
      · rw [px_upc (by decide), px_upc (by decide), rt_W.v.1]; split <;> rfl
      · rw [px_upc (by decide), px_upc (by decide), rt_W.v.2]
    · refine rc_number (lo := 0) (hi := 9) hn hN hKd hA hT hx' (by omega) (by omega) (by decide) (by decide) (fun z => absurd z hq) (fun _ M' P' L' g1 g2 => ⟨fun _ => ?_, fun z => absurd z (by omega)⟩)
      exact hQ M' P' L' _ _ g1 (hU.bad (g2.up (fun _ _ z => z.elim))) (by omega) (by omega)
theorem rUp.off {t' : rT} {v : Int32} (h : rUp u t) (ht : t.2.1 ≤ t'.2.1) (hv : -99 ≤ v.toInt ∧ v.toInt ≤ 99) : rUp (upd u.1 5 v, u.2) t' := by
  have h' := h.mono (t' := t') ht
  exact ⟨⟨h'.1.1, h'.1.2.1, h'.1.2.2.1, hv⟩, h'.2⟩
theorem nI_99 : ∀ x : Nat, x < 100 → (-99 ≤ (nI x).toInt ∧ (nI x).toInt ≤ 99) ∧ -99 ≤ (-nI x).toInt ∧ (-nI x).toInt ≤ 99 := by decide +kernel
/-- the offset's number, its sign known -/
theorem b_off0 {Nt : Nat} {g : Bool} (hn : n ≤ 700) (hNt : 705 ≤ Nt) (hN : 1100 ≤ N.1) (hKd : rKD N) (hb0 : ∀ j, j < n → 0 ≤ (b j).toInt) (hT : rTok b n t) (hp : rUp u t) :
    ∃ o, rVp b n t u o ∧ rVt b n t u o (fun M => tw_readClause_109 Nt M 4 (if g then 1 else 0)) ∧
      rVc N b n a0 e8 M0 P0 L0 J t u o (fun bc bs Q M P L k0 m => rd_clause_397 N bc bs Q a0 J.1 M P L k0 m (if g then 1 else 0)) := by
  obtain ⟨k1, k3, k0, k4, kle, ken⟩ := rTok_k hT
  obtain ⟨t', hx'⟩ := rNx_ex (b := b) (n := n) (p := t.2.2) ken
  have hle := hx'.le
  have fin : ∀ (M1 : cx_M) (v : Int32), tw_readClause_133 Nt M1 4 15 v = some (cx_up M1 3 (10 + 5) v, 0, 0) := by
    intro M1 v
    unfold tw_readClause_133
    rw [px_st (by decide) (by decide)]
    exact tc_134 (by decide)
  by_cases hq : rNum b t 0 99
  · have kk := k0 (by have := hq.1; omega)
    refine ⟨.inl ((upd u.1 5 (if g then - nI (rVal b t.2.1 (t.2.2 - t.2.1)) else nI (rVal b t.2.1 (t.2.2 - t.2.1))), u.2), t'), ⟨⟨_, hx'⟩, by omega, hp.off (by omega) (by
      have q := nI_99 (rVal b t.2.1 (t.2.2 - t.2.1)) (by have := hq.2.2; omega)
      cases g with
      | true => exact q.2
      | false => exact q.1), rfl⟩, fun M hA hU => ?_, fun bc bs Q M P L k0' m s hA hs hU hb1 hb2 hQ => ?_⟩
    · obtain ⟨M1, e1, e2, e3⟩ := rt_number_ok (N := Nt) (lo := 0) (hi := 99) hn hNt hb0 hA hT hx' hq (by decide)
      have e1 : tw_readNumber Nt M 0 99 = _ := e1
      refine ⟨_, ?_, (e2.G).put3 (k := 5), e3.put3, (hU.F e2).put (k := 5) (by decide)⟩
      show tw_readClause_109 Nt M 4 (if g then 1 else 0) = _
      unfold tw_readClause_109
      rw [px_cal e1]
      cases g with
      | true => exact fin M1 _
      | false => exact fin M1 _
    · unfold rd_clause_397
      refine ⟨hA.1.2.1, ?_⟩
      refine rc_number (lo := 0) (hi := 99) hn hN hKd hA hT hx' (by omega) (by omega) (by decide) (by decide) (fun _ s' M' P' L' kx mx g1 g2 g3 g4 g5 => ⟨fun z => absurd rfl z, fun _ => pd_add ?_⟩) (fun z => absurd hq z)
      have hU' := hU.go hA.1.1 hA.1.2.1 hs g4 g5
      have fin2 := fun v => hQ s' (cx_up M' (dc J.1) 5 v) P' L' (k0' + kx) (m + mx) (g3.put hU'.2.2.1.1 (by decide) (by decide) (fun z => dk12)) (hs.nx g5 (fun y hy => g4.mem hy))
      cases g with
      | true =>
        rw [if_neg (by decide)]
        refine ⟨hU'.2.2.1.1, pq_put ?_⟩
        rw [show nI (rVal b t.2.1 (t.2.2 - t.2.1)) * (-1) = - nI (rVal b t.2.1 (t.2.2 - t.2.1)) by rw [Int32.mul_neg, Int32.mul_one]]
        exact fin2 _ (hU'.put g3.1.1 (by decide)) (by omega) (by omega)
      | false =>
        rw [if_pos (by decide)]
        refine ⟨hU'.2.2.1.1, pq_put ?_⟩
        rw [Int32.mul_one]
        exact fin2 _ (hU'.put g3.1.1 (by decide)) (by omega) (by omega)
  · refine ⟨.inr (if t.1 = 2 then 2 else 1, t.2.1), ⟨by split <;> omega, Nat.le_refl _, by omega⟩, fun M hA hU => ?_, fun bc bs Q M P L k0' m s hA hs hU hb1 hb2 hQ => ?_⟩
    · have e1 := rt_number_er (N := Nt) (lo := 0) (hi := 99) hA hT hn (by decide) (by decide) hq
      have e1 : tw_readNumber Nt M 0 99 = _ := e1
      have key : ∀ v : Int32, tw_readClause_133 Nt (rt_W M (if t.1 = 2 then 2 else 1) t.2.1) 4 15 v = some (cx_up (rt_W M (if t.1 = 2 then 2 else 1) t.2.1) 3 (10 + 5) v, 0, 0) := fun v => fin _ v
      have res : ∀ v : Int32, rt_G M (cx_up (rt_W M (if t.1 = 2 then 2 else 1) t.2.1) 3 (10 + 5) v) ∧ cx_up (rt_W M (if t.1 = 2 then 2 else 1) t.2.1) 3 (10 + 5) v 60 19 = nI (if t.1 = 2 then 2 else 1) ∧ cx_up (rt_W M (if t.1 = 2 then 2 else 1) t.2.1) 3 (10 + 5) v 60 20 = nI t.2.1 := by
        intro v
        refine ⟨(rt_W.G).put3 (k := 5), ?_, ?_⟩
        · rw [px_upc (by decide), rt_W.v.1]; split <;> rfl
        · rw [px_upc (by decide), rt_W.v.2]
      cases g with
      | true =>
        refine ⟨_, ?_, (res (-0)).1, (res (-0)).2.1, (res (-0)).2.2⟩
        show tw_readClause_109 Nt M 4 1 = _
        unfold tw_readClause_109
        rw [px_cal e1]
        exact key _
      | false =>
        refine ⟨_, ?_, (res 0).1, (res 0).2.1, (res 0).2.2⟩
        show tw_readClause_109 Nt M 4 0 = _
        unfold tw_readClause_109
        rw [px_cal e1]
        exact key _
    · unfold rd_clause_397
      refine ⟨hA.1.2.1, ?_⟩
      refine rc_number (lo := 0) (hi := 99) hn hN hKd hA hT hx' (by omega) (by omega) (by decide) (by decide) (fun z => absurd z hq) (fun _ M' P' L' g1 g2 => ⟨fun _ => ?_, fun z => absurd z (by omega)⟩)
      exact hQ M' P' L' _ _ g1 (hU.bad (g2.up (fun _ _ z => z.elim))) (by omega) (by omega)
theorem b_off {Nt : Nat} (hn : n ≤ 700) (hNt : 705 ≤ Nt) (hN : 1100 ≤ N.1) (hKd : rKD N) (hb0 : ∀ j, j < n → 0 ≤ (b j).toInt) (hT : rTok b n t) (hp : rUp u t) :
    ∃ o, rVp b n t u o ∧ rVt b n t u o (fun M => tw_readClause_89 Nt M 4) ∧
      rVc N b n a0 e8 M0 P0 L0 J t u o (fun bc bs Q M P L k0 m => rd_is N (bc - k0) (bs - m) M P L a0 11 (fun M105 P106 L107 v108 r109 e9 k110 n111 => e9 = 0 → cd_add k0 k110 m n111 fun k112 n113 =>
        if v108 = 0 then (
          rd_clause_397 N bc bs Q a0 J.1 M105 P106 L107 k112 n113 v108)
        else (
          (a0, (0, 10, 0)) ∈ L107 ∧
          rd_go N (bc - k112) (bs - n113) M105 P106 L107 a0 (fun M114 P115 L116 v117 r118 e9 k119 n120 => e9 = 0 → cd_add k112 k119 n113 n120 fun k121 n122 =>
          rd_clause_397 N bc bs Q a0 J.1 M114 P115 L116 k121 n122 v108)))) := by
  obtain ⟨k1, k3, k0, k4, kle, ken⟩ := rTok_k hT
  by_cases hq : t.1 = 3 ∧ b t.2.1 = 45
  · have kk := k0 (by have := hq.1; omega)
    obtain ⟨t', hx'⟩ := rNx_ex (b := b) (n := n) (p := t.2.2) ken
    have hT' : rTok b n t' := ⟨_, hx'⟩
    have hle := hx'.le
    obtain ⟨o, p1, p2, p3⟩ := b_off0 (g := true) (a0 := a0) (e8 := e8) (M0 := M0) (P0 := P0) (L0 := L0) (J := J) hn hNt hN hKd hb0 hT' (hp.mono (t' := t') (by omega))
    refine ⟨o, ?_, fun M hA hU => ?_, fun bc bs Q M P L k0' m s hA hs hU hb1 hb2 hQ => ?_⟩
    · match o, p1 with
      | .inl (u', t2), p1 => exact ⟨p1.1, by have := p1.2.1; omega, p1.2.2⟩
      | .inr (κ, pl), p1 => exact ⟨p1.1, by have := p1.2.1; omega, p1.2.2⟩
    · obtain ⟨M1, e1, e2, e3⟩ := rt_next (N := Nt) hn hNt hb0 hA hx'
      have key := p2 M1 e3 (hU.F e2)
      have ee : tw_readClause_89 Nt M 4 = tw_readClause_109 Nt M1 4 1 := by
        unfold tw_readClause_89
        rw [if_pos rfl, px_cal (rt_marked hn hA hT), if_pos hq, if_neg (by decide), px_cal e1]
      match o, key with
      | .inl (u', t2), key =>
        obtain ⟨M4, y1, y2, y3, y4⟩ := key
        exact ⟨M4, ee.trans y1, (e2.G).tr y2, y3, y4⟩
      | .inr (κ, pl), key =>
        obtain ⟨M4, y1, y2, y3, y4⟩ := key
        exact ⟨M4, ee.trans y1, (e2.G).tr y2, y3, y4⟩
    · refine rc_isM (c := 45) hKd hN hA hT hn (by decide) rfl (by decide) ?_
      rw [if_pos hq]
      intro _
      refine pd_add ?_
      rw [if_neg (by decide)]
      refine ⟨hA.1.2.1, ?_⟩
      refine rc_next hn hN hKd hx' hA (by omega) (by omega) (fun s1 M1 P1 L1 k1' m1 g1 g2 g3 g4 g5 => ?_)
      intro _
      refine pd_add ?_
      refine p3 bc bs Q M1 P1 L1 _ _ s1 g3 (hs.nx g5 (fun y hy => g4.mem hy)) (hU.go hA.1.1 hA.1.2.1 hs g4 g5) (by omega) (by omega) ?_
      match o, p1, hQ with
      | .inl (u', t2), p1, hQ =>
        intro s' M' P' L' k' m' y1 y2 y3 y4 y5
        exact hQ s' M' P' L' k' m' y1 y2 y3 (by have := p1.2.1; omega) (by have := p1.2.1; omega)
      | .inr (κ, pl), p1, hQ =>
        intro M' P' L' k' m' y1 y2 y3 y4
        exact hQ M' P' L' k' m' y1 y2 (by have := p1.2.1; omega) (by have := p1.2.1; omega)
  · obtain ⟨o, p1, p2, p3⟩ := b_off0 (g := false) (a0 := a0) (e8 := e8) (M0 := M0) (P0 := P0) (L0 := L0) (J := J) hn hNt hN hKd hb0 hT hp
    refine ⟨o, p1, fun M hA hU => ?_, fun bc bs Q M P L k0' m s hA hs hU hb1 hb2 hQ => ?_⟩
    · have ee : tw_readClause_89 Nt M 4 = tw_readClause_109 Nt M 4 0 := by
        unfold tw_readClause_89
        rw [if_pos rfl, px_cal (rt_marked hn hA hT), if_neg hq, if_pos rfl]
      have key := p2 M hA hU
      match o, key with
      | .inl (u', t2), key =>
        obtain ⟨M4, y1, y2, y3, y4⟩ := key
        exact ⟨M4, ee.trans y1, y2, y3, y4⟩
      | .inr (κ, pl), key =>
        obtain ⟨M4, y1, y2, y3, y4⟩ := key
        exact ⟨M4, ee.trans y1, y2, y3, y4⟩
    · refine rc_isM (c := 45) hKd hN hA hT hn (by decide) rfl (by decide) ?_
      rw [if_neg hq]
      intro _
      refine pd_add ?_
      rw [if_pos rfl]
      exact p3 bc bs Q M P L _ _ s hA hs hU (by omega) (by omega) hQ
end BE
