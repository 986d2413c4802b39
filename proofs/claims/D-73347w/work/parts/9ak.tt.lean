/-! READING A LINE, 20: what is told, once; what follows each of the nine words -/
section CLS
variable {N : dNt} {b : Nat → Int32} {n a0 : Nat} {e8 : Option Nat} {M0 M : cx_M} {P0 P : dP} {L0 L : dL} {J : rJ} {t : rT} {u : rU} {s : Nat}
def uTold (u : rU) (j : Nat) : rU := (u.1, u.2.1, u.2.2.1, u.2.2.2.1, upd u.2.2.2.2 j 1)
/-- the code behind the word, by its number -/
def cBody (N : dNt) (a0 a1 : Nat) : Nat → Nat → Nat → cd_Qt → cx_M → dP → dL → Nat → Nat → Prop
  | 0 => fun bc bs Q M P L k0 m => rd_number N (bc - k0) (bs - m) M P L a0 (nI 1) (nI 8) (fun M19 P20 L21 v22 r23 e9 k24 n25 => (e9 ≠ 0 → Q M19 P20 L21 v22 none e9 (k0 + k24) (m + n25)) ∧ (e9 = 0 → cd_add k0 k24 m n25 fun k26 n27 => (a1, (0, 7, 0)) ∈ L21 ∧ cq_put M19 (dc a1) 0 v22 fun M28 => Q M28 P20 L21 0 none 0 k26 n27))
  | 1 => fun bc bs Q M P L k0 m => rd_number N (bc - k0) (bs - m) M P L a0 (nI 1) (nI 64) (fun M19 P20 L21 v22 r23 e9 k24 n25 => (e9 ≠ 0 → Q M19 P20 L21 v22 none e9 (k0 + k24) (m + n25)) ∧ (e9 = 0 → cd_add k0 k24 m n25 fun k26 n27 => (a1, (0, 7, 0)) ∈ L21 ∧ cq_put M19 (dc a1) 1 v22 fun M28 => Q M28 P20 L21 0 none 0 k26 n27))
  | 2 => fun bc bs Q M P L k0 m => rd_number N (bc - k0) (bs - m) M P L a0 0 9 (fun M57 P58 L59 v60 r61 e9 k62 n63 => (e9 ≠ 0 → Q M57 P58 L59 v60 none e9 (k0 + k62) (m + n63)) ∧ (e9 = 0 → cd_add k0 k62 m n63 fun k64 n65 =>
        (a1, (0, 7, 0)) ∈ L59 ∧ cq_put M57 (dc a1) 2 v60 fun M66 =>
        (a0, (0, 10, 0)) ∈ L59 ∧
        rd_number N (bc - k64) (bs - n65) M66 P58 L59 a0 0 9 (fun M67 P68 L69 v70 r71 e9 k72 n73 => (e9 ≠ 0 → Q M67 P68 L69 v70 none e9 (k64 + k72) (n65 + n73)) ∧ (e9 = 0 → cd_add k64 k72 n65 n73 fun k74 n75 =>
        (a1, (0, 7, 0)) ∈ L69 ∧ cq_put M67 (dc a1) 3 v70 fun M76 =>
        Q M76 P68 L69 0 none 0 k74 n75))))
  | 3 => fun bc bs Q M P L k0 m => rd_number N (bc - k0) (bs - m) M P L a0 (nI 1) (nI 16) (fun M19 P20 L21 v22 r23 e9 k24 n25 => (e9 ≠ 0 → Q M19 P20 L21 v22 none e9 (k0 + k24) (m + n25)) ∧ (e9 = 0 → cd_add k0 k24 m n25 fun k26 n27 => (a1, (0, 7, 0)) ∈ L21 ∧ cq_put M19 (dc a1) 4 v22 fun M28 => Q M28 P20 L21 0 none 0 k26 n27))
  | 4 => fun bc bs Q M P L k0 m => rd_is N (bc - k0) (bs - m) M P L a0 11 (fun M105 P106 L107 v108 r109 e9 k110 n111 => e9 = 0 → cd_add k0 k110 m n111 fun k112 n113 =>
        if v108 = 0 then (
          rd_clause_397 N bc bs Q a0 a1 M105 P106 L107 k112 n113 v108)
        else (
          (a0, (0, 10, 0)) ∈ L107 ∧
          rd_go N (bc - k112) (bs - n113) M105 P106 L107 a0 (fun M114 P115 L116 v117 r118 e9 k119 n120 => e9 = 0 → cd_add k112 k119 n113 n120 fun k121 n122 =>
          rd_clause_397 N bc bs Q a0 a1 M114 P115 L116 k121 n122 v108)))
  | 5 => fun bc bs Q M P L k0 m => rd_number N (bc - k0) (bs - m) M P L a0 (nI 1) (nI 8) (fun M19 P20 L21 v22 r23 e9 k24 n25 => (e9 ≠ 0 → Q M19 P20 L21 v22 none e9 (k0 + k24) (m + n25)) ∧ (e9 = 0 → cd_add k0 k24 m n25 fun k26 n27 => (a1, (0, 7, 0)) ∈ L21 ∧ cq_put M19 (dc a1) 6 v22 fun M28 => Q M28 P20 L21 0 none 0 k26 n27))
  | 6 => fun bc bs Q M P L k0 m => rd_clause_447 N bc bs Q a0 a1 N.1 M P L k0 m
  | 7 => fun bc bs Q M P L k0 m => rd_expr N (bc - k0) (bs - m) M P L a0 0 (fun M160 P161 L162 v163 r164 e9 k165 n166 => (e9 ≠ 0 → Q M160 P161 L162 v163 none e9 (k0 + k165) (m + n166)) ∧ (e9 = 0 → cd_add k0 k165 m n166 fun k167 n168 =>
        (a1, (0, 7, 0)) ∈ L162 ∧ cd_put P161 a1 (8 + 0) r164 fun P169 =>
        Q M160 P169 L162 0 none 0 k167 n168))
  | _ => fun bc bs Q M P L k0 m => rd_expr N (bc - k0) (bs - m) M P L a0 0 (fun M160 P161 L162 v163 r164 e9 k165 n166 => (e9 ≠ 0 → Q M160 P161 L162 v163 none e9 (k0 + k165) (m + n166)) ∧ (e9 = 0 → cd_add k0 k165 m n166 fun k167 n168 =>
        (a1, (0, 7, 0)) ∈ L162 ∧ cd_put P161 a1 (8 + 1) r164 fun P169 =>
        Q M160 P169 L162 0 none 0 k167 n168))
theorem rVt.eq {G H : cx_M → Option cx_R} {o : rV} (h : rVt b n t u o G) (e : ∀ M, H M = G M) : rVt b n t u o H := by
  intro M hA hU
  have key := h M hA hU
  match o, key with
  | .inl (u', t2), key =>
    obtain ⟨M4, y1, y2, y3, y4⟩ := key
    exact ⟨M4, (e M).trans y1, y2, y3, y4⟩
  | .inr (κ, pl), key =>
    obtain ⟨M4, y1, y2, y3, y4⟩ := key
    exact ⟨M4, (e M).trans y1, y2, y3, y4⟩
theorem b_word {Nt : Nat} (hn : n ≤ 700) (hNt : 705 ≤ Nt) (hN : 1100 ≤ N.1) (hKd : rKD N) (hb0 : ∀ j, j < n → 0 ≤ (b j).toInt) (hT : rTok b n t) (hp : rUp u t) (h6 : u.2.2.2.2 6 = 1) (hw : u.2.1 = []) :
    ∃ o, rVp b n t u o ∧ rVt b n t u o (fun M => tw_readWord Nt M) ∧ rVc N b n a0 e8 M0 P0 L0 J t u o (fun bc bs Q M P L k0 m => rd_clause_447 N bc bs Q a0 J.1 N.1 M P L k0 m) := by
  have hk := rTok_k hT
  obtain ⟨o, p1, p2, p3⟩ := b_word_loop (a0 := a0) (e8 := e8) (M0 := M0) (P0 := P0) (L0 := L0) (J := J) hn hNt hN hKd hb0 (n + 1) t u hT (by omega) hp h6
  refine ⟨o, p1, fun M hA hU => ?_, p3 N.1 (by omega)⟩
  have hG : rt_G M (cx_up M 3 (10 + 7) 0) := rt_G.rf.put3
  have hU1 : rUw u (cx_up M 3 17 0) := by
    obtain ⟨h1, -, ⟨h5, h6⟩, ⟨h7, h8⟩⟩ := hU
    have e : ∀ k, k ≠ 17 → cx_up M 3 17 0 3 k = M 3 k := fun k hk => by rw [px_up, if_neg (fun z => hk z.2)]
    refine ⟨fun k hk => by rw [e _ (by omega)]; exact h1 k hk, ⟨?_, fun i v hv => ?_⟩, ⟨by rw [e _ (by decide)]; exact h5, fun i y hy => by rw [px_upc (by decide)]; exact h6 i y hy⟩, ⟨by rw [e _ (by decide)]; exact h7, fun i y hy => by rw [px_upc (by decide)]; exact h8 i y hy⟩⟩
    · rw [px_up, if_pos ⟨rfl, rfl⟩, hw]; rfl
    · rw [hw] at hv; exact absurd hv (by simp)
  have key := p2 Nt (by omega) (cx_up M 3 17 0) hA.put3 hU1
  have ee : tw_readWord Nt M = tw_readWord_8 Nt Nt (cx_up M 3 17 0) := by
    unfold tw_readWord tw_readWord_0
    rw [px_put]
  match o, key with
  | .inl (u', t2), key =>
    obtain ⟨M4, y1, y2, y3, y4⟩ := key
    exact ⟨M4, ee.trans y1, hG.tr y2, y3, y4⟩
  | .inr (κ, pl), key =>
    obtain ⟨M4, y1, y2, y3, y4⟩ := key
    exact ⟨M4, ee.trans y1, hG.tr y2, y3, y4⟩
theorem cx_calF {o : Option cx_R} {f g : cx_M → Int32 → Option cx_R} (h : ∀ M v, f M v = g M v) : cx_cal o f = cx_cal o g := by
  have : f = g := funext (fun M => funext (fun v => h M v))
  rw [this]
theorem j_body {Nt j : Nat} (hn : n ≤ 700) (hNt : 705 ≤ Nt) (hN : 1100 ≤ N.1) (hKd : rKD N) (hb0 : ∀ j, j < n → 0 ≤ (b j).toInt) (hT : rTok b n t) (hp : rUp u t) (hj : j < 9) (hf : u.2.2.2.2 j = 1) (hw : j = 6 → u.2.1 = []) (hd : j = 7 → u.2.2.1 = []) (hl : j = 8 → u.2.2.2.1 = []) :
    ∃ o, rVp b n t u o ∧ rVt b n t u o (fun M => tw_readClause Nt M (nI j)) ∧ rVc N b n a0 e8 M0 P0 L0 J t u o (cBody N a0 J.1 j) := by
  rcases (show j = 0 ∨ j = 1 ∨ j = 2 ∨ j = 3 ∨ j = 4 ∨ j = 5 ∨ j = 6 ∨ j = 7 ∨ j = 8 by omega) with rfl | rfl | rfl | rfl | rfl | rfl | rfl | rfl | rfl
  · obtain ⟨o, p1, p2, p3⟩ := b_num (k := 0) (lo := 1) (hi := 8) (a0 := a0) (e8 := e8) (M0 := M0) (P0 := P0) (L0 := L0) (J := J) hn hNt hN hKd hb0 hT hp (by decide) (by decide) (by decide) (by decide) (by decide) (by decide) (by decide)
    refine ⟨o, p1, p2.eq (fun M => ?_), p3⟩
    show tw_readClause Nt M 0 = _
    unfold tw_readClause tw_readClause_0
    rw [if_pos rfl]
    exact cx_calF (fun M1 v => by rw [px_put, px_put]; exact tc_18 (by decide))
  · obtain ⟨o, p1, p2, p3⟩ := b_num (k := 1) (lo := 1) (hi := 64) (a0 := a0) (e8 := e8) (M0 := M0) (P0 := P0) (L0 := L0) (J := J) hn hNt hN hKd hb0 hT hp (by decide) (by decide) (by decide) (by decide) (by decide) (by decide) (by decide)
    refine ⟨o, p1, p2.eq (fun M => ?_), p3⟩
    show tw_readClause Nt M 1 = _
    unfold tw_readClause tw_readClause_0
    rw [if_neg (by decide)]
    unfold tw_readClause_18
    rw [if_pos rfl]
    exact cx_calF (fun M1 v => by rw [px_put, px_put]; exact tc_37 (by decide))
  · obtain ⟨o, p1, p2, p3⟩ := b_gain (a0 := a0) (e8 := e8) (M0 := M0) (P0 := P0) (L0 := L0) (J := J) hn hNt hN hKd hb0 hT hp
    refine ⟨o, p1, p2.eq (fun M => ?_), p3⟩
    show tw_readClause Nt M 2 = _
    unfold tw_readClause tw_readClause_0
    rw [if_neg (by decide)]
    unfold tw_readClause_18
    rw [if_neg (by decide)]
    unfold tw_readClause_37
    rw [if_pos rfl]
    exact cx_calF (fun M1 v => by rw [px_put, px_put]; exact cx_calF (fun M2 v2 => by rw [px_put, px_put]; exact tc_70 (by decide)))
  · obtain ⟨o, p1, p2, p3⟩ := b_num (k := 4) (lo := 1) (hi := 16) (a0 := a0) (e8 := e8) (M0 := M0) (P0 := P0) (L0 := L0) (J := J) hn hNt hN hKd hb0 hT hp (by decide) (by decide) (by decide) (by decide) (by decide) (by decide) (by decide)
    refine ⟨o, p1, p2.eq (fun M => ?_), p3⟩
    show tw_readClause Nt M 3 = _
    unfold tw_readClause tw_readClause_0
    rw [if_neg (by decide)]
    unfold tw_readClause_18
    rw [if_neg (by decide)]
    unfold tw_readClause_37
    rw [if_neg (by decide)]
    unfold tw_readClause_70
    rw [if_pos rfl]
    exact cx_calF (fun M1 v => by rw [px_put, px_put]; exact tc_89 (by decide))
  · obtain ⟨o, p1, p2, p3⟩ := b_off (a0 := a0) (e8 := e8) (M0 := M0) (P0 := P0) (L0 := L0) (J := J) hn hNt hN hKd hb0 hT hp
    refine ⟨o, p1, p2.eq (fun M => ?_), p3⟩
    show tw_readClause Nt M 4 = _
    unfold tw_readClause tw_readClause_0
    rw [if_neg (by decide)]
    unfold tw_readClause_18
    rw [if_neg (by decide)]
    unfold tw_readClause_37
    rw [if_neg (by decide)]
    unfold tw_readClause_70
    rw [if_neg (by decide)]
  · obtain ⟨o, p1, p2, p3⟩ := b_num (k := 6) (lo := 1) (hi := 8) (a0 := a0) (e8 := e8) (M0 := M0) (P0 := P0) (L0 := L0) (J := J) hn hNt hN hKd hb0 hT hp (by decide) (by decide) (by decide) (by decide) (by decide) (by decide) (by decide)
    refine ⟨o, p1, p2.eq (fun M => ?_), p3⟩
    show tw_readClause Nt M 5 = _
    unfold tw_readClause tw_readClause_0
    rw [if_neg (by decide)]
    unfold tw_readClause_18
    rw [if_neg (by decide)]
    unfold tw_readClause_37
    rw [if_neg (by decide)]
    unfold tw_readClause_70
    rw [if_neg (by decide)]
    unfold tw_readClause_89
    rw [if_neg (by decide)]
    unfold tw_readClause_134
    rw [if_pos rfl]
    exact cx_calF (fun M1 v => by rw [px_put, px_put]; exact tc_153 (by decide))
  · obtain ⟨o, p1, p2, p3⟩ := b_word (a0 := a0) (e8 := e8) (M0 := M0) (P0 := P0) (L0 := L0) (J := J) hn hNt hN hKd hb0 hT hp hf (hw rfl)
    refine ⟨o, p1, fun M hA hU => ?_, p3⟩
    have key := p2 M hA hU
    have ee : ∀ M' : cx_M, tw_readWord Nt M = some (M', 0, 0) → tw_readClause Nt M (nI 6) = some (M', 0, 0) := by
      intro M' e
      show tw_readClause Nt M 6 = _
      unfold tw_readClause tw_readClause_0
      rw [if_neg (by decide)]
      unfold tw_readClause_18
      rw [if_neg (by decide)]
      unfold tw_readClause_37
      rw [if_neg (by decide)]
      unfold tw_readClause_70
      rw [if_neg (by decide)]
      unfold tw_readClause_89
      rw [if_neg (by decide)]
      unfold tw_readClause_134
      rw [if_neg (by decide)]
      unfold tw_readClause_153
      rw [if_pos rfl, px_cal e]
      exact tc_163 (by decide)
    match o, key with
    | .inl (u', t2), key =>
      obtain ⟨M4, y1, y2, y3, y4⟩ := key
      exact ⟨M4, ee M4 y1, y2, y3, y4⟩
    | .inr (κ, pl), key =>
      obtain ⟨M4, y1, y2, y3, y4⟩ := key
      exact ⟨M4, ee M4 y1, y2, y3, y4⟩
  · obtain ⟨o, p1, p2, p3⟩ := b_rule (r := 0) (a0 := a0) (e8 := e8) (M0 := M0) (P0 := P0) (L0 := L0) (J := J) hn hNt hN hKd hb0 hT hp (by decide) (hd rfl) hf
    refine ⟨o, p1, p2.eq (fun M => ?_), p3⟩
    show tw_readClause Nt M 7 = _
    unfold tw_readClause tw_readClause_0
    rw [if_neg (by decide)]
    unfold tw_readClause_18
    rw [if_neg (by decide)]
    unfold tw_readClause_37
    rw [if_neg (by decide)]
    unfold tw_readClause_70
    rw [if_neg (by decide)]
    unfold tw_readClause_89
    rw [if_neg (by decide)]
    unfold tw_readClause_134
    rw [if_neg (by decide)]
    unfold tw_readClause_153
    rw [if_neg (by decide)]
    rfl
  · obtain ⟨o, p1, p2, p3⟩ := b_rule (r := 1) (a0 := a0) (e8 := e8) (M0 := M0) (P0 := P0) (L0 := L0) (J := J) hn hNt hN hKd hb0 hT hp (by decide) (hl rfl) hf
    refine ⟨o, p1, p2.eq (fun M => ?_), p3⟩
    show tw_readClause Nt M 8 = _
    unfold tw_readClause tw_readClause_0
    rw [if_neg (by decide)]
    unfold tw_readClause_18
    rw [if_neg (by decide)]
    unfold tw_readClause_37
    rw [if_neg (by decide)]
    unfold tw_readClause_70
    rw [if_neg (by decide)]
    unfold tw_readClause_89
    rw [if_neg (by decide)]
    unfold tw_readClause_134
    rw [if_neg (by decide)]
    unfold tw_readClause_153
    rw [if_neg (by decide)]
    rfl
/-- told once: the set of what was told grows; on to the next sign -/
theorem rc_once {bc bs j : Nat} {Q : cd_Qt} {t' : rT} (hn : n ≤ 700) (hN : 1100 ≤ N.1) (hKd : rKD N) (hj : j < 9) (hP : rc_P N b n a0 (some J.2.2.2.2.1) t.2.2 M P L) (h3 : M (dc a0) 3 = nI t.2.1) (hs : rc_s a0 s L) (hU : rUc N M0 P0 L0 a0 J s u M P L) (hx : rNx b n t.2.2 t') (hbc : 5 ≤ bc) (hbs : 60 ≤ bs)
    (hy : u.2.2.2.2 j = 0 → ∀ s1 M1 P1 L1 k m, k ≤ 5 → m ≤ 50 → rc_A N b n a0 (some J.2.2.2.2.1) s1 t' M1 P1 L1 → rc_s a0 s1 L1 → rUc N M0 P0 L0 a0 J s1 (uTold u j) M1 P1 L1 → Q M1 P1 L1 0 none 0 k m)
    (he : ¬ u.2.2.2.2 j = 0 → ∀ M' P' L', qd_u L' → qd_J (fun _ => False) M P L M' P' L' → Q M' P' L' (nI t.2.1) none (10 + 5) 1 8) : rd_once N bc bs M P L a0 (nI j) Q := by
  obtain ⟨h1, h2, h4, h5, h6, h7, hab, hb1, hb2, hb3, hb4, hb7, hb8⟩ := id hU
  have hB : qt_B M P L J.2.2.2.2.1 J.2.2.2.2.2 u.2.2.2.2 := ⟨hab, hb1, hb2, hb3, hb4, hb7, hb8⟩
  unfold rd_once rd_once_0
  refine ⟨hP.2.1, pd_let (pd_nn hP.2.2.2.1.2 ⟨hb1, qt_get hB (by omega) ?_⟩)⟩
  intro _
  refine pd_add ?_
  by_cases c : u.2.2.2.2 j = 0
  · rw [if_pos c, if_pos rfl]
    unfold rd_once_17
    refine ⟨hP.2.1, rc_fine ⟨fun z => absurd rfl z, fun _ => pd_add ⟨hP.2.1, pd_let (pd_nn hP.2.2.2.1.2 ⟨hb1, qt_set hB (by omega) (fun M' q1 q2 => ?_)⟩)⟩⟩⟩
    intro _
    have hY : qd_J (fun y => y = J.2.2.2.2.1 ∨ y = J.2.2.2.2.2) M P L M' P L := ⟨fun c hc => q2 c (dc_lo hc) (dc_lo hc), ⟨[], (List.append_nil L).symm, fun y hy => absurd hy (by simp)⟩, fun x hx hu => ⟨q2 _ (dc_ne (fun e => hu (Or.inl e))) (dc_ne (fun e => hu (Or.inr e))), rfl⟩⟩
    have hu := hP.1
    have n0 : ¬ (a0 = J.2.2.2.2.1 ∨ a0 = J.2.2.2.2.2) := fun e => e.elim (fun e => absurd (show ((0, 10, 0) : dk) = (0, 21, 0) from hu _ hP.2.1 _ hb1 e) (by decide)) (fun e => absurd (show ((0, 10, 0) : dk) = (2, 0, 1) from hu _ hP.2.1 _ hb2 e) (by decide))
    have hP' : rc_P N b n a0 (some J.2.2.2.2.1) t.2.2 M' P L := hP.Y hY hu n0
    refine pd_add ⟨hP'.2.1, ?_⟩
    -- what was told stands but for the set
    have hU' : rUc N M0 P0 L0 a0 J s (uTold u j) M' P L := by
      have nt : ∀ c kd, (c, kd) ∈ L → kd ≠ (0, 21, 0) → kd ≠ (2, 0, 1) → M' (dc c) = M (dc c) := by
        intro c kd hc k1 k2
        exact q2 _ (dc_ne (fun e => k1 (hu _ hc _ hb1 e))) (dc_ne (fun e => k2 (hu _ hc _ hb2 e)))
      obtain ⟨i1, i2, i3, i4⟩ := h4
      obtain ⟨d, z, ⟨g1, g2, g3, g4, g5, g6⟩, h11⟩ := h6
      exact ⟨h1.tr hY (fun _ _ q => q) (fun y hy q => q.elim (h2 y hy).2.2.2.2.1 (h2 y hy).2.2.2.2.2), h2, ⟨i1, fun k hk => by rw [nt _ _ i1 (by decide) (by decide)]; exact i2 k hk, i3, i4⟩, h5, ⟨d, z, ⟨g1, g2, g3, by rw [nt _ _ g1 (by decide) (by decide)]; exact g4, g5, g6⟩, h11⟩, h7, q1⟩
    refine rc_go (s0 := s) hn hN hKd hx hP' (by omega) (by omega) (fun s' M2 P2 L2 k m g1 g2 _ g3 g4 g5 g6 => ?_)
    intro _
    refine pd_add ?_
    have hg5 := g5.up (U' := fun y => y = a0 ∨ y = s) (fun _ _ z => Or.inl z)
    exact hy c s' M2 P2 L2 _ _ (by omega) (by omega) ⟨g3, g4⟩ (hs.nx g6 (fun y hy => g5.mem hy)) (hU'.go hu hP'.2.1 hs hg5 g6)
  · rw [if_neg c, if_neg (by decide)]
    unfold rd_once_17
    refine ⟨hP.2.1, rc_fault2 (κ := 5) hP h3 (by omega) (by omega) (fun M' P' L' g1 g2 => ⟨fun _ => ?_, fun z => absurd z (by decide)⟩)⟩
    exact he c M' P' L' g1 g2
end CLS
