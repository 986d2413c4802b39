/-! READING A LINE, 21: a clause with its mark; the whole line -/
section STP
variable {N : dNt} {b : Nat → Int32} {n a0 : Nat} {e8 : Option Nat} {M0 M : cx_M} {P0 P : dP} {L0 L : dL} {J : rJ} {t : rT} {u : rU} {s : Nat}
theorem rd_nine : ∀ j, j < 9 → rdS.getD (2 + j) [] = twSbyt.getD (4 + j) [] := by decide +kernel
/-- which of the nine words it is -/
theorem rc_clause {bc bs a1 : Nat} {Q : cd_Qt} (hN : 1100 ≤ N.1) (hKd : rKD N) (hn : n ≤ 700) (h : rc_A N b n a0 e8 s t M P L) (hT : rTok b n t) (hbc : 1 ≤ bc) (hbs : 8 ≤ bs)
    (hy : t.1 = 1 → ∀ j, j < 9 → rW b t (twSbyt.getD (4 + j) []) → ∀ M', qd_J (fun y => y = s) M P L M' P L → rc_P N b n a0 e8 t.2.2 M' P L → M' (dc a0) 3 = nI t.2.1 → rd_clause_238 N bc bs Q a0 a1 M' P L 0 0 (nI j))
    (he : (∀ j, j < 9 → ¬ (t.1 = 1 ∧ rW b t (twSbyt.getD (4 + j) []))) → ∀ M' P' L', qd_u L' → qd_J (fun y => y = s) M P L M' P' L' → Q M' P' L' (nI t.2.1) none (10 + 1) 1 8) : rd_clause N bc bs M P L a0 a1 Q := by
  obtain ⟨k1, k3, k0, k4, kle, ken⟩ := rTok_k hT
  unfold rd_clause rd_clause_0
  refine ⟨h.1.2.1, pd_let ?_⟩
  rw [h.2.2.1]
  refine rKd_if (i := 0) hKd k4 (by decide) (fun e1 => ?_) (fun e1 => ?_)
  · have h1 : t.1 = 1 := e1
    obtain ⟨kl, -, -⟩ := k1 h1
    obtain ⟨e7, eS⟩ := h.2.2.2.2 (Or.inl h1)
    have hs0 : a0 ≠ s := fun z => absurd (show ((0, 10, 0) : dk) = (0, 17, 0) from h.1.1 _ h.1.2.1 _ eS.1 z) (by decide)
    unfold rd_clause_16
    refine ⟨h.1.2.1, rc_fine ⟨fun z => absurd rfl z, fun _ => pd_add ⟨h.1.2.1, pd_let ?_⟩⟩⟩
    rw [e7]
    refine pd_nn rfl ⟨eS.1, ?_⟩
    refine st_hash eS (by omega) hN (fun M' hM' hc0 => ?_)
    obtain ⟨y1, y2, y3, y4, w, y5, y6, y7, y8⟩ := eS
    have hT2 : (s, (0, 17, 0)) ∈ L ∧ M' (dc s) 1 = 0 ∧ ∃ w, P s 0 = some w ∧ (w, (1, 2, min 12 (t.2.2 - t.2.1))) ∈ L ∧ ∀ i, i < min 12 (t.2.2 - t.2.1) → M' (dc w) i = b (t.2.1 + i) := ⟨y1, hc0, w, y5, y7, fun i hi => by rw [hM' _ (dc_ne y6.symm)]; exact y8 i hi⟩
    have hYs : qd_J (fun y => y = s) M P L M' P L := ⟨fun c hc => hM' c (dc_lo hc), ⟨[], (List.append_nil L).symm, fun y hy => absurd hy (by simp)⟩, fun x hx hu => ⟨hM' _ (dc_ne hu), rfl⟩⟩
    have hP' : rc_P N b n a0 e8 t.2.2 M' P L := h.1.Y hYs h.1.1 hs0
    have h3' : M' (dc a0) 3 = nI t.2.1 := by rw [hM' _ (dc_ne hs0)]; exact h.2.1
    intro _
    refine pd_add ?_
    have none9 : (∀ j, j < 9 → ¬ rW b t (twSbyt.getD (4 + j) [])) → ∀ k m : Nat, k = 0 → m = 0 → rd_clause_238 N bc bs Q a0 a1 M' P L k m (-1) := by
      intro hq k m ek em
      subst ek em
      unfold rd_clause_238
      refine cq_sw_lo (by decide) ⟨hP'.2.1, ?_⟩
      refine rc_fault2 (κ := 1) hP' h3' (by omega) (by omega) (fun M2 P2 L2 g1 g2 => ⟨fun _ => ?_, fun z => absurd z (by decide)⟩)
      exact he (fun j hj z => hq j hj z.2) M2 P2 L2 g1 (hYs.tr g2 (fun _ _ z => z) (fun _ _ z => z.elim))
    have brn : ∀ (c1 j : Nat) (x : Int32), j < 9 → c1 = 2 + j → (∀ j, j < 9 → ¬ rW b t (twSbyt.getD (4 + j) [])) → jS_equalsC N (bc - (0 + 0 + 0)) (bs - (0 + 0 + 0)) M' P L s c1 (fun M11 P12 L13 v14 r15 e9 k16 n17 => e9 = 0 → cd_add (0 + 0 + 0) k16 (0 + 0 + 0) n17 fun k18 n19 => if v14 = 0 then rd_clause_238 N bc bs Q a0 a1 M11 P12 L13 k18 n19 (-1) else rd_clause_238 N bc bs Q a0 a1 M11 P12 L13 k18 n19 x) := by
      intro c1 j x hj ec hq
      subst ec
      refine rc_eqW hN hT hn (by omega) hT2 ?_
      rw [if_neg (by rw [rd_nine j hj]; exact hq j hj)]
      intro _
      refine pd_add ?_
      rw [if_pos rfl]
      exact none9 hq _ _ rfl rfl
    have brt : ∀ (c1 j : Nat) (x : Int32), j < 9 → c1 = 2 + j → x = nI j → rW b t (twSbyt.getD (4 + j) []) → jS_equalsC N (bc - (0 + 0 + 0)) (bs - (0 + 0 + 0)) M' P L s c1 (fun M11 P12 L13 v14 r15 e9 k16 n17 => e9 = 0 → cd_add (0 + 0 + 0) k16 (0 + 0 + 0) n17 fun k18 n19 => if v14 = 0 then rd_clause_238 N bc bs Q a0 a1 M11 P12 L13 k18 n19 (-1) else rd_clause_238 N bc bs Q a0 a1 M11 P12 L13 k18 n19 x) := by
      intro c1 j x hj ec ex hq
      subst ec ex
      refine rc_eqW hN hT hn (by omega) hT2 ?_
      rw [if_pos (by rw [rd_nine j hj]; exact hq)]
      intro _
      refine pd_add ?_
      rw [if_neg (by decide)]
      exact hy h1 j hj hq M' hYs hP' h3'
    by_cases hq : ∃ j, j < 9 ∧ rW b t (twSbyt.getD (4 + j) [])
    · obtain ⟨j, hj, hq⟩ := hq
      have hw : rW b t (rdS.getD (2 + j) []) := by rw [rd_nine j hj]; exact hq
      rw [rH_word hT (by omega) hw]
      rcases (show j = 0 ∨ j = 1 ∨ j = 2 ∨ j = 3 ∨ j = 4 ∨ j = 5 ∨ j = 6 ∨ j = 7 ∨ j = 8 by omega) with rfl | rfl | rfl | rfl | rfl | rfl | rfl | rfl | rfl
      · rw [show rH (rdSf (2 + 0)) (rdSn (2 + 0)) = 3530753 by decide +kernel]
        exact lsw_s (by decide) (lsw_s (by decide) (lsw_s (by decide) (lsw_s (by decide) (lsw_h (by decide) ⟨y1, brt 2 0 0 (by decide) rfl rfl hq⟩))))
      · rw [show rH (rdSf (2 + 1)) (rdSn (2 + 1)) = -880905839 by decide +kernel]
        exact lsw_s (by decide) (lsw_h (by decide) ⟨y1, brt 3 1 1 (by decide) rfl rfl hq⟩)
      · rw [show rH (rdSf (2 + 2)) (rdSn (2 + 2)) = 3165055 by decide +kernel]
        exact lsw_s (by decide) (lsw_s (by decide) (lsw_h (by decide) ⟨y1, brt 4 2 2 (by decide) rfl rfl hq⟩))
      · rw [show rH (rdSf (2 + 3)) (rdSn (2 + 3)) = 96891675 by decide +kernel]
        exact lsw_s (by decide) (lsw_s (by decide) (lsw_s (by decide) (lsw_s (by decide) (lsw_s (by decide) (lsw_s (by decide) (lsw_s (by decide) (lsw_h (by decide) ⟨y1, brt 5 3 3 (by decide) rfl rfl hq⟩)))))))
      · rw [show rH (rdSf (2 + 4)) (rdSn (2 + 4)) = -1019779949 by decide +kernel]
        exact lsw_h (by decide) ⟨y1, brt 6 4 4 (by decide) rfl rfl hq⟩
      · rw [show rH (rdSf (2 + 5)) (rdSn (2 + 5)) = 97692013 by decide +kernel]
        exact lsw_s (by decide) (lsw_s (by decide) (lsw_s (by decide) (lsw_s (by decide) (lsw_s (by decide) (lsw_s (by decide) (lsw_s (by decide) (lsw_s (by decide) (lsw_h (by decide) ⟨y1, brt 7 5 5 (by decide) rfl rfl hq⟩))))))))
      · rw [show rH (rdSf (2 + 6)) (rdSn (2 + 6)) = 3655434 by decide +kernel]
        exact lsw_s (by decide) (lsw_s (by decide) (lsw_s (by decide) (lsw_s (by decide) (lsw_s (by decide) (lsw_h (by decide) ⟨y1, brt 8 6 6 (by decide) rfl rfl hq⟩)))))
      · rw [show rH (rdSf (2 + 7)) (rdSn (2 + 7)) = 95467907 by decide +kernel]
        exact lsw_s (by decide) (lsw_s (by decide) (lsw_s (by decide) (lsw_s (by decide) (lsw_s (by decide) (lsw_s (by decide) (lsw_h (by decide) ⟨y1, brt 9 7 7 (by decide) rfl rfl hq⟩))))))
      · rw [show rH (rdSf (2 + 8)) (rdSn (2 + 8)) = 3327780 by decide +kernel]
        exact lsw_s (by decide) (lsw_s (by decide) (lsw_s (by decide) (lsw_h (by decide) ⟨y1, brt 10 8 8 (by decide) rfl rfl hq⟩)))
    · have hq : ∀ j, j < 9 → ¬ rW b t (twSbyt.getD (4 + j) []) := fun j hj z => hq ⟨j, hj, z⟩
      refine lsw_all _ ?_ (none9 hq _ _ rfl rfl)
      exact List.forall_mem_cons.mpr ⟨⟨y1, brn 6 4 4 (by decide) rfl hq⟩, List.forall_mem_cons.mpr ⟨⟨y1, brn 3 1 1 (by decide) rfl hq⟩, List.forall_mem_cons.mpr ⟨⟨y1, brn 4 2 2 (by decide) rfl hq⟩, List.forall_mem_cons.mpr ⟨⟨y1, brn 10 8 8 (by decide) rfl hq⟩, List.forall_mem_cons.mpr ⟨⟨y1, brn 2 0 0 (by decide) rfl hq⟩, List.forall_mem_cons.mpr ⟨⟨y1, brn 8 6 6 (by decide) rfl hq⟩, List.forall_mem_cons.mpr ⟨⟨y1, brn 9 7 7 (by decide) rfl hq⟩, List.forall_mem_cons.mpr ⟨⟨y1, brn 5 3 3 (by decide) rfl hq⟩, List.forall_mem_cons.mpr ⟨⟨y1, brn 7 5 5 (by decide) rfl hq⟩, fun p hp => absurd hp (by simp)⟩⟩⟩⟩⟩⟩⟩⟩⟩
  · have e1 : ¬ t.1 = 1 := e1
    unfold rd_clause_16
    refine ⟨h.1.2.1, rc_fault (κ := 1) h (by omega) (by omega) (fun M' P' L' g1 g2 => ⟨fun _ => ?_, fun z => absurd z (by decide)⟩)⟩
    exact he (fun j _ z => e1 z.1) M' P' L' g1 (g2.up (fun _ _ z => z.elim))
/-- a branch of the nine: once, then its code -/
theorem rc_238 {bc bs j : Nat} {Q : cd_Qt} {t' : rT} (hn : n ≤ 700) (hN : 1100 ≤ N.1) (hKd : rKD N) (hj : j < 9) (hP : rc_P N b n a0 (some J.2.2.2.2.1) t.2.2 M P L) (h3 : M (dc a0) 3 = nI t.2.1) (hs : rc_s a0 s L) (hU : rUc N M0 P0 L0 a0 J s u M P L) (hx : rNx b n t.2.2 t') (hbc : 5 ≤ bc) (hbs : 60 ≤ bs)
    (key : u.2.2.2.2 j = 0 → ∀ s1 M1 P1 L1 k m, k ≤ 5 → m ≤ 50 → rc_A N b n a0 (some J.2.2.2.2.1) s1 t' M1 P1 L1 → rc_s a0 s1 L1 → rUc N M0 P0 L0 a0 J s1 (uTold u j) M1 P1 L1 → cBody N a0 J.1 j bc bs Q M1 P1 L1 k m)
    (bad : ¬ u.2.2.2.2 j = 0 → ∀ M' P' L', qd_u L' → qd_J (fun _ => False) M P L M' P' L' → Q M' P' L' (nI t.2.1) none (10 + 5) (0 + 1) (0 + 8)) : rd_clause_238 N bc bs Q a0 J.1 M P L 0 0 (nI j) := by
  unfold rd_clause_238
  rcases (show j = 0 ∨ j = 1 ∨ j = 2 ∨ j = 3 ∨ j = 4 ∨ j = 5 ∨ j = 6 ∨ j = 7 ∨ j = 8 by omega) with rfl | rfl | rfl | rfl | rfl | rfl | rfl | rfl | rfl
  · exact cq_sw_at 0 (by decide) rfl ⟨hP.2.1, rc_once (j := 0) hn hN hKd hj hP h3 hs hU hx (by omega) (by omega) (fun c s1 M1 P1 L1 k m g1 g2 g3 g4 g5 => ⟨fun z => absurd rfl z, fun _ => pd_add (⟨g3.1.2.1, key c s1 M1 P1 L1 (0 + k) (0 + m) (by omega) (by omega) g3 g4 g5⟩)⟩) (fun c M' P' L' g1 g2 => ⟨fun _ => bad c M' P' L' g1 g2, fun z => absurd z (by decide)⟩)⟩
  · exact cq_sw_at 1 (by decide) rfl ⟨hP.2.1, rc_once (j := 1) hn hN hKd hj hP h3 hs hU hx (by omega) (by omega) (fun c s1 M1 P1 L1 k m g1 g2 g3 g4 g5 => ⟨fun z => absurd rfl z, fun _ => pd_add (⟨g3.1.2.1, key c s1 M1 P1 L1 (0 + k) (0 + m) (by omega) (by omega) g3 g4 g5⟩)⟩) (fun c M' P' L' g1 g2 => ⟨fun _ => bad c M' P' L' g1 g2, fun z => absurd z (by decide)⟩)⟩
  · exact cq_sw_at 2 (by decide) rfl ⟨hP.2.1, rc_once (j := 2) hn hN hKd hj hP h3 hs hU hx (by omega) (by omega) (fun c s1 M1 P1 L1 k m g1 g2 g3 g4 g5 => ⟨fun z => absurd rfl z, fun _ => pd_add (⟨g3.1.2.1, key c s1 M1 P1 L1 (0 + k) (0 + m) (by omega) (by omega) g3 g4 g5⟩)⟩) (fun c M' P' L' g1 g2 => ⟨fun _ => bad c M' P' L' g1 g2, fun z => absurd z (by decide)⟩)⟩
  · exact cq_sw_at 3 (by decide) rfl ⟨hP.2.1, rc_once (j := 3) hn hN hKd hj hP h3 hs hU hx (by omega) (by omega) (fun c s1 M1 P1 L1 k m g1 g2 g3 g4 g5 => ⟨fun z => absurd rfl z, fun _ => pd_add (⟨g3.1.2.1, key c s1 M1 P1 L1 (0 + k) (0 + m) (by omega) (by omega) g3 g4 g5⟩)⟩) (fun c M' P' L' g1 g2 => ⟨fun _ => bad c M' P' L' g1 g2, fun z => absurd z (by decide)⟩)⟩
  · exact cq_sw_at 4 (by decide) rfl ⟨hP.2.1, rc_once (j := 4) hn hN hKd hj hP h3 hs hU hx (by omega) (by omega) (fun c s1 M1 P1 L1 k m g1 g2 g3 g4 g5 => ⟨fun z => absurd rfl z, fun _ => pd_add (⟨g3.1.2.1, key c s1 M1 P1 L1 (0 + k) (0 + m) (by omega) (by omega) g3 g4 g5⟩)⟩) (fun c M' P' L' g1 g2 => ⟨fun _ => bad c M' P' L' g1 g2, fun z => absurd z (by decide)⟩)⟩
  · exact cq_sw_at 5 (by decide) rfl ⟨hP.2.1, rc_once (j := 5) hn hN hKd hj hP h3 hs hU hx (by omega) (by omega) (fun c s1 M1 P1 L1 k m g1 g2 g3 g4 g5 => ⟨fun z => absurd rfl z, fun _ => pd_add (⟨g3.1.2.1, key c s1 M1 P1 L1 (0 + k) (0 + m) (by omega) (by omega) g3 g4 g5⟩)⟩) (fun c M' P' L' g1 g2 => ⟨fun _ => bad c M' P' L' g1 g2, fun z => absurd z (by decide)⟩)⟩
  · exact cq_sw_at 6 (by decide) rfl ⟨hP.2.1, rc_once (j := 6) hn hN hKd hj hP h3 hs hU hx (by omega) (by omega) (fun c s1 M1 P1 L1 k m g1 g2 g3 g4 g5 => ⟨fun z => absurd rfl z, fun _ => pd_add (key c s1 M1 P1 L1 (0 + k) (0 + m) (by omega) (by omega) g3 g4 g5)⟩) (fun c M' P' L' g1 g2 => ⟨fun _ => bad c M' P' L' g1 g2, fun z => absurd z (by decide)⟩)⟩
  · exact cq_sw_at 7 (by decide) rfl ⟨hP.2.1, rc_once (j := 7) hn hN hKd hj hP h3 hs hU hx (by omega) (by omega) (fun c s1 M1 P1 L1 k m g1 g2 g3 g4 g5 => ⟨fun z => absurd rfl z, fun _ => pd_add (⟨g3.1.2.1, key c s1 M1 P1 L1 (0 + k) (0 + m) (by omega) (by omega) g3 g4 g5⟩)⟩) (fun c M' P' L' g1 g2 => ⟨fun _ => bad c M' P' L' g1 g2, fun z => absurd z (by decide)⟩)⟩
  · exact cq_sw_at 8 (by decide) rfl ⟨hP.2.1, rc_once (j := 8) hn hN hKd hj hP h3 hs hU hx (by omega) (by omega) (fun c s1 M1 P1 L1 k m g1 g2 g3 g4 g5 => ⟨fun z => absurd rfl z, fun _ => pd_add (⟨g3.1.2.1, key c s1 M1 P1 L1 (0 + k) (0 + m) (by omega) (by omega) g3 g4 g5⟩)⟩) (fun c M' P' L' g1 g2 => ⟨fun _ => bad c M' P' L' g1 g2, fun z => absurd z (by decide)⟩)⟩
theorem rUx_bits : ∀ j, j < 9 → ∀ i, i < 9 → (((1 : Int32) <<< (nI j &&& 31)) >>> (nI i &&& 31)) &&& 1 = (if i = j then 1 else 0) := by decide +kernel
theorem i32_shr_or (x y s : Int32) : (x ||| y) >>> s = (x >>> s) ||| (y >>> s) := by
  apply Int32.toBitVec_inj.mp
  simp [Int32.toBitVec_shiftRight, BitVec.sshiftRight_or_distrib]
theorem i32_or_and (x y : Int32) : (x ||| y) &&& 1 = (x &&& 1) ||| (y &&& 1) := by
  apply Int32.toBitVec_inj.mp
  rw [Int32.toBitVec_and, Int32.toBitVec_or, Int32.toBitVec_or, Int32.toBitVec_and, Int32.toBitVec_and]
  ext i
  simp [Bool.and_or_distrib_right]
theorem i32_and1 (x : Int32) : x &&& 1 = 0 ∨ x &&& 1 = 1 := by
  have h : (x &&& 1).toInt = x.toInt % 2 := pi_mask x (k := 1) (by decide) (by decide)
  rcases (show x.toInt % 2 = 0 ∨ x.toInt % 2 = 1 by omega) with e | e
  · exact Or.inl (by rw [i32_eq, h, e]; rfl)
  · exact Or.inr (by rw [i32_eq, h, e]; rfl)
theorem rUx.told {x : Int32} {j : Nat} (h : rUx u x) (hj : j < 9) : rUx (uTold u j) (x ||| ((1 : Int32) <<< (nI j &&& 31))) := by
  intro i hi
  rw [i32_shr_or, i32_or_and, rUx_bits j hj i hi]
  show _ ↔ upd u.2.2.2.2 j 1 i = 1
  unfold upd
  by_cases e : i = j
  · rw [if_pos e, if_pos e]
    rcases i32_and1 (x >>> (nI i &&& 31)) with q | q <;> rw [q] <;> decide
  · rw [if_neg e, if_neg e, ← h i hi]
    rcases i32_and1 (x >>> (nI i &&& 31)) with q | q <;> rw [q] <;> decide
end STP
