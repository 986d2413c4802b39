/-! THE CLASS: storms: the bits of a way from below -/
def pw_rev (p w : Nat) : Nat := (List.range p).foldl (fun a i => a + w / 2 ^ i % 2 * 2 ^ (p - 1 - i)) 0
theorem pw_rev_lt : ∀ p, p < 6 → ∀ w, w < 2 ^ p → pw_rev p w < 2 ^ p := by decide +kernel
theorem pw_rev_bit0 : ∀ p, p < 6 → ∀ w, w < 32 → ∀ i, i < 5 → (2 ^ p ≤ w ∨ p ≤ i ∨ (((nI (pw_rev p w) >>> (nI i &&& 31)) &&& 1) = (1 : Int32) ↔ ((nI w >>> (nI (p - 1 - i) &&& 31)) &&& 1) = (1 : Int32))) := by decide +kernel
theorem pw_bit0 : ∀ w, w < 32 → ∀ i, i < 5 → (((nI w >>> (nI i &&& 31)) &&& 1) = (1 : Int32) ↔ w / 2 ^ i % 2 = 1) := by decide +kernel
theorem pw_rev_bit {p w i : Nat} (hp : p ≤ 5) (hw : w < 2 ^ p) (hi : i < p) : pa_bit (pw_rev p w) i ↔ pa_bit w (p - 1 - i) := by
  have h32 : 2 ^ p ≤ 32 := Nat.pow_le_pow_right (n := 2) (by decide) hp
  rcases pw_rev_bit0 p (by omega) w (by omega) i (by omega) with z | z | z
  · exact absurd z (by omega)
  · exact absurd z (by omega)
  · exact z
theorem pw_rev_q {p w : Nat} (hp : p ≤ 5) (hw : w < 2 ^ p) : ∀ j, j < p → (w / 2 ^ j % 2 = 1 ↔ (pa_qr p (pw_rev p w))[j]? = some true) := by
  intro j hj
  have h32 : 2 ^ p ≤ 32 := Nat.pow_le_pow_right (n := 2) (by decide) hp
  unfold pa_qr
  rw [List.getElem?_map, List.getElem?_range hj, ← pw_bit0 w (by omega) j (by omega)]
  have e := pw_rev_bit hp hw (i := p - 1 - j) (by omega)
  rw [show p - 1 - (p - 1 - j) = j by omega] at e
  show pa_bit w j ↔ some (@decide (pa_bit (pw_rev p w) (p - 1 - j)) (pa_bitD _ _)) = some true
  rw [← e]
  exact ⟨fun z => congrArg some (@decide_eq_true _ (pa_bitD _ _) z), fun z => @of_decide_eq_true _ (pa_bitD _ _) (Option.some.inj z)⟩
theorem pw_if {p q : Prop} (D : Decidable p) (F : Decidable q) (h : p ↔ q) (a b : Int32) : @ite Int32 p D a b = @ite Int32 q F a b := by
  by_cases c : p
  · rw [if_pos c, if_pos (h.mp c)]
  · rw [if_neg c, if_neg (fun z => c (h.mpr z))]
def pw_fa (t : Int32) (w k : Nat) : Int32 := @ite Int32 (pa_bit w k) (pa_bitD _ _) t (10 - t)
theorem pw_rev_pr {p w : Nat} {t : Int32} (hp : p ≤ 5) (hw : w < 2 ^ p) : pa_pr t (pw_rev p w) p = pa_pr t w p := by
  have e : ∀ i, i < p → pw_fa t (pw_rev p w) i = pw_fa t w (p - 1 - i) := fun i hi => pw_if _ _ (pw_rev_bit hp hw hi) _ _
  match p, hp with
  | 0, _ => rfl
  | 1, _ =>
    show 1 * pw_fa t (pw_rev 1 w) 0 = 1 * pw_fa t w 0
    rw [e 0 (by omega)]
  | 2, _ =>
    show 1 * pw_fa t (pw_rev 2 w) 0 * pw_fa t (pw_rev 2 w) 1 = 1 * pw_fa t w 0 * pw_fa t w 1
    rw [e 0 (by omega), e 1 (by omega)]
    show 1 * pw_fa t w 1 * pw_fa t w 0 = 1 * pw_fa t w 0 * pw_fa t w 1
    ac_rfl
  | 3, _ =>
    show 1 * pw_fa t (pw_rev 3 w) 0 * pw_fa t (pw_rev 3 w) 1 * pw_fa t (pw_rev 3 w) 2 = 1 * pw_fa t w 0 * pw_fa t w 1 * pw_fa t w 2
    rw [e 0 (by omega), e 1 (by omega), e 2 (by omega)]
    show 1 * pw_fa t w 2 * pw_fa t w 1 * pw_fa t w 0 = 1 * pw_fa t w 0 * pw_fa t w 1 * pw_fa t w 2
    ac_rfl
  | 4, _ =>
    show 1 * pw_fa t (pw_rev 4 w) 0 * pw_fa t (pw_rev 4 w) 1 * pw_fa t (pw_rev 4 w) 2 * pw_fa t (pw_rev 4 w) 3 = 1 * pw_fa t w 0 * pw_fa t w 1 * pw_fa t w 2 * pw_fa t w 3
    rw [e 0 (by omega), e 1 (by omega), e 2 (by omega), e 3 (by omega)]
    show 1 * pw_fa t w 3 * pw_fa t w 2 * pw_fa t w 1 * pw_fa t w 0 = 1 * pw_fa t w 0 * pw_fa t w 1 * pw_fa t w 2 * pw_fa t w 3
    ac_rfl
  | 5, _ =>
    show 1 * pw_fa t (pw_rev 5 w) 0 * pw_fa t (pw_rev 5 w) 1 * pw_fa t (pw_rev 5 w) 2 * pw_fa t (pw_rev 5 w) 3 * pw_fa t (pw_rev 5 w) 4 = 1 * pw_fa t w 0 * pw_fa t w 1 * pw_fa t w 2 * pw_fa t w 3 * pw_fa t w 4
    rw [e 0 (by omega), e 1 (by omega), e 2 (by omega), e 3 (by omega), e 4 (by omega)]
    show 1 * pw_fa t w 4 * pw_fa t w 3 * pw_fa t w 2 * pw_fa t w 1 * pw_fa t w 0 = 1 * pw_fa t w 0 * pw_fa t w 1 * pw_fa t w 2 * pw_fa t w 3 * pw_fa t w 4
    ac_rfl
  | p + 6, h => exact absurd h (by omega)
def pw_sum (g : Nat → Int32) : Nat → Nat → Int32 → Int32
  | 0, _, a => a
  | m + 1, w, a => pw_sum g m (w + 1) (a + g w)
noncomputable def pw_g (E : ps_E) (S : ps_S) (p : Nat) (t : Int32) (w : Nat) : Int32 := @ite Int32 (pa_st E S (pa_qr p w)) (Classical.propDecidable _) (pa_pr t w p) 0
theorem pa_sr_sum {E : ps_E} {S : ps_S} {p : Nat} {t : Int32} : ∀ (m w : Nat) (a : Int32), pa_sr E S p t m w a = pw_sum (pw_g E S p t) m w a
  | 0, _, _ => rfl
  | m + 1, w, a => pa_sr_sum m (w + 1) _
theorem pw_sum_rev1 (g : Nat → Int32) : pw_sum (fun w => g (pw_rev 1 w)) 2 0 0 = pw_sum g 2 0 0 := rfl
theorem pw_sum_rev2 (g : Nat → Int32) : pw_sum (fun w => g (pw_rev 2 w)) 4 0 0 = pw_sum g 4 0 0 := by
  show 0 + g 0 + g 2 + g 1 + g 3 = 0 + g 0 + g 1 + g 2 + g 3
  ac_rfl
theorem pw_sum_rev3 (g : Nat → Int32) : pw_sum (fun w => g (pw_rev 3 w)) 8 0 0 = pw_sum g 8 0 0 := by
  show 0 + g 0 + g 4 + g 2 + g 6 + g 1 + g 5 + g 3 + g 7 = 0 + g 0 + g 1 + g 2 + g 3 + g 4 + g 5 + g 6 + g 7
  ac_rfl
theorem pw_sum_rev4 (g : Nat → Int32) : pw_sum (fun w => g (pw_rev 4 w)) 16 0 0 = pw_sum g 16 0 0 := by
  show 0 + g 0 + g 8 + g 4 + g 12 + g 2 + g 10 + g 6 + g 14 + g 1 + g 9 + g 5 + g 13 + g 3 + g 11 + g 7 + g 15 = 0 + g 0 + g 1 + g 2 + g 3 + g 4 + g 5 + g 6 + g 7 + g 8 + g 9 + g 10 + g 11 + g 12 + g 13 + g 14 + g 15
  ac_rfl
theorem pw_sum_rev5 (g : Nat → Int32) : pw_sum (fun w => g (pw_rev 5 w)) 32 0 0 = pw_sum g 32 0 0 := by
  show 0 + g 0 + g 16 + g 8 + g 24 + g 4 + g 20 + g 12 + g 28 + g 2 + g 18 + g 10 + g 26 + g 6 + g 22 + g 14 + g 30 + g 1 + g 17 + g 9 + g 25 + g 5 + g 21 + g 13 + g 29 + g 3 + g 19 + g 11 + g 27 + g 7 + g 23 + g 15 + g 31 = 0 + g 0 + g 1 + g 2 + g 3 + g 4 + g 5 + g 6 + g 7 + g 8 + g 9 + g 10 + g 11 + g 12 + g 13 + g 14 + g 15 + g 16 + g 17 + g 18 + g 19 + g 20 + g 21 + g 22 + g 23 + g 24 + g 25 + g 26 + g 27 + g 28 + g 29 + g 30 + g 31
  ac_rfl
theorem pw_sum_rev {p : Nat} (h1 : 1 ≤ p) (h5 : p ≤ 5) (g : Nat → Int32) : pw_sum (fun w => g (pw_rev p w)) (2 ^ p) 0 0 = pw_sum g (2 ^ p) 0 0 := by
  match p, h1, h5 with
  | 1, _, _ => exact pw_sum_rev1 g
  | 2, _, _ => exact pw_sum_rev2 g
  | 3, _, _ => exact pw_sum_rev3 g
  | 4, _, _ => exact pw_sum_rev4 g
  | 5, _, _ => exact pw_sum_rev5 g
  | p + 6, _, h => exact absurd h (by omega)
theorem dCc_stormsD_inner {N : dNx} {P : dP} {L : dL} {p w : Nat} {t a : Int32} {bc bs : Nat} {Q : cd_Qt} {r : cx_M → dP → dL → Nat → Nat → Int32 → Int32 → Int32 → Int32 → Prop} {M : cx_M} (hp : p ≤ 5) :
    ∀ (m i f : Nat), m + i = p → m < f → (∀ f', dCc_stormsD_46 N bc bs Q r (f' + 1) M P L 0 0 (nI p) t a (nI w) (pa_pr t w p) (nI p)) → dCc_stormsD_46 N bc bs Q r f M P L 0 0 (nI p) t a (nI w) (pa_pr t w i) (nI i) := by
  intro m
  induction m with
  | zero =>
    intro i f hi hf h
    obtain ⟨f, rfl⟩ : ∃ q, f = q + 1 := ⟨f - 1, by omega⟩
    rw [show i = p by omega]
    exact h f
  | succ m ih =>
    intro i f hi hf h
    obtain ⟨f, rfl⟩ : ∃ q, f = q + 1 := ⟨f - 1, by omega⟩
    have next := ih (i + 1) f (by omega) (by omega) h
    have ep : pa_pr t w (i + 1) = pa_pr t w i * @ite Int32 (pa_bit w i) (pa_bitD _ _) t (10 - t) := rfl
    rw [ep] at next
    show dCc_stormsD_46b N bc bs Q r (dCc_stormsD_46 N bc bs Q r f) M P L 0 0 (nI p) t a (nI w) (pa_pr t w i) (nI i)
    unfold dCc_stormsD_46b dCc_stormsD_73
    rw [if_neg (nI_ge (by omega) (by omega))]
    by_cases c : pa_bit w i
    · rw [if_pos c, nI_succ] at next
      rw [if_pos (show ((nI w >>> (nI i &&& 31)) &&& 1) = (1 : Int32) from c)]
      exact next
    · rw [if_neg c, nI_succ] at next
      rw [if_neg (show ¬ ((nI w >>> (nI i &&& 31)) &&& 1) = (1 : Int32) from c)]
      exact next
theorem dCc_stormsD_way {N : dNx} {E : ps_E} {P : dP} {L : dL} {A : qA} {p w : Nat} {t a : Int32} {bc bs T : Nat} {Q : cd_Qt} {r : cx_M → dP → dL → Nat → Nat → Int32 → Int32 → Int32 → Int32 → Prop} {M : cx_M} (hN : 700 ≤ N.1.1) (hA : qAI E A) (h : qc_A N.1 E M A) (hI : ps_I E A.1.1 T) (hT : T ≤ 20000) (hp : p ≤ 5) (hw : w < 2 ^ p) :
    ∃ M', qc_A N.1 E M' A ∧ qc_F M M' ∧ (r M' P L 0 0 (nI p) t (a + pw_g E A.1.1 p t (pw_rev p w)) (nI (w + 1)) → ∀ f, dCc_stormsD_46 N bc bs Q r (f + 1) M P L 0 0 (nI p) t a (nI w) (pa_pr t w p) (nI p)) := by
  have h32 : 2 ^ p ≤ 32 := Nat.pow_le_pow_right (n := 2) (by decide) hp
  obtain ⟨M1, v, e1, h1, F1, R1⟩ := qc_T.tries (N := N.1) (n := 0) (T := T) hN hA h hI (by omega) (by omega)
  have n (i : Nat) (hi : i ≠ 43) (hi2 : i ≠ 44) : cx_up (cx_up M1 1100 43 (nI p)) 1100 44 (nI w) 1100 i = M1 1100 i := by rw [px_up, if_neg (fun z => hi2 z.2), px_up, if_neg (fun z => hi z.2)]
  have fr2 : ∀ c, c ≠ 1100 → cx_up (cx_up M1 1100 43 (nI p)) 1100 44 (nI w) c = M1 c := fun c hc => by rw [px_upc hc, px_upc hc]
  have hS : pc_S (cx_up (cx_up M1 1100 43 (nI p)) 1100 44 (nI w)) 1100 (cx_up A.1.1 0 35 v) := by
    obtain ⟨s1, s2, s3, s4, s5, s6⟩ := (show pc_S M1 1100 (cx_up A.1.1 0 35 v) from h1.2.1)
    refine ⟨fun k hk => by rw [n k (by unfold pc_d at hk; omega) (by unfold pc_d at hk; omega)]; exact s1 k hk, s2, ?_, ?_, ?_, s6.fr (fr2 _ (by omega)) (fr2 _ (by omega)) rfl rfl⟩
    · intro k hk
      rw [fr2 _ (by omega), fr2 _ (by omega), fr2 _ (by omega)]
      exact s3 k hk
    · intro k hk
      rw [fr2 _ (by omega), fr2 _ (by omega)]
      exact s4 k hk
    · intro k hk
      rw [fr2 _ (by omega), fr2 _ (by omega)]
      exact s5 k hk
  have lq : (pa_qr p (pw_rev p w)).length = p := by unfold pa_qr; rw [List.length_map, List.length_range]
  have hQ : pc_Q (cx_up (cx_up M1 1100 43 (nI p)) 1100 44 (nI w)) 1100 (pa_qr p (pw_rev p w)) := by
    unfold pc_Q
    rw [lq]
    refine ⟨by rw [px_up, if_neg (by decide), px_up, if_pos ⟨rfl, rfl⟩], by omega, fun _ => ⟨w, by omega, by rw [px_up, if_pos ⟨rfl, rfl⟩], pw_rev_q hp hw⟩⟩
  have k45 : cx_up (cx_up M1 1100 43 (nI p)) 1100 44 (nI w) 1100 45 = 0 := by rw [n 45 (by decide) (by decide)]; exact h1.1.2.2.2.2.2.2
  have hV : pc_V N.1 E (cx_up (cx_up M1 1100 43 (nI p)) 1100 44 (nI w)) 1100 (cx_up A.1.1 0 35 v, pa_qr p (pw_rev p w)) (fun _ => False) := ⟨hS, h1.2.2.1.fr (fr2 8000 (by decide)), hQ, Or.inl k45⟩
  obtain ⟨M2, e2, V2, hF2⟩ := cCc_goes_s (n := 80) (T := T) hN hA.1 (by decide) hV (fun z => absurd k45 z) (qI_up29 hI (by decide) (by decide) (by decide)) (by omega) (by omega)
  have fr : qc_Fr M1 M2 := fun c a b1 b2 b3 => by rw [hF2.1 c (by omega) b1 b2 b3, fr2 c (by omega)]
  have a2 : qc_A N.1 E M2 A := qc_A.try hA h1.1 V2.1.U (by rw [hF2.2]; exact k45) fr
  refine ⟨M2, a2, F1.tr (fun c hc => fr c (by omega) (by omega) (by omega) (by omega)), fun hr f => ?_⟩
  have g1 : M2 1100 7 = (ps_steps E 80 (A.1.1, pa_qr p (pw_rev p w))).1 0 7 := by
    rw [pc_n V2.1 7 (Or.inl (by decide)) (show pc_F 7 = 7 from rfl), ps_steps_35 _ _ _ _ _ (by decide)]
  have g2 : M2 1000 7 = A.1.1 0 7 := a2.n 7 (Or.inl (by decide)) rfl (by decide)
  show dCc_stormsD_46b N bc bs Q r (dCc_stormsD_46 N bc bs Q r f) M P L 0 0 (nI p) t a (nI w) (pa_pr t w p) (nI p)
  unfold dCc_stormsD_46b dCc_stormsD_136
  rw [if_pos (nI_le (Nat.le_refl _) (by omega)), pq_cal (show cCc_tries N.1 M 0 = some (M1, 0, 0) from e1)]
  refine pq_put (pq_put ?_)
  rw [pq_cal (show cCc_goes N.1 1100 (cx_up (cx_up M1 1100 43 (nI p)) 1100 44 (nI w)) 80 = some (M2, 0, 0) from e2)]
  show if M2 1100 7 = M2 1000 7 then r M2 P L 0 0 (nI p) t (a + pa_pr t w p) (nI w + 1) else r M2 P L 0 0 (nI p) t a (nI w + 1)
  rw [g1, g2, ← nI_succ]
  unfold pw_g at hr
  rw [pw_rev_pr hp hw] at hr
  generalize pa_qr p (pw_rev p w) = qq at hr ⊢
  have hd : pa_st E A.1.1 qq ↔ (ps_steps E 80 (A.1.1, qq)).1 0 7 = A.1.1 0 7 := Iff.rfl
  generalize pa_st E A.1.1 qq = P0 at hd hr
  generalize (ps_steps E 80 (A.1.1, qq)).1 0 7 = y at hd ⊢
  by_cases c : P0
  · rw [if_pos c] at hr
    rw [if_pos (hd.mp c)]
    exact hr
  · rw [if_neg c, pi_add0] at hr
    rw [if_neg (fun z => c (hd.mpr z))]
    exact hr
theorem dCc_stormsD_outer {N : dNx} {E : ps_E} {P : dP} {L : dL} {A : qA} {p : Nat} {t s : Int32} {bc bs T : Nat} {Q : cd_Qt} {M0 : cx_M} (hN : 700 ≤ N.1.1) (hA : qAI E A) (hI : ps_I E A.1.1 T) (hT : T ≤ 20000) (hp : p ≤ 5) (hy : ∀ M', qc_A N.1 E M' A → qc_F M0 M' → Q M' P L s none 0 0 0) :
    ∀ (m w f : Nat) (M : cx_M) (a : Int32), w + m = 2 ^ p → m < f → qc_A N.1 E M A → qc_F M0 M → pw_sum (fun w => pw_g E A.1.1 p t (pw_rev p w)) m w a = s → dCc_stormsD_32 N bc bs Q f M P L 0 0 (nI p) t a (nI w) := by
  have h32 : 2 ^ p ≤ 32 := Nat.pow_le_pow_right (n := 2) (by decide) hp
  intro m
  induction m with
  | zero =>
    intro w f M a hw hf h F hs
    obtain ⟨f, rfl⟩ : ∃ q, f = q + 1 := ⟨f - 1, by omega⟩
    have q := hy M h F
    rw [← hs] at q
    show dCc_stormsD_32b N bc bs Q (dCc_stormsD_32 N bc bs Q f) M P L 0 0 (nI p) t a (nI w)
    unfold dCc_stormsD_32b
    rw [pi_shl p (by omega), if_pos (nI_le (by omega) (by omega))]
    exact q
  | succ m ih =>
    intro w f M a hw hf h F hs
    obtain ⟨f, rfl⟩ : ∃ q, f = q + 1 := ⟨f - 1, by omega⟩
    show dCc_stormsD_32b N bc bs Q (dCc_stormsD_32 N bc bs Q f) M P L 0 0 (nI p) t a (nI w)
    unfold dCc_stormsD_32b
    rw [pi_shl p (by omega), if_neg (nI_ge (by omega) (by omega))]
    obtain ⟨M1, h1, F1, go⟩ := dCc_stormsD_way (N := N) (P := P) (L := L) (t := t) (a := a) (bc := bc) (bs := bs) (Q := Q) (r := dCc_stormsD_32 N bc bs Q f) (w := w) hN hA h hI hT hp (by omega)
    exact dCc_stormsD_inner (N := N) hp p 0 N.1.1 (by omega) (by omega) (go (ih (w + 1) f M1 _ (by omega) (by omega) h1 (F.tr F1) hs))
theorem dCc_stormsD_s {N : dNx} {E : ps_E} {M : cx_M} {P : dP} {L : dL} {A : qA} {p t : Int32} {bc bs : Nat} {Q : cd_Qt} (hN : 700 ≤ N.1.1) (hA : qAI E A) (h : qc_A N.1 E M A) (hb : 1 ≤ bc) (hs : 6 ≤ bs)
    (hy : (1 ≤ p.toInt ∧ p.toInt ≤ 5) ∧ (0 ≤ t.toInt ∧ t.toInt ≤ 10) → ∀ M', qc_A N.1 E M' A → qc_F M M' → Q M' P L (pa_sr E A.1.1 (pn p) t (2 ^ pn p) 0 0) none 0 0 0)
    (hn : ¬ ((1 ≤ p.toInt ∧ p.toInt ≤ 5) ∧ (0 ≤ t.toInt ∧ t.toInt ≤ 10)) → Q M P L 0 none 2 1 6) : dCc_stormsD N bc bs M P L p t Q := by
  obtain ⟨T, hT, hI, -⟩ := hA.2.1.1
  have bad : ¬ ((1 ≤ p.toInt ∧ p.toInt ≤ 5) ∧ (0 ≤ t.toInt ∧ t.toInt ≤ 10)) → dCc_stormsD_23 N bc bs Q M P L 0 0 p t := by
    intro z
    unfold dCc_stormsD_23 dCc_stormsD_24
    exact cd_thr_s hb hs (fun _ => ⟨fun _ => hn z, fun y => absurd y (by decide)⟩) (fun y => absurd rfl y)
  unfold dCc_stormsD dCc_stormsD_0
  rw [pq_cal cCc_within_s]
  by_cases cp : 1 ≤ p.toInt ∧ p.toInt ≤ 5
  · rw [if_pos (show (1 : Int32).toInt ≤ p.toInt ∧ p.toInt ≤ (5 : Int32).toInt from cp), if_neg (by decide), pq_cal cCc_within_s]
    by_cases ct : 0 ≤ t.toInt ∧ t.toInt ≤ 10
    · rw [if_pos (show (0 : Int32).toInt ≤ t.toInt ∧ t.toInt ≤ (10 : Int32).toInt from ct), if_neg (by decide)]
      have hy2 := hy ⟨cp, ct⟩
      have ep : p = nI (pn p) := pn_nI (by omega)
      have hp : pn p ≤ 5 := by rw [pn_def]; omega
      have hp1 : 1 ≤ pn p := by rw [pn_def]; omega
      unfold dCc_stormsD_24
      refine cd_thr_s hb hs (fun z => absurd z (by decide)) (fun _ => ⟨fun z => absurd rfl z, fun _ => ?_⟩)
      show dCc_stormsD_32 N bc bs Q N.1.1 M P L 0 0 p t 0 0
      rw [pa_sr_sum, ← pw_sum_rev hp1 hp] at hy2
      generalize pn p = pp at ep hp hp1 hy2 ⊢
      subst ep
      have h32 : 2 ^ pp ≤ 32 := Nat.pow_le_pow_right (n := 2) (by decide) hp
      exact dCc_stormsD_outer hN hA hI hT hp hy2 (2 ^ pp) 0 N.1.1 M 0 (by omega) (by omega) h qc_F.rf rfl
    · rw [if_neg (show ¬ ((0 : Int32).toInt ≤ t.toInt ∧ t.toInt ≤ (10 : Int32).toInt) from ct), if_pos rfl]
      exact bad (fun z => ct z.2)
  · rw [if_neg (show ¬ ((1 : Int32).toInt ≤ p.toInt ∧ p.toInt ≤ (5 : Int32).toInt) from cp), if_pos rfl]
    exact bad (fun z => cp z.1)
