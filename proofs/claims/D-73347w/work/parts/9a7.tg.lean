/-! READING A LINE, 7: what is seen by its word; rules, plainly -/
/-- signs of a rule, and how many numbers are kept at once when it is reckoned -/
def rS : Nat → Nat → List Int32 → Prop
  | 0, _, _ => False
  | h + 1, m, s =>
    (∃ v : Nat, v < 10000 ∧ s = [nI v] ∧ 1 ≤ m) ∨ (∃ e : Nat, e < 4 ∧ s = [-1 - nI e] ∧ 1 ≤ m) ∨ (∃ s1, s = s1 ++ [-28] ∧ rS h m s1) ∨
    (∃ (c : Int32) (s1 s2 : List Int32) (m2 : Nat), c ∈ sx_acts ∧ s = s1 ++ s2 ++ [sx_act c] ∧ rS h m s1 ∧ rS h m2 s2 ∧ m2 + 1 ≤ m)
theorem rS_m : ∀ {h m m' : Nat} {s : List Int32}, rS h m s → m ≤ m' → rS h m' s
  | 0, _, _, _, q, _ => q.elim
  | h + 1, m, m', s, q, hm => by
    rcases q with ⟨v, a1, a2, a3⟩ | ⟨e, a1, a2, a3⟩ | ⟨s1, a1, a2⟩ | ⟨c, s1, s2, m2, a1, a2, a3, a4, a5⟩
    · exact Or.inl ⟨v, a1, a2, by omega⟩
    · exact Or.inr (Or.inl ⟨e, a1, a2, by omega⟩)
    · exact Or.inr (Or.inr (Or.inl ⟨s1, a1, rS_m a2 hm⟩))
    · exact Or.inr (Or.inr (Or.inr ⟨c, s1, s2, m2, a1, a2, rS_m a3 hm, a4, by omega⟩))
theorem rS_up : ∀ {h m : Nat} {s : List Int32}, rS h m s → rS (h + 1) m s
  | 0, _, _, q => q.elim
  | h + 1, m, s, q => by
    rcases q with q | q | ⟨s1, a1, a2⟩ | ⟨c, s1, s2, m2, a1, a2, a3, a4, a5⟩
    · exact Or.inl q
    · exact Or.inr (Or.inl q)
    · exact Or.inr (Or.inr (Or.inl ⟨s1, a1, rS_up a2⟩))
    · exact Or.inr (Or.inr (Or.inr ⟨c, s1, s2, m2, a1, a2, rS_up a3, rS_up a4, a5⟩))
theorem rS_le {h h' m : Nat} {s : List Int32} (hh : h ≤ h') (q : rS h m s) : rS h' m s := by
  induction hh with
  | refl => exact q
  | step _ ih => exact rS_up ih
theorem pT_upS {adr : Nat → Nat} {Lx : dL} {Px : dP} : ∀ {h a : Nat} {s : List Int32}, pT adr Lx Px h a s → pT adr Lx Px (h + 1) a s
  | 0, _, _, q => q.elim
  | h + 1, a, s, q => by
    rcases q with q | q | ⟨b, s1, q1, q2, q3, q4⟩ | ⟨c, b1, b2, s1, s2, q0, q1, q2, q3, q4, q5, q6, q7⟩
    · exact Or.inl q
    · exact Or.inr (Or.inl q)
    · exact Or.inr (Or.inr (Or.inl ⟨b, s1, q1, q2, q3, pT_upS q4⟩))
    · exact Or.inr (Or.inr (Or.inr ⟨c, b1, b2, s1, s2, q0, q1, q2, q3, q4, q5, pT_upS q6, pT_upS q7⟩))
theorem pT_leS {adr : Nat → Nat} {Lx : dL} {Px : dP} {h h' a : Nat} {s : List Int32} (hh : h ≤ h') (q : pT adr Lx Px h a s) : pT adr Lx Px h' a s := by
  induction hh with
  | refl => exact q
  | step _ ih => exact pT_upS ih
/-- a tree stands if its objects do -/
theorem pT_fr {adr adr' : Nat → Nat} {Lx Lx' : dL} {Px Px' : dP} (hA : ∀ e, e < 4 → adr' (9200 + e) = adr (9200 + e)) (hL : ∀ x ∈ Lx, (x.2 = (0, 13, 0) ∨ x.2 = (0, 11, 0) ∨ x.2 = (0, 9, 0) ∨ x.2 = (0, 3, 0)) → (∀ k, Px x.1 k = none) ∨ (x ∈ Lx' ∧ Px' x.1 = Px x.1)) : ∀ {h a : Nat} {s : List Int32}, pT adr Lx Px h a s → pT adr' Lx' Px' h a s
  | 0, _, _, q => q.elim
  | h + 1, a, s, q => by
    rcases q with ⟨v, q1, q2, q3, q4⟩ | ⟨e, q1, q2, q3, q4⟩ | ⟨b, s1, q1, q2, q3, q4⟩ | ⟨c, b1, b2, s1, s2, q0, q1, q2, q3, q4, q5, q6, q7⟩
    · obtain ⟨z1, z2⟩ := (hL _ q3 (Or.inl rfl)).resolve_left (fun z => by rw [z 0] at q4; exact absurd q4 (by simp))
      exact Or.inl ⟨v, q1, q2, z1, by rw [z2]; exact q4⟩
    · obtain ⟨z1, z2⟩ := (hL _ q3 (Or.inr (Or.inl rfl))).resolve_left (fun z => by rw [z 0] at q4; exact absurd q4 (by simp))
      exact Or.inr (Or.inl ⟨e, q1, q2, z1, by rw [z2, q4, hA e q1]⟩)
    · obtain ⟨z1, z2⟩ := (hL _ q2 (Or.inr (Or.inr (Or.inl rfl)))).resolve_left (fun z => by rw [z 0] at q3; exact absurd q3 (by simp))
      exact Or.inr (Or.inr (Or.inl ⟨b, s1, q1, z1, by rw [z2]; exact q3, pT_fr hA hL q4⟩))
    · obtain ⟨z1, z2⟩ := (hL _ q2 (Or.inr (Or.inr (Or.inr rfl)))).resolve_left (fun z => by rw [z 1] at q4; exact absurd q4 (by simp))
      exact Or.inr (Or.inr (Or.inr ⟨c, b1, b2, s1, s2, q0, q1, z1, by rw [z2]; exact q3, by rw [z2]; exact q4, by rw [z2]; exact q5, pT_fr hA hL q6, pT_fr hA hL q7⟩))
theorem lsw_s {x : Int32} {k : Int} {A D : Prop} {r : List (Int × Prop)} (h : ¬ k = x.toInt) (q : cd_lsw x r D) : cd_lsw x ((k, A) :: r) D := by
  unfold cd_lsw
  rw [if_neg h]
  exact q
theorem lsw_h {x : Int32} {k : Int} {A D : Prop} {r : List (Int × Prop)} (h : k = x.toInt) (q : A) : cd_lsw x ((k, A) :: r) D := by
  unfold cd_lsw
  rw [if_pos h]
  exact q
theorem cq_sw_lo {x : Int32} {lo : Int} {D : Prop} {Bs : List Prop} (h : x.toInt < lo) (hD : D) : cq_sw x lo Bs D := by
  unfold cq_sw
  rw [if_pos (Or.inl h)]
  exact hD
theorem cq_sw_at {x : Int32} {lo : Int} {p D : Prop} {Bs : List Prop} (j : Nat) (h : x.toInt = lo + j) (hj : Bs[j]? = some p) (hp : p) : cq_sw x lo Bs D := by
  unfold cq_sw
  have hl := (List.getElem?_eq_some_iff.mp hj).1
  rw [if_neg (by omega), show (x.toInt - lo).toNat = j by omega, List.getD_eq_getElem?_getD, hj]
  exact hp
section VO
variable {N : dNt} {bc bs : Nat} {M : cx_M} {P : dP} {L : dL} {b : Nat → Int32} {n a0 s : Nat} {t : rT} {Q : cd_Qt} {e8 : Option Nat}
theorem rW_two {w1 w2 : List Int32} (h1 : rW b t w1) (h2 : rW b t w2) : w1 = w2 := by
  refine List.ext_getElem (by rw [← h1.1, ← h2.1]) (fun i g1 g2 => ?_)
  have e1 := h1.2 i g1
  have e2 := h2.2 i g2
  rw [e1] at e2
  rw [List.getD_eq_getElem?_getD, List.getD_eq_getElem?_getD, List.getElem?_eq_getElem g1, List.getElem?_eq_getElem g2] at e2
  exact e2
theorem rd_vals : ∀ e, e < 4 → rdS.getD (22 + e) [] = twSbyt.getD e [] := by decide +kernel
/-- which value the word names -/
theorem rc_value (hN : 1100 ≤ N.1) (h : rc_A N b n a0 e8 s t M P L) (hT : rTok b n t) (hn : n ≤ 700) (h1 : t.1 = 1)
    (hy : ∀ e, e < 4 → rW b t (twSbyt.getD e []) → ∀ M', (∀ c, c ≠ dc s → M' c = M c) → Q M' P L 0 (some (N.2 (9200 + e))) 0 0 0) (hno : (∀ e, e < 4 → ¬ rW b t (twSbyt.getD e [])) → ∀ M', (∀ c, c ≠ dc s → M' c = M c) → Q M' P L 0 none 0 0 0) : rd_valueOf N bc bs M P L a0 (some s) Q := by
  obtain ⟨k1, k3, k0, k4, kle, ken⟩ := rTok_k hT
  obtain ⟨kl, -, -⟩ := k1 h1
  obtain ⟨e7, eS⟩ := h.2.2.2.2 (Or.inl h1)
  unfold rd_valueOf rd_valueOf_0
  refine pd_nn rfl ⟨eS.1, ?_⟩
  refine st_hash eS (by omega) hN (fun M' hM' hc0 => ?_)
  obtain ⟨y1, y2, y3, y4, w, y5, y6, y7, y8⟩ := eS
  have hT2 : (s, (0, 17, 0)) ∈ L ∧ M' (dc s) 1 = 0 ∧ ∃ w, P s 0 = some w ∧ (w, (1, 2, min 12 (t.2.2 - t.2.1))) ∈ L ∧ ∀ i, i < min 12 (t.2.2 - t.2.1) → M' (dc w) i = b (t.2.1 + i) := ⟨y1, hc0, w, y5, y7, fun i hi => by rw [hM' _ (dc_ne y6.symm)]; exact y8 i hi⟩
  intro _
  refine pd_add ?_
  have none4 : (∀ e, e < 4 → ¬ rW b t (twSbyt.getD e [])) → ∀ k m : Nat, k = 0 → m = 0 → rd_valueOf_109 N bc bs Q a0 M' P L k m (-1) := by
    intro hq k m ek em
    subst ek em
    unfold rd_valueOf_109
    exact cq_sw_lo (by decide) (hno hq M' hM')
  have brn : ∀ (c1 : Nat) (x : Int32), c1 < 26 → (∃ e, e < 4 ∧ c1 = 22 + e) → (∀ e, e < 4 → ¬ rW b t (twSbyt.getD e [])) → jS_equalsC N (bc - (0 + 0)) (bs - (0 + 0)) M' P L s c1 (fun M11 P12 L13 v14 r15 e9 k16 n17 => e9 = 0 → cd_add (0 + 0) k16 (0 + 0) n17 fun k18 n19 => if v14 = 0 then rd_valueOf_109 N bc bs Q a0 M11 P12 L13 k18 n19 (-1) else rd_valueOf_109 N bc bs Q a0 M11 P12 L13 k18 n19 x) := by
    intro c1 x hc ⟨e, he, ec⟩ hq
    subst ec
    refine rc_eqW hN hT hn hc hT2 ?_
    rw [if_neg (by rw [rd_vals e he]; exact hq e he)]
    intro _
    refine pd_add ?_
    rw [if_pos rfl]
    exact none4 hq _ _ rfl rfl
  have brt : ∀ (e : Nat) (x : Int32), e < 4 → x = nI e → rW b t (twSbyt.getD e []) → jS_equalsC N (bc - (0 + 0)) (bs - (0 + 0)) M' P L s (22 + e) (fun M11 P12 L13 v14 r15 e9 k16 n17 => e9 = 0 → cd_add (0 + 0) k16 (0 + 0) n17 fun k18 n19 => if v14 = 0 then rd_valueOf_109 N bc bs Q a0 M11 P12 L13 k18 n19 (-1) else rd_valueOf_109 N bc bs Q a0 M11 P12 L13 k18 n19 x) := by
    intro e x he hx hq
    subst hx
    refine rc_eqW hN hT hn (by omega) hT2 ?_
    rw [if_pos (by rw [rd_vals e he]; exact hq)]
    intro _
    refine pd_add ?_
    rw [if_neg (by decide)]
    have key := hy e he hq M' hM'
    unfold rd_valueOf_109
    rcases (show e = 0 ∨ e = 1 ∨ e = 2 ∨ e = 3 by omega) with rfl | rfl | rfl | rfl
    · exact cq_sw_at 0 (by decide) rfl key
    · exact cq_sw_at 1 (by decide) rfl key
    · exact cq_sw_at 2 (by decide) rfl key
    · exact cq_sw_at 3 (by decide) rfl key
  by_cases hq : ∃ e, e < 4 ∧ rW b t (twSbyt.getD e [])
  · obtain ⟨e, he, hq⟩ := hq
    have hw : rW b t (rdS.getD (22 + e) []) := by rw [rd_vals e he]; exact hq
    rw [rH_word hT (by omega) hw]
    rcases (show e = 0 ∨ e = 1 ∨ e = 2 ∨ e = 3 by omega) with rfl | rfl | rfl | rfl
    · rw [show rH (rdSf (22 + 0)) (rdSn (22 + 0)) = -995865464 by decide +kernel]
      refine lsw_s (by decide) ?_
      refine lsw_h (by decide) ?_
      exact ⟨y1, brt 0 0 (by decide) rfl hq⟩
    · rw [show rH (rdSf (22 + 1)) (rdSn (22 + 1)) = 3560141 by decide +kernel]
      refine lsw_s (by decide) ?_
      refine lsw_s (by decide) ?_
      refine lsw_s (by decide) ?_
      refine lsw_h (by decide) ?_
      exact ⟨y1, brt 1 1 (by decide) rfl hq⟩
    · rw [show rH (rdSf (22 + 2)) (rdSn (22 + 2)) = 3314326 by decide +kernel]
      refine lsw_s (by decide) ?_
      refine lsw_s (by decide) ?_
      refine lsw_h (by decide) ?_
      exact ⟨y1, brt 2 2 (by decide) rfl hq⟩
    · rw [show rH (rdSf (22 + 3)) (rdSn (22 + 3)) = -1271344497 by decide +kernel]
      refine lsw_h (by decide) ?_
      exact ⟨y1, brt 3 3 (by decide) rfl hq⟩
  · have hq : ∀ e, e < 4 → ¬ rW b t (twSbyt.getD e []) := fun e he z => hq ⟨e, he, z⟩
    refine lsw_all _ ?_ (none4 hq _ _ rfl rfl)
    exact List.forall_mem_cons.mpr ⟨⟨y1, brn 25 3 (by decide) ⟨3, by decide, rfl⟩ hq⟩, List.forall_mem_cons.mpr ⟨⟨y1, brn 22 0 (by decide) ⟨0, by decide, rfl⟩ hq⟩, List.forall_mem_cons.mpr ⟨⟨y1, brn 24 2 (by decide) ⟨2, by decide, rfl⟩ hq⟩, List.forall_mem_cons.mpr ⟨⟨y1, brn 23 1 (by decide) ⟨1, by decide, rfl⟩ hq⟩, fun p hp => absurd hp (by simp)⟩⟩⟩⟩
end VO
