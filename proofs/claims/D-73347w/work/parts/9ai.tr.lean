/-! READING A LINE, 18: rules and words, told to the line -/
section BW
variable {N : dNt} {b : Nat → Int32} {n a0 : Nat} {e8 : Option Nat} {M0 M : cx_M} {P0 P : dP} {L0 L : dL} {J : rJ} {t : rT} {u : rU} {s : Nat}
/-- one of the two rules is told -/
def uRule (u : rU) (r : Nat) (d : List Int32) : rU := if r = 0 then (u.1, u.2.1, d, u.2.2.2.1, u.2.2.2.2) else (u.1, u.2.1, u.2.2.1, d, u.2.2.2.2)
def uGet (u : rU) (r : Nat) : List Int32 := if r = 0 then u.2.2.1 else u.2.2.2.1
theorem rUc.rule {r x : Nat} {d : List Int32} (h : rUc N M0 P0 L0 a0 J s u M P L) (hu : qd_u L) (hr : r < 2) (hd : d ≠ []) (hx : pT N.2 L P d.length x d) : rUc N M0 P0 L0 a0 J s (uRule u r d) M (dPu P J.1 (8 + r) (some x)) L := by
  obtain ⟨h1, h2, ⟨h3, h4, h5, h6⟩, ⟨h7, h8, h9⟩, ⟨dd, z, ⟨g1, g2, g3, g4, g5, g6⟩, h11⟩, ⟨h12, h13⟩, hab, hb1, hb2, hb3, hb4⟩ := h
  have hne : ∀ y ky, (y, ky) ∈ L → ((0, 7, 0) : dk) ≠ ky → dPu P J.1 (8 + r) (some x) y = P y := fun y ky hy hk => dPu_ne (fun e => hk (hu _ h3 _ hy e.symm))
  have tr : ∀ y ∈ L, (y.2 = (0, 13, 0) ∨ y.2 = (0, 11, 0) ∨ y.2 = (0, 9, 0) ∨ y.2 = (0, 3, 0)) → (∀ k, P y.1 k = none) ∨ (y ∈ L ∧ dPu P J.1 (8 + r) (some x) y.1 = P y.1) := by
    intro y hy hk
    exact Or.inr ⟨hy, hne y.1 y.2 hy (fun e => by rw [← e] at hk; exact absurd hk (by decide))⟩
  have b1 : qd_J (fun _ => False) M0 P0 L0 M (dPu P J.1 (8 + r) (some x)) L := h1.ref (fun y hy e => absurd e (h2 y hy).2.2.1)
  have e7 : dPu P J.1 (8 + r) (some x) J.1 7 = P J.1 7 := by rw [dPu_at, if_neg (by omega)]
  have e10 : dPu P J.1 (8 + r) (some x) J.1 10 = P J.1 10 := by rw [dPu_at, if_neg (by omega)]
  have al : al_S N M (dPu P J.1 (8 + r) (some x)) L J.2.1 dd z u.2.1 := ⟨g1, by rw [hne _ _ g1 (by decide)]; exact g2, g3, g4, g5, fun i v hv => by
    obtain ⟨y, q1, q2⟩ := g6 i v hv
    exact ⟨y, by rw [hne _ _ g3 dk03]; exact q1, q2.fr (fun c hc => ⟨hc, hne c _ hc (by decide)⟩)⟩⟩
  have bb : qt_B M (dPu P J.1 (8 + r) (some x)) L J.2.2.2.2.1 J.2.2.2.2.2 u.2.2.2.2 := ⟨hab, hb1, hb2, by rw [hne _ _ hb1 (by decide)]; exact hb3, hb4⟩
  have vw : (J.2.2.1, ((0, 14, 0) : dk)) ∈ L ∧ dPu P J.1 (8 + r) (some x) J.2.2.1 0 = some J.2.2.2.1 ∧ (J.2.2.2.1, ((1, 0, 4) : dk)) ∈ L := ⟨h7, by rw [hne _ _ h7 (by decide)]; exact h8, h9⟩
  have li : (J.1, ((0, 7, 0) : dk)) ∈ L ∧ (∀ k, k < 7 → M (dc J.1) k = u.1 k) ∧ dPu P J.1 (8 + r) (some x) J.1 7 = some J.2.1 ∧ dPu P J.1 (8 + r) (some x) J.1 10 = some J.2.2.1 := ⟨h3, h4, by rw [e7]; exact h5, by rw [e10]; exact h6⟩
  have new : rUr N (dPu P J.1 (8 + r) (some x)) L (some x) d := ⟨fun z => absurd z hd, fun _ => ⟨x, rfl, pT_fr (fun _ _ => rfl) tr hx⟩⟩
  unfold uRule
  rcases (show r = 0 ∨ r = 1 by omega) with e | e
  · subst e
    rw [if_pos rfl]
    exact ⟨b1, h2, li, vw, ⟨dd, z, al, h11⟩, ⟨by rw [dPu_at, if_pos rfl]; exact new, by rw [dPu_at, if_neg (by decide)]; exact h13.fr tr⟩, bb⟩
  · subst e
    rw [if_neg (by decide)]
    exact ⟨b1, h2, li, vw, ⟨dd, z, al, h11⟩, ⟨by rw [dPu_at, if_neg (by decide)]; exact h12.fr tr, by rw [dPu_at, if_pos rfl]; exact new⟩, bb⟩
theorem rS_ne {D : Nat} {d : List Int32} (h : rS d.length D d) : d ≠ [] := fun z => by
  rw [z] at h
  exact h
theorem rUp.rule {r : Nat} {d : List Int32} {t' : rT} (h : rUp u t) (hr : r < 2) (ht : t.2.1 ≤ t'.2.1) (h1 : rS d.length 31 d) (h2 : d.length ≤ t'.2.1) (h6 : u.2.2.2.2 (7 + r) = 1) : rUp (uRule u r d) t' := by
  obtain ⟨g1, g2, g3, g4, g5, g6, g7, g8⟩ := h.mono (t' := t') ht
  unfold uRule
  rcases (show r = 0 ∨ r = 1 by omega) with e | e
  · subst e
    rw [if_pos rfl]
    exact ⟨g1, g2, ⟨Or.inr h1, h2⟩, g4, g5, g6, fun z => absurd (show (0 : Int32) = 1 from z.symm.trans h6) (by decide), g8⟩
  · subst e
    rw [if_neg (by decide)]
    exact ⟨g1, g2, g3, ⟨Or.inr h1, h2⟩, g5, g6, g7, fun z => absurd (show (0 : Int32) = 1 from z.symm.trans h6) (by decide)⟩
theorem b_rule {Nt r : Nat} (hn : n ≤ 700) (hNt : 705 ≤ Nt) (hN : 1100 ≤ N.1) (hKd : rKD N) (hb0 : ∀ j, j < n → 0 ≤ (b j).toInt) (hT : rTok b n t) (hp : rUp u t) (hr : r < 2) (hd : uGet u r = []) (h6 : u.2.2.2.2 (7 + r) = 1) :
    ∃ o, rVp b n t u o ∧ rVt b n t u o (fun M => tw_readClause_163 Nt M (nI (7 + r))) ∧
      rVc N b n a0 e8 M0 P0 L0 J t u o (fun bc bs Q M P L k0 m => rd_expr N (bc - k0) (bs - m) M P L a0 0 (fun M160 P161 L162 v163 r164 e9 k165 n166 => (e9 ≠ 0 → Q M160 P161 L162 v163 none e9 (k0 + k165) (m + n166)) ∧ (e9 = 0 → cd_add k0 k165 m n166 fun k167 n168 =>
        (J.1, (0, 7, 0)) ∈ L162 ∧ cd_put P161 J.1 (8 + r) r164 fun P169 =>
        Q M160 P169 L162 0 none 0 k167 n168))) := by
  obtain ⟨k1, k3, k0, k4, kle, ken⟩ := rTok_k hT
  obtain ⟨o, p1, p2, p3⟩ := j_rule (N := N) (a0 := a0) (e8 := e8) hn hNt hN hKd hb0 hT
  have ee : ∀ M : cx_M, tw_readClause_163 Nt M (nI (7 + r)) = cx_cal (tw_readExpression Nt (cx_up M 60 10 (nI r)) 0) fun M2 _ => some (M2, 0, 0) := by
    intro M
    unfold tw_readClause_163
    rcases (show r = 0 ∨ r = 1 by omega) with e | e <;> subst e <;> rfl
  have prep : ∀ M : cx_M, rt_A b n t M → rUt u M → rt_A b n t (cx_up M 60 10 (nI r)) ∧ cx_up M 60 10 (nI r) 60 10 = nI r ∧ cx_up M 60 10 (nI r) 3 (18 + r) = nI (0 + ([] : List Int32).length) ∧ rt_G M (cx_up M 60 10 (nI r)) := by
    intro M hA hU
    obtain ⟨⟨a1, a2⟩, ⟨a3, a4, a5, a6, a7⟩, a8⟩ := hA
    have e : ∀ k, k ≠ 10 → cx_up M 60 10 (nI r) 60 k = M 60 k := fun k hk => by rw [px_up, if_neg (fun z => hk z.2)]
    refine ⟨⟨⟨by rw [e _ (by decide)]; exact a1, fun j hj => by rw [px_upc (by decide)]; exact a2 j hj⟩, ⟨by rw [e _ (by decide)]; exact a3, by rw [e _ (by decide)]; exact a4, by rw [e _ (by decide)]; exact a5, by rw [e _ (by decide)]; exact a6, fun z1 z2 => by rw [e _ (by decide)]; exact a7 z1 z2⟩, by rw [e _ (by decide)]; exact a8⟩, by rw [px_up, if_pos ⟨rfl, rfl⟩], ?_, ?_⟩
    · rw [px_upc (by decide)]
      unfold uGet at hd
      rcases (show r = 0 ∨ r = 1 by omega) with q | q
      · subst q
        rw [if_pos rfl] at hd
        rw [hU.2.2.1.1, hd]
        rfl
      · subst q
        rw [if_neg (by decide)] at hd
        rw [hU.2.2.2.1, hd]
        rfl
    · refine ⟨fun c q1 _ _ _ _ => px_upc q1, fun k hk => ?_, fun k _ => by rw [px_upc (by decide)], fun k _ => by rw [px_upc (by decide)], fun k _ => ⟨by rw [px_upc (by decide)], by rw [px_upc (by decide)]⟩⟩
      simp only [List.mem_cons, List.not_mem_nil, or_false] at hk
      exact e k (by omega)
  match o, p1, p2, p3 with
  | .inr (κ, pl), p1, p2, p3 =>
    refine ⟨.inr (κ, pl), p1, fun M hA hU => ?_, fun bc bs Q M P L k0' m s hA hs hU hb1 hb2 hQ => ?_⟩
    · obtain ⟨q1, q2, q3, q4⟩ := prep M hA hU
      obtain ⟨M2, f1, f2, f3, f4⟩ := p2 r hr _ 0 q1 q2 q3 (fun i y hy => absurd hy (by simp)) (by show 0 + 0 ≤ t.2.1; omega)
      exact ⟨M2, (ee M).trans (px_cal f1), q4.tr (f2.G hr), f3, f4⟩
    · refine p3 _ _ _ M P L s hA hs (by omega) (by omega) ?_
      intro M' P' L' k' m' y1 y2 y3 y4
      exact ⟨fun _ => hQ M' P' L' _ _ y1 (hU.bad y2) (by omega) (by omega), fun z => absurd z (by omega)⟩
  | .inl (d, t'), p1, p2, p3 =>
    have hdn := rS_ne p1.2.2.2.1
    have hlen := p1.2.2.2.2
    have hk' := rTok_k p1.1
    refine ⟨.inl (uRule u r d, t'), ⟨p1.1, p1.2.1, hp.rule hr p1.2.1 p1.2.2.2.1 (by omega) h6, by unfold uRule; split <;> rfl⟩, fun M hA hU => ?_, fun bc bs Q M P L k0' m s hA hs hU hb1 hb2 hQ => ?_⟩
    · obtain ⟨q1, q2, q3, q4⟩ := prep M hA hU
      obtain ⟨M2, f1, f2, f3, f4, f5⟩ := p2 r hr _ 0 q1 q2 q3 (fun i y hy => absurd hy (by simp)) (by show 0 + 0 ≤ t.2.1; omega)
      refine ⟨M2, (ee M).trans (px_cal f1), q4.tr (f2.G hr), f3, ?_⟩
      obtain ⟨h1, ⟨h2, h3, h4⟩, ⟨h5, hq6⟩, ⟨h7, h8⟩⟩ := hU
      have e3 : ∀ k, k ≠ 18 + r → M2 3 k = M 3 k := fun k hk => by rw [f2.2.2.1 k hk, px_upc (by decide)]
      have e4 : M2 4 = M 4 := by rw [f2.1 4 (by decide) (by decide) (by omega), px_upc (by decide)]
      have f4' : M2 3 (18 + r) = nI d.length := by rw [f4, Nat.zero_add]
      have f5' : ∀ i x, d[i]? = some x → M2 (5 + r) (700 + i) = x := fun i x hx => f5 i x hx
      unfold uRule
      rcases (show r = 0 ∨ r = 1 by omega) with e | e
      · subst e
        rw [if_pos rfl]
        have e6 : M2 6 = M 6 := by rw [f2.1 6 (by decide) (by decide) (by decide), px_upc (by decide)]
        exact ⟨fun k hk => by rw [e3 _ (by omega)]; exact h1 k hk, ⟨by rw [e3 _ (by decide)]; exact h2, fun z => by rw [e4]; exact h3 z, fun i v hv => by rw [e4]; exact h4 i v hv⟩, ⟨f4', f5'⟩, ⟨by rw [e3 _ (by decide)]; exact h7, fun i y hy => by rw [e6]; exact h8 i y hy⟩⟩
      · subst e
        rw [if_neg (by decide)]
        have e5 : M2 5 = M 5 := by rw [f2.1 5 (by decide) (by decide) (by decide), px_upc (by decide)]
        exact ⟨fun k hk => by rw [e3 _ (by omega)]; exact h1 k hk, ⟨by rw [e3 _ (by decide)]; exact h2, fun z => by rw [e4]; exact h3 z, fun i v hv => by rw [e4]; exact h4 i v hv⟩, ⟨by rw [e3 _ (by decide)]; exact h5, fun i y hy => by rw [e5]; exact hq6 i y hy⟩, ⟨f4', f5'⟩⟩
    · refine p3 _ _ _ M P L s hA hs (by omega) (by omega) ?_
      intro sx M' P' L' k' m' x y1 y2 y3 y4 y5 y6
      refine ⟨fun z => absurd rfl z, fun _ => pd_add ?_⟩
      have hU' := hU.go hA.1.1 hA.1.2.1 hs y2 y3
      refine ⟨hU'.2.2.1.1, pd_put ?_⟩
      exact hQ sx M' _ L' _ _ (y1.ref hU'.2.2.1.1 (by decide) (by decide)) (hs.nx y3 (fun y hy => y2.mem hy)) (hU'.rule y1.1.1 hr hdn y4) (by omega) (by omega)
end BW
