/-! READING A LINE, 19: a word's octets -/
section WD
variable {N : dNt} {b : Nat → Int32} {n a0 : Nat} {e8 : Option Nat} {M0 M : cx_M} {P0 P : dP} {L0 L : dL} {J : rJ} {t : rT} {u : rU} {s : Nat}
def uWord (u : rU) (ws : List Nat) : rU := (u.1, ws, u.2.2)
theorem qd_X.toJ {M' : cx_M} {P' : dP} {L' : dL} {U : Nat → Prop} (h : qd_X M P L M' P' L') : qd_J U M P L M' P' L' := ⟨h.1, h.2.1, fun x hx _ => h.2.2 x hx⟩
/-- objects apart from the reader's were changed -/
theorem rc_A_J {U : Nat → Prop} {M' : cx_M} {P' : dP} {L' : dL} (h : rc_A N b n a0 e8 s t M P L) (hY : qd_J U M P L M' P' L') (hu : qd_u L') (h1 : ¬ U a0) (h2 : ∀ c, (c, ((0, 17, 0) : dk)) ∈ L → ¬ U c) (h3 : ∀ c z, (c, ((1, 2, z) : dk)) ∈ L → ¬ U c) : rc_A N b n a0 e8 s t M' P' L' := by
  obtain ⟨e1, e2⟩ := hY.2.2 _ h.1.2.1 h1
  refine ⟨h.1.Y hY hu h1, by rw [e1]; exact h.2.1, by rw [e2]; exact h.2.2.1, by rw [e1]; exact h.2.2.2.1, fun z => ⟨by rw [e2]; exact (h.2.2.2.2 z).1, ?_⟩⟩
  obtain ⟨y1, y2, y3, y4, w, y5, y6, y7, y8⟩ := (h.2.2.2.2 z).2
  obtain ⟨g1, g2⟩ := hY.2.2 _ y1 (h2 _ y1)
  obtain ⟨g3, -⟩ := hY.2.2 _ y7 (h3 _ _ y7)
  exact ⟨hY.mem y1, by rw [g1]; exact y2, by rw [g1]; exact y3, by rw [g1]; exact y4, w, by rw [g2]; exact y5, y6, hY.mem y7, fun i hi => by rw [g3]; exact y8 i hi⟩
/-- the list was added to -/
theorem rUc.add {d d' z' : Nat} {ws : List Nat} {M' : cx_M} {P' : dP} {L' : dL} (h : rUc N M0 P0 L0 a0 J s u M P L) (hu : qd_u L) (hd : ∃ z, (d, ((3, 4, z) : dk)) ∈ L) (hdL : ∀ y ∈ L0, y.1 ≠ d) (hY : qd_J (fun y => y = J.2.1 ∨ y = d) M P L M' P' L') (hal : al_S N M' P' L' J.2.1 d' z' ws) (hdd : d' = d ∨ ∀ y ∈ L, y.1 ≠ d') : rUc N M0 P0 L0 a0 J s (uWord u ws) M' P' L' := by
  obtain ⟨h1, h2, ⟨h3, h4, h5, h6⟩, ⟨h7, h8, h9⟩, ⟨dd, z, g0, h11⟩, ⟨h12, h13⟩, hab, hb1, hb2, hb3, ⟨w, hb4, hb5, hb6⟩, hb7, hb8⟩ := h
  obtain ⟨zz, hd⟩ := hd
  have nt : ∀ c kd, (c, kd) ∈ L → kd ≠ (0, 20, 0) → (∀ z, kd ≠ (3, 4, z)) → (c, kd) ∈ L' ∧ M' (dc c) = M (dc c) ∧ P' c = P c := by
    intro c kd hc k1 k2
    exact ⟨hY.mem hc, hY.2.2 _ hc (fun q => q.elim (fun e => k1 (hu _ hc _ g0.1 e)) (fun e => k2 zz (hu _ hc _ hd e)))⟩
  obtain ⟨i1, i2, i3⟩ := nt _ _ h3 (by decide) (fun z => dk03)
  obtain ⟨v1, v2, v3⟩ := nt _ _ h7 (by decide) (fun z => dk03)
  obtain ⟨w1, w2, w3⟩ := nt _ _ h9 (by decide) (fun z e => absurd (show (1 : Nat) = 3 from congrArg Prod.fst e) (by decide))
  obtain ⟨x1, x2, x3⟩ := nt _ _ hb1 (by decide) (fun z => dk03)
  obtain ⟨y1, y2, y3⟩ := nt _ _ hb2 (by decide) (fun z e => absurd (show (2 : Nat) = 3 from congrArg Prod.fst e) (by decide))
  have tr : ∀ x ∈ L, (x.2 = (0, 13, 0) ∨ x.2 = (0, 11, 0) ∨ x.2 = (0, 9, 0) ∨ x.2 = (0, 3, 0)) → (∀ k, P x.1 k = none) ∨ (x ∈ L' ∧ P' x.1 = P x.1) := by
    intro x hx hk
    obtain ⟨q1, -, q3⟩ := nt x.1 x.2 hx (fun e => by rw [e] at hk; exact absurd hk (by decide)) (fun z e => by
      rw [e] at hk
      rcases hk with q | q | q | q <;> exact dk03 q.symm)
    exact Or.inr ⟨q1, q3⟩
  refine ⟨h1.tr hY (fun _ _ q => q) (fun y hy q => q.elim (h2 y hy).2.2.2.1 (hdL y hy)), h2, ⟨i1, fun k hk => by rw [i2]; exact h4 k hk, by rw [i3]; exact h5, by rw [i3]; exact h6⟩, ⟨v1, by rw [v3]; exact h8, w1⟩, ⟨d', z', hal, ?_⟩, ⟨by rw [i3]; exact h12.fr tr, by rw [i3]; exact h13.fr tr⟩, hab, x1, y1, by rw [x3]; exact hb3, ⟨w, hb4, by rw [x2]; exact hb5, fun q c1 c2 => by rw [y2]; exact hb6 q c1 c2⟩, fun q hq => by rw [y2]; exact hb7 q hq, hb8⟩
  intro y hy
  rcases hdd with e | e
  · rw [e]; exact hdL y hy
  · exact e y (h1.mem hy)
/-- the reference's side while the word is read -/
def rUw (u : rU) (M : cx_M) : Prop := (∀ k, k < 7 → M 3 (10 + k) = u.1 k) ∧ (M 3 17 = nI u.2.1.length ∧ ∀ i v, u.2.1[i]? = some v → M 4 (16 + i) = nI v) ∧
  (M 3 18 = nI u.2.2.1.length ∧ ∀ i y, u.2.2.1[i]? = some y → M 5 (700 + i) = y) ∧ (M 3 19 = nI u.2.2.2.1.length ∧ ∀ i y, u.2.2.2.1[i]? = some y → M 6 (700 + i) = y)
theorem rUw.end (h : rUw u M) (h0 : u.2.1 ≠ []) : rUt u M := by
  have hl : 1 ≤ u.2.1.length := by
    cases hu : u.2.1 with
    | nil => exact absurd hu h0
    | cons a r => rw [List.length_cons]; omega
  exact ⟨h.1, ⟨by rw [h.2.1.1, Nat.max_eq_right hl], fun z => absurd z h0, h.2.1.2⟩, h.2.2⟩
theorem b_word_loop {Nt : Nat} (hn : n ≤ 700) (hNt : 705 ≤ Nt) (hN : 1100 ≤ N.1) (hKd : rKD N) (hb0 : ∀ j, j < n → 0 ≤ (b j).toInt) : ∀ (w : Nat) (t : rT) (u : rU), rTok b n t → n + 1 - t.2.1 ≤ w → rUp u t → u.2.2.2.2 6 = 1 →
    ∃ o, rVp b n t u o ∧ (∀ f, w ≤ f → ∀ M : cx_M, rt_A b n t M → rUw u M → match o with
      | .inl (u', t') => ∃ M', tw_readWord_8 Nt f M = some (M', 0, 0) ∧ rt_G M M' ∧ rt_A b n t' M' ∧ rUt u' M'
      | .inr (κ, pl) => ∃ M', tw_readWord_8 Nt f M = some (M', 0, 0) ∧ rt_G M M' ∧ M' 60 19 = nI κ ∧ M' 60 20 = nI pl) ∧
      (∀ f, w ≤ f → rVc N b n a0 e8 M0 P0 L0 J t u o (fun bc bs Q M P L k0 m => rd_clause_447 N bc bs Q a0 J.1 f M P L k0 m)) := by
  intro w
  induction w with
  | zero =>
    intro t u hT hw
    have := (rTok_k hT).2.2.2.2
    omega
  | succ w ih =>
    intro t u hT hw hp h6
    obtain ⟨k1, k3, k0, k4, kle, ken⟩ := rTok_k hT
    have hlen := hp.2.1.1
    have tl := pi_nI (n := u.2.1.length) (by omega)
    -- the program: which way it goes
    have cls : ∀ (f bc bs : Nat) (Q : cd_Qt) (M : cx_M) (P : dP) (L : dL) (k0 m s : Nat), rc_A N b n a0 e8 s t M P L → rUc N M0 P0 L0 a0 J s u M P L → (∀ k' m' : Nat, k' = k0 → m' = m → rd_clause_475 N bc bs Q a0 J.1 (rd_clause_447 N bc bs Q a0 J.1 f) M P L k' m' (if t.1 = 2 ∧ u.2.1.length = 16 then 0 else 1)) → rd_clause_447 N bc bs Q a0 J.1 (f + 1) M P L k0 m := by
      intro f bc bs Q M P L k0' m s hA hU hq
      show rd_clause_447b N bc bs Q a0 J.1 (rd_clause_447 N bc bs Q a0 J.1 f) M P L k0' m
      unfold rd_clause_447b
      refine ⟨hA.1.2.1, pd_let ?_⟩
      rw [hA.2.2.1]
      refine rKd_if (i := 1) hKd k4 (by decide) (fun e => ?_) (fun e => ?_)
      · have e : t.1 = 2 := e
        obtain ⟨d, z, hal, -⟩ := hU.2.2.2.2.1
        refine ⟨hU.2.2.1.1, pd_let (pd_nn hU.2.2.1.2.2.1 ⟨hal.1, ?_⟩)⟩
        refine al_size hal ?_
        intro _
        refine pd_add ?_
        by_cases c : u.2.1.length = 16
        · rw [if_pos (show (16 : Int32) ≤ nI u.2.1.length from nI_le (a := 16) (by omega) (by omega))]
          have := hq _ _ (Nat.add_zero k0') (Nat.add_zero m)
          rw [if_pos ⟨e, c⟩] at this
          exact this
        · rw [if_neg (show ¬ (16 : Int32) ≤ nI u.2.1.length from nI_ge (a := u.2.1.length) (b := 16) (by omega) (by omega))]
          have := hq _ _ (Nat.add_zero k0') (Nat.add_zero m)
          rw [if_neg (fun q => c q.2)] at this
          exact this
      · have e : ¬ t.1 = 2 := e
        have := hq _ _ rfl rfl
        rw [if_neg (fun q => e q.1)] at this
        exact this
    by_cases c16 : t.1 = 2 ∧ u.2.1.length = 16
    · -- too many
      refine ⟨.inr (2, t.2.1), ⟨⟨by omega, by omega⟩, Nat.le_refl _, by omega⟩, fun f hf M hA hU => ?_, fun f hf bc bs Q M P L k0' m s hA hs hU hb1 hb2 hQ => ?_⟩
      · obtain ⟨f, rfl⟩ : ∃ q, f = q + 1 := ⟨f - 1, by omega⟩
        have hne : rt_W M 2 t.2.1 60 19 ≠ 0 := by rw [rt_W.v.1]; decide
        refine ⟨rt_W M 2 t.2.1, ?_, rt_W.G, rt_W.v.1, rt_W.v.2⟩
        show tw_readWord_8b Nt (tw_readWord_8 Nt f) M = _
        unfold tw_readWord_8b
        simp only [px_get]
        rw [hA.2.2, if_pos rfl, hA.2.1.2.1, if_pos (show nI t.1 = 2 by rw [c16.1]; rfl), hU.2.1.1, if_pos (show nI u.2.1.length = 16 by rw [c16.2]; rfl), px_cal (rt_wrong hA)]
        unfold tw_readWord_40 tw_readWord_83
        rw [px_cal (dd_number hne)]
        simp only [px_get]
        rw [if_neg hne, if_neg hne]
      · obtain ⟨f, rfl⟩ : ∃ q, f = q + 1 := ⟨f - 1, by omega⟩
        refine cls f bc bs Q M P L k0' m s hA hU (fun k' m' ek em => ?_)
        subst ek em
        rw [if_pos c16]
        unfold rd_clause_475
        refine ⟨hA.1.2.1, rc_fault (κ := 2) hA (by omega) (by omega) (fun M' P' L' g1 g2 => ⟨fun _ => ?_, fun z => absurd z (by decide)⟩)⟩
        exact hQ M' P' L' _ _ g1 (hU.bad (g2.up (fun _ _ z => z.elim))) (by omega) (by omega)
    · have tw0 : ∀ (f : Nat) (M : cx_M), rt_A b n t M → rUw u M → tw_readWord_8 Nt (f + 1) M = tw_readWord_40 Nt (tw_readWord_8 Nt f) M := by
        intro f M hA hU
        show tw_readWord_8b Nt (tw_readWord_8 Nt f) M = _
        unfold tw_readWord_8b
        simp only [px_get]
        rw [hA.2.2, if_pos rfl, hA.2.1.2.1]
        by_cases c2 : t.1 = 2
        · rw [if_pos (show nI t.1 = 2 by rw [c2]; rfl), hU.2.1.1, if_neg (show ¬ nI u.2.1.length = 16 from fun z => c16 ⟨c2, nI_inj (k := 16) (by omega) (by omega) z⟩)]
        · rw [if_neg (show ¬ nI t.1 = 2 from fun z => c2 (nI_inj (k := 2) (by omega) (by omega) z))]
      obtain ⟨t', hx'⟩ := rNx_ex (b := b) (n := n) (p := t.2.2) ken
      have hT' : rTok b n t' := ⟨_, hx'⟩
      have hle := hx'.le
      by_cases hq : rNum b t 0 255
      · -- one more
        have kk := k0 (by have := hq.1; omega)
        have hl16 : u.2.1.length < 16 := by
          have : ¬ u.2.1.length = 16 := fun z => c16 ⟨hq.1, z⟩
          omega
        have tv := pi_nI (n := rVal b t.2.1 (t.2.2 - t.2.1)) (by have := hq.2.2.2; omega)
        have hlen1 : (u.2.1 ++ [rVal b t.2.1 (t.2.2 - t.2.1)]).length = u.2.1.length + 1 := by rw [List.length_append]; rfl
        have hp1 : rUp (uWord u (u.2.1 ++ [rVal b t.2.1 (t.2.2 - t.2.1)])) t' := by
          have h' := hp.mono (t' := t') (by omega)
          refine ⟨h'.1, ⟨by show (u.2.1 ++ [rVal b t.2.1 (t.2.2 - t.2.1)]).length ≤ 16; omega, fun v hv => ?_⟩, h'.2.2.1, h'.2.2.2.1, h'.2.2.2.2.1, fun z => absurd (show (0 : Int32) = 1 from z.symm.trans h6) (by decide), h'.2.2.2.2.2.2⟩
          rcases List.mem_append.mp hv with q | q
          · exact h'.2.1.2 v q
          · rw [List.mem_singleton.mp q]; exact hq.2.2.2
        -- what both hold behind it
        have tw1 : ∀ (f : Nat) (M : cx_M), rt_A b n t M → rUw u M → ∃ M1, tw_readWord_8 Nt (f + 1) M = tw_readWord_83 Nt (tw_readWord_8 Nt f) M1 ∧ rt_G M M1 ∧ rt_A b n t' M1 ∧ rUw (uWord u (u.2.1 ++ [rVal b t.2.1 (t.2.2 - t.2.1)])) M1 := by
          intro f M hA hU
          obtain ⟨M1, e1, e2, e3⟩ := rt_number_ok (N := Nt) (lo := 0) (hi := 255) hn hNt hb0 hA hT hx' hq (by decide)
          have e1 : tw_readNumber Nt M 0 255 = _ := e1
          have h17 : M1 3 17 = nI u.2.1.length := by rw [e2.1 3 (by decide)]; exact hU.2.1.1
          have e16 : (16 : Int32) + nI u.2.1.length = nI (16 + u.2.1.length) := by
            rw [show (16 : Int32) = nI 16 from rfl, nI_add]
          have t16 := pi_nI (n := 16 + u.2.1.length) (by omega)
          refine ⟨cx_up (cx_up M1 4 (16 + u.2.1.length) (nI (rVal b t.2.1 (t.2.2 - t.2.1)))) 3 17 (nI (u.2.1.length + 1)), ?_, ?_, ?_, ?_⟩
          · rw [tw0 f M hA hU]
            unfold tw_readWord_40
            rw [px_cal e1]
            simp only [px_get, px_put]
            rw [e3.2.2, if_pos rfl, h17, e16, px_st (by omega) (by omega), pn_I (by omega), px_upc (show (3 : Nat) ≠ 4 by decide), h17, ← nI_succ]
          · refine ⟨fun c q1 q2 q3 q4 q5 => by rw [px_upc q2, px_upc q3]; exact e2.1 c q1, fun k hk => by rw [px_upc (by decide), px_upc (by decide)]; exact (e2.G).2.1 k hk, fun k hk => by rw [px_up, if_neg (by omega), px_upc (by decide), e2.1 3 (by decide)], fun k hk => by rw [px_upc (by decide), px_up, if_neg (by omega), e2.1 4 (by decide)], fun k _ => ⟨by rw [px_upc (by decide), px_upc (by decide), e2.1 5 (by decide)], by rw [px_upc (by decide), px_upc (by decide), e2.1 6 (by decide)]⟩⟩
          · obtain ⟨⟨a1, a2⟩, a3, a4⟩ := e3
            have e60 : ∀ v w', cx_up (cx_up M1 4 (16 + u.2.1.length) v) 3 17 w' 60 = M1 60 := fun v w' => by rw [px_upc (by decide), px_upc (by decide)]
            refine ⟨⟨by rw [e60]; exact a1, fun j hj => by rw [px_upc (by decide), px_upc (by decide)]; exact a2 j hj⟩, ?_, by rw [e60]; exact a4⟩
            unfold rt_M at a3 ⊢
            rw [e60]
            exact a3
          · obtain ⟨g1, ⟨g2, g3⟩, ⟨g4, g5⟩, ⟨g6, g7⟩⟩ := hU
            have e3' : ∀ k, k ≠ 17 → cx_up (cx_up M1 4 (16 + u.2.1.length) (nI (rVal b t.2.1 (t.2.2 - t.2.1)))) 3 17 (nI (u.2.1.length + 1)) 3 k = M 3 k := fun k hk => by rw [px_up, if_neg (fun z => hk z.2), px_upc (by decide), e2.1 3 (by decide)]
            refine ⟨fun k hk => by rw [e3' _ (by omega)]; exact g1 k hk, ⟨?_, fun i v hv => ?_⟩, ⟨by rw [e3' _ (by decide)]; exact g4, fun i y hy => by rw [px_upc (by decide), px_upc (by decide), e2.1 5 (by decide)]; exact g5 i y hy⟩, ⟨by rw [e3' _ (by decide)]; exact g6, fun i y hy => by rw [px_upc (by decide), px_upc (by decide), e2.1 6 (by decide)]; exact g7 i y hy⟩⟩
            · rw [px_up, if_pos ⟨rfl, rfl⟩]
              show nI (u.2.1.length + 1) = nI (u.2.1 ++ [rVal b t.2.1 (t.2.2 - t.2.1)]).length
              rw [hlen1]
            · have hv : (u.2.1 ++ [rVal b t.2.1 (t.2.2 - t.2.1)])[i]? = some v := hv
              rw [px_upc (by decide), px_up]
              by_cases e : i = u.2.1.length
              · subst e
                rw [List.getElem?_append_right (Nat.le_refl _), Nat.sub_self] at hv
                rw [if_pos ⟨rfl, rfl⟩]
                exact congrArg nI (Option.some.inj hv)
              · have hi : i < u.2.1.length := by
                  have := (List.getElem?_eq_some_iff.mp hv).1
                  omega
                rw [List.getElem?_append_left hi] at hv
                rw [if_neg (by omega), e2.1 4 (by decide)]
                exact g3 i v hv
        have cl1 : ∀ (f bc bs : Nat) (Q : cd_Qt) (M : cx_M) (P : dP) (L : dL) (k0 m s : Nat), rc_A N b n a0 e8 s t M P L → rc_s a0 s L → rUc N M0 P0 L0 a0 J s u M P L → k0 + 24 * (n + 1 - t.2.1) + 12 ≤ bc → m + 110 * (n + 1 - t.2.1) + 60 ≤ bs →
            (∀ s1 M1 P1 L1 k1 m1, k1 ≤ k0 + 7 → m1 ≤ m + 75 → rc_A N b n a0 e8 s1 t' M1 P1 L1 → rc_s a0 s1 L1 → rUc N M0 P0 L0 a0 J s1 (uWord u (u.2.1 ++ [rVal b t.2.1 (t.2.2 - t.2.1)])) M1 P1 L1 →
              if t'.1 = 2 then rd_clause_447 N bc bs Q a0 J.1 f M1 P1 L1 k1 m1 else Q M1 P1 L1 0 none 0 k1 m1) → rd_clause_447 N bc bs Q a0 J.1 (f + 1) M P L k0 m := by
          intro f bc bs Q M P L k0' m s hA hs hU hb1 hb2 hy
          refine cls f bc bs Q M P L k0' m s hA hU (fun k' m' ek em => ?_)
          subst ek em
          rw [if_neg c16]
          unfold rd_clause_475
          refine ⟨hA.1.2.1, rc_fine ⟨fun z => absurd rfl z, fun _ => pd_add ⟨hU.2.2.1.1, pd_let ⟨hA.1.2.1, ?_⟩⟩⟩⟩
          rw [hU.2.2.1.2.2.1]
          refine rc_number (lo := 0) (hi := 255) hn hN hKd hA hT hx' (by omega) (by omega) (by decide) (by decide) (fun _ s1 M1 P1 L1 kx mx g1 g2 g3 g4 g5 => ⟨fun z => absurd rfl z, fun _ => pd_add ?_⟩) (fun z => absurd hq z)
          have hU1 := hU.go hA.1.1 hA.1.2.1 hs g4 g5
          have hs1 := hs.nx g5 (fun y hy => g4.mem hy)
          refine qd_valueOf (by omega) g3.1.1 (by omega) (by omega) (fun a M2 P2 L2 k2 n2 q1 q2 q3 q4 q5 => ?_)
          have hJ : qd_J (fun _ => False) M1 P1 L1 M2 P2 L2 := q4.toJ
          have hA2 := g3.Y hJ q3
          have hs2 : rc_s a0 s1 L2 := hs1.imp id (fun z => hJ.mem z)
          have hU2 := hU1.go g3.1.1 g3.1.2.1 hs1 (hJ.up (fun _ _ z => z.elim)) (Or.inl rfl)
          intro _
          refine pd_add (pd_nn rfl ?_)
          obtain ⟨d, z, hal, hdL⟩ := hU2.2.2.2.2.1
          refine ⟨hal.1, al_add hal hl16 q3 q5 (by omega) (by omega) (fun d' z' M3 P3 L3 k3 m3 y1 y2 y3 y4 y5 y6 => ?_)⟩
          intro _
          refine pd_add ?_
          have hu2 := q3
          have hA3 : rc_A N b n a0 e8 s1 t' M3 P3 L3 := rc_A_J hA2 y5 y4 (fun e => e.elim (fun e => absurd (show ((0, 10, 0) : dk) = (0, 20, 0) from hu2 _ hA2.1.2.1 _ hal.1 e) (by decide)) (fun e => dk03 (show ((0, 10, 0) : dk) = (3, 4, z) from hu2 _ hA2.1.2.1 _ hal.2.2.1 e)))
            (fun c hc e => e.elim (fun e => absurd (show ((0, 17, 0) : dk) = (0, 20, 0) from hu2 _ hc _ hal.1 e) (by decide)) (fun e => dk03 (show ((0, 17, 0) : dk) = (3, 4, z) from hu2 _ hc _ hal.2.2.1 e)))
            (fun c zz hc e => e.elim (fun e => dk12 (show ((1, 2, zz) : dk) = (0, 20, 0) from hu2 _ hc _ hal.1 e).symm) (fun e => absurd (show (1 : Nat) = 3 from congrArg Prod.fst (show ((1, 2, zz) : dk) = (3, 4, z) from hu2 _ hc _ hal.2.2.1 e)) (by decide)))
          have hU3 := hU2.add q3 ⟨z, hal.2.2.1⟩ hdL y5 y3 y6
          refine ⟨hA3.1.2.1, pd_let ?_⟩
          rw [hA3.2.2.1]
          have key := hy s1 M3 P3 L3 (k' + 0 + kx + k2 + k3) (m' + 0 + mx + n2 + m3) (by omega) (by omega) hA3 (hs2.imp id (fun z => y5.mem z)) hU3
          obtain ⟨-, -, -, j4, -, -⟩ := rTok_k hT'
          refine rKd_if (i := 1) hKd j4 (by decide) (fun e => ?_) (fun e => ?_)
          · have e : t'.1 = 2 := e
            rw [if_pos e] at key
            exact key
          · have e : ¬ t'.1 = 2 := e
            rw [if_neg e] at key
            exact key
        by_cases c2 : t'.1 = 2
        · obtain ⟨o, r1, r2, r3⟩ := ih t' (uWord u (u.2.1 ++ [rVal b t.2.1 (t.2.2 - t.2.1)])) hT' (by omega) hp1 h6
          have hop : rVp b n t u o := by
            match o, r1 with
            | .inl (u', t2), r1 => exact ⟨r1.1, by have := r1.2.1; omega, r1.2.2⟩
            | .inr (κ, pl), r1 => exact ⟨r1.1, by have := r1.2.1; omega, r1.2.2⟩
          refine ⟨o, hop, fun f hf M hA hU => ?_, fun f hf bc bs Q M P L k0' m s hA hs hU hb1 hb2 hQ => ?_⟩
          · obtain ⟨f, rfl⟩ : ∃ q, f = q + 1 := ⟨f - 1, by omega⟩
            obtain ⟨M1, e1, e2, e3, e4⟩ := tw1 f M hA hU
            have e83 : tw_readWord_83 Nt (tw_readWord_8 Nt f) M1 = tw_readWord_8 Nt f M1 := by
              unfold tw_readWord_83
              simp only [px_get]
              rw [e3.2.2, if_pos rfl, e3.2.1.2.1, if_pos (show nI t'.1 = 2 by rw [c2]; rfl)]
            have key := r2 f (by omega) M1 e3 e4
            match o, key with
            | .inl (u', t2), key =>
              obtain ⟨M4, y1, y2, y3, y4⟩ := key
              exact ⟨M4, (e1.trans e83).trans y1, e2.tr y2, y3, y4⟩
            | .inr (κ, pl), key =>
              obtain ⟨M4, y1, y2, y3, y4⟩ := key
              exact ⟨M4, (e1.trans e83).trans y1, e2.tr y2, y3, y4⟩
          · obtain ⟨f, rfl⟩ : ∃ q, f = q + 1 := ⟨f - 1, by omega⟩
            refine cl1 f bc bs Q M P L k0' m s hA hs hU hb1 hb2 (fun s1 M1 P1 L1 k1' m1 g1 g2 g3 g4 g5 => ?_)
            rw [if_pos c2]
            refine r3 f (by omega) bc bs Q M1 P1 L1 k1' m1 s1 g3 g4 g5 (by omega) (by omega) ?_
            match o, r1, hQ with
            | .inl (u', t2), r1, hQ =>
              intro s' M' P' L' k' m' y1 y2 y3 y4 y5
              exact hQ s' M' P' L' k' m' y1 y2 y3 (by have := r1.2.1; omega) (by have := r1.2.1; omega)
            | .inr (κ, pl), r1, hQ =>
              intro M' P' L' k' m' y1 y2 y3 y4
              exact hQ M' P' L' k' m' y1 y2 (by have := r1.2.1; omega) (by have := r1.2.1; omega)
        · refine ⟨.inl (uWord u (u.2.1 ++ [rVal b t.2.1 (t.2.2 - t.2.1)]), t'), ⟨hT', by omega, hp1, rfl⟩, fun f hf M hA hU => ?_, fun f hf bc bs Q M P L k0' m s hA hs hU hb1 hb2 hQ => ?_⟩
          · obtain ⟨f, rfl⟩ : ∃ q, f = q + 1 := ⟨f - 1, by omega⟩
            obtain ⟨M1, e1, e2, e3, e4⟩ := tw1 f M hA hU
            refine ⟨M1, e1.trans ?_, e2, e3, e4.end (by show u.2.1 ++ [rVal b t.2.1 (t.2.2 - t.2.1)] ≠ []; simp)⟩
            unfold tw_readWord_83
            simp only [px_get]
            rw [e3.2.2, if_pos rfl, e3.2.1.2.1, if_neg (show ¬ nI t'.1 = 2 from fun z => c2 (nI_inj (k := 2) (by omega) (by omega) z))]
          · obtain ⟨f, rfl⟩ : ∃ q, f = q + 1 := ⟨f - 1, by omega⟩
            refine cl1 f bc bs Q M P L k0' m s hA hs hU hb1 hb2 (fun s1 M1 P1 L1 k1' m1 g1 g2 g3 g4 g5 => ?_)
            rw [if_neg c2]
            exact hQ s1 M1 P1 L1 k1' m1 g3 g4 g5 (by omega) (by omega)
      · -- no number, or out of bounds
        refine ⟨.inr (if t.1 = 2 then 2 else 1, t.2.1), ⟨by split <;> omega, Nat.le_refl _, by omega⟩, fun f hf M hA hU => ?_, fun f hf bc bs Q M P L k0' m s hA hs hU hb1 hb2 hQ => ?_⟩
        · obtain ⟨f, rfl⟩ : ∃ q, f = q + 1 := ⟨f - 1, by omega⟩
          have e1 := rt_number_er (N := Nt) (lo := 0) (hi := 255) hA hT hn (by decide) (by decide) hq
          have e1 : tw_readNumber Nt M 0 255 = _ := e1
          have hne : rt_W M (if t.1 = 2 then 2 else 1) t.2.1 60 19 ≠ 0 := by rw [rt_W.v.1]; split <;> decide
          refine ⟨rt_W M (if t.1 = 2 then 2 else 1) t.2.1, ?_, rt_W.G, ?_, rt_W.v.2⟩
          · show tw_readWord_8 Nt (f + 1) M = _
            rw [tw0 f M hA hU]
            unfold tw_readWord_40 tw_readWord_83
            rw [px_cal e1]
            simp only [px_get]
            rw [if_neg hne, if_neg hne]
          · rw [rt_W.v.1]; split <;> rfl
        · obtain ⟨f, rfl⟩ : ∃ q, f = q + 1 := ⟨f - 1, by omega⟩
          refine cls f bc bs Q M P L k0' m s hA hU (fun k' m' ek em => ?_)
          subst ek em
          rw [if_neg c16]
          unfold rd_clause_475
          refine ⟨hA.1.2.1, rc_fine ⟨fun z => absurd rfl z, fun _ => pd_add ⟨hU.2.2.1.1, pd_let ⟨hA.1.2.1, ?_⟩⟩⟩⟩
          refine rc_number (lo := 0) (hi := 255) hn hN hKd hA hT hx' (by omega) (by omega) (by decide) (by decide) (fun z => absurd z hq) (fun _ M' P' L' g1 g2 => ⟨fun _ => ?_, fun z => absurd z (by omega)⟩)
          exact hQ M' P' L' _ _ g1 (hU.bad (g2.up (fun _ _ z => z.elim))) (by omega) (by omega)
end WD
