/-! ACTS: note, forget, image, restore, feed: the reference -/
def pa_mayNote (A : qA) (a b : Int32) : Prop := A.1.2.2.1.length ≠ 8 ∧ (0 ≤ a.toInt ∧ a.toInt ≤ 60) ∧ (0 ≤ b.toInt ∧ b.toInt ≤ 999)
noncomputable def pa_note (A : qA) (a b : Int32) : qA × Int32 :=
  @ite (qA × Int32) (pa_mayNote A a b) (Classical.propDecidable _) (((A.1.1, A.1.2.1, A.1.2.2.1 ++ [(a, b)], A.1.2.2.2), A.2), nI (A.1.2.2.1.length + 1)) ((pa_refB A.1 2, A.2), -1)
theorem pa_note_y {A : qA} {a b : Int32} (h : pa_mayNote A a b) : pa_note A a b = (((A.1.1, A.1.2.1, A.1.2.2.1 ++ [(a, b)], A.1.2.2.2), A.2), nI (A.1.2.2.1.length + 1)) := if_pos h
theorem pa_note_n {A : qA} {a b : Int32} (h : ¬ pa_mayNote A a b) : pa_note A a b = ((pa_refB A.1 2, A.2), -1) := if_neg h
theorem tw_note_s {N : Nat} {E : ps_E} {M : cx_M} {A : qA} {a b : Int32} (hA : qAI E A) (h : qr_pre N E M A) : tw_act N E M (tw_note N M a b) (pa_note A a b).1 (pa_note A a b).2 0 := by
  obtain ⟨M1, e1, hA1, hc1, hF1⟩ := h
  have hL := hA.2.1.2.2.2
  obtain ⟨h31, hp, h32, hn, hs⟩ := hA1.2.1
  have no : ¬ pa_mayNote A a b → tw_act N E M (tw_note_37 N M1) (pa_note A a b).1 (pa_note A a b).2 0 := by
    intro z
    rw [pa_note_n z]
    obtain ⟨M2, e2, h2, g2, F2⟩ := tw_refuse_s (i := 2) (by decide) hA1
    refine ⟨M2, ?_, h2, g2.trans hc1, hF1.tr F2⟩
    unfold tw_note_37
    rw [px_cal (show tw_refuse N M1 2 = _ from e2)]
  unfold tw_note tw_note_0
  rw [px_cal e1]
  simp only [px_get]
  rw [h32]
  by_cases c8 : A.1.2.2.1.length = 8
  · rw [c8, if_pos (show nI 8 = 8 from rfl)]
    exact no (fun z => z.1 c8)
  · have t := pi_nI (n := A.1.2.2.1.length) (by omega)
    rw [if_neg (fun z => by
      have := congrArg Int32.toInt z
      rw [t, show (8 : Int32).toInt = 8 from rfl] at this
      omega), px_cal tw_isIn_s]
    by_cases ca : 0 ≤ a.toInt ∧ a.toInt ≤ 60
    · rw [if_pos (show (0 : Int64).toInt ≤ a.toInt ∧ a.toInt ≤ (60 : Int64).toInt from ca), if_neg (by decide), px_cal tw_isIn_s]
      by_cases cb : 0 ≤ b.toInt ∧ b.toInt ≤ 999
      · rw [if_pos (show (0 : Int64).toInt ≤ b.toInt ∧ b.toInt ≤ (999 : Int64).toInt from cb), if_neg (by decide), pa_note_y ⟨c8, ca, cb⟩]
        simp only [px_put]
        rw [h32, px_st (by omega) (by omega), pn_I (by omega), px_upc (show (60 : Nat) ≠ 38 by decide), h32, px_st (by omega) (by omega), pn_I (by omega), px_upc (show (60 : Nat) ≠ 39 by decide), px_upc (show (60 : Nat) ≠ 38 by decide), h32]
        generalize eM : cx_up (cx_up M1 38 A.1.2.2.1.length a) 39 A.1.2.2.1.length b = M2
        have ac : ∀ c, c ≠ 38 → c ≠ 39 → M2 c = M1 c := fun c x y => by rw [← eM, px_upc y, px_upc x]
        have i38 : ∀ j, M2 38 j = if j = A.1.2.2.1.length then a else M1 38 j := fun j => by
          rw [← eM, px_upc (by decide), px_up]
          by_cases z : j = A.1.2.2.1.length
          · rw [if_pos ⟨rfl, z⟩, if_pos z]
          · rw [if_neg (fun y => z y.2), if_neg z]
        have i39 : ∀ j, M2 39 j = if j = A.1.2.2.1.length then b else M1 39 j := fun j => by
          rw [← eM, px_up, px_upc (by decide)]
          by_cases z : j = A.1.2.2.1.length
          · rw [if_pos ⟨rfl, z⟩, if_pos z]
          · rw [if_neg (fun y => z y.2), if_neg z]
        have g32 : cx_up M2 60 32 (nI A.1.2.2.1.length + 1) 60 32 = nI (A.1.2.2.1.length + 1) := by rw [px_up, if_pos ⟨rfl, rfl⟩, ← nI_succ]
        have bc : ∀ c, c ≠ 38 → c ≠ 39 → c ≠ 60 → cx_up M2 60 32 (nI A.1.2.2.1.length + 1) c = M1 c := fun c x y z => by rw [px_upc z, ac c x y]
        have bk : ∀ k, k ≠ 32 → cx_up M2 60 32 (nI A.1.2.2.1.length + 1) 60 k = M1 60 k := fun k z => by rw [px_up, if_neg (fun y => z y.2), ac 60 (by decide) (by decide)]
        have b38 : cx_up M2 60 32 (nI A.1.2.2.1.length + 1) 38 = M2 38 := px_upc (by decide)
        have b39 : cx_up M2 60 32 (nI A.1.2.2.1.length + 1) 39 = M2 39 := px_upc (by decide)
        generalize cx_up M2 60 32 (nI A.1.2.2.1.length + 1) = M3 at g32 bc bk b38 b39 ⊢
        refine ⟨M3, by rw [g32], ?_, by rw [bk 2 (by decide)]; exact hc1, hF1.tr (fun c hc => bc c (by omega) (by omega) (by omega))⟩
        refine qr_A.bk (A := A) (B := (A.1.1, A.1.2.1, A.1.2.2.1 ++ [(a, b)], A.1.2.2.2)) hA1 (hA1.1.oth2 (fun c hc => bc c (fun e => by rw [e] at hc; revert hc; decide) (fun e => by rw [e] at hc; revert hc; decide) (fun e => by rw [e] at hc; revert hc; decide)) (fun k hk => bk k (fun e => by rw [e] at hk; revert hk; decide))) ⟨?_, ?_, ?_, ?_, ?_⟩ (fun c hc => bc c (fun e => by rw [e] at hc; revert hc; decide) (fun e => by rw [e] at hc; revert hc; decide) (fun e => by rw [e] at hc; revert hc; decide)) (fun k hk => bk k (fun e => by rw [e] at hk; revert hk; decide))
        · rw [bk 31 (by decide)]; exact h31
        · intro j S hj
          rw [bc 33 (by decide) (by decide) (by decide)]
          exact hp j S hj
        · rw [g32]
          show _ = nI (A.1.2.2.1 ++ [(a, b)]).length
          rw [List.length_append, List.length_singleton]
        · intro j x hj
          have hj' : (A.1.2.2.1 ++ [(a, b)])[j]? = some x := hj
          rw [b38, b39, i38, i39]
          by_cases z : j < A.1.2.2.1.length
          · rw [List.getElem?_append_left z] at hj'
            rw [if_neg (by omega), if_neg (by omega)]
            exact hn j x hj'
          · rw [List.getElem?_append_right (by omega)] at hj'
            cases hd : j - A.1.2.2.1.length with
            | zero =>
              rw [hd] at hj'
              have ex : (a, b) = x := Option.some.inj hj'
              rw [if_pos (by omega), if_pos (by omega), ← ex]
              exact ⟨rfl, rfl⟩
            | succ d => rw [hd] at hj'; cases hj'
        · intro j hj
          rw [bc 7 (by decide) (by decide) (by decide)]
          exact hs j hj
      · rw [if_neg (show ¬ ((0 : Int64).toInt ≤ b.toInt ∧ b.toInt ≤ (999 : Int64).toInt) from cb), if_pos rfl]
        exact no (fun z => cb z.2.2)
    · rw [if_neg (show ¬ ((0 : Int64).toInt ≤ a.toInt ∧ a.toInt ≤ (60 : Int64).toInt) from ca), if_pos rfl]
      exact no (fun z => ca z.2.1)
def pa_forget (A : qA) : qA := ((A.1.1, A.1.2.1, [], A.1.2.2.2), A.2)
theorem tw_forget_s {N : Nat} {E : ps_E} {M : cx_M} {A : qA} (h : qr_pre N E M A) : tw_act N E M (tw_forget N M) (pa_forget A) 0 0 := by
  obtain ⟨M1, e1, hA1, hc1, hF1⟩ := h
  obtain ⟨h31, hp, h32, hn, hs⟩ := hA1.2.1
  unfold tw_forget tw_forget_0
  rw [px_cal e1]
  simp only [px_put]
  have bc : ∀ c, c ≠ 60 → cx_up M1 60 32 0 c = M1 c := fun c x => px_upc x
  have bk : ∀ k, k ≠ 32 → cx_up M1 60 32 0 60 k = M1 60 k := fun k z => by rw [px_up, if_neg (fun y => z y.2)]
  have g32 : cx_up M1 60 32 0 60 32 = 0 := by rw [px_up, if_pos ⟨rfl, rfl⟩]
  generalize cx_up M1 60 32 0 = M3 at g32 bc bk ⊢
  refine ⟨M3, rfl, ?_, by rw [bk 2 (by decide)]; exact hc1, hF1.tr (fun c hc => bc c (by omega))⟩
  refine qr_A.bk (A := A) (B := (A.1.1, A.1.2.1, [], A.1.2.2.2)) hA1 (hA1.1.oth2 (fun c hc => bc c (fun e => by rw [e] at hc; revert hc; decide)) (fun k hk => bk k (fun e => by rw [e] at hk; revert hk; decide))) ⟨?_, ?_, ?_, ?_, ?_⟩ (fun c hc => bc c (fun e => by rw [e] at hc; revert hc; decide)) (fun k hk => bk k (fun e => by rw [e] at hk; revert hk; decide))
  · rw [bk 31 (by decide)]; exact h31
  · intro j S hj
    rw [bc 33 (by decide)]
    exact hp j S hj
  · rw [g32]; rfl
  · intro j x hj; cases hj
  · intro j hj
    rw [bc 7 (by decide)]
    exact hs j hj
theorem tw_fault_s {N : Nat} {E : ps_E} {M : cx_M} {A : qA} (h : qr_pre N E M A) : tw_act N E M (tw_fault N M) A A.2.2.2 0 := by
  obtain ⟨M1, e1, hA1, hc1, hF1⟩ := h
  unfold tw_fault tw_fault_0
  rw [px_cal e1]
  simp only [px_get]
  exact ⟨M1, by rw [hA1.2.2.2.2.2.2], hA1, hc1, hF1⟩
/-- a book copied from cells to cells -/
theorem qr_bk.cp {M M' : cx_M} {p i l s p' i' l' s' : Nat} {x y : Int32} {E : ps_E} {B : qB} (hB : qBI E B) (h : qr_bk M p i l s x y B) (e1 : ∀ q, q < 26600 → M' p' q = M p q) (e2 : ∀ q, q < 8 → M' i' q = M i q) (e3 : ∀ q, q < 8 → M' l' q = M l q) (e4 : ∀ q, q < 3 → M' s' q = M s q) : qr_bk M' p' i' l' s' x y B := by
  obtain ⟨h31, hp, h32, hn, hs⟩ := h
  obtain ⟨-, -, hl, hl2⟩ := hB
  refine ⟨h31, fun j S hj q hq => ?_, h32, fun j z hj => ?_, fun j hj => by rw [e4 j hj]; exact hs j hj⟩
  · have hj2 : j < B.2.1.length := by
      rcases Nat.lt_or_ge j B.2.1.length with z | z
      · exact z
      · rw [List.getElem?_eq_none z] at hj; cases hj
    show M' p' (665 * j + q) = _
    rw [e1 _ (by omega)]
    exact hp j S hj q hq
  · have hj2 : j < B.2.2.1.length := by
      rcases Nat.lt_or_ge j B.2.2.1.length with y | y
      · exact y
      · rw [List.getElem?_eq_none y] at hj; cases hj
    rw [e2 j (by omega), e3 j (by omega)]
    exact hn j z hj
theorem tw_image_s {N : Nat} {E : ps_E} {M : cx_M} {A : qA} (hN : 30000 ≤ N) (hA : qAI E A) (h : qr_pre N E M A) : tw_act N E M (tw_image N M) (A.1, some A.1, A.2.2) 0 0 := by
  obtain ⟨M1, e1, hA1, hc1, hF1⟩ := h
  obtain ⟨hV, hb, h9, -, h12, h11, h21⟩ := hA1
  unfold tw_image tw_image_0
  rw [px_cal e1]
  simp only [px_get, px_put]
  rw [px_up, if_neg (by decide), px_up, if_neg (by decide), px_up, if_neg (by decide)]
  have bc : ∀ c, c ≠ 60 → cx_up (cx_up (cx_up M1 60 44 1) 60 45 (M1 60 31)) 60 46 (M1 60 32) c = M1 c := fun c x => by rw [px_upc x, px_upc x, px_upc x]
  have bk : ∀ k, k ≠ 44 → k ≠ 45 → k ≠ 46 → cx_up (cx_up (cx_up M1 60 44 1) 60 45 (M1 60 31)) 60 46 (M1 60 32) 60 k = M1 60 k := fun k x y z => by rw [px_up, if_neg (fun w => z w.2), px_up, if_neg (fun w => y w.2), px_up, if_neg (fun w => x w.2)]
  have g44 : cx_up (cx_up (cx_up M1 60 44 1) 60 45 (M1 60 31)) 60 46 (M1 60 32) 60 44 = 1 := by rw [px_up, if_neg (by decide), px_up, if_neg (by decide), px_up, if_pos ⟨rfl, rfl⟩]
  have g45 : cx_up (cx_up (cx_up M1 60 44 1) 60 45 (M1 60 31)) 60 46 (M1 60 32) 60 45 = M1 60 31 := by rw [px_up, if_neg (by decide), px_up, if_pos ⟨rfl, rfl⟩]
  have g46 : cx_up (cx_up (cx_up M1 60 44 1) 60 45 (M1 60 31)) 60 46 (M1 60 32) 60 46 = M1 60 32 := by rw [px_up, if_pos ⟨rfl, rfl⟩]
  generalize cx_up (cx_up (cx_up M1 60 44 1) 60 45 (M1 60 31)) 60 46 (M1 60 32) = M2 at bc bk g44 g45 g46 ⊢
  obtain ⟨M3, e3, o3, i3⟩ := tw_copyTo_s (N := N) (M := M2) (c0 := 47) (c1 := 8) (z := 665) rfl (by decide) (by decide) (by decide) (by omega)
  obtain ⟨M4, e4, o4, i4⟩ := tw_copyTo_s (N := N) (M := M3) (c0 := 48) (c1 := 33) (z := 26600) rfl (by decide) (by decide) (by decide) (by omega)
  obtain ⟨M5, e5, o5, i5⟩ := tw_copyTo_s (N := N) (M := M4) (c0 := 49) (c1 := 38) (z := 8) rfl (by decide) (by decide) (by decide) (by omega)
  obtain ⟨M6, e6, o6, i6⟩ := tw_copyTo_s (N := N) (M := M5) (c0 := 50) (c1 := 39) (z := 8) rfl (by decide) (by decide) (by decide) (by omega)
  obtain ⟨M7, e7, o7, i7⟩ := tw_copyTo_s (N := N) (M := M6) (c0 := 51) (c1 := 7) (z := 3) rfl (by decide) (by decide) (by decide) (by omega)
  rw [px_cal e3, px_cal e4, px_cal e5, px_cal e6, px_cal e7]
  have ac : ∀ c, c ≠ 47 → c ≠ 48 → c ≠ 49 → c ≠ 50 → c ≠ 51 → M7 c = M2 c := fun c a1 a2 a3 a4 a5 => by rw [o7 c a5, o6 c a4, o5 c a3, o4 c a2, o3 c a1]
  have a60 := ac 60 (by decide) (by decide) (by decide) (by decide) (by decide)
  have acc : ∀ c, c < 40 → M7 c = M1 c := fun c hc => (ac c (by omega) (by omega) (by omega) (by omega) (by omega)).trans (bc c (by omega))
  have hk : ∀ k, k ≠ 44 → k ≠ 45 → k ≠ 46 → M7 60 k = M1 60 k := fun k x y z => by rw [a60]; exact bk k x y z
  have c47 : ∀ q, q < 665 → M7 47 q = M1 8 q := fun q hq => by rw [o7 47 (by decide), o6 47 (by decide), o5 47 (by decide), o4 47 (by decide), i3 q hq, bc 8 (by decide)]
  have c48 : ∀ q, q < 26600 → M7 48 q = M1 33 q := fun q hq => by rw [o7 48 (by decide), o6 48 (by decide), o5 48 (by decide), i4 q hq, o3 33 (by decide), bc 33 (by decide)]
  have c49 : ∀ q, q < 8 → M7 49 q = M1 38 q := fun q hq => by rw [o7 49 (by decide), o6 49 (by decide), i5 q hq, o4 38 (by decide), o3 38 (by decide), bc 38 (by decide)]
  have c50 : ∀ q, q < 8 → M7 50 q = M1 39 q := fun q hq => by rw [o7 50 (by decide), i6 q hq, o5 39 (by decide), o4 39 (by decide), o3 39 (by decide), bc 39 (by decide)]
  have c51 : ∀ q, q < 3 → M7 51 q = M1 7 q := fun q hq => by rw [i7 q hq, o6 7 (by decide), o5 7 (by decide), o4 7 (by decide), o3 7 (by decide), bc 7 (by decide)]
  refine ⟨M7, rfl, ⟨hV.oth2 (fun c hc => acc c ((by decide : ∀ c ∈ [8, 3, 4, 5, 6, 26, 27, 28], c < 40) c hc)) (fun k hk2 => hk k (fun e => by rw [e] at hk2; revert hk2; decide) (fun e => by rw [e] at hk2; revert hk2; decide) (fun e => by rw [e] at hk2; revert hk2; decide)), ?_, ?_, ?_, ?_, ?_, ?_⟩, by rw [hk 2 (by decide) (by decide) (by decide)]; exact hc1, hF1.tr (fun c hc => by rw [ac c (by omega) (by omega) (by omega) (by omega) (by omega), bc c (by omega)])⟩
  · rw [hk 31 (by decide) (by decide) (by decide), hk 32 (by decide) (by decide) (by decide)]
    exact qr_bk.cp hA.2.1 hb (fun q _ => by rw [acc 33 (by decide)]) (fun q _ => by rw [acc 38 (by decide)]) (fun q _ => by rw [acc 39 (by decide)]) (fun q _ => by rw [acc 7 (by decide)])
  · rw [hk 9 (by decide) (by decide) (by decide)]; exact h9
  · show M7 60 44 = 1 ∧ pr_R (M7 47) A.1.1 ∧ qr_bk M7 48 49 50 51 (M7 60 45) (M7 60 46) A.1
    rw [a60, g44, g45, g46]
    exact ⟨rfl, fun q hq => by rw [c47 q hq]; exact hV.1 q hq, qr_bk.cp hA.2.1 hb c48 c49 c50 c51⟩
  · rw [hk 12 (by decide) (by decide) (by decide)]; exact h12
  · intro j hj; rw [acc 11 (by decide)]; exact h11 j hj
  · rw [hk 21 (by decide) (by decide) (by decide)]; exact h21
def pa_restore (A : qA) : qA × Int32 := match A.2.1 with
  | none => (A, 0)
  | some I => ((I, A.2), 1)
theorem tw_restore_s {N : Nat} {E : ps_E} {M : cx_M} {A : qA} (hN : 30000 ≤ N) (hA : qAI E A) (h : qr_pre N E M A) : tw_act N E M (tw_restore N M) (pa_restore A).1 (pa_restore A).2 0 := by
  obtain ⟨M1, e1, hA1, hc1, hF1⟩ := h
  have hA2 := hA1
  obtain ⟨hV, hb, h9, him, h12, h11, h21⟩ := hA1
  unfold tw_restore tw_restore_0
  rw [px_cal e1]
  simp only [px_get, px_put]
  unfold pa_restore
  unfold qr_im at him
  cases hI : A.2.1 with
  | none =>
    rw [hI] at him
    rw [show M1 60 44 = 0 from him, if_pos rfl]
    exact ⟨M1, rfl, hA2, hc1, hF1⟩
  | some I =>
    rw [hI] at him
    obtain ⟨h44, hR, hbI⟩ := (show M1 60 44 = 1 ∧ pr_R (M1 47) I.1 ∧ qr_bk M1 48 49 50 51 (M1 60 45) (M1 60 46) I from him)
    have hQI := hA.2.2.1 I hI
    rw [h44, if_neg (by decide), px_up, if_neg (by decide)]
    have bc : ∀ c, c ≠ 60 → cx_up (cx_up M1 60 31 (M1 60 45)) 60 32 (M1 60 46) c = M1 c := fun c x => by rw [px_upc x, px_upc x]
    have bk : ∀ k, k ≠ 31 → k ≠ 32 → cx_up (cx_up M1 60 31 (M1 60 45)) 60 32 (M1 60 46) 60 k = M1 60 k := fun k x y => by rw [px_up, if_neg (fun w => y w.2), px_up, if_neg (fun w => x w.2)]
    have g31 : cx_up (cx_up M1 60 31 (M1 60 45)) 60 32 (M1 60 46) 60 31 = M1 60 45 := by rw [px_up, if_neg (by decide), px_up, if_pos ⟨rfl, rfl⟩]
    have g32 : cx_up (cx_up M1 60 31 (M1 60 45)) 60 32 (M1 60 46) 60 32 = M1 60 46 := by rw [px_up, if_pos ⟨rfl, rfl⟩]
    generalize cx_up (cx_up M1 60 31 (M1 60 45)) 60 32 (M1 60 46) = M2 at bc bk g31 g32 ⊢
    obtain ⟨M3, e3, o3, i3⟩ := tw_copyTo_s (N := N) (M := M2) (c0 := 8) (c1 := 47) (z := 665) rfl (by decide) (by decide) (by decide) (by omega)
    obtain ⟨M4, e4, o4, i4⟩ := tw_copyTo_s (N := N) (M := M3) (c0 := 33) (c1 := 48) (z := 26600) rfl (by decide) (by decide) (by decide) (by omega)
    obtain ⟨M5, e5, o5, i5⟩ := tw_copyTo_s (N := N) (M := M4) (c0 := 38) (c1 := 49) (z := 8) rfl (by decide) (by decide) (by decide) (by omega)
    obtain ⟨M6, e6, o6, i6⟩ := tw_copyTo_s (N := N) (M := M5) (c0 := 39) (c1 := 50) (z := 8) rfl (by decide) (by decide) (by decide) (by omega)
    obtain ⟨M7, e7, o7, i7⟩ := tw_copyTo_s (N := N) (M := M6) (c0 := 7) (c1 := 51) (z := 3) rfl (by decide) (by decide) (by decide) (by omega)
    rw [px_cal e3, px_cal e4, px_cal e5, px_cal e6, px_cal e7]
    have ac : ∀ c, c ≠ 8 → c ≠ 33 → c ≠ 38 → c ≠ 39 → c ≠ 7 → M7 c = M2 c := fun c a1 a2 a3 a4 a5 => by rw [o7 c a5, o6 c a4, o5 c a3, o4 c a2, o3 c a1]
    have a60 := ac 60 (by decide) (by decide) (by decide) (by decide) (by decide)
    have hk : ∀ k, k ≠ 31 → k ≠ 32 → M7 60 k = M1 60 k := fun k x y => by rw [a60]; exact bk k x y
    have acc : ∀ c, c ≠ 8 → c ≠ 33 → c ≠ 38 → c ≠ 39 → c ≠ 7 → c ≠ 60 → M7 c = M1 c := fun c a1 a2 a3 a4 a5 a6 => (ac c a1 a2 a3 a4 a5).trans (bc c a6)
    have c8 : ∀ q, q < 665 → M7 8 q = M1 47 q := fun q hq => by rw [o7 8 (by decide), o6 8 (by decide), o5 8 (by decide), o4 8 (by decide), i3 q hq, bc 47 (by decide)]
    have c33 : ∀ q, q < 26600 → M7 33 q = M1 48 q := fun q hq => by rw [o7 33 (by decide), o6 33 (by decide), o5 33 (by decide), i4 q hq, o3 48 (by decide), bc 48 (by decide)]
    have c38 : ∀ q, q < 8 → M7 38 q = M1 49 q := fun q hq => by rw [o7 38 (by decide), o6 38 (by decide), i5 q hq, o4 49 (by decide), o3 49 (by decide), bc 49 (by decide)]
    have c39 : ∀ q, q < 8 → M7 39 q = M1 50 q := fun q hq => by rw [o7 39 (by decide), i6 q hq, o5 50 (by decide), o4 50 (by decide), o3 50 (by decide), bc 50 (by decide)]
    have c7 : ∀ q, q < 3 → M7 7 q = M1 51 q := fun q hq => by rw [i7 q hq, o6 51 (by decide), o5 51 (by decide), o4 51 (by decide), o3 51 (by decide), bc 51 (by decide)]
    have e31 : M7 60 31 = M1 60 45 := by rw [a60]; exact g31
    have e32 : M7 60 32 = M1 60 46 := by rw [a60]; exact g32
    refine ⟨M7, rfl, ?_, by rw [hk 2 (by decide) (by decide)]; exact hc1, hF1.tr (fun c hc => acc c (by omega) (by omega) (by omega) (by omega) (by omega) (by omega))⟩
    refine qr_A.bk (A := A) (B := I) hA2 ?_ ?_ (fun c hc => acc c (fun e => by rw [e] at hc; revert hc; decide) (fun e => by rw [e] at hc; revert hc; decide) (fun e => by rw [e] at hc; revert hc; decide) (fun e => by rw [e] at hc; revert hc; decide) (fun e => by rw [e] at hc; revert hc; decide) (fun e => by rw [e] at hc; revert hc; decide)) (fun k hk2 => hk k (fun e => by rw [e] at hk2; revert hk2; decide) (fun e => by rw [e] at hk2; revert hk2; decide))
    · obtain ⟨-, hg, hK, hQ⟩ := hV
      have fr : ∀ c ∈ [3, 4, 5, 6, 26, 27, 28], M7 c = M1 c := fun c hc => acc c (fun e => by rw [e] at hc; revert hc; decide) (fun e => by rw [e] at hc; revert hc; decide) (fun e => by rw [e] at hc; revert hc; decide) (fun e => by rw [e] at hc; revert hc; decide) (fun e => by rw [e] at hc; revert hc; decide) (fun e => by rw [e] at hc; revert hc; decide)
      refine ⟨fun q hq => by rw [c8 q hq]; exact hR q hq, ?_, hK.fr fr, ?_⟩
      · show M7 60 24 = I.1 0 33 ∧ M7 60 25 = I.1 0 34
        obtain ⟨T2, -, -, k33, k34⟩ := hQI.1
        obtain ⟨T3, -, -, g33, g34⟩ := hA.2.1.1
        have hg2 : M1 60 24 = A.1.1 0 33 ∧ M1 60 25 = A.1.1 0 34 := hg
        rw [hk 24 (by decide) (by decide), hk 25 (by decide) (by decide), hg2.1, hg2.2, g33, g34, k33, k34]
        exact ⟨rfl, rfl⟩
      · unfold pr_Q at hQ ⊢
        rw [hk 29 (by decide) (by decide), hk 30 (by decide) (by decide)]
        exact hQ
    · rw [e31, e32]
      exact qr_bk.cp hQI hbI c33 c38 c39 c7
