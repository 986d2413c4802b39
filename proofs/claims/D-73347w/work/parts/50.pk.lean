/-! BOOKS: the reference's side -/
/-- a book: now, what was kept, what was noted, what was refused -/
abbrev qB : Type := ps_S × List ps_S × List (Int32 × Int32) × (Nat → Int32)
/-- all: the book, the image, how much is on the tape and what, the fault's place -/
abbrev qA : Type := qB × Option qB × (Nat × (Nat → Int32)) × Int32
def qI (E : ps_E) (S : ps_S) : Prop := ∃ T, T ≤ 20000 ∧ ps_I E S T ∧ S 0 33 = E.1 2 ∧ S 0 34 = E.1 3
def qBI (E : ps_E) (B : qB) : Prop := qI E B.1 ∧ (∀ S ∈ B.2.1, qI E S) ∧ B.2.1.length ≤ 40 ∧ B.2.2.1.length ≤ 8
def qAI (E : ps_E) (A : qA) : Prop := ps_EO E ∧ qBI E A.1 ∧ (∀ I, A.2.1 = some I → qBI E I) ∧ A.2.2.1.1 ≤ 700
def qr_bk (M : cx_M) (cp ci cl cs : Nat) (acts many : Int32) (B : qB) : Prop :=
  acts = nI B.2.1.length ∧ (∀ j S, B.2.1[j]? = some S → pr_R (fun q => M cp (665 * j + q)) S) ∧ many = nI B.2.2.1.length ∧ (∀ j x, B.2.2.1[j]? = some x → M ci j = x.1 ∧ M cl j = x.2) ∧ ∀ j, j < 3 → M cs j = B.2.2.2 j
def qr_im (M : cx_M) : Option qB → Prop
  | none => M 60 44 = 0
  | some I => M 60 44 = 1 ∧ pr_R (M 47) I.1 ∧ qr_bk M 48 49 50 51 (M 60 45) (M 60 46) I
def qr_rest (M : cx_M) (A : qA) : Prop := qr_bk M 33 38 39 7 (M 60 31) (M 60 32) A.1 ∧ M 60 9 = 1 ∧ qr_im M A.2.1 ∧ M 60 12 = nI A.2.2.1.1 ∧ (∀ j, j < 700 → M 11 j = A.2.2.1.2 j) ∧ M 60 21 = A.2.2.2
def qr_A (N : Nat) (E : ps_E) (M : cx_M) (A : qA) : Prop := pr_V N E M (A.1.1, []) ∧ qr_rest M A
theorem qr_rest.fr {M M' : cx_M} {A : qA} (h : qr_rest M A) (hc : ∀ c ∈ [33, 38, 39, 7, 47, 48, 49, 50, 51, 11], M' c = M c) (hk : ∀ k ∈ [9, 12, 21, 31, 32, 44, 45, 46], M' 60 k = M 60 k) : qr_rest M' A := by
  unfold qr_rest at h ⊢
  obtain ⟨h1, h2, h3, h4⟩ := h
  refine ⟨?_, by rw [hk 9 (by decide)]; exact h2, ?_, ?_⟩
  · unfold qr_bk at h1 ⊢
    rw [hc 33 (by decide), hc 38 (by decide), hc 39 (by decide), hc 7 (by decide), hk 31 (by decide), hk 32 (by decide)]
    exact h1
  · unfold qr_im at h3 ⊢
    cases h : A.2.1 with
    | none => rw [h] at h3; show M' 60 44 = 0; rw [hk 44 (by decide)]; exact h3
    | some I =>
      rw [h] at h3
      show M' 60 44 = 1 ∧ pr_R (M' 47) I.1 ∧ qr_bk M' 48 49 50 51 (M' 60 45) (M' 60 46) I
      unfold qr_bk at h3 ⊢
      rw [hc 47 (by decide), hc 48 (by decide), hc 49 (by decide), hc 50 (by decide), hc 51 (by decide), hk 44 (by decide), hk 45 (by decide), hk 46 (by decide)]
      exact h3
  · rw [hk 12 (by decide), hc 11 (by decide), hk 21 (by decide)]
    exact h4
theorem qr_rest.step {M M' : cx_M} {A : qA} (h : qr_rest M A) (hF : pr_F M M') : qr_rest M' A :=
  h.fr (fun c hc => hF.1 c ((by decide : ∀ c ∈ [33, 38, 39, 7, 47, 48, 49, 50, 51, 11], c ∉ [8, 22, 23, 26, 27, 28, 60]) c hc)) (fun k hk => hF.2 k ((by decide : ∀ k ∈ [9, 12, 21, 31, 32, 44, 45, 46], k ≠ 29) k hk))
/-- what a call of the reference leaves -/
def qr_F (M M' : cx_M) : Prop := ∀ c, 100 ≤ c → M' c = M c
theorem qr_F.rf {M : cx_M} : qr_F M M := fun _ _ => rfl
theorem qr_F.tr {M M1 M2 : cx_M} (h1 : qr_F M M1) (h2 : qr_F M1 M2) : qr_F M M2 := fun c hc => (h2 c hc).trans (h1 c hc)
theorem qr_F.up {M : cx_M} {c k : Nat} {v : Int32} (h : c < 100) : qr_F M (cx_up M c k v) := fun d hd => px_upc (by omega)
theorem pr_F.q {M M' : cx_M} (h : pr_F M M') : qr_F M M' := fun c hc => h.1 c (fun z => by
  have h2 : ∀ c ∈ [8, 22, 23, 26, 27, 28, 60], c < 100 := by decide
  have := h2 c z
  omega)
theorem pi_64 (x : Int32) : (Int32.toInt64 x).toInt = x.toInt := Int32.toInt_toInt64 x
theorem tw_isIn_s {N : Nat} {M : cx_M} {x : Int32} {lo hi : Int64} : tw_isIn N M (Int32.toInt64 x) lo hi = some (M, if lo.toInt ≤ x.toInt ∧ x.toInt ≤ hi.toInt then 1 else 0, 0) := by
  have hc : ∀ a b : Int64, (lg_cmp a b < 0 ↔ a.toInt < b.toInt) ∧ (0 < lg_cmp a b ↔ b.toInt < a.toInt) := by
    intro a b
    unfold lg_cmp
    have hgt : a > b ↔ b.toInt < a.toInt := Int64.lt_iff_toInt_lt
    by_cases h1 : a > b
    · have := hgt.mp h1
      rw [if_pos h1]
      refine ⟨⟨fun z => absurd z (by decide), fun z => by omega⟩, ⟨fun _ => this, fun _ => by decide⟩⟩
    · rw [if_neg h1]
      have h1' : ¬ b.toInt < a.toInt := fun z => h1 (hgt.mpr z)
      by_cases h2 : a = b
      · rw [if_pos h2, h2]
        refine ⟨⟨fun z => absurd z (by decide), fun z => by omega⟩, ⟨fun z => absurd z (by decide), fun z => by omega⟩⟩
      · rw [if_neg h2]
        have : a.toInt ≠ b.toInt := fun e => h2 (Int64.toInt_inj.mp e)
        refine ⟨⟨fun _ => by omega, fun _ => by decide⟩, ⟨fun z => absurd z (by decide), fun z => by omega⟩⟩
  unfold tw_isIn tw_isIn_0
  by_cases c1 : lg_cmp (Int32.toInt64 x) lo < 0
  · rw [if_pos c1, if_neg]
    have := (hc _ _).1.mp c1
    rw [pi_64] at this
    omega
  · rw [if_neg c1]
    have c1' : ¬ (Int32.toInt64 x).toInt < lo.toInt := fun z => c1 ((hc _ _).1.mpr z)
    rw [pi_64] at c1'
    by_cases c2 : 0 < lg_cmp (Int32.toInt64 x) hi
    · rw [if_pos c2, if_neg]
      have := (hc _ _).2.mp c2
      rw [pi_64] at this
      omega
    · rw [if_neg c2, if_pos]
      have c2' : ¬ hi.toInt < (Int32.toInt64 x).toInt := fun z => c2 ((hc _ _).2.mpr z)
      rw [pi_64] at c2'
      omega
theorem tw_copyTo_loop {N c0 c1 z : Nat} (hz : twLen c0 = z) (h1 : z ≤ twLen c1) (hz1 : z < 100000) (hne : c0 ≠ c1) : ∀ (j k n : Nat) (M : cx_M), j + k = z → j < n → ∃ M', tw_copyTo_2 N c0 c1 n M (nI k) = some (M', 0, 0) ∧ (∀ c, c ≠ c0 → M' c = M c) ∧ ∀ q, M' c0 q = if k ≤ q ∧ q < z then M c1 q else M c0 q := by
  intro j
  induction j with
  | zero =>
    intro k n M hk hn
    obtain ⟨n, rfl⟩ : ∃ m, n = m + 1 := ⟨n - 1, by omega⟩
    refine ⟨M, ?_, fun _ _ => rfl, fun q => by rw [if_neg (by omega)]⟩
    show tw_copyTo_2b N c0 c1 (tw_copyTo_2 N c0 c1 n) M (nI k) = _
    unfold tw_copyTo_2b
    rw [if_pos (by rw [hz]; exact nI_le (by omega) (by omega))]
  | succ j ih =>
    intro k n M hk hn
    obtain ⟨n, rfl⟩ : ∃ m, n = m + 1 := ⟨n - 1, by omega⟩
    have t1 := pi_nI (n := k) (by omega)
    have p1 : pn (nI k) = k := by rw [pn_def, t1]; omega
    obtain ⟨M', e, ho, hi⟩ := ih (k + 1) n (cx_up M c0 k (M c1 k)) (by omega) (by omega)
    refine ⟨M', ?_, fun c hc => by rw [ho c hc, px_upc hc], fun q => ?_⟩
    · show tw_copyTo_2b N c0 c1 (tw_copyTo_2 N c0 c1 n) M (nI k) = _
      unfold tw_copyTo_2b
      simp only [px_let]
      rw [if_neg (by rw [hz]; exact nI_ge (by omega) (by omega)), px_ld (by omega) (by omega), px_st (by omega) (by omega), p1, ← nI_succ]
      exact e
    · rw [hi q, px_upc (fun e => hne e.symm), px_up]
      by_cases c : q = k
      · rw [if_neg (by omega), if_pos ⟨rfl, c⟩, if_pos (by omega), c]
      · rw [if_neg (show ¬ (c0 = c0 ∧ q = k) from fun z => c z.2)]
        by_cases c2 : k ≤ q ∧ q < z
        · rw [if_pos (by omega), if_pos c2]
        · rw [if_neg (by omega), if_neg c2]
theorem tw_copyTo_s {N c0 c1 z : Nat} {M : cx_M} (hz : twLen c0 = z) (h1 : z ≤ twLen c1) (hz1 : z < 100000) (hne : c0 ≠ c1) (hN : z < N) : ∃ M', tw_copyTo N c0 c1 M = some (M', 0, 0) ∧ (∀ c, c ≠ c0 → M' c = M c) ∧ ∀ q, q < z → M' c0 q = M c1 q := by
  obtain ⟨M', e, ho, hi⟩ := tw_copyTo_loop (N := N) hz h1 hz1 hne z 0 N M (by omega) hN
  exact ⟨M', e, ho, fun q hq => by rw [hi q, if_pos (by omega)]⟩
theorem tw_remember_s {N : Nat} {E : ps_E} {M : cx_M} {s : ps_T} (hN : 700 ≤ N) (hV : pr_V N E M s) : ∃ M', tw_rememberNow N M = some (M', 0, 0) ∧ (∀ c, c ≠ 34 → M' c = M c) ∧ pr_R (M' 34) s.1 := by
  obtain ⟨M', e, ho, hi⟩ := tw_copyTo_s (N := N) (M := M) (c0 := 34) (c1 := 8) (z := 665) rfl (by decide) (by decide) (by decide) (by omega)
  refine ⟨M', ?_, ho, fun q hq => by rw [hi q hq, hV.1 q hq]⟩
  unfold tw_rememberNow tw_rememberNow_0
  rw [px_cal e]
theorem tw_back_s {N : Nat} {E : ps_E} {M : cx_M} {s : ps_T} {S0 : ps_S} (hN : 700 ≤ N) (hV : pr_V N E M s) (hR : pr_R (M 34) S0) (h33 : S0 0 33 = s.1 0 33) (h34 : S0 0 34 = s.1 0 34) (v : Int32) : ∃ M', tw_back N M v = some (M', v, 0) ∧ pr_V N E M' (S0, s.2) ∧ (∀ c, c ≠ 8 → M' c = M c) := by
  obtain ⟨M', e, ho, hi⟩ := tw_copyTo_s (N := N) (M := M) (c0 := 8) (c1 := 34) (z := 665) rfl (by decide) (by decide) (by decide) (by omega)
  refine ⟨M', ?_, ⟨fun q hq => by rw [hi q hq]; exact hR q hq, ?_, hV.2.2.1.fr (fun c hc => ho c (fun e => by rw [e] at hc; revert hc; decide)), ?_⟩, ho⟩
  · unfold tw_back tw_back_0
    rw [px_cal e]
  · rw [ho 60 (by decide)]
    show M 60 24 = S0 0 33 ∧ M 60 25 = S0 0 34
    rw [h33, h34]
    exact hV.2.1
  · have := hV.2.2.2
    unfold pr_Q at this ⊢
    rw [ho 60 (by decide)]
    exact this
theorem tw_goOn_n {N : Nat} {E : ps_E} {M : cx_M} {s : ps_T} {n T : Nat} (hN : 700 ≤ N) (hE : ps_EO E) (hV : pr_V N E M s) (hI : ps_I E s.1 T) (hT : T + n ≤ 22000) (hn : n ≤ 640) : ∃ M', tw_goOn N M (nI n) = some (M', 0, 0) ∧ pr_V N E M' (ps_steps E n s) ∧ pr_F M M' :=
  tw_goOn_s (by omega) hE n (by omega) n 0 N M s T (by omega) hV hI hT (by omega)
/-- frames of a state that stands outside the row -/
theorem pr_V.oth2 {N : Nat} {E : ps_E} {M M' : cx_M} {s : ps_T} (h : pr_V N E M s) (e : ∀ c ∈ [8, 3, 4, 5, 6, 26, 27, 28], M' c = M c) (ek : ∀ k ∈ [24, 25, 29, 30], M' 60 k = M 60 k) : pr_V N E M' s := by
  refine ⟨?_, ?_, h.2.2.1.fr (fun c hc => e c ((by decide : ∀ x ∈ [3, 4, 5, 6, 26, 27, 28], x ∈ [8, 3, 4, 5, 6, 26, 27, 28]) c hc)), ?_⟩
  · rw [e 8 (by decide)]; exact h.1
  · rw [ek 24 (by decide), ek 25 (by decide)]; exact h.2.1
  · have := h.2.2.2
    unfold pr_Q at this ⊢
    rw [ek 29 (by decide), ek 30 (by decide)]
    exact this
/-- the reference ahead of a call -/
def qr_pre (N : Nat) (E : ps_E) (M : cx_M) (A : qA) : Prop := ∃ M1, tw_ready N M = some (M1, 0, 0) ∧ qr_A N E M1 A ∧ M1 60 2 = 0 ∧ qr_F M M1
theorem qr_A.put {N : Nat} {E : ps_E} {M : cx_M} {A : qA} (h : qr_A N E M A) (k : Nat) (v : Int32) (hk : k ∉ [9, 12, 21, 31, 32, 44, 45, 46, 24, 25, 29, 30]) : qr_A N E (cx_up M 60 k v) A := by
  have ne : ∀ j ∈ [9, 12, 21, 31, 32, 44, 45, 46, 24, 25, 29, 30], cx_up M 60 k v 60 j = M 60 j := by
    intro j hj
    rw [px_up, if_neg]
    intro z
    exact hk (z.2 ▸ hj)
  refine ⟨h.1.oth2 (fun c hc => px_upc (fun e => by rw [e] at hc; revert hc; decide)) (fun j hj => ne j ((by decide : ∀ j ∈ [24, 25, 29, 30], j ∈ [9, 12, 21, 31, 32, 44, 45, 46, 24, 25, 29, 30]) j hj)), h.2.fr (fun c hc => px_upc (fun e => by rw [e] at hc; revert hc; decide)) (fun j hj => ne j ((by decide : ∀ j ∈ [9, 12, 21, 31, 32, 44, 45, 46], j ∈ [9, 12, 21, 31, 32, 44, 45, 46, 24, 25, 29, 30]) j hj))⟩
theorem qr_A.pre {N : Nat} {E : ps_E} {M : cx_M} {A : qA} (h : qr_A N E M A) : qr_pre N E M A := by
  have e9 : cx_up M 60 2 0 60 9 = 1 := by rw [px_up, if_neg (by decide)]; exact h.2.2.1
  refine ⟨cx_up M 60 2 0, ?_, h.put 2 0 (by decide), by rw [px_up, if_pos ⟨rfl, rfl⟩], qr_F.up (by decide)⟩
  unfold tw_ready tw_ready_0
  simp only [px_get, px_put]
  rw [e9, if_neg (by decide)]
theorem tw_fail_s {N : Nat} {E : ps_E} {M : cx_M} {A : qA} {x : Int32} (h : qr_A N E M A) : ∃ M', tw_fail N M x = some (M', 0, 0) ∧ qr_A N E M' A ∧ M' 60 2 = x ∧ qr_F M M' :=
  ⟨cx_up M 60 2 x, rfl, h.put 2 x (by decide), by rw [px_up, if_pos ⟨rfl, rfl⟩], qr_F.up (by decide)⟩
/-! asks: what they come to -/
def pa_look (E : ps_E) (S : ps_S) (k : Int32) : Int32 := if k = 0 then ps_level E S else S 0 (if k = 1 then 9 else if k = 2 then 8 else if k = 3 then 6 else if k = 4 then 7 else 4)
/-- what a call comes to: its number, its code -/
def tw_ok (N : Nat) (E : ps_E) (A : qA) (M : cx_M) (o : Option cx_R) (v code : Int32) : Prop := ∃ M' v', o = some (M', v', 0) ∧ qr_A N E M' A ∧ M' 60 2 = code ∧ (code = 0 → v' = v) ∧ qr_F M M'
theorem tw_then_s {N : Nat} {E : ps_E} {M : cx_M} {A : qA} {n w : Int32} (hN : 700 ≤ N) (hA : qAI E A) (h : qr_pre N E M A) :
    tw_ok N E A M (tw_then N M n w) (pa_look E (ps_steps E (pn n) (A.1.1, [])).1 w) (if 0 ≤ w.toInt ∧ w.toInt ≤ 5 then (if 0 ≤ n.toInt ∧ n.toInt ≤ 400 then 0 else 2) else 1) := by
  obtain ⟨M1, e1, hA1, hc1, hF1⟩ := h
  obtain ⟨hE, ⟨⟨T, hT, hI, h33, h34⟩, -⟩, -⟩ := hA
  unfold tw_ok tw_then tw_then_0
  rw [px_cal e1, px_cal tw_isIn_s]
  by_cases cw : 0 ≤ w.toInt ∧ w.toInt ≤ 5
  · rw [if_pos (show (0 : Int64).toInt ≤ w.toInt ∧ w.toInt ≤ (5 : Int64).toInt from cw), if_neg (by decide), px_cal tw_isIn_s, if_pos cw]
    by_cases cn : 0 ≤ n.toInt ∧ n.toInt ≤ 400
    · rw [if_pos (show (0 : Int64).toInt ≤ n.toInt ∧ n.toInt ≤ (400 : Int64).toInt from cn), if_neg (by decide), if_pos cn]
      obtain ⟨M2, e2, ho2, hR2⟩ := tw_remember_s (E := E) hN hA1.1
      have hV2 : pr_V N E M2 (A.1.1, []) := hA1.1.oth (fun c hc => ho2 c (fun e => by rw [e] at hc; revert hc; decide))
      have hr2 : qr_rest M2 A := hA1.2.fr (fun c hc => ho2 c (fun e => by rw [e] at hc; revert hc; decide)) (fun k _ => by rw [ho2 60 (by decide)])
      have en : n = nI (pn n) := pn_nI cn.1
      obtain ⟨M3, e3, hV3, hF3⟩ := tw_goOn_n (n := pn n) (T := T) hN hE hV2 hI (by rw [pn_def]; omega) (by rw [pn_def]; omega)
      rw [← en] at e3
      rw [px_cal e2, px_cal e3]
      have hr3 := hr2.step hF3
      have hI3 := ps_steps_I (s := (A.1.1, [])) hE hI (pn n) (by rw [pn_def]; omega)
      have e34 : M3 34 = M2 34 := hF3.1 34 (by decide)
      have bk : ∀ (M4 : cx_M) (v : Int32), M4 = M3 → ∃ M' v', tw_then_107 N M4 v = some (M', v', 0) ∧ qr_A N E M' A ∧ M' 60 2 = 0 ∧ (0 = (0 : Int32) → v' = v) ∧ qr_F M M' := by
        intro M4 v hM4
        subst hM4
        obtain ⟨M5, e5, hV5, ho5⟩ := tw_back_s (S0 := A.1.1) hN hV3 (by rw [e34]; exact hR2) (by rw [ps_steps_0 (by decide)]) (by rw [ps_steps_0 (by decide)]) v
        unfold tw_then_107
        rw [px_cal e5]
        rw [ps_steps_q rfl] at hV5
        refine ⟨M5, v, rfl, ⟨hV5, hr3.fr (fun c hc => ho5 c (fun e => by rw [e] at hc; revert hc; decide)) (fun k _ => by rw [ho5 60 (by decide)])⟩, ?_, fun _ => rfl, ?_⟩
        · rw [ho5 60 (by decide), hF3.2 2 (by decide), ho2 60 (by decide)]
          exact hc1
        · refine ((hF1.tr ?_).tr hF3.q).tr ?_
          · exact fun c hc => ho2 c (by omega)
          · exact fun c hc => ho5 c (by omega)
      have ld (k : Nat) (i : Int32) (hi : pn i = k) (h0 : 0 ≤ i.toInt) (hk : k < 33) : tw_then_106 N M3 i = tw_then_107 N M3 ((ps_steps E (pn n) (A.1.1, [])).1 0 k) := by
        unfold tw_then_106
        rw [px_ld h0 (by rw [pn_def] at hi; omega), hi, pr_n hV3.1 k hk]
      unfold pa_look
      by_cases w0 : w = 0
      · rw [if_pos w0, if_pos w0, px_cal (tw_level_s (by omega) hE hV3)]
        exact bk M3 _ rfl
      · rw [if_neg w0, if_neg w0]
        by_cases w1 : w = 1
        · rw [if_pos w1, if_pos w1, ld 9 9 rfl (by decide) (by decide)]
          exact bk M3 _ rfl
        · rw [if_neg w1, if_neg w1]
          by_cases w2 : w = 2
          · rw [if_pos w2, if_pos w2, ld 8 8 rfl (by decide) (by decide)]
            exact bk M3 _ rfl
          · rw [if_neg w2, if_neg w2]
            by_cases w3 : w = 3
            · rw [if_pos w3, if_pos w3, ld 6 6 rfl (by decide) (by decide)]
              exact bk M3 _ rfl
            · rw [if_neg w3, if_neg w3]
              by_cases w4 : w = 4
              · rw [if_pos w4, if_pos w4, ld 7 7 rfl (by decide) (by decide)]
                exact bk M3 _ rfl
              · rw [if_neg w4, if_neg w4, ld 4 4 rfl (by decide) (by decide)]
                exact bk M3 _ rfl
    · rw [if_neg (show ¬ ((0 : Int64).toInt ≤ n.toInt ∧ n.toInt ≤ (400 : Int64).toInt) from cn), if_pos rfl, if_neg cn]
      obtain ⟨M2, e2, hA2, hc2, hF2⟩ := tw_fail_s (x := 2) hA1
      rw [px_cal e2]
      exact ⟨M2, 0, rfl, hA2, hc2, fun z => absurd z (by decide), hF1.tr hF2⟩
  · rw [if_neg (show ¬ ((0 : Int64).toInt ≤ w.toInt ∧ w.toInt ≤ (5 : Int64).toInt) from cw), if_pos rfl, if_neg cw]
    obtain ⟨M2, e2, hA2, hc2, hF2⟩ := tw_fail_s (x := 1) hA1
    rw [px_cal e2]
    exact ⟨M2, 0, rfl, hA2, hc2, fun z => absurd z (by decide), hF1.tr hF2⟩
