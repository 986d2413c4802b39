/-! what was noted: the reference -/
noncomputable def pa_b (p : Prop) : Int32 := @ite Int32 p (Classical.propDecidable p) 1 0
theorem pa_b_t {p : Prop} (h : p) : pa_b p = 1 := if_pos h
theorem pa_b_f {p : Prop} (h : ¬ p) : pa_b p = 0 := if_neg h
theorem pa_b_c {p q : Prop} (h : p ↔ q) : pa_b p = pa_b q := by rw [propext h]
theorem pa_b_01 (p : Prop) : pa_b p = 0 ∨ pa_b p = 1 := by
  by_cases h : p
  · exact Or.inr (pa_b_t h)
  · exact Or.inl (pa_b_f h)
def pa_ten (E : ps_E) (S : ps_S) (i : Nat) : Int32 := ps_level E (ps_steps E (10 * (i + 1)) (S, [])).1
def pa_ntd (E : ps_E) (S : ps_S) (L : List (Int32 × Int32)) : Prop := ∀ n, n ≤ 60 → ∀ x ∈ L, x.1 = nI n → x.2 = ps_level E (ps_steps E n (S, [])).1
/-- behind what was noted of one step -/
noncomputable def pe_nt (N : Nat) (r_4 : cx_M → Int32 → Int32 → Int32 → Option cx_R) (M : cx_M) (x1 x2 x3 x4 : Int32) : Option cx_R :=
  if x3 ≤ 0 then tw_isAsNoted_103 N r_4 M x1 x2 x3 else if cx_rem x3 10 = 0 then (if 5 < x3 / 10 then tw_isAsNoted_103 N r_4 M x1 x2 x3 else cx_st M 41 995 ((((5 : Int32) * x1) + (x3 / 10)) - 1) x4 fun M2 => tw_isAsNoted_103 N r_4 M2 x1 x2 x3) else tw_isAsNoted_103 N r_4 M x1 x2 x3
theorem tw_noted_inner {N : Nat} {M : cx_M} {L : List (Int32 × Int32)} {r_4 : cx_M → Int32 → Int32 → Int32 → Option cx_R} {pl x3 x4 : Int32} (hL : L.length ≤ 8) (h32 : M 60 32 = nI L.length) (hn : ∀ j x, L[j]? = some x → M 38 j = x.1 ∧ M 39 j = x.2) :
    ∀ (m k f : Nat) (so : Prop), k + m = L.length → m < f → tw_isAsNoted_19 N r_4 f M pl (pa_b so) x3 x4 (nI k) = pe_nt N r_4 M pl (pa_b (so ∧ ∀ j x, k ≤ j → L[j]? = some x → x.1 = x3 → x.2 = x4)) x3 x4 := by
  intro m
  induction m with
  | zero =>
    intro k f so hk hf
    obtain ⟨f, rfl⟩ : ∃ j, f = j + 1 := ⟨f - 1, by omega⟩
    have hso : (so ∧ ∀ j x, k ≤ j → L[j]? = some x → x.1 = x3 → x.2 = x4) ↔ so := by
      refine ⟨fun z => z.1, fun z => ⟨z, fun j x hj hx => ?_⟩⟩
      have := (List.getElem?_eq_some_iff.mp hx).1
      omega
    rw [pa_b_c hso]
    show tw_isAsNoted_19b N r_4 (tw_isAsNoted_19 N r_4 f) M pl (pa_b so) x3 x4 (nI k) = _
    unfold tw_isAsNoted_19b pe_nt
    simp only [px_get]
    rw [h32, if_pos (nI_le (by omega) (by omega))]
  | succ m ih =>
    intro k f so hk hf
    obtain ⟨f, rfl⟩ : ∃ j, f = j + 1 := ⟨f - 1, by omega⟩
    have hk' : k < L.length := by omega
    have hx : L[k]? = some L[k] := List.getElem?_eq_getElem hk'
    generalize L[k] = x at hx
    obtain ⟨n1, n2⟩ := hn k x hx
    have tk := pi_nI (n := k) (by omega)
    have pk : pn (nI k) = k := by rw [pn_def, tk]; omega
    have hall : (∀ j y, k ≤ j → L[j]? = some y → y.1 = x3 → y.2 = x4) ↔ ((x.1 = x3 → x.2 = x4) ∧ ∀ j y, k + 1 ≤ j → L[j]? = some y → y.1 = x3 → y.2 = x4) := by
      refine ⟨fun z => ⟨z k x (by omega) hx, fun j y hj => z j y (by omega)⟩, fun z j y hj hy => ?_⟩
      by_cases e : j = k
      · subst e
        rw [hx] at hy
        cases hy
        exact z.1
      · exact z.2 j y (by omega) hy
    have next : ∀ (q : Prop) (z : Int32), z = pa_b q → tw_isAsNoted_60 N r_4 (tw_isAsNoted_19 N r_4 f) M pl x3 x4 (nI k) z = pe_nt N r_4 M pl (pa_b (q ∧ ∀ j y, k + 1 ≤ j → L[j]? = some y → y.1 = x3 → y.2 = x4)) x3 x4 := by
      intro q z hz
      unfold tw_isAsNoted_60
      simp only [px_let]
      rw [hz, ← nI_succ]
      exact ih (k + 1) f q (by omega) (by omega)
    show tw_isAsNoted_19b N r_4 (tw_isAsNoted_19 N r_4 f) M pl (pa_b so) x3 x4 (nI k) = _
    unfold tw_isAsNoted_19b tw_isAsNoted_55 tw_isAsNoted_59
    simp only [px_get]
    rw [h32, if_neg (nI_ge (by omega) (by omega))]
    by_cases cs : so
    · rw [pa_b_t cs, if_neg (by decide), px_ld (by omega) (by omega), pk, n1]
      by_cases c1 : x.1 = x3
      · rw [if_pos c1, px_ld (by omega) (by omega), pk, n2]
        by_cases c2 : x.2 = x4
        · rw [if_pos c2, next True 1 (pa_b_t trivial).symm]
          congr 1
          apply pa_b_c
          rw [hall]
          exact ⟨fun z => ⟨cs, fun _ => c2, z.2⟩, fun z => ⟨trivial, z.2.2⟩⟩
        · rw [if_neg c2, next False 0 (pa_b_f (fun z => z)).symm]
          congr 1
          apply pa_b_c
          rw [hall]
          exact ⟨fun z => z.1.elim, fun z => absurd (z.2.1 c1) c2⟩
      · rw [if_neg c1, next True 1 (pa_b_t trivial).symm]
        congr 1
        apply pa_b_c
        rw [hall]
        exact ⟨fun z => ⟨cs, fun y => absurd y c1, z.2⟩, fun z => ⟨trivial, z.2.2⟩⟩
    · rw [pa_b_f cs, if_pos rfl, next False 0 (pa_b_f (fun z => z)).symm]
      congr 1
      apply pa_b_c
      exact ⟨fun z => z.1.elim, fun z => absurd z.1 cs⟩
theorem pe_nt_s {N : Nat} {M : cx_M} {r_4 : cx_M → Int32 → Int32 → Int32 → Option cx_R} {pl n : Nat} {x2 lv : Int32} (hp : pl < 199) (hn : n ≤ 60) :
    pe_nt N r_4 M (nI pl) x2 (nI n) lv = tw_isAsNoted_103 N r_4 (if n % 10 = 0 ∧ 0 < n ∧ n < 60 then cx_up M 41 (5 * pl + (n / 10 - 1)) lv else M) (nI pl) x2 (nI n) := by
  have t := pi_nI (n := n) (by omega)
  have tp := pi_nI (n := pl) (by omega)
  have h10 : (10 : Int32).toInt = 10 := rfl
  have h5 : (5 : Int32).toInt = 5 := rfl
  have hd : (nI n / 10).toInt = (n : Int) / 10 := by rw [pi_div (by omega) (by rw [h10]; decide), t, h10]
  have hr : (cx_rem (nI n) 10).toInt = (n : Int) % 10 := by rw [pi_remk h10 (by decide) (by omega), t]
  unfold pe_nt
  by_cases c0 : n = 0
  · rw [if_pos (by rw [c0]; decide), if_neg (by omega)]
  · rw [if_neg (nI_nle (by omega) (by omega))]
    by_cases c1 : n % 10 = 0
    · rw [if_pos (by rw [i32_eq, hr, i32_0]; omega)]
      by_cases c2 : n < 60
      · have c3 : ¬ (5 : Int32) < nI n / 10 := by rw [i32_lt, hd, h5]; omega
        rw [if_neg c3, if_pos ⟨c1, by omega, c2⟩]
        have e1 : ((5 : Int32) * nI pl).toInt = 5 * pl := by rw [pi_mul (by rw [h5]; omega) (by rw [h5]; omega), h5, tp]
        have e2 : ((5 : Int32) * nI pl + nI n / 10).toInt = 5 * pl + (n : Int) / 10 := by rw [i32_add (by omega) (by omega), e1, hd]
        have e3 : ((5 : Int32) * nI pl + nI n / 10 - 1).toInt = 5 * pl + (n : Int) / 10 - 1 := by rw [i32_sub (by rw [i32_1]; omega) (by rw [i32_1]; omega), e2, i32_1]
        have p3 : pn ((5 : Int32) * nI pl + nI n / 10 - 1) = 5 * pl + (n / 10 - 1) := by rw [pn_def, e3]; omega
        rw [px_st (by omega) (by omega), p3]
      · have c3 : (5 : Int32) < nI n / 10 := by rw [i32_lt, hd, h5]; omega
        rw [if_pos c3, if_neg (by omega)]
    · rw [if_neg (by rw [i32_eq, hr, i32_0]; omega), if_neg (by omega)]
theorem tw_noted_outer {N : Nat} {E : ps_E} {A : qA} {T pl : Nat} {S : ps_S} (hN : 700 ≤ N) (hE : ps_EO E) (hI : ps_I E S T) (hT : T ≤ 20000) (hL : A.1.2.2.1.length ≤ 8) (hp : pl < 199) (h33 : S 0 33 = A.1.1 0 33) (h34 : S 0 34 = A.1.1 0 34) :
    ∀ (m n f : Nat) (M : cx_M) (so : Prop), n + m = 61 → qr_T N E M A (ps_steps E n (S, [])) → (∀ i, i < 5 → 10 * (i + 1) < n → M 41 (5 * pl + i) = pa_ten E S i) → m < f →
    ∃ M', tw_isAsNoted_4 N f M (nI pl) (pa_b so) (nI n) = some (M', pa_b (so ∧ ∀ k, n ≤ k → k ≤ 60 → ∀ x ∈ A.1.2.2.1, x.1 = nI k → x.2 = ps_level E (ps_steps E k (S, [])).1), 0) ∧ qr_T N E M' A (A.1.1, []) ∧ (∀ i, i < 5 → M' 41 (5 * pl + i) = pa_ten E S i) ∧ (∀ q, q < 5 * pl → M' 41 q = M 41 q) ∧ M' 40 = M 40 ∧ (∀ j, j ≠ 29 → M' 60 j = M 60 j) ∧ qr_F M M' := by
  intro m
  induction m with
  | zero =>
    intro n f M so hn h h41 hf
    obtain ⟨f, rfl⟩ : ∃ j, f = j + 1 := ⟨f - 1, by omega⟩
    obtain ⟨M1, e1, h1, ho1⟩ := h.back hN (by rw [ps_steps_0 (by decide)]; exact h33) (by rw [ps_steps_0 (by decide)]; exact h34) 0
    rw [ps_steps_q rfl] at h1
    have hso : (so ∧ ∀ k, n ≤ k → k ≤ 60 → ∀ x ∈ A.1.2.2.1, x.1 = nI k → x.2 = ps_level E (ps_steps E k (S, [])).1) ↔ so := ⟨fun z => z.1, fun z => ⟨z, fun k a b => by omega⟩⟩
    rw [pa_b_c hso]
    refine ⟨M1, ?_, h1, fun i hi => by rw [ho1 41 (by decide)]; exact h41 i hi (by omega), fun q _ => by rw [ho1 41 (by decide)], ho1 40 (by decide), fun j _ => by rw [ho1 60 (by decide)], fun c hc => ho1 c (by omega)⟩
    show tw_isAsNoted_4b N (tw_isAsNoted_4 N f) M (nI pl) (pa_b so) (nI n) = _
    unfold tw_isAsNoted_4b cx_bl
    rw [if_pos (show (60 : Int32) < nI n from nI_lt (a := 60) (by omega) (by omega)), px_cal e1, if_pos (pa_b_01 so)]
  | succ m ih =>
    intro n f M so hn h h41 hf
    obtain ⟨f, rfl⟩ : ∃ j, f = j + 1 := ⟨f - 1, by omega⟩
    have hr := h.2.2.1.1
    show ∃ M', tw_isAsNoted_4b N (tw_isAsNoted_4 N f) M (nI pl) (pa_b so) (nI n) = _ ∧ _
    unfold tw_isAsNoted_4b
    rw [if_neg (show ¬ (60 : Int32) < nI n from nI_nlt (b := n) (a := 60) (by omega) (by omega)), px_cal (tw_level_s (by omega) hE h.1), show (0 : Int32) = nI 0 from rfl, tw_noted_inner (L := A.1.2.2.1) hL hr.2.2.1 hr.2.2.2.1 A.1.2.2.1.length 0 N so (by omega) (by omega), pe_nt_s hp (by omega)]
    generalize hM1 : (if n % 10 = 0 ∧ 0 < n ∧ n < 60 then cx_up M 41 (5 * pl + (n / 10 - 1)) (ps_level E (ps_steps E n (S, [])).1) else M) = M1
    have ho1 : ∀ c, c ≠ 41 → M1 c = M c := by
      intro c hc
      rw [← hM1]
      split
      · rw [px_upc hc]
      · rfl
    have hlt1 : ∀ q, q < 5 * pl → M1 41 q = M 41 q := by
      intro q hq
      rw [← hM1]
      split
      · rw [px_up, if_neg (by omega)]
      · rfl
    have h41' : ∀ i, i < 5 → 10 * (i + 1) < n + 1 → M1 41 (5 * pl + i) = pa_ten E S i := by
      intro i hi hin
      rw [← hM1]
      by_cases e : 10 * (i + 1) = n
      · rw [if_pos (by omega), px_up, if_pos (by omega)]
        unfold pa_ten
        rw [e]
      · split
        · rw [px_up, if_neg (by omega)]; exact h41 i hi (by omega)
        · exact h41 i hi (by omega)
    have h1 := h.far (fun c _ _ c41 => ho1 c c41)
    obtain ⟨M2, e2, h2, hF2⟩ := h1.step hN hE (ps_steps_I (s := (S, [])) hE hI n (by omega)) (by omega)
    unfold tw_isAsNoted_103
    rw [px_cal e2]
    simp only [px_let]
    rw [← nI_succ]
    obtain ⟨M3, e3, h3, t3, l3, c3, j3, F3⟩ := ih (n + 1) f M2 (so ∧ ∀ j x, 0 ≤ j → A.1.2.2.1[j]? = some x → x.1 = nI n → x.2 = ps_level E (ps_steps E n (S, [])).1) (by omega) h2 (fun i hi hin => by rw [hF2.1 41 (by decide)]; exact h41' i hi hin) (by omega)
    refine ⟨M3, ?_, h3, t3, fun q hq => by rw [l3 q hq, hF2.1 41 (by decide), hlt1 q hq], by rw [c3, hF2.1 40 (by decide), ho1 40 (by decide)], fun j hj => by rw [j3 j hj, hF2.2 j hj, ho1 60 (by decide)], ?_⟩
    · rw [e3]
      congr 3
      apply pa_b_c
      constructor
      · rintro ⟨⟨a, b⟩, c⟩
        refine ⟨a, fun k hk hk6 x hx => ?_⟩
        by_cases e : k = n
        · subst e
          obtain ⟨j, hj⟩ := List.mem_iff_getElem?.mp hx
          exact b j x (Nat.zero_le _) hj
        · exact c k (by omega) hk6 x hx
      · rintro ⟨a, b⟩
        exact ⟨⟨a, fun j x _ hj => b n (Nat.le_refl _) (by omega) x (List.mem_of_getElem? hj)⟩, fun k hk hk6 => b k (by omega) hk6⟩
    · exact fun c hc => by rw [F3 c hc, hF2.q c hc, ho1 c (by omega)]
theorem tw_isAsNoted_s {N : Nat} {E : ps_E} {A : qA} {T pl : Nat} {S : ps_S} {M : cx_M} (hN : 700 ≤ N) (hE : ps_EO E) (hI : ps_I E S T) (hT : T ≤ 20000) (hL : A.1.2.2.1.length ≤ 8) (hp : pl < 199) (h33 : S 0 33 = A.1.1 0 33) (h34 : S 0 34 = A.1.1 0 34) (h : qr_T N E M A (S, [])) :
    ∃ M', tw_isAsNoted N M (nI pl) = some (M', pa_b (pa_ntd E S A.1.2.2.1), 0) ∧ qr_T N E M' A (A.1.1, []) ∧ (∀ i, i < 5 → M' 41 (5 * pl + i) = pa_ten E S i) ∧ (∀ q, q < 5 * pl → M' 41 q = M 41 q) ∧ M' 40 = M 40 ∧ (∀ j, j ≠ 29 → M' 60 j = M 60 j) ∧ qr_F M M' := by
  obtain ⟨M1, e1, r1⟩ := tw_noted_outer hN hE hI hT hL hp h33 h34 61 0 N M True rfl h (fun i _ hi => absurd hi (by omega)) (by omega)
  refine ⟨M1, ?_, r1⟩
  unfold tw_isAsNoted tw_isAsNoted_0
  have e := e1
  rw [pa_b_t trivial] at e
  show tw_isAsNoted_4 N N M (nI pl) 1 (nI 0) = _
  rw [e]
  congr 3
  apply pa_b_c
  exact ⟨fun z n hn => z.2 n (Nat.zero_le _) hn, fun z => ⟨trivial, fun k _ hk => z k hk⟩⟩
/-! guesses that fit -/
def pa_go (S : ps_S) (v : Int32) : ps_S := cx_up S 0 27 v
noncomputable def pa_fits (E : ps_E) (S : ps_S) (L : List (Int32 × Int32)) : Nat → Nat → List Int32
  | 0, _ => []
  | m + 1, k => @ite (List Int32) (nI k - 99 ≠ S 0 27 ∧ pa_ntd E (pa_go S (nI k - 99)) L) (Classical.propDecidable _) ((nI k - 99) :: pa_fits E S L m (k + 1)) (pa_fits E S L m (k + 1))
theorem pa_fits_no {E : ps_E} {S : ps_S} {L : List (Int32 × Int32)} {m k : Nat} (h : ¬ (nI k - 99 ≠ S 0 27 ∧ pa_ntd E (pa_go S (nI k - 99)) L)) : pa_fits E S L (m + 1) k = pa_fits E S L m (k + 1) := if_neg h
theorem pa_fits_yes {E : ps_E} {S : ps_S} {L : List (Int32 × Int32)} {m k : Nat} (h : nI k - 99 ≠ S 0 27 ∧ pa_ntd E (pa_go S (nI k - 99)) L) : pa_fits E S L (m + 1) k = (nI k - 99) :: pa_fits E S L m (k + 1) := if_pos h
theorem pa_fits_len {E : ps_E} {S : ps_S} {L : List (Int32 × Int32)} : ∀ m k, (pa_fits E S L m k).length ≤ m
  | 0, _ => Nat.le_refl _
  | m + 1, k => by
    unfold pa_fits
    split
    · rw [List.length_cons]
      have := pa_fits_len (E := E) (S := S) (L := L) m (k + 1)
      omega
    · have := pa_fits_len (E := E) (S := S) (L := L) m (k + 1)
      omega
theorem ps_I_go {E : ps_E} {S : ps_S} {T : Nat} {v : Int32} (hI : ps_I E S T) (hv : -99 ≤ v.toInt ∧ v.toInt ≤ 99) : ps_I E (pa_go S v) T := by
  obtain ⟨⟨hn, hf, hs, hb⟩, h0, h1, g22, g23⟩ := hI
  unfold pa_go
  refine ⟨⟨?_, hf, hs, hb⟩, by rw [px_up, if_neg (by decide)]; exact h0, h1, by rw [px_up, if_neg (by decide)]; exact g22, by rw [px_up, px_up, if_neg (by decide), if_neg (by decide)]; exact g23⟩
  unfold ps_Jn at hn ⊢
  simp (decide := true) only [px_up, false_and, and_false, true_and, and_true, ↓reduceIte] at hn ⊢
  omega
theorem tw_tellFits_loop {N : Nat} {E : ps_E} {A : qA} {T : Nat} (hN : 700 ≤ N) (hE : ps_EO E) (hI : ps_I E A.1.1 T) (hT : T ≤ 20000) (hL : A.1.2.2.1.length ≤ 8) :
    ∀ (m k f : Nat) (M : cx_M) (acc : List Int32), k + m = 199 → acc.length ≤ k → qr_T N E M A (A.1.1, []) → M 60 42 = nI acc.length → (∀ j v, acc[j]? = some v → M 40 j = v ∧ ∀ i, i < 5 → M 41 (5 * j + i) = pa_ten E (pa_go A.1.1 v) i) → m < f →
    ∃ M', tw_tellFits_20 N f M (A.1.1 0 27) (nI k - 99) = some (M', 0, 0) ∧ qr_T N E M' A (A.1.1, []) ∧ M' 60 42 = nI (acc ++ pa_fits E A.1.1 A.1.2.2.1 m k).length ∧ (∀ j v, (acc ++ pa_fits E A.1.1 A.1.2.2.1 m k)[j]? = some v → M' 40 j = v ∧ ∀ i, i < 5 → M' 41 (5 * j + i) = pa_ten E (pa_go A.1.1 v) i) ∧ qr_F M M' := by
  intro m
  induction m with
  | zero =>
    intro k f M acc hk hak h h42 hacc hf
    obtain ⟨f, rfl⟩ : ∃ j, f = j + 1 := ⟨f - 1, by omega⟩
    refine ⟨M, ?_, h, by rw [show pa_fits E A.1.1 A.1.2.2.1 0 k = [] from rfl, List.append_nil]; exact h42, by rw [show pa_fits E A.1.1 A.1.2.2.1 0 k = [] from rfl, List.append_nil]; exact hacc, qr_F.rf⟩
    show tw_tellFits_20b N (tw_tellFits_20 N f) M (A.1.1 0 27) (nI k - 99) = _
    unfold tw_tellFits_20b
    rw [if_pos]
    have hk' : k = 199 := by omega
    subst hk'
    decide
  | succ m ih =>
    intro k f M acc hk hak h h42 hacc hf
    obtain ⟨f, rfl⟩ : ∃ j, f = j + 1 := ⟨f - 1, by omega⟩
    have t := pi_nI (n := k) (by omega)
    have h99 : (99 : Int32).toInt = 99 := rfl
    have tv : (nI k - 99).toInt = (k : Int) - 99 := by rw [i32_sub (by omega) (by omega), t, h99]
    have nx : nI k - 99 + 1 = nI (k + 1) - 99 := by
      rw [i32_eq, i32_add (by rw [i32_1]; omega) (by rw [i32_1]; omega), tv, i32_1, i32_sub (by rw [pi_nI (by omega)]; omega) (by rw [pi_nI (by omega)]; omega), pi_nI (by omega), h99]
      omega
    have skip : pa_fits E A.1.1 A.1.2.2.1 (m + 1) k = pa_fits E A.1.1 A.1.2.2.1 m (k + 1) → ∀ M1 : cx_M, qr_T N E M1 A (A.1.1, []) → M1 60 42 = nI acc.length → (∀ j v, acc[j]? = some v → M1 40 j = v ∧ ∀ i, i < 5 → M1 41 (5 * j + i) = pa_ten E (pa_go A.1.1 v) i) → qr_F M M1 →
        ∃ M', tw_tellFits_76 N (tw_tellFits_20 N f) M1 (A.1.1 0 27) (nI k - 99) = some (M', 0, 0) ∧ qr_T N E M' A (A.1.1, []) ∧ M' 60 42 = nI (acc ++ pa_fits E A.1.1 A.1.2.2.1 (m + 1) k).length ∧ (∀ j v, (acc ++ pa_fits E A.1.1 A.1.2.2.1 (m + 1) k)[j]? = some v → M' 40 j = v ∧ ∀ i, i < 5 → M' 41 (5 * j + i) = pa_ten E (pa_go A.1.1 v) i) ∧ qr_F M M' := by
      intro hs M1 h1 h42' hacc' hF1
      unfold tw_tellFits_76
      simp only [px_let]
      rw [nx, hs]
      obtain ⟨M2, e2, a2, b2, c2, d2⟩ := ih (k + 1) f M1 acc (by omega) (by omega) h1 h42' hacc' (by omega)
      exact ⟨M2, e2, a2, b2, c2, hF1.tr d2⟩
    show ∃ M', tw_tellFits_20b N (tw_tellFits_20 N f) M (A.1.1 0 27) (nI k - 99) = _ ∧ _
    unfold tw_tellFits_20b
    rw [if_neg (by rw [i32_lt, tv, h99]; omega)]
    by_cases c1 : nI k - 99 = A.1.1 0 27
    · rw [if_pos c1]
      have hs := skip (pa_fits_no (fun z => z.1 c1)) M h h42 hacc qr_F.rf
      exact hs
    · rw [if_neg c1]
      simp only [px_get, px_put]
      have h1' : qr_T N E (cx_up M 8 27 (nI k - 99)) A (pa_go A.1.1 (nI k - 99), []) := h.row 27 (nI k - 99) (by decide)
      have q42 : cx_up M 8 27 (nI k - 99) 60 42 = nI acc.length := by rw [px_upc (by decide)]; exact h42
      rw [q42]
      obtain ⟨M2, e2, h2, t2, l2, c2, j2, F2⟩ := tw_isAsNoted_s (pl := acc.length) hN hE (ps_I_go hI (by omega)) hT hL (by omega) (by unfold pa_go; rw [px_up, if_neg (by decide)]) (by unfold pa_go; rw [px_up, if_neg (by decide)]) h1'
      rw [px_cal e2]
      have g42 : M2 60 42 = nI acc.length := by rw [j2 42 (by decide)]; exact q42
      have g40 : M2 40 = M 40 := by rw [c2, px_upc (by decide)]
      have g41 : ∀ q, q < 5 * acc.length → M2 41 q = M 41 q := fun q hq => by rw [l2 q hq, px_upc (by decide)]
      have hacc2 : ∀ j v, acc[j]? = some v → M2 40 j = v ∧ ∀ i, i < 5 → M2 41 (5 * j + i) = pa_ten E (pa_go A.1.1 v) i := by
        intro j v hj
        have hlt := (List.getElem?_eq_some_iff.mp hj).1
        obtain ⟨a, b⟩ := hacc j v hj
        exact ⟨by rw [g40]; exact a, fun i hi => by rw [g41 _ (by omega)]; exact b i hi⟩
      have hF2 : qr_F M M2 := (qr_F.up (by decide)).tr F2
      have h2' := h2
      by_cases cf : pa_ntd E (pa_go A.1.1 (nI k - 99)) A.1.2.2.1
      · rw [pa_b_t cf, if_neg (by decide), g42]
        have ta := pi_nI (n := acc.length) (by omega)
        have pa' : pn (nI acc.length) = acc.length := by rw [pn_def, ta]; omega
        rw [px_st (by omega) (by omega), pa', px_upc (show (60 : Nat) ≠ 40 by decide), g42, ← nI_succ]
        have hfit : pa_fits E A.1.1 A.1.2.2.1 (m + 1) k = (nI k - 99) :: pa_fits E A.1.1 A.1.2.2.1 m (k + 1) := pa_fits_yes ⟨c1, cf⟩
        have happ : acc ++ pa_fits E A.1.1 A.1.2.2.1 (m + 1) k = (acc ++ [nI k - 99]) ++ pa_fits E A.1.1 A.1.2.2.1 m (k + 1) := by rw [hfit, List.append_assoc]; rfl
        have h3 : qr_T N E (cx_up (cx_up M2 40 acc.length (nI k - 99)) 60 42 (nI (acc.length + 1))) A (A.1.1, []) := (h2.far (fun c _ b _ => px_upc b)).put 42 _ (by decide)
        unfold tw_tellFits_76
        simp only [px_let]
        rw [nx, happ]
        obtain ⟨M3, e3, a3, b3, c3, d3⟩ := ih (k + 1) f (cx_up (cx_up M2 40 acc.length (nI k - 99)) 60 42 (nI (acc.length + 1))) (acc ++ [nI k - 99]) (by omega) (by rw [List.length_append]; simp; omega) h3 (by rw [px_up, if_pos ⟨rfl, rfl⟩, List.length_append]; rfl) (by
          intro j v hj
          rw [px_upc (show (40 : Nat) ≠ 60 by decide), px_upc (show (41 : Nat) ≠ 60 by decide), px_upc (show (41 : Nat) ≠ 40 by decide), px_up]
          by_cases ej : j < acc.length
          · rw [if_neg (by omega)]
            rw [List.getElem?_append_left ej] at hj
            exact hacc2 j v hj
          · rw [List.getElem?_append_right (by omega)] at hj
            have e0 : j - acc.length = 0 := by
              by_cases e : j - acc.length = 0
              · exact e
              · obtain ⟨d, hd⟩ : ∃ d, j - acc.length = d + 1 := ⟨j - acc.length - 1, by omega⟩
                rw [hd] at hj
                cases hj
            rw [e0] at hj
            cases hj
            have ej2 : j = acc.length := by omega
            subst ej2
            rw [if_pos ⟨rfl, rfl⟩]
            exact ⟨rfl, t2⟩) (by omega)
        exact ⟨M3, e3, a3, b3, c3, ((hF2.tr (qr_F.up (by decide))).tr (qr_F.up (by decide))).tr d3⟩
      · rw [pa_b_f cf, if_pos rfl]
        exact skip (pa_fits_no (fun z => cf z.2)) M2 h2' g42 hacc2 hF2
