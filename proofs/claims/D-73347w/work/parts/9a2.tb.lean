/-! READING A LINE, 2: the reference's questions about the sign it stands at -/
def rTok (b : Nat → Int32) (n : Nat) (t : rT) : Prop := ∃ p, rNx b n p t
/-- the sign's letters are those of a word -/
abbrev rW (b : Nat → Int32) (t : rT) (w : List Int32) : Prop := t.2.2 - t.2.1 = w.length ∧ ∀ j, j < w.length → b (t.2.1 + j) = w.getD j 0
/-- where the reference stands, nothing wrong so far -/
def rt_A (b : Nat → Int32) (n : Nat) (t : rT) (M : cx_M) : Prop := rt_t b n M ∧ rt_M b t M ∧ M 60 19 = 0
/-- what is wrong, and where -/
def rt_W (M : cx_M) (κ : Int32) (s : Nat) : cx_M := cx_up (cx_up M 60 19 κ) 60 20 (nI s)
theorem rc_chN : ∀ k, k < 256 → cx_char (nI k &&& 255) = nI k := by decide +kernel
theorem rc_nI {v : Int32} (h0 : 0 ≤ v.toInt) : v = nI v.toInt.toNat := by
  have := i32_rng v
  rw [i32_eq, pi_nI (by omega)]
  omega
theorem rc_ch {v : Int32} (h0 : 0 ≤ v.toInt) (h1 : v.toInt ≤ 255) : cx_char (v &&& 255) = v := by
  rw [rc_nI h0]
  exact rc_chN _ (by omega)
theorem rc_ch2 {v : Int32} (h0 : 0 ≤ v.toInt) (h1 : v.toInt ≤ 255) : v &&& 255 = v := by rw [i32_eq, pi_and255]; omega
theorem rc_ch3 {v : Int32} (h0 : 0 ≤ v.toInt) (h1 : v.toInt ≤ 255) : cx_char v = v := by
  have := rc_ch h0 h1
  rw [rc_ch2 h0 h1] at this
  exact this
theorem i32_shr0 (x : Int32) : x >>> (0 &&& 31) = x := by
  rw [show (0 : Int32) &&& 31 = 0 by decide]
  simp
theorem i32_shl0 (x : Int32) : x <<< (0 &&& 31) = x := by
  rw [show (0 : Int32) &&& 31 = 0 by decide]
  simp
theorem rt_wd : ∀ w, w < 16 → twSn w = (twSbyt.getD w []).length ∧ twSn w < 20 ∧ ∀ j, j < twSn w → 0 ≤ (twSf w j).toInt ∧ (twSf w j).toInt ≤ 255 := by decide +kernel
theorem nI_sub {i k : Nat} (h : k ≤ i) (hi : i < 2000000000) : nI i - nI k = nI (i - k) := by
  have t1 := pi_nI (n := i) (by omega)
  have t2 := pi_nI (n := k) (by omega)
  rw [i32_eq, i32_sub (by omega) (by omega), t1, t2, pi_nI (by omega)]
  omega
theorem nI_inj {i k : Nat} (hi : i < 2000000000) (hk : k < 2000000000) (h : nI i = nI k) : i = k := by
  have := congrArg Int32.toInt h
  rw [pi_nI (by omega), pi_nI (by omega)] at this
  omega
section TW2
variable {N : Nat} {b : Nat → Int32} {n : Nat} {t : rT} {M : cx_M}
theorem rt_wrong {κ : Int32} (h : rt_A b n t M) : tw_wrong N M κ = some (rt_W M κ t.2.1, 0, 0) := by
  unfold tw_wrong tw_wrong_0 rt_W
  simp only [px_get, px_put]
  rw [h.2.2, if_pos rfl, px_up, if_neg (by decide), h.2.1.2.2.1]
theorem rt_len {w : Nat} : jSt_length N (twSn w) (twSf w) M = some (M, nI (twSn w), 0) := by
  unfold jSt_length jSt_length_0
  show some (M, nI (twSn w) >>> ((0 : Int32) &&& 31), 0) = _
  rw [i32_shr0]
theorem rt_char {w j : Nat} (hw : w < 16) (hj : j < twSn w) : jSt_charAt N (twSn w) (twSf w) M (nI j) = some (M, twSf w j, 0) := by
  obtain ⟨-, h2, h3⟩ := rt_wd w hw
  obtain ⟨h3, h4⟩ := h3 j hj
  have t1 := pi_nI (n := j) (by omega)
  have t2 := pi_nI (n := twSn w) (by omega)
  unfold jSt_charAt jSt_charAt_0
  rw [px_cal (show jSt_isLatin1 N (twSn w) (twSf w) M = some (M, 1, 0) from rfl), if_neg (by decide)]
  have e : jLa_charAt N (twSn w) (twSf w) M (nI j) = some (M, twSf w j, 0) := by
    unfold jLa_charAt jLa_charAt_0
    have e1 : jSt_checkIndex N M (nI j) (nI (twSn w)) = some (M, 0, 0) := by
      unfold jSt_checkIndex jSt_checkIndex_0
      rw [px_cal (M := M) (v := nI j) (x := 0) (by unfold jPc_checkIndex jPc_checkIndex_0; rw [if_neg (by rw [i32_lt, pi_0]; omega), if_pos (by rw [i32_lt]; omega)])]
    rw [px_cal e1]
    unfold cx_chk
    rw [if_neg (vp_in_nI hj (by omega)), nI_clamp (by omega)]
    show cx_cr (cx_char (twSf w j &&& 255)) (some (M, cx_char (twSf w j &&& 255), 0)) = _
    unfold cx_cr
    rw [rc_ch h3 h4, if_pos (rc_ch3 h3 h4)]
  rw [px_cal e]
  unfold cx_cr
  rw [if_pos (rc_ch3 h3 h4)]
theorem rt_is_loop (hn : n ≤ 700) (ht : rt_t b n M) {w : Nat} (hw : w < 16) (h17 : M 60 17 = nI t.2.1) (hs : t.2.1 + twSn w ≤ n) : ∀ (m j f : Nat), j + m = twSn w → m < f →
    ∃ v, tw_is_39 N w f M 1 (nI j) = some (M, v, 0) ∧ (((∀ i, j ≤ i → i < twSn w → b (t.2.1 + i) = twSf w i) ∧ v = 1) ∨ ((∃ i, j ≤ i ∧ i < twSn w ∧ ¬ b (t.2.1 + i) = twSf w i) ∧ v = 0)) := by
  obtain ⟨-, h20, -⟩ := rt_wd w hw
  intro m
  induction m with
  | zero =>
    intro j f hj hf
    obtain ⟨f, rfl⟩ : ∃ q, f = q + 1 := ⟨f - 1, by omega⟩
    refine ⟨1, ?_, Or.inl ⟨fun i h1 h2 => absurd h1 (by omega), rfl⟩⟩
    show tw_is_39b N w (tw_is_39 N w f) M 1 (nI j) = _
    unfold tw_is_39b
    rw [if_neg (by decide), px_cal rt_len, if_pos (nI_le (by omega) (by omega))]
    rfl
  | succ m ih =>
    intro j f hj hf
    obtain ⟨f, rfl⟩ : ∃ q, f = q + 1 := ⟨f - 1, by omega⟩
    have t1 := pi_nI (n := t.2.1 + j) (by omega)
    have go : tw_is_39 N w (f + 1) M 1 (nI j) = (if twSf w j = b (t.2.1 + j) then tw_is_39 N w f M 1 (nI (j + 1)) else tw_is_39 N w f M 0 (nI (j + 1))) := by
      show tw_is_39b N w (tw_is_39 N w f) M 1 (nI j) = _
      unfold tw_is_39b tw_is_75
      rw [if_neg (by decide), px_cal rt_len, if_neg (nI_ge (by omega) (by omega)), px_cal (rt_char hw (by omega))]
      simp only [px_get, px_let]
      rw [h17, nI_add t.2.1 j, px_ld (by omega) (by omega), pn_I (by omega), ht.2 _ (by omega), ← nI_succ j]
    by_cases c : twSf w j = b (t.2.1 + j)
    · obtain ⟨v, e, hv⟩ := ih (j + 1) f (by omega) (by omega)
      refine ⟨v, by rw [go, if_pos c]; exact e, ?_⟩
      rcases hv with ⟨h1, h2⟩ | ⟨⟨i, h1, h2, h3⟩, h4⟩
      · refine Or.inl ⟨fun i g1 g2 => ?_, h2⟩
        by_cases z : i = j
        · rw [z]; exact c.symm
        · exact h1 i (by omega) g2
      · exact Or.inr ⟨⟨i, by omega, h2, h3⟩, h4⟩
    · refine ⟨0, ?_, Or.inr ⟨⟨j, Nat.le_refl _, by omega, fun z => c z.symm⟩, rfl⟩⟩
      rw [go, if_neg c]
      obtain ⟨f, rfl⟩ : ∃ q, f = q + 1 := ⟨f - 1, by omega⟩
      rfl
/-- is it this word? -/
theorem rt_is (hn : n ≤ 700) (hN : 705 ≤ N) (h : rt_A b n t M) (hT : rTok b n t) {w : Nat} (hw : w < 16) : tw_is N w M = some (M, if t.1 = 1 ∧ rW b t (twSbyt.getD w []) then 1 else 0, 0) := by
  obtain ⟨p, hT⟩ := hT
  have hle := hT.le
  obtain ⟨h1, h20, h3⟩ := rt_wd w hw
  have hk5 : t.1 < 2000000000 := by omega
  unfold tw_is tw_is_0
  simp only [px_get]
  rw [h.2.2, if_pos rfl, h.2.1.2.1]
  have hno : tw_is_35 N w M = some (M, 0, 0) := by
    unfold tw_is_35 tw_is_36
    obtain ⟨f, rfl⟩ : ∃ q, N = q + 1 := ⟨N - 1, by omega⟩
    rfl
  by_cases c1 : t.1 = 1
  · rw [if_pos (by rw [c1]; rfl), px_cal rt_len, h.2.1.2.2.2.1, h.2.1.2.2.1, nI_sub hle.2.1 (by omega)]
    by_cases c2 : twSn w = t.2.2 - t.2.1
    · rw [if_pos (by rw [c2])]
      unfold tw_is_36
      obtain ⟨v, e, hv⟩ := rt_is_loop (N := N) (t := t) hn h.1 hw h.2.1.2.2.1 (by omega) (twSn w) 0 N (by omega) (by omega)
      rw [show tw_is_39 N w N M 1 0 = some (M, v, 0) from e]
      rcases hv with ⟨g1, g2⟩ | ⟨⟨i, g1, g2, g3⟩, g4⟩
      · rw [if_pos ⟨c1, by omega, fun j hj => g1 j (Nat.zero_le j) (by omega)⟩, g2]
      · rw [if_neg (fun z => g3 (z.2.2 i (by omega))), g4]
    · rw [if_neg (fun z => c2 (nI_inj (by omega) (by omega) z)), if_neg (fun z => c2 (by rw [h1]; exact z.2.1.symm))]
      exact hno
  · rw [if_neg (show ¬ nI t.1 = 1 from fun z => c1 (nI_inj (k := 1) hk5 (by omega) z)), if_neg (fun z => c1 z.1)]
    exact hno
theorem rt_which_loop (hn : n ≤ 700) (hN : 705 ≤ N) (h : rt_A b n t M) (hT : rTok b n t) {w : Nat} (hw : w < 2) : ∀ (m j f : Nat), j + m = twQn w → m < f →
    ∃ v, tw_which_2 N w f M (nI j) = some (M, v, 0) ∧ ((∃ i, j ≤ i ∧ i < twQn w ∧ v = nI i ∧ t.1 = 1 ∧ rW b t (twSbyt.getD (4 * w + i) [])) ∨ (v = -1 ∧ ∀ i, j ≤ i → i < twQn w → ¬ (t.1 = 1 ∧ rW b t (twSbyt.getD (4 * w + i) [])))) := by
  have hq : 4 * w + twQn w ≤ 13 ∧ twQn w ≤ 9 := by rcases (show w = 0 ∨ w = 1 by omega) with rfl | rfl <;> decide
  intro m
  induction m with
  | zero =>
    intro j f hj hf
    obtain ⟨f, rfl⟩ : ∃ q, f = q + 1 := ⟨f - 1, by omega⟩
    refine ⟨-1, ?_, Or.inr ⟨rfl, fun i h1 h2 => absurd h1 (by omega)⟩⟩
    show tw_which_2b N w (tw_which_2 N w f) M (nI j) = _
    unfold tw_which_2b
    rw [if_pos (nI_le (by omega) (by omega))]
  | succ m ih =>
    intro j f hj hf
    obtain ⟨f, rfl⟩ : ∃ q, f = q + 1 := ⟨f - 1, by omega⟩
    have t1 := pi_nI (n := j) (by omega)
    have go : tw_which_2 N w (f + 1) M (nI j) = (if (if t.1 = 1 ∧ rW b t (twSbyt.getD (4 * w + j) []) then (1 : Int32) else 0) = 0 then tw_which_2 N w f M (nI (j + 1)) else some (M, nI j, 0)) := by
      show tw_which_2b N w (tw_which_2 N w f) M (nI j) = _
      unfold tw_which_2b
      rw [if_neg (nI_ge (by omega) (by omega)), px_ix (by omega) (by omega), pn_I (by omega), px_cal (rt_is hn hN h hT (by omega)), px_let, ← nI_succ j]
    by_cases c : t.1 = 1 ∧ rW b t (twSbyt.getD (4 * w + j) [])
    · exact ⟨nI j, by rw [go, if_pos c, if_neg (by decide)], Or.inl ⟨j, Nat.le_refl _, by omega, rfl, c.1, c.2⟩⟩
    · obtain ⟨v, e, hv⟩ := ih (j + 1) f (by omega) (by omega)
      refine ⟨v, by rw [go, if_neg c, if_pos rfl]; exact e, ?_⟩
      rcases hv with ⟨i, g1, g2, g3⟩ | ⟨g1, g2⟩
      · exact Or.inl ⟨i, by omega, g2, g3⟩
      · refine Or.inr ⟨g1, fun i z1 z2 => ?_⟩
        by_cases z : i = j
        · rw [z]; exact c
        · exact g2 i (by omega) z2
theorem rt_which (hn : n ≤ 700) (hN : 705 ≤ N) (h : rt_A b n t M) (hT : rTok b n t) {w : Nat} (hw : w < 2) : ∃ v, tw_which N w M = some (M, v, 0) ∧ ((∃ i, i < twQn w ∧ v = nI i ∧ t.1 = 1 ∧ rW b t (twSbyt.getD (4 * w + i) [])) ∨ (v = -1 ∧ ∀ i, i < twQn w → ¬ (t.1 = 1 ∧ rW b t (twSbyt.getD (4 * w + i) [])))) := by
  have hq : twQn w ≤ 9 := by rcases (show w = 0 ∨ w = 1 by omega) with rfl | rfl <;> decide
  obtain ⟨v, e, hv⟩ := rt_which_loop hn hN h hT hw (twQn w) 0 N (by omega) (by omega)
  refine ⟨v, e, ?_⟩
  rcases hv with ⟨i, -, g⟩ | ⟨g1, g2⟩
  · exact Or.inl ⟨i, g⟩
  · exact Or.inr ⟨g1, fun i z => g2 i (Nat.zero_le i) z⟩
/-- is it this mark? -/
theorem rt_marked (hn : n ≤ 700) (h : rt_A b n t M) (hT : rTok b n t) {c : Int32} : tw_isMarked N M c = some (M, if t.1 = 3 ∧ b t.2.1 = c then 1 else 0, 0) := by
  obtain ⟨p, hT⟩ := hT
  have hle := hT.le
  have t1 := pi_nI (n := t.2.1) (by omega)
  unfold tw_isMarked tw_isMarked_0
  simp only [px_get]
  rw [h.2.2, if_pos rfl, h.2.1.2.1]
  by_cases c1 : t.1 = 3
  · have := hle.2.2.2.1 (by omega)
    rw [if_pos (by rw [c1]; rfl), h.2.1.2.2.1, px_ld (by omega) (by omega), pn_I (by omega), h.1.2 _ (by omega)]
    by_cases c2 : b t.2.1 = c
    · rw [if_pos c2, if_pos ⟨c1, c2⟩]
    · rw [if_neg c2, if_neg (fun z => c2 z.2)]
  · rw [if_neg (show ¬ nI t.1 = 3 from fun z => c1 (nI_inj (k := 3) (by omega) (by omega) z)), if_neg (fun z => c1 z.1)]
theorem rt_A.st (h : rt_A b n t M) {M' : cx_M} {t' : rT} (hF : rt_F M M') (hM : rt_M b t' M') : rt_A b n t' M' := ⟨h.1.fr hF, hM, by rw [hF.2 19 (by decide)]; exact h.2.2⟩
/-- to the next sign -/
theorem rt_next (hn : n ≤ 700) (hN : 705 ≤ N) (hb0 : ∀ j, j < n → 0 ≤ (b j).toInt) {t' : rT} (h : rt_A b n t M) (hx : rNx b n t.2.2 t') : ∃ M', tw_stepOn N M = some (M', 0, 0) ∧ rt_F M M' ∧ rt_A b n t' M' := by
  obtain ⟨M', e1, e2, e3⟩ := rt_step hn hN hb0 hx h.1 h.2.1.1
  exact ⟨M', e1, e2, h.st e2 e3⟩
/-- a number is told, within bounds -/
abbrev rNum (b : Nat → Int32) (t : rT) (lo hi : Nat) : Prop := t.1 = 2 ∧ t.2.2 - t.2.1 ≤ 4 ∧ lo ≤ rVal b t.2.1 (t.2.2 - t.2.1) ∧ rVal b t.2.1 (t.2.2 - t.2.1) ≤ hi
theorem rTok_num (hT : rTok b n t) (h2 : t.1 = 2) (h4 : t.2.2 - t.2.1 ≤ 4) : rVal b t.2.1 (t.2.2 - t.2.1) < 10000 := by
  obtain ⟨p, -, hx⟩ := hT
  rcases hx with ⟨-, a, -⟩ | ⟨-, -, a, -⟩ | ⟨-, -, -, -, a⟩ | ⟨-, -, -, -, a, -⟩ | ⟨-, -, -, -, a, -⟩
  · omega
  · omega
  · have := a.1
    exact rVal4 h4 (fun i hi => a.2.2.1 _ (by omega) (by omega))
  · omega
  · omega
theorem rt_number_ok (hn : n ≤ 700) (hN : 705 ≤ N) (hb0 : ∀ j, j < n → 0 ≤ (b j).toInt) {t' : rT} {lo hi : Nat} (h : rt_A b n t M) (hT : rTok b n t) (hx : rNx b n t.2.2 t') (hq : rNum b t lo hi) (hhi : hi < 100000) :
    ∃ M', tw_readNumber N M (nI lo) (nI hi) = some (M', nI (rVal b t.2.1 (t.2.2 - t.2.1)), 0) ∧ rt_F M M' ∧ rt_A b n t' M' := by
  obtain ⟨p, hT'⟩ := id hT
  have hle := hT'.le
  obtain ⟨M', e1, e2, e3⟩ := rt_next hn hN hb0 h hx
  refine ⟨M', ?_, e2, e3⟩
  obtain ⟨q1, q2, q3, q4⟩ := hq
  have e16 := h.2.1.2.2.2.2 q1 q2
  have tv := pi_nI (n := rVal b t.2.1 (t.2.2 - t.2.1)) (by omega)
  have tl := pi_nI (n := lo) (by omega)
  have th := pi_nI (n := hi) (by omega)
  unfold tw_readNumber tw_readNumber_0 tw_readNumber_59 tw_readNumber_74
  simp only [px_get]
  rw [h.2.2, if_pos rfl, h.2.1.2.1, if_pos (by rw [q1]; rfl), h.2.1.2.2.2.1, h.2.1.2.2.1, nI_sub hle.2.1 (by omega), if_neg (show ¬ (4 : Int32) < nI (t.2.2 - t.2.1) by rw [i32_lt, pi_nI (by omega), show (4 : Int32).toInt = 4 from rfl]; omega), e16, if_neg (by rw [i32_lt]; omega), if_pos (by rw [i32_le]; omega), if_pos rfl, if_pos rfl, px_cal e1]
theorem rt_number_er {lo hi : Nat} (h : rt_A b n t M) (hT : rTok b n t) (hn : n ≤ 700) (hhi : hi < 100000) (hlo : lo < 100000) (hq : ¬ rNum b t lo hi) :
    tw_readNumber N M (nI lo) (nI hi) = some (rt_W M (if t.1 = 2 then 2 else 1) t.2.1, 0, 0) := by
  obtain ⟨p, hT'⟩ := id hT
  have hle := hT'.le
  have tl := pi_nI (n := lo) (by omega)
  have th := pi_nI (n := hi) (by omega)
  have w : ∀ κ, ¬ κ = 0 → cx_cal (tw_wrong N M κ) (fun M1 _ => tw_readNumber_59 N M1) = some (rt_W M κ t.2.1, 0, 0) := by
    intro κ hκ
    have e19 : rt_W M κ t.2.1 60 19 = κ := by unfold rt_W; simp [px_up]
    rw [px_cal (rt_wrong h)]
    unfold tw_readNumber_59 tw_readNumber_74
    simp only [px_get]
    rw [e19, if_neg hκ, if_neg hκ]
  unfold tw_readNumber tw_readNumber_0 tw_readNumber_54
  simp only [px_get]
  rw [h.2.2, if_pos rfl, h.2.1.2.1]
  by_cases c1 : t.1 = 2
  · rw [if_pos (by rw [c1]; rfl), h.2.1.2.2.2.1, h.2.1.2.2.1, nI_sub hle.2.1 (by omega), if_pos c1]
    by_cases c2 : t.2.2 - t.2.1 ≤ 4
    · have hv := rTok_num hT c1 c2
      have tv := pi_nI (n := rVal b t.2.1 (t.2.2 - t.2.1)) (by omega)
      rw [if_neg (show ¬ (4 : Int32) < nI (t.2.2 - t.2.1) by rw [i32_lt, pi_nI (by omega), show (4 : Int32).toInt = 4 from rfl]; omega), h.2.1.2.2.2.2 c1 c2]
      by_cases c3 : rVal b t.2.1 (t.2.2 - t.2.1) < lo
      · rw [if_pos (by rw [i32_lt]; omega)]; exact w 2 (by decide)
      · have c4 : hi < rVal b t.2.1 (t.2.2 - t.2.1) := by
          by_cases z : rVal b t.2.1 (t.2.2 - t.2.1) ≤ hi
          · exact absurd ⟨c1, c2, by omega, z⟩ hq
          · omega
        rw [if_neg (by rw [i32_lt]; omega), if_neg (by rw [i32_le]; omega)]; exact w 2 (by decide)
    · rw [if_pos (show (4 : Int32) < nI (t.2.2 - t.2.1) by rw [i32_lt, pi_nI (by omega), show (4 : Int32).toInt = 4 from rfl]; omega)]; exact w 2 (by decide)
  · rw [if_neg (show ¬ nI t.1 = 2 from fun z => c1 (nI_inj (k := 2) (by omega) (by omega) z)), if_neg c1]; exact w 1 (by decide)
theorem rt_mark_ok (hn : n ≤ 700) (hN : 705 ≤ N) (hb0 : ∀ j, j < n → 0 ≤ (b j).toInt) {t' : rT} {c : Int32} (h : rt_A b n t M) (hT : rTok b n t) (hx : rNx b n t.2.2 t') (hq : t.1 = 3 ∧ b t.2.1 = c) : ∃ M', tw_mark N M c = some (M', 0, 0) ∧ rt_F M M' ∧ rt_A b n t' M' := by
  obtain ⟨M', e1, e2, e3⟩ := rt_next hn hN hb0 h hx
  refine ⟨M', ?_, e2, e3⟩
  unfold tw_mark tw_mark_0 tw_mark_20
  simp only [px_get]
  rw [h.2.2, if_pos rfl, px_cal (rt_marked hn h hT), if_pos hq, if_neg (by decide), h.2.2, if_pos rfl, px_cal e1]
theorem rt_mark_er (hn : n ≤ 700) {c : Int32} (h : rt_A b n t M) (hT : rTok b n t) (hq : ¬ (t.1 = 3 ∧ b t.2.1 = c)) : tw_mark N M c = some (rt_W M 1 t.2.1, 0, 0) := by
  have e19 : rt_W M 1 t.2.1 60 19 = 1 := by unfold rt_W; simp [px_up]
  unfold tw_mark tw_mark_0 tw_mark_20
  simp only [px_get]
  rw [h.2.2, if_pos rfl, px_cal (rt_marked hn h hT), if_neg hq, if_pos rfl, px_cal (rt_wrong h), e19, if_neg (by decide)]
/-- a rule's sign is laid -/
theorem rt_lay {r cnt : Nat} {x : Int32} (hr : r < 2) (h19 : M 60 19 = 0) (h10 : M 60 10 = nI r) (h3 : M 3 (18 + r) = nI cnt) (hc : cnt < 700) : tw_lay N M x = some (cx_up (cx_up M (5 + r) (700 + cnt) x) 3 (18 + r) (nI (cnt + 1)), 0, 0) := by
  have t1 := pi_nI (n := 700 + cnt) (by omega)
  have e700 : (700 : Int32) + nI cnt = nI (700 + cnt) := by
    have t2 := pi_nI (n := cnt) (by omega)
    rw [i32_eq, i32_add (by rw [show (700 : Int32).toInt = 700 from rfl]; omega) (by rw [show (700 : Int32).toInt = 700 from rfl]; omega), t1, t2, show (700 : Int32).toInt = 700 from rfl]
    omega
  unfold tw_lay tw_lay_0 tw_lay_24 tw_lay_68
  simp only [px_get, px_let]
  rw [h19, if_pos rfl, h10]
  rcases (show r = 0 ∨ r = 1 by omega) with rfl | rfl
  · rw [if_pos (show nI 0 = 0 from rfl), if_pos (show nI 0 = 0 from rfl), px_ld (by decide) (by decide), show pn ((10 : Int32) + 8) = 18 by decide, h3, e700, px_st (by omega) (by omega), pn_I (by omega), px_ld (by decide) (by decide), show pn ((10 : Int32) + 8) = 18 by decide, px_upc (by decide), h3, px_st (by decide) (by decide), show pn ((10 : Int32) + 8) = 18 by decide, ← nI_succ cnt]
  · rw [if_neg (show ¬ nI 1 = 0 by decide), if_neg (show ¬ nI 1 = 0 by decide), px_ld (by decide) (by decide), show pn ((10 : Int32) + 9) = 19 by decide, h3, e700, px_st (by omega) (by omega), pn_I (by omega), px_ld (by decide) (by decide), show pn ((10 : Int32) + 9) = 19 by decide, px_upc (by decide), h3, px_st (by decide) (by decide), show pn ((10 : Int32) + 9) = 19 by decide, ← nI_succ cnt]
end TW2
