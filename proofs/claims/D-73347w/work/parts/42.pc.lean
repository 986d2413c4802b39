/-! BITS OF WORDS -/
theorem pw_s_lt (f : Nat → Int32) : ∀ n, bt_s f n < 2 ^ n
  | 0 => by show 0 < 1; decide
  | n + 1 => by
    have h := pw_s_lt f n
    show bt_s f n + (if f n = 0 then 0 else 2 ^ n) < 2 ^ (n + 1)
    rw [Nat.pow_succ]
    split <;> omega
theorem pw_s_bit (f : Nat → Int32) : ∀ n j, j < n → (bt_s f n).testBit j = decide (f j ≠ 0) := by
  intro n
  induction n with
  | zero => intro j hj; exact absurd hj (by omega)
  | succ n ih =>
    intro j hj
    show (bt_s f n + (if f n = 0 then 0 else 2 ^ n)).testBit j = _
    by_cases hn : f n = 0
    · rw [if_pos hn, Nat.add_zero]
      by_cases e : j = n
      · subst e
        rw [Nat.testBit_lt_two_pow (pw_s_lt f j)]
        simp [hn]
      · exact ih j (by omega)
    · rw [if_neg hn, Nat.add_comm]
      by_cases e : j = n
      · subst e
        rw [Nat.testBit_two_pow_add_eq, Nat.testBit_lt_two_pow (pw_s_lt f j)]
        simp [hn]
      · rw [Nat.testBit_two_pow_add_gt (by omega)]
        exact ih j (by omega)
/-- a word's bit -/
def pw_b (v : Int64) (j : Nat) : Bool := v.toBitVec.toNat.testBit j
theorem pw_bit (v : Int64) (j : Nat) : bt_bit v j = if pw_b v j = true then 1 else 0 := rfl
theorem pw_w (f : Nat → Int32) (i j : Nat) (hj : j < 64) : pw_b (bt_w f i) j = decide (f (64 * i + j) ≠ 0) := by
  unfold pw_b bt_w
  have h : (Int64.ofNat (bt_s (fun j => f (64 * i + j)) 64)).toBitVec.toNat = bt_s (fun j => f (64 * i + j)) 64 := by
    show (BitVec.ofNat 64 _).toNat = _
    rw [BitVec.toNat_ofNat]
    exact Nat.mod_eq_of_lt (pw_s_lt _ 64)
  rw [h, pw_s_bit _ 64 j hj]
theorem pw_or (a b : Int64) (j : Nat) : pw_b (a ||| b) j = (pw_b a j || pw_b b j) := by
  unfold pw_b
  rw [Int64.toBitVec_or, BitVec.toNat_or, Nat.testBit_or]
theorem pw_and (a b : Int64) (j : Nat) : pw_b (a &&& b) j = (pw_b a j && pw_b b j) := by
  unfold pw_b
  rw [Int64.toBitVec_and, BitVec.toNat_and, Nat.testBit_and]
theorem pw_hi (a : Int64) (j : Nat) (hj : 64 ≤ j) : pw_b a j = false := by
  unfold pw_b
  exact Nat.testBit_lt_two_pow (Nat.lt_of_lt_of_le a.toBitVec.isLt (Nat.pow_le_pow_right (by decide) hj))
theorem pw_0 (j : Nat) : pw_b 0 j = false := by
  unfold pw_b
  exact Nat.zero_testBit j
theorem pw_ext {a b : Int64} (h : ∀ j, j < 64 → pw_b a j = pw_b b j) : a = b := by
  apply Int64.toBitVec_inj.mp
  apply BitVec.eq_of_toNat_eq
  apply Nat.eq_of_testBit_eq
  intro j
  by_cases hj : j < 64
  · exact h j hj
  · exact (pw_hi a j (by omega)).trans (pw_hi b j (by omega)).symm
set_option maxRecDepth 100000 in
theorem pw_sh1 : ∀ x, x < 128 → ∀ j, j < 64 → pw_b (cx_shl64 1 (nI x)) j = decide (j = x % 64) := by decide +kernel
set_option maxRecDepth 100000 in
theorem pw_sh2 : ∀ x, x < 128 → ∀ j, j < 64 → pw_b (cx_shl64 1 (nI x) ^^^ (-1)) j = decide (j ≠ x % 64) := by decide +kernel
theorem pw_wi : ∀ x, x < 128 → (nI x) >>> (6 &&& 31 : Int32) = nI (x / 64) := by decide +kernel
theorem pw_put (f : Nat → Int32) (i : Nat) (v : Int64) (q : Nat) : bt_put f i v q = if q / 64 = i then (if pw_b v (q % 64) = true then 1 else 0) else f q := rfl
/-- a bit set at rest: its bits -/
def pc_B (M : cx_M) (c : Nat) (f : Nat → Int32) : Prop := (∃ w : Nat, w ≤ 2 ∧ M c 1 = nI w ∧ ∀ q, 64 * w ≤ q → q < 128 → M (c + 1) q = 0) ∧ (∀ q, q < 128 → M (c + 1) q = f q) ∧ ∀ q, q < 128 → f q = 0 ∨ f q = 1
theorem pc_B.fr {M M' : cx_M} {c : Nat} {f : Nat → Int32} (h : pc_B M c f) (h1 : M' c = M c) (h2 : M' (c + 1) = M (c + 1)) : pc_B M' c f := by
  unfold pc_B at h ⊢
  rw [h1, h2]
  exact h
theorem px_ldw {M : cx_M} {c n k : Nat} {f : Int64 → Option cx_R} (hk : k < n) (hn : n < 1000) : cx_ldw M c n (nI k) f = f (bt_w (M c) k) := by
  unfold cx_ldw
  rw [if_neg (vp_in_nI hk (by omega)), nI_clamp (by omega)]
theorem px_stw {M : cx_M} {c n k : Nat} {v : Int64} {f : cx_M → Option cx_R} (hk : k < n) (hn : n < 1000) : cx_stw M c n (nI k) v f = f (cx_set M c (bt_put (M c) k v)) := by
  unfold cx_stw
  rw [if_neg (vp_in_nI hk (by omega)), nI_clamp (by omega)]
theorem pc_get {N : cx_N} {M : cx_M} {c x : Nat} {f : Nat → Int32} (h : pc_B M c f) (hx : x < 128) : jBs_get N c M (nI x) = some (M, if f x = 0 then 0 else 1, 0) := by
  obtain ⟨⟨w, hw, e1, hz⟩, hf, -⟩ := h
  unfold jBs_get jBs_get_0
  rw [if_pos (nI_pos' (by omega)), px_cal (show jBs_checkInvariants N c M = some (M, 0, 0) from rfl), px_cal (show jBs_wordIndex N M (nI x) = some (M, nI x >>> (6 &&& 31 : Int32), 0) from rfl), pw_wi x hx]
  try simp only [cx_get, cx_put, cx_let]
  rw [e1]
  by_cases c1 : w ≤ x / 64
  · rw [if_pos (nI_le c1 (by omega)), ← hf x hx, hz x (by omega) hx]
    rfl
  · rw [if_neg (nI_ge (by omega) (by omega)), px_ldw (by omega) (by omega)]
    have hb : ∀ j, j < 64 → pw_b (bt_w (M (c + 1)) (x / 64) &&& cx_shl64 1 (nI x)) j = decide (j = x % 64 ∧ f x ≠ 0) := by
      intro j hj
      rw [pw_and, pw_w _ _ _ hj, pw_sh1 x hx j hj]
      by_cases ej : j = x % 64
      · subst ej
        rw [show 64 * (x / 64) + x % 64 = x by omega, hf x hx]
        simp
      · simp [ej]
    by_cases c2 : f x = 0
    · have e0 : bt_w (M (c + 1)) (x / 64) &&& cx_shl64 1 (nI x) = 0 := pw_ext (fun j hj => by rw [hb j hj, pw_0]; simp [c2])
      rw [e0, if_pos (by decide), if_pos c2]
    · have e0 : ¬ bt_w (M (c + 1)) (x / 64) &&& cx_shl64 1 (nI x) = 0 := by
        intro e
        have := hb (x % 64) (by omega)
        rw [e, pw_0] at this
        simp [c2] at this
      have e1 : ¬ lg_cmp (bt_w (M (c + 1)) (x / 64) &&& cx_shl64 1 (nI x)) 0 = 0 := by
        unfold lg_cmp
        split
        · decide
        · first | decide | (rw [if_neg e0]; decide)
      rw [if_neg e1, if_neg c2]
theorem pc_recalc {N : cx_N} {c : Nat} : ∀ (w n : Nat) (M : cx_M), w ≤ 2 → w < n → (∀ q, 64 * w ≤ q → q < 128 → M (c + 1) q = 0) → ∃ w', w' ≤ 2 ∧ jBs_recalculateWordsInUse_7 N c n M (nI w - 1) = some (cx_up M c 1 (nI w'), 0, 0) ∧ ∀ q, 64 * w' ≤ q → q < 128 → M (c + 1) q = 0 := by
  intro w
  induction w with
  | zero =>
    intro n M hw hn hz
    obtain ⟨n, rfl⟩ : ∃ k, n = k + 1 := ⟨n - 1, by omega⟩
    refine ⟨0, by omega, ?_, hz⟩
    show jBs_recalculateWordsInUse_7b N c (jBs_recalculateWordsInUse_7 N c n) M (nI 0 - 1) = _
    unfold jBs_recalculateWordsInUse_7b jBs_recalculateWordsInUse_31
    try simp only [cx_get, cx_put, cx_let]
    rw [if_pos (by decide)]
    rfl
  | succ w ih =>
    intro n M hw hn hz
    obtain ⟨n, rfl⟩ : ∃ k, n = k + 1 := ⟨n - 1, by omega⟩
    rw [nI_pred]
    by_cases c0 : bt_w (M (c + 1)) w = 0
    · have hz' : ∀ q, 64 * w ≤ q → q < 128 → M (c + 1) q = 0 := by
        intro q h1 h2
        by_cases h3 : 64 * (w + 1) ≤ q
        · exact hz q h3 h2
        · have := pw_w (M (c + 1)) w (q - 64 * w) (by omega)
          rw [c0, pw_0, show 64 * w + (q - 64 * w) = q by omega] at this
          simp at this
          exact this
      obtain ⟨w', h1, h2, h3⟩ := ih n M (by omega) (by omega) hz'
      refine ⟨w', h1, ?_, h3⟩
      show jBs_recalculateWordsInUse_7b N c (jBs_recalculateWordsInUse_7 N c n) M (nI w) = _
      unfold jBs_recalculateWordsInUse_7b
      try simp only [cx_get, cx_put, cx_let]
      rw [if_neg (nI_pos (by omega)), px_ldw (by omega) (by omega), c0, if_pos (by decide), show nI w + (-1) = nI w - 1 from by rw [Int32.sub_eq_add_neg]]
      exact h2
    · refine ⟨w + 1, hw, ?_, hz⟩
      have e1 : ¬ lg_cmp (bt_w (M (c + 1)) w) 0 = 0 := by
        unfold lg_cmp
        split
        · decide
        · first | decide | (rw [if_neg c0]; decide)
      show jBs_recalculateWordsInUse_7b N c (jBs_recalculateWordsInUse_7 N c n) M (nI w) = _
      unfold jBs_recalculateWordsInUse_7b jBs_recalculateWordsInUse_31
      try simp only [cx_get, cx_put, cx_let]
      rw [if_neg (nI_pos (by omega)), px_ldw (by omega) (by omega), if_neg e1, ← nI_succ]
theorem pc_clear2 {N : cx_N} {M : cx_M} {c x : Nat} {f : Nat → Int32} (hN : 3 < N.1) (h : pc_B M c f) (hx : x < 128) : ∃ M', jBs_clear_2 N c M (nI x) = some (M', 0, 0) ∧ pc_B M' c (upd f x 0) ∧ (∀ d, d ≠ c → d ≠ c + 1 → M' d = M d) ∧ ∀ k, k ≠ 1 → M' c k = M c k := by
  obtain ⟨⟨w, hw, e1, hz⟩, hf, h01⟩ := h
  have hwi : jBs_wordIndex N M (nI x) = some (M, nI (x / 64), 0) := by
    show some (M, nI x >>> (6 &&& 31 : Int32), 0) = _
    rw [pw_wi x hx]
  have h01' : ∀ q, q < 128 → upd f x 0 q = 0 ∨ upd f x 0 q = 1 := by
    intro q hq
    unfold upd
    split
    · exact Or.inl rfl
    · exact h01 q hq
  unfold jBs_clear_2 jBs_clear_2_0
  rw [if_pos (nI_pos' (by omega)), px_cal hwi]
  try simp only [cx_get, cx_put, cx_let]
  rw [e1]
  by_cases c1 : x / 64 < w
  · rw [if_pos (nI_lt c1 (by omega)), px_ldw (by omega) (by omega), px_stw (by omega) (by omega)]
    generalize hM : cx_set M (c + 1) (bt_put (M (c + 1)) (x / 64) (bt_w (M (c + 1)) (x / 64) &&& (cx_shl64 1 (nI x) ^^^ (-1)))) = M1
    have hc : M1 c = M c := by rw [← hM, px_setc (by omega)]
    have hb : ∀ q, q < 128 → M1 (c + 1) q = upd f x 0 q := by
      intro q hq
      rw [← hM, px_sets, pw_put]
      unfold upd
      by_cases c2 : q / 64 = x / 64
      · rw [if_pos c2, pw_and, pw_w _ _ _ (by omega), pw_sh2 x hx _ (by omega), show 64 * (x / 64) + q % 64 = q by omega, hf q hq]
        by_cases c3 : q = x
        · subst c3; simp
        · rw [if_neg c3]
          have c4 : q % 64 ≠ x % 64 := by omega
          rcases h01 q hq with e | e <;> simp [c4, e]
      · rw [if_neg c2, if_neg (by intro e; subst e; exact c2 rfl), hf q hq]
    have hz1 : ∀ q, 64 * w ≤ q → q < 128 → M1 (c + 1) q = 0 := by
      intro q h1 h2
      rw [hb q h2]
      unfold upd
      split
      · rfl
      · rw [← hf q h2, hz q h1 h2]
    obtain ⟨w', h1, h2, h3⟩ := pc_recalc (N := N) (c := c) w N.1 M1 hw (by omega) hz1
    have hr : jBs_recalculateWordsInUse N c M1 = some (cx_up M1 c 1 (nI w'), 0, 0) := by
      unfold jBs_recalculateWordsInUse jBs_recalculateWordsInUse_0
      try simp only [cx_get, cx_put, cx_let]
      rw [hc, e1]
      exact h2
    rw [px_cal hr, px_cal (show jBs_checkInvariants N c (cx_up M1 c 1 (nI w')) = some (_, 0, 0) from rfl)]
    refine ⟨_, rfl, ⟨⟨w', h1, by rw [px_up, if_pos ⟨rfl, rfl⟩], fun q h4 h5 => ?_⟩, fun q hq => ?_, h01'⟩, fun d h4 h5 => ?_, fun k hk => ?_⟩
    · rw [px_upc (by omega)]; exact h3 q h4 h5
    · rw [px_upc (by omega)]; exact hb q hq
    · rw [px_upc h4, ← hM, px_setc h5]
    · rw [px_up, if_neg (fun z => hk z.2), hc]
  · rw [if_neg (nI_nlt (by omega) (by omega))]
    refine ⟨M, rfl, ⟨⟨w, hw, e1, hz⟩, fun q hq => ?_, h01'⟩, fun _ _ _ => rfl, fun _ _ => rfl⟩
    unfold upd
    split
    · next e => subst e; exact hz q (by omega) hq
    · exact hf q hq
theorem pc_set2 {N : cx_N} {M : cx_M} {c x : Nat} {f : Nat → Int32} (h : pc_B M c f) (hx : x < 128) : ∃ M', jBs_set_2 N c M (nI x) = some (M', 0, 0) ∧ pc_B M' c (upd f x 1) ∧ (∀ d, d ≠ c → d ≠ c + 1 → M' d = M d) ∧ ∀ k, k ≠ 1 → M' c k = M c k := by
  obtain ⟨⟨w, hw, e1, hz⟩, hf, h01⟩ := h
  have hwi : jBs_wordIndex N M (nI x) = some (M, nI (x / 64), 0) := by
    show some (M, nI x >>> (6 &&& 31 : Int32), 0) = _
    rw [pw_wi x hx]
  have h01' : ∀ q, q < 128 → upd f x 1 q = 0 ∨ upd f x 1 q = 1 := by
    intro q hq
    unfold upd
    split
    · exact Or.inr rfl
    · exact h01 q hq
  have hex : ∃ M1 w1, jBs_expandTo N c M (nI (x / 64)) = some (M1, 0, 0) ∧ w1 ≤ 2 ∧ x / 64 < w1 ∧ w ≤ w1 ∧ M1 c 1 = nI w1 ∧ (∀ d, d ≠ c → M1 d = M d) ∧ ∀ k, k ≠ 1 → M1 c k = M c k := by
    unfold jBs_expandTo jBs_expandTo_0
    try simp only [cx_get, cx_put, cx_let]
    rw [e1, ← nI_succ]
    by_cases c1 : x / 64 + 1 ≤ w
    · rw [if_pos (nI_le c1 (by omega))]
      exact ⟨M, w, rfl, hw, by omega, Nat.le_refl _, e1, fun _ _ => rfl, fun _ _ => rfl⟩
    · rw [if_neg (nI_ge (by omega) (by omega))]
      have : jBs_ensureCapacity N c M (nI (x / 64 + 1)) = some (M, 0, 0) := by
        unfold jBs_ensureCapacity jBs_ensureCapacity_0
        rw [if_pos (show nI (x / 64 + 1) ≤ (2 : Int32) from nI_le (b := 2) (by omega) (by omega))]
      rw [px_cal this]
      exact ⟨_, x / 64 + 1, rfl, by omega, by omega, by omega, by rw [px_up, if_pos ⟨rfl, rfl⟩], fun d hd => px_upc hd, fun k hk => by rw [px_up, if_neg (fun z => hk z.2)]⟩
  obtain ⟨M1, w1, ex, hw1, hx1, hww, ew1, ho, hk1⟩ := hex
  unfold jBs_set_2 jBs_set_2_0
  rw [if_pos (nI_pos' (by omega)), px_cal hwi, px_cal ex, px_ldw (by omega) (by omega), px_stw (by omega) (by omega), px_cal (show jBs_checkInvariants N c (cx_set M1 (c + 1) (bt_put (M1 (c + 1)) (x / 64) (bt_w (M1 (c + 1)) (x / 64) ||| cx_shl64 1 (nI x)))) = some (_, 0, 0) from rfl)]
  have hb : ∀ q, q < 128 → bt_put (M1 (c + 1)) (x / 64) (bt_w (M1 (c + 1)) (x / 64) ||| cx_shl64 1 (nI x)) q = upd f x 1 q := by
    intro q hq
    rw [pw_put, ho (c + 1) (by omega)]
    unfold upd
    by_cases c2 : q / 64 = x / 64
    · rw [if_pos c2, pw_or, pw_w _ _ _ (by omega), pw_sh1 x hx _ (by omega), show 64 * (x / 64) + q % 64 = q by omega, hf q hq]
      by_cases c3 : q = x
      · subst c3; simp
      · rw [if_neg c3]
        have c4 : q % 64 ≠ x % 64 := by omega
        rcases h01 q hq with e | e <;> simp [c4, e]
    · rw [if_neg c2, if_neg (by intro e; subst e; exact c2 rfl), hf q hq]
  refine ⟨_, rfl, ⟨⟨w1, hw1, by rw [px_setc (by omega)]; exact ew1, fun q h4 h5 => ?_⟩, fun q hq => ?_, h01'⟩, fun d h4 h5 => ?_, fun k hk => ?_⟩
  · rw [px_sets, hb q h5]
    unfold upd
    rw [if_neg (by omega), ← hf q h5]
    exact hz q (by omega) h5
  · rw [px_sets]; exact hb q hq
  · rw [px_setc h5]; exact ho d h4
  · rw [px_setc (by omega)]; exact hk1 k hk
theorem pc_set {N : cx_N} {M : cx_M} {c x : Nat} {f : Nat → Int32} {v : Int32} (hN : 3 < N.1) (h : pc_B M c f) (hx : x < 128) (hv : v = 0 ∨ v = 1) : ∃ M', jBs_set N c M (nI x) v = some (M', 0, 0) ∧ pc_B M' c (upd f x v) ∧ (∀ d, d ≠ c → d ≠ c + 1 → M' d = M d) ∧ ∀ k, k ≠ 1 → M' c k = M c k := by
  unfold jBs_set jBs_set_0
  rcases hv with rfl | rfl
  · rw [if_pos rfl]
    obtain ⟨M1, e, h1⟩ := pc_clear2 hN h hx
    rw [px_cal e]
    exact ⟨M1, rfl, h1⟩
  · rw [if_neg (by decide)]
    obtain ⟨M1, e, h1⟩ := pc_set2 (N := N) h hx
    rw [px_cal e]
    exact ⟨M1, rfl, h1⟩
theorem pc_clear {N : cx_N} {c : Nat} : ∀ (w n : Nat) (M : cx_M), w ≤ 2 → w < n → M c 1 = nI w → (∀ q, 64 * w ≤ q → q < 128 → M (c + 1) q = 0) → ∃ M', jBs_clear_0 N c n M = some (M', 0, 0) ∧ pc_B M' c (fun _ => 0) ∧ (M' c 1 = 0) ∧ (∀ d, d ≠ c → d ≠ c + 1 → M' d = M d) ∧ ∀ k, k ≠ 1 → M' c k = M c k := by
  intro w
  induction w with
  | zero =>
    intro n M hw hn e1 hz
    obtain ⟨n, rfl⟩ : ∃ k, n = k + 1 := ⟨n - 1, by omega⟩
    refine ⟨M, ?_, ⟨⟨0, by omega, e1, hz⟩, fun q hq => hz q (by omega) hq, fun _ _ => Or.inl rfl⟩, e1, fun _ _ _ => rfl, fun _ _ => rfl⟩
    show jBs_clear_0b N c (jBs_clear_0 N c n) M = _
    unfold jBs_clear_0b
    try simp only [cx_get, cx_put, cx_let]
    rw [e1, if_pos (by decide)]
  | succ w ih =>
    intro n M hw hn e1 hz
    obtain ⟨n, rfl⟩ : ∃ k, n = k + 1 := ⟨n - 1, by omega⟩
    have hz' : ∀ q, 64 * w ≤ q → q < 128 → bt_put (M (c + 1)) w 0 q = 0 := by
      intro q h1 h2
      rw [pw_put]
      split
      · rw [pw_0]; rfl
      · exact hz q (by omega) h2
    obtain ⟨M', h1, h2, h3, h4, h5⟩ := ih n (cx_set (cx_up M c 1 (nI w)) (c + 1) (bt_put (cx_up M c 1 (nI w) (c + 1)) w 0)) (by omega) (by omega) (by rw [px_setc (by omega), px_up, if_pos ⟨rfl, rfl⟩]) (by rw [px_sets, px_upc (by omega)]; exact hz')
    refine ⟨M', ?_, h2, h3, fun d a b => by rw [h4 d a b, px_setc b, px_upc a], fun k hk => by rw [h5 k hk, px_setc (by omega), px_up, if_neg (fun z => hk z.2)]⟩
    show jBs_clear_0b N c (jBs_clear_0 N c n) M = _
    unfold jBs_clear_0b
    try simp only [cx_get, cx_put, cx_let]
    rw [e1, if_neg (nI_nle (by omega) (by omega)), nI_pred, px_stw (by omega) (by omega)]
    exact h1
theorem pc_or {N : cx_N} {M : cx_M} {c c2 : Nat} {f : Nat → Int32} (hN : 3 < N.1) (h : pc_B M c (fun _ => 0)) (h0 : M c 1 = 0) (h2 : pc_B M c2 f) (hc : c ≠ c2 ∧ c ≠ c2 + 1 ∧ c + 1 ≠ c2) : ∃ M', jBs_or N c c2 M = some (M', 0, 0) ∧ pc_B M' c f ∧ (∀ d, d ≠ c → d ≠ c + 1 → M' d = M d) ∧ ∀ k, k ≠ 1 → M' c k = M c k := by
  obtain ⟨n, hn⟩ : ∃ k, N.1 = k + 1 := ⟨N.1 - 1, by omega⟩
  obtain ⟨⟨w, hw, e1, hz⟩, hf, h01⟩ := h2
  obtain ⟨-, hf0, -⟩ := h
  have hmin : cx_min (M c 1) (M c2 1) = 0 := by
    rw [h0, e1]
    unfold cx_min
    rw [if_neg (nI_pos (by omega))]
  unfold jBs_or jBs_or_0
  try simp only [cx_get, cx_put, cx_let]
  rw [if_neg hc.1, hmin, h0, e1]
  have last : ∀ M1 : cx_M, jBs_or_100 N c c2 M1 = some (M1, 0, 0) := fun M1 => rfl
  by_cases cw : w = 0
  · subst cw
    rw [if_pos (by decide)]
    refine ⟨M, ?_, ⟨⟨0, by omega, h0, fun q _ hq => hf0 q hq⟩, fun q hq => by rw [← hf q hq, hz q (by omega) hq]; exact hf0 q hq, h01⟩, fun _ _ _ => rfl, fun _ _ => rfl⟩
    unfold jBs_or_45
    rw [hn]
    show jBs_or_47b N c c2 (jBs_or_47 N c c2 n) M 0 0 = _
    unfold jBs_or_47b
    try simp only [cx_get, cx_put, cx_let]
    rw [if_pos (by decide), e1, if_pos (by decide)]
    exact last M
  · rw [if_neg (nI_nle (by omega) (by omega))]
    have hens : jBs_ensureCapacity N c M (nI w) = some (M, 0, 0) := by
      unfold jBs_ensureCapacity jBs_ensureCapacity_0
      rw [if_pos (show nI w ≤ (2 : Int32) from nI_le (b := 2) (by omega) (by omega))]
    rw [px_cal hens]
    try simp only [cx_get, cx_put, cx_let]
    rw [e1]
    unfold jBs_or_45
    rw [hn]
    have e12 : cx_up M c 1 (nI w) c2 1 = nI w := by rw [px_up, if_neg (fun z => hc.1 z.1.symm)]; exact e1
    have e11 : cx_up M c 1 (nI w) c 1 = nI w := by rw [px_up, if_pos ⟨rfl, rfl⟩]
    have hs0 : (nI w - 0 : Int32) = nI w := Int32.sub_zero _
    have hcp : ∀ F : cx_M → Option cx_R, cx_cpyW (cx_up M c 1 (nI w)) (c2 + 1) 2 (c + 1) 2 0 0 (nI w) F = F (cx_set (cx_up M c 1 (nI w)) (c + 1) (bt_cpy (M (c2 + 1)) (M (c + 1)) 0 0 w)) := by
      intro F
      unfold cx_cpyW
      rw [if_neg, nI_clamp (by omega), px_upc (by omega), px_upc (by omega)]
      · rfl
      · rw [nI_clamp (by omega), show (0 : Int32).toNatClampNeg = 0 from rfl]
        intro z
        rcases z with z | z | z | z | z
        · revert z; decide
        · revert z; decide
        · exact nI_pos (by omega) z
        · omega
        · omega
    have hfin : jBs_or_47 N c c2 (n + 1) (cx_up M c 1 (nI w)) 0 0 = some (cx_set (cx_up M c 1 (nI w)) (c + 1) (bt_cpy (M (c2 + 1)) (M (c + 1)) 0 0 w), 0, 0) := by
      show jBs_or_47b N c c2 (jBs_or_47 N c c2 n) _ 0 0 = _
      unfold jBs_or_47b
      try simp only [cx_get, cx_put, cx_let]
      rw [if_pos (by decide), e12, if_neg (nI_nle (by omega) (by omega)), e11, hs0, hcp]
      exact last _
    rw [hfin]
    have hb : ∀ q, q < 128 → bt_cpy (M (c2 + 1)) (M (c + 1)) 0 0 w q = f q := by
      intro q hq
      unfold bt_cpy va_cpy
      by_cases c3 : q / 64 < w
      · rw [if_pos (by omega), pw_bit]
        rw [show (0 + (q / 64 - 0)) = q / 64 by omega, pw_w _ _ _ (by omega), show 64 * (q / 64) + q % 64 = q by omega, hf q hq]
        rcases h01 q hq with e | e <;> simp [e]
      · rw [if_neg (by omega), pw_bit, pw_w _ _ _ (by omega), show 64 * (q / 64) + q % 64 = q by omega, hf0 q hq, ← hf q hq, hz q (by omega) hq]
        simp
    refine ⟨_, rfl, ⟨⟨w, hw, by rw [px_setc (by omega)]; exact e11, fun q h4 h5 => ?_⟩, fun q hq => ?_, h01⟩, fun d h4 h5 => ?_, fun k hk => ?_⟩
    · rw [px_sets, hb q h5, ← hf q h5]; exact hz q h4 h5
    · rw [px_sets]; exact hb q hq
    · rw [px_setc h5, px_upc h4]
    · rw [px_setc (by omega), px_up, if_neg (fun z => hk z.2)]
