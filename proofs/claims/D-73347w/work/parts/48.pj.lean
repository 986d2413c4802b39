/-! STEPS, COPIES, TRIES -/
theorem px_ix {i : Int32} {n : Nat} {f : Nat → Option cx_R} (h0 : 0 ≤ i.toInt) (h1 : i.toInt < n) : cx_ix i n f = f (pn i) := by
  unfold cx_ix pn
  rw [if_neg]
  rw [i32_lt, i32_nat]
  have : (0 : Int32).toInt = 0 := rfl
  omega
theorem cCc_goes_loop {N : cx_N} {E : ps_E} {b : Nat} {G : ps_S → Prop} (hN : 65 ≤ N.1) (hE : ps_EO E) (hb : b + 43 < 8000) (z : Nat) (hz : z < 100000) : ∀ (m k n : Nat) (M : cx_M) (s : ps_T) (T : Nat), k + m = z → pc_V N E M b s G → (M b 45 ≠ 0 → ∀ i, i < m → ∀ X, ps_ev E (ps_steps E i s) X → G X) → ps_I E s.1 T → T + m ≤ 22000 → m < n →
    ∃ M', cCc_goes_2 N b n M (nI z) (nI k) = some (M', 0, 0) ∧ pc_V N E M' b (ps_steps E m s) G ∧ pc_Fr b M M' := by
  intro m
  induction m with
  | zero =>
    intro k n M s T hk hV hG hI hT hn
    obtain ⟨n, rfl⟩ : ∃ j, n = j + 1 := ⟨n - 1, by omega⟩
    refine ⟨M, ?_, hV, pc_Fr.rf⟩
    show cCc_goes_2b N b (cCc_goes_2 N b n) M (nI z) (nI k) = _
    unfold cCc_goes_2b
    rw [if_pos (nI_le (by omega) (by omega))]
  | succ m ih =>
    intro k n M s T hk hV hG hI hT hn
    obtain ⟨n, rfl⟩ : ∃ j, n = j + 1 := ⟨n - 1, by omega⟩
    have hn0 := hI.1.1
    unfold ps_Jn at hn0
    obtain ⟨M1, e1, hV1, hF1⟩ := cSt_goes_s (how := pn (s.1 0 28)) hN hE hb (by rw [pn_def]; omega) hV (fun h X hX => hG h 0 (by omega) X hX) hI (by omega) (pn_nI (by omega))
    obtain ⟨M2, e2, hV2, hF2⟩ := ih (k + 1) n M1 _ (T + 1) (by omega) hV1 (fun h i hi X hX => hG (by rw [← hF1.2]; exact h) (i + 1) (by omega) X (by rw [ps_steps_succ]; exact hX)) (ps_step_I hE hI (by omega)) (by omega) (by omega)
    refine ⟨M2, ?_, by rw [ps_steps_succ]; exact hV2, hF1.tr hF2⟩
    show cCc_goes_2b N b (cCc_goes_2 N b n) M (nI z) (nI k) = _
    unfold cCc_goes_2b
    simp only [px_get, px_let]
    rw [if_neg (nI_ge (by omega) (by omega)), pc_n hV.1 29 (Or.inl (by decide)) (show pc_F 29 = 28 from rfl), px_ix (by omega) (by omega), px_cal e1, ← nI_succ]
    exact e2
theorem cCc_goes_s {N : cx_N} {E : ps_E} {M : cx_M} {b n T : Nat} {s : ps_T} {G : ps_S → Prop} (hN : 700 ≤ N.1) (hE : ps_EO E) (hb : b + 43 < 8000) (hV : pc_V N E M b s G) (hG : M b 45 ≠ 0 → ∀ i, i < n → ∀ X, ps_ev E (ps_steps E i s) X → G X) (hI : ps_I E s.1 T) (hT : T + n ≤ 22000) (hn : n ≤ 640) :
    ∃ M', cCc_goes N b M (nI n) = some (M', 0, 0) ∧ pc_V N E M' b (ps_steps E n s) G ∧ pc_Fr b M M' :=
  cCc_goes_loop (by omega) hE hb n (by omega) n 0 N.1 M s T (by omega) hV hG hI hT (by omega)
/-! a state made like another -/
def pl_cp (M : cx_M) (b b2 : Nat) : Nat → cx_M
  | 0 => M
  | n + 1 => cx_up (pl_cp M b b2 n) b n (M b2 n)
theorem pl_cp_b {M : cx_M} {b b2 : Nat} : ∀ (n k : Nat), pl_cp M b b2 n b k = if k < n then M b2 k else M b k
  | 0, k => by rw [if_neg (by omega)]; rfl
  | n + 1, k => by
    show cx_up (pl_cp M b b2 n) b n (M b2 n) b k = _
    rw [px_up, pl_cp_b n k]
    by_cases e : k = n
    · rw [if_pos ⟨rfl, e⟩, if_pos (by omega), e]
    · rw [if_neg (fun z => e z.2)]
      by_cases c : k < n
      · rw [if_pos c, if_pos (by omega)]
      · rw [if_neg c, if_neg (by omega)]
theorem pl_cp_c {M : cx_M} {b b2 c : Nat} (h : c ≠ b) : ∀ n, pl_cp M b b2 n c = M c
  | 0 => rfl
  | n + 1 => by
    show cx_up (pl_cp M b b2 n) b n (M b2 n) c = _
    rw [px_upc h, pl_cp_c h n]
theorem cSt_copies_s {N : cx_N} {c0 n0 c1 n1 : Nat} {M : cx_M} (h : n1 ≤ n0) (h1 : n1 < 1000000) : cSt_copies N c0 n0 c1 n1 M = some (cx_set M c1 (fun k => if k < n1 then M c0 k else M c1 k), 0, 0) := by
  unfold cSt_copies cSt_copies_0 cx_cpy
  rw [if_neg, nI_clamp (by omega)]
  · show some (cx_set M c1 (va_cpy (M c0) (M c1) 0 0 n1), 0, 0) = _
    have : va_cpy (M c0) (M c1) 0 0 n1 = fun k => if k < n1 then M c0 k else M c1 k := by
      funext k
      unfold va_cpy
      by_cases c : k < n1
      · rw [if_pos (by omega), if_pos c, show 0 + (k - 0) = k by omega]
      · rw [if_neg (by omega), if_neg c]
    rw [this]
  · rw [nI_clamp (by omega), show (0 : Int32).toNatClampNeg = 0 from rfl]
    intro z
    rcases z with z | z | z | z | z
    · revert z; decide
    · revert z; decide
    · exact nI_pos (by omega) z
    · omega
    · omega
/-- a state's cells as they must be for it to be written over -/
def pc_U (M : cx_M) (b : Nat) : Prop := (M b 42 = 0 ∨ M b 42 = 1) ∧ ∃ f, pc_B M (b + 42) f
theorem cSt_like_s {N : cx_N} {M : cx_M} {b b2 : Nat} {S : ps_S} (hN : 65 ≤ N.1) (h2 : pc_S M b2 S) (hU : pc_U M b) (hbb : b + 43 < b2 ∨ b2 + 43 < b) (hfl : pn (S 0 31) ≤ 40) :
    ∃ M', cSt_like N b b2 M = some (M', 0, 0) ∧ pc_S M' b (cx_up S 0 35 (M b 42)) ∧ M' b 43 = 0 ∧ M' b 42 = M b 42 ∧ M' b 45 = M b 45 ∧ ∀ c, c < b ∨ b + 43 < c → M' c = M c := by
  obtain ⟨h42, f, hB⟩ := hU
  obtain ⟨s1, s2, s3, s4, s5, f2, s6, s7⟩ := h2
  have hne : b2 ≠ b := by omega
  have hr : ∀ (M : cx_M) (k : Nat) (v : Int32), cx_up M b k v b2 = M b2 := fun M k v => px_upc hne
  unfold cSt_like cSt_like_0
  simp only [px_get, px_put, hr]
  generalize hM0 : pl_cp M b b2 34 = M0
  have hM0' : (cx_up (cx_up (cx_up (cx_up (cx_up (cx_up (cx_up (cx_up (cx_up (cx_up (cx_up (cx_up (cx_up (cx_up (cx_up (cx_up (cx_up (cx_up (cx_up (cx_up (cx_up (cx_up (cx_up (cx_up (cx_up (cx_up (cx_up (cx_up (cx_up (cx_up (cx_up (cx_up (cx_up (cx_up M b 0 (M b2 0)) b 1 (M b2 1)) b 2 (M b2 2)) b 3 (M b2 3)) b 4 (M b2 4)) b 5 (M b2 5)) b 6 (M b2 6)) b 7 (M b2 7)) b 8 (M b2 8)) b 9 (M b2 9)) b 10 (M b2 10)) b 11 (M b2 11)) b 12 (M b2 12)) b 13 (M b2 13)) b 14 (M b2 14)) b 15 (M b2 15)) b 16 (M b2 16)) b 17 (M b2 17)) b 18 (M b2 18)) b 19 (M b2 19)) b 20 (M b2 20)) b 21 (M b2 21)) b 22 (M b2 22)) b 23 (M b2 23)) b 24 (M b2 24)) b 25 (M b2 25)) b 26 (M b2 26)) b 27 (M b2 27)) b 28 (M b2 28)) b 29 (M b2 29)) b 30 (M b2 30)) b 31 (M b2 31)) b 32 (M b2 32)) b 33 (M b2 33)) = M0 := hM0
  rw [hM0']
  have hb0 : ∀ k, M0 b k = if k < 34 then M b2 k else M b k := fun k => by rw [← hM0]; exact pl_cp_b 34 k
  have hc0 : ∀ c, c ≠ b → M0 c = M c := fun c h => by rw [← hM0]; exact pl_cp_c h 34
  rw [px_cal (cSt_copies_s (by omega) (by omega))]
  generalize hM1 : cx_set M0 (b + 35) (fun k => if k < 40 then M0 (b2 + 35) k else M0 (b + 35) k) = M1
  rw [px_cal (cSt_copies_s (by omega) (by omega))]
  generalize hM2 : cx_set M1 (b + 36) (fun k => if k < 40 then M1 (b2 + 36) k else M1 (b + 36) k) = M2
  rw [px_cal (cSt_copies_s (by omega) (by omega))]
  generalize hM3 : cx_set M2 (b + 37) (fun k => if k < 40 then M2 (b2 + 37) k else M2 (b + 37) k) = M3
  rw [px_cal (cSt_copies_s (by omega) (by omega))]
  generalize hM4 : cx_set M3 (b + 38) (fun k => if k < 64 then M3 (b2 + 38) k else M3 (b + 38) k) = M4
  rw [px_cal (cSt_copies_s (by omega) (by omega))]
  generalize hM5 : cx_set M4 (b + 39) (fun k => if k < 64 then M4 (b2 + 39) k else M4 (b + 39) k) = M5
  rw [px_cal (cSt_copies_s (by omega) (by omega))]
  generalize hM6 : cx_set M5 (b + 40) (fun k => if k < 128 then M5 (b2 + 40) k else M5 (b + 40) k) = M6
  rw [px_cal (cSt_copies_s (by omega) (by omega))]
  generalize hM7 : cx_set M6 (b + 41) (fun k => if k < 128 then M6 (b2 + 41) k else M6 (b + 41) k) = M7
  have c1 : ∀ c, c ≠ b + 35 → M1 c = M0 c := fun c h => by rw [← hM1, px_setc h]
  have c2 : ∀ c, c ≠ b + 36 → M2 c = M1 c := fun c h => by rw [← hM2, px_setc h]
  have c3 : ∀ c, c ≠ b + 37 → M3 c = M2 c := fun c h => by rw [← hM3, px_setc h]
  have c4 : ∀ c, c ≠ b + 38 → M4 c = M3 c := fun c h => by rw [← hM4, px_setc h]
  have c5 : ∀ c, c ≠ b + 39 → M5 c = M4 c := fun c h => by rw [← hM5, px_setc h]
  have c6 : ∀ c, c ≠ b + 40 → M6 c = M5 c := fun c h => by rw [← hM6, px_setc h]
  have c7 : ∀ c, c ≠ b + 41 → M7 c = M6 c := fun c h => by rw [← hM7, px_setc h]
  have far : ∀ c, c < b ∨ b + 41 < c → M7 c = M c := by
    intro c h
    rw [c7 c (by omega), c6 c (by omega), c5 c (by omega), c4 c (by omega), c3 c (by omega), c2 c (by omega), c1 c (by omega), hc0 c (by omega)]
  have atb : ∀ k, M7 b k = if k < 34 then M b2 k else M b k := by
    intro k
    rw [c7 b (by omega), c6 b (by omega), c5 b (by omega), c4 b (by omega), c3 b (by omega), c2 b (by omega), c1 b (by omega), hb0]
  have a35 : ∀ k, k < 40 → M7 (b + 35) k = M (b2 + 35) k := by
    intro k hk
    rw [c7 _ (by omega), c6 _ (by omega), c5 _ (by omega), c4 _ (by omega), c3 _ (by omega), c2 _ (by omega), ← hM1, px_sets, if_pos hk, hc0 _ (by omega)]
  have a36 : ∀ k, k < 40 → M7 (b + 36) k = M (b2 + 36) k := by
    intro k hk
    rw [c7 _ (by omega), c6 _ (by omega), c5 _ (by omega), c4 _ (by omega), c3 _ (by omega), ← hM2, px_sets, if_pos hk, c1 _ (by omega), hc0 _ (by omega)]
  have a37 : ∀ k, k < 40 → M7 (b + 37) k = M (b2 + 37) k := by
    intro k hk
    rw [c7 _ (by omega), c6 _ (by omega), c5 _ (by omega), c4 _ (by omega), ← hM3, px_sets, if_pos hk, c2 _ (by omega), c1 _ (by omega), hc0 _ (by omega)]
  have a38 : ∀ k, k < 64 → M7 (b + 38) k = M (b2 + 38) k := by
    intro k hk
    rw [c7 _ (by omega), c6 _ (by omega), c5 _ (by omega), ← hM4, px_sets, if_pos hk, c3 _ (by omega), c2 _ (by omega), c1 _ (by omega), hc0 _ (by omega)]
  have a39 : ∀ k, k < 64 → M7 (b + 39) k = M (b2 + 39) k := by
    intro k hk
    rw [c7 _ (by omega), c6 _ (by omega), ← hM5, px_sets, if_pos hk, c4 _ (by omega), c3 _ (by omega), c2 _ (by omega), c1 _ (by omega), hc0 _ (by omega)]
  have a40 : ∀ k, k < 128 → M7 (b + 40) k = M (b2 + 40) k := by
    intro k hk
    rw [c7 _ (by omega), ← hM6, px_sets, if_pos hk, c5 _ (by omega), c4 _ (by omega), c3 _ (by omega), c2 _ (by omega), c1 _ (by omega), hc0 _ (by omega)]
  have a41 : ∀ k, k < 128 → M7 (b + 41) k = M (b2 + 41) k := by
    intro k hk
    rw [← hM7, px_sets, if_pos hk, c6 _ (by omega), c5 _ (by omega), c4 _ (by omega), c3 _ (by omega), c2 _ (by omega), c1 _ (by omega), hc0 _ (by omega)]
  obtain ⟨⟨w, hw, ew, hz⟩, -, -⟩ := hB
  obtain ⟨M8, e8, hB8, hw8, ho8, -⟩ := pc_clear (N := N) (c := b + 42) w N.1 M7 hw (by omega) (by rw [far _ (by omega)]; exact ew) (by rw [far _ (by omega)]; exact hz)
  rw [px_cal (show jBs_clear N (b + 42) M7 = _ from e8)]
  have hs8 : pc_B M8 (b2 + 42) f2 := s6.fr (by rw [ho8 _ (by omega) (by omega), far _ (by omega)]) (by rw [ho8 _ (by omega) (by omega), far _ (by omega)])
  obtain ⟨M9, e9, hB9, ho9, -⟩ := pc_or (N := N) (by omega) hB8 hw8 hs8 (by omega)
  rw [px_cal e9]
  have f9 : ∀ c, c ≠ b + 42 → c ≠ b + 43 → M9 c = M7 c := fun c h1 h2 => by rw [ho9 c h1 (by omega), ho8 c h1 (by omega)]
  have e42 : cx_up M9 b 43 0 b 42 = M b 42 := by rw [px_up, if_neg (by omega), f9 b (by omega) (by omega), atb, if_neg (by omega)]
  refine ⟨_, rfl, ⟨fun k hk => ?_, ?_, ?_, ?_, ?_, ?_⟩, by rw [px_up, if_pos ⟨rfl, rfl⟩], e42, ?_, fun c hc => ?_⟩
  · by_cases e : k = 42
    · subst e
      rw [e42, show pc_F 42 = 35 from rfl, px_up, if_pos ⟨rfl, rfl⟩]
    · have hk34 : k < 34 := by unfold pc_d at hk; omega
      rw [px_up, if_neg (by omega), f9 b (by omega) (by omega), atb, if_pos hk34, s1 k hk, px_up, if_neg]
      intro z
      exact e (pc_inj hk (Or.inr rfl) (z.2.trans (show 35 = pc_F 42 from rfl)))
  · rw [px_up, if_pos ⟨rfl, rfl⟩]; exact h42
  · rw [px_up, if_neg (by omega)]
    intro k hk
    have := s3 k hk
    rw [px_upc (by omega), px_upc (by omega), px_upc (by omega), px_upc (by omega), px_upc (by omega), px_upc (by omega), f9 _ (by omega) (by omega), f9 _ (by omega) (by omega), f9 _ (by omega) (by omega), a35 k (by omega), a36 k (by omega), a37 k (by omega)]
    exact this
  · intro k hk
    rw [px_upc (by omega), px_upc (by omega), px_upc (by omega), px_upc (by omega), f9 _ (by omega) (by omega), f9 _ (by omega) (by omega), a38 k hk, a39 k hk]
    exact s4 k hk
  · intro k hk
    rw [px_up (c := 0) (d := 0) (j := 6), if_neg (by decide), px_up (c := 0) (d := 0) (j := 32), if_neg (by decide), px_upc (show (7 : Nat) ≠ 0 by decide), px_upc (show (6 : Nat) ≠ 0 by decide), px_upc (show b + 40 ≠ b by omega), px_upc (show b + 41 ≠ b by omega), f9 _ (by omega) (by omega), f9 _ (by omega) (by omega), a40 k hk, a41 k hk]
    exact s5 k hk
  · refine ⟨f2, hB9.fr (px_upc (by omega)) (px_upc (by omega)), fun k hk z => ?_⟩
    rw [px_upc (show (8 : Nat) ≠ 0 by omega)]
    exact s7 k hk (by rw [px_up, if_neg (by decide)] at z; exact z)
  · rw [px_up, if_neg (by omega), f9 b (by omega) (by omega), atb, if_neg (by omega)]
  · rw [px_upc (by omega), f9 c (by omega) (by omega), far c (by omega)]
