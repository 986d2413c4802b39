/-! THE CLASS'S STATE, AND ITS STEP -/
def pc_f : List Nat := [0, 1, 2, 3, 4, 5, 6, 7, 8, 22, 23, 10, 9, 11, 14, 15, 16, 18, 19, 20, 21, 30, 12, 13, 32, 24, 25, 26, 27, 28, 29, 33, 34, 31]
def pc_F (k : Nat) : Nat := if k = 42 then 35 else pc_f.getD k 99
def pc_d (k : Nat) : Prop := k < 34 ∨ k = 42
theorem pc_inj1 : ∀ i, i < 43 → ∀ j, j < 43 → (i < 34 ∨ i = 42) → (j < 34 ∨ j = 42) → pc_F i = pc_F j → i = j := by decide +kernel
theorem pc_inj {i j : Nat} (hi : pc_d i) (hj : pc_d j) (h : pc_F i = pc_F j) : i = j := by
  unfold pc_d at hi hj
  exact pc_inj1 i (by omega) j (by omega) hi hj h
/-- which of the octets that count are filled -/
def pc_L (M : cx_M) (b : Nat) (S : ps_S) : Prop := ∃ f, pc_B M (b + 42) f ∧ ∀ k : Nat, k < 128 → (k : Int) < (S 0 6).toInt → f k = S 8 k
theorem pc_L.fr {M M' : cx_M} {b : Nat} {S S' : ps_S} (h : pc_L M b S) (h1 : M' (b + 42) = M (b + 42)) (h2 : M' (b + 42 + 1) = M (b + 42 + 1)) (e6 : S' 0 6 = S 0 6) (e8 : S' 8 = S 8) : pc_L M' b S' := by
  obtain ⟨f, hf, hl⟩ := h
  exact ⟨f, hf.fr h1 h2, fun k hk hk2 => by rw [e8]; exact hl k hk (by rw [← e6]; exact hk2)⟩
def pc_S (M : cx_M) (b : Nat) (S : ps_S) : Prop :=
  (∀ k, pc_d k → M b k = S 0 (pc_F k)) ∧ (S 0 35 = 0 ∨ S 0 35 = 1) ∧
  (∀ k, k < pn (S 0 31) → M (b + 35) k = S 1 k ∧ M (b + 36) k = S 2 k ∧ M (b + 37) k = S 3 k) ∧
  (∀ k, k < 64 → M (b + 38) k = S 5 k ∧ (S 5 k ≠ -1 → M (b + 39) k = S 4 k)) ∧
  (∀ k : Nat, k < 128 → ((k : Int) < (S 0 6).toInt → M (b + 40) k = S 7 k) ∧ ((k : Int) < (S 0 32).toInt → M (b + 41) k = S 6 k)) ∧ pc_L M b S
def pc_K (N : cx_N) (E : ps_E) (M : cx_M) : Prop :=
  M 8000 0 = E.1 0 ∧ M 8000 4 = E.1 4 ∧ M 8000 6 = E.1 6 ∧ (M 8000 8 = 0 ↔ ¬ 0 < E.1 8) ∧ (M 8000 9 = 0 ↔ ¬ 0 < E.1 9) ∧
  (0 < E.1 8 → N.2.1 2 (fun _ => nI (0 + 1)) ≠ 0 ∧ N.2.1 0 = E.2.2.1) ∧ (0 < E.1 9 → N.2.1 2 (fun _ => nI (1 + 1)) ≠ 0 ∧ N.2.1 1 = E.2.2.2) ∧
  (∀ (M : cx_M) (x : Int32), 0 ≤ x.toInt → x.toInt ≤ 2000000000 → cLn_octet N M x = some (M, E.2.1 x, 0))
def pc_Q (M : cx_M) (b : Nat) (q : List Bool) : Prop := M b 43 = nI q.length ∧ q.length ≤ 8 ∧ (0 < q.length → ∃ w : Nat, w < 32 ∧ M b 44 = nI w ∧ ∀ j, j < q.length → (w / 2 ^ j % 2 = 1 ↔ q[j]? = some true))
/-- what rules told of packets, kept: G are the states in which they are asked -/
def pc_O (E : ps_E) (M : cx_M) (b : Nat) (G : ps_S → Prop) : Prop :=
  M b 45 = 0 ∨ (M b 45 ≠ 0 ∧ (0 ≤ (M 9000 2).toInt ∧ (M 9000 2).toInt ≤ 90000) ∧ (∀ X Y, G X → G Y → X 0 2 = Y 0 2 → ps_delay E X = ps_delay E Y ∧ (0 < E.2.2.2 (ps_view X) ↔ 0 < E.2.2.2 (ps_view Y))) ∧
    ∀ X, G X → ∀ j, j < 512 → X 0 2 = M 9000 2 + nI j → (M 9001 j = -1 ∨ M 9001 j = ps_delay E X) ∧ (M 9002 j = -1 ∨ M 9002 j = (if 0 < E.2.2.2 (ps_view X) then 1 else 0)))
def pc_V (N : cx_N) (E : ps_E) (M : cx_M) (b : Nat) (s : ps_T) (G : ps_S → Prop) : Prop := pc_S M b s.1 ∧ pc_K N E M ∧ pc_Q M b s.2 ∧ pc_O E M b G
/-- what a step of the state at b leaves -/
def pc_Fr (b : Nat) (M M' : cx_M) : Prop := (∀ c, c < b ∨ b + 43 < c → c ≠ 8011 → c ≠ 9001 → c ≠ 9002 → M' c = M c) ∧ M' b 45 = M b 45
theorem pc_Fr.rf {b : Nat} {M : cx_M} : pc_Fr b M M := ⟨fun _ _ _ _ _ => rfl, rfl⟩
theorem pc_Fr.tr {b : Nat} {M M1 M2 : cx_M} (h1 : pc_Fr b M M1) (h2 : pc_Fr b M1 M2) : pc_Fr b M M2 := ⟨fun c a d e f => (h2.1 c a d e f).trans (h1.1 c a d e f), h2.2.trans h1.2⟩
theorem pc_Fr.up {b c k : Nat} {M : cx_M} {v : Int32} (h : b ≤ c ∧ c ≤ b + 43) (hk : c = b → k ≠ 45) : pc_Fr b M (cx_up M c k v) :=
  ⟨fun d hd _ _ _ => px_upc (by omega), by rw [px_up, if_neg]; intro x; exact hk x.1.symm x.2.symm⟩
theorem pc_K.fr {N : cx_N} {E : ps_E} {M M' : cx_M} (h : pc_K N E M) (e : M' 8000 = M 8000) : pc_K N E M' := by
  unfold pc_K at h ⊢
  rw [e]
  exact h
theorem pc_Q.fr {M M' : cx_M} {b : Nat} {q : List Bool} (h : pc_Q M b q) (h1 : M' b 43 = M b 43) (h2 : M' b 44 = M b 44) : pc_Q M' b q := by
  unfold pc_Q at h ⊢
  rw [h1, h2]
  exact h
theorem pc_O.fr {E : ps_E} {M M' : cx_M} {b : Nat} {G : ps_S → Prop} (h : pc_O E M b G) (h0 : M' b 45 = M b 45) (h1 : M' 9000 = M 9000) (h2 : M' 9001 = M 9001) (h3 : M' 9002 = M 9002) : pc_O E M' b G := by
  unfold pc_O at h ⊢
  rw [h0, h1, h2, h3]
  exact h
theorem pc_upL {M : cx_M} {b : Nat} {S : ps_S} (h : pc_S M b S) (k : Nat) (v : Int32) {j : Nat} (hk : pc_d k) (hj : pc_F k = j) (h31 : j ≠ 31) (h35 : j = 35 → v = 0 ∨ v = 1)
    (h5 : ∀ i : Nat, i < 128 → ((i : Int) < (cx_up S 0 j v 0 6).toInt → M (b + 40) i = S 7 i) ∧ ((i : Int) < (cx_up S 0 j v 0 32).toInt → M (b + 41) i = S 6 i))
    (h6 : ∃ f, pc_B M (b + 42) f ∧ ∀ i : Nat, i < 128 → (i : Int) < (cx_up S 0 j v 0 6).toInt → f i = S 8 i) : pc_S (cx_up M b k v) b (cx_up S 0 j v) := by
  obtain ⟨h1, h2, h3, h4, -, -⟩ := h
  refine ⟨fun i hi => ?_, ?_, ?_, ?_, ?_, ?_⟩
  · rw [px_up, px_up]
    by_cases e : i = k
    · rw [if_pos ⟨rfl, e⟩, if_pos ⟨rfl, by rw [e]; exact hj⟩]
    · rw [if_neg (fun x => e x.2), if_neg (fun x => e (pc_inj hi hk (x.2.trans hj.symm))), h1 i hi]
  · rw [px_up]
    split
    · next e => exact h35 e.2.symm
    · exact h2
  · rw [px_up, if_neg (fun x => h31 x.2.symm)]
    intro i hi
    rw [px_upc (by omega), px_upc (by omega), px_upc (by omega), px_upc (by omega), px_upc (by omega), px_upc (by omega)]
    exact h3 i hi
  · intro i hi
    rw [px_upc (by omega), px_upc (by omega), px_upc (by omega), px_upc (by omega)]
    exact h4 i hi
  · intro i hi
    rw [px_upc (show b + 40 ≠ b by omega), px_upc (show b + 41 ≠ b by omega), px_upc (show (7 : Nat) ≠ 0 by decide), px_upc (show (6 : Nat) ≠ 0 by decide)]
    exact h5 i hi
  · obtain ⟨f, hf, hl⟩ := h6
    exact ⟨f, hf.fr (px_upc (by omega)) (px_upc (by omega)), fun i hi hi2 => by rw [px_upc (show (8 : Nat) ≠ 0 by decide)]; exact hl i hi hi2⟩
theorem pc_up {M : cx_M} {b : Nat} {S : ps_S} (h : pc_S M b S) (k : Nat) (v : Int32) {j : Nat} (hk : pc_d k) (hj : pc_F k = j) (h31 : j ≠ 31) (h35 : j = 35 → v = 0 ∨ v = 1) (h632 : j ≠ 6 ∧ j ≠ 32 := by decide) : pc_S (cx_up M b k v) b (cx_up S 0 j v) := by
  have e6 : cx_up S 0 j v 0 6 = S 0 6 := by rw [px_up, if_neg (fun x => h632.1 x.2.symm)]
  have e32 : cx_up S 0 j v 0 32 = S 0 32 := by rw [px_up, if_neg (fun x => h632.2 x.2.symm)]
  refine pc_upL h k v hk hj h31 h35 ?_ ?_
  · rw [e6, e32]; exact h.2.2.2.2.1
  · rw [e6]; exact h.2.2.2.2.2
theorem pc_n {M : cx_M} {b : Nat} {S : ps_S} (h : pc_S M b S) (k : Nat) {j : Nat} (hk : pc_d k) (hj : pc_F k = j) : M b k = S 0 j := by rw [h.1 k hk, hj]
theorem pc_V.up {N : cx_N} {E : ps_E} {M : cx_M} {b : Nat} {s : ps_T} {G : ps_S → Prop} (h : pc_V N E M b s G) (hb : b + 43 < 8000) (k : Nat) (v : Int32) {j : Nat} (hk : pc_d k) (hj : pc_F k = j) (h31 : j ≠ 31) (h35 : j = 35 → v = 0 ∨ v = 1) (h632 : j ≠ 6 ∧ j ≠ 32 := by decide) : pc_V N E (cx_up M b k v) b (cx_up s.1 0 j v, s.2) G := by
  have hk2 : k ≠ 43 ∧ k ≠ 44 ∧ k ≠ 45 := by unfold pc_d at hk; omega
  refine ⟨pc_up h.1 k v hk hj h31 h35 h632, h.2.1.fr (px_upc (by omega)), h.2.2.1.fr ?_ ?_, h.2.2.2.fr ?_ (px_upc (by omega)) (px_upc (by omega)) (px_upc (by omega))⟩
  · rw [px_up, if_neg (by omega)]
  · rw [px_up, if_neg (by omega)]
  · rw [px_up, if_neg (by omega)]
theorem pc_V.upL {N : cx_N} {E : ps_E} {M : cx_M} {b : Nat} {s : ps_T} {G : ps_S → Prop} (h : pc_V N E M b s G) (hb : b + 43 < 8000) (k : Nat) (v : Int32) {j : Nat} (hk : pc_d k) (hj : pc_F k = j) (h31 : j ≠ 31) (h35 : j = 35 → v = 0 ∨ v = 1)
    (h5 : ∀ i : Nat, i < 128 → ((i : Int) < (cx_up s.1 0 j v 0 6).toInt → M (b + 40) i = s.1 7 i) ∧ ((i : Int) < (cx_up s.1 0 j v 0 32).toInt → M (b + 41) i = s.1 6 i))
    (h6 : ∃ f, pc_B M (b + 42) f ∧ ∀ i : Nat, i < 128 → (i : Int) < (cx_up s.1 0 j v 0 6).toInt → f i = s.1 8 i) : pc_V N E (cx_up M b k v) b (cx_up s.1 0 j v, s.2) G := by
  have hk2 : k ≠ 43 ∧ k ≠ 44 ∧ k ≠ 45 := by unfold pc_d at hk; omega
  refine ⟨pc_upL h.1 k v hk hj h31 h35 h5 h6, h.2.1.fr (px_upc (by omega)), h.2.2.1.fr ?_ ?_, h.2.2.2.fr ?_ (px_upc (by omega)) (px_upc (by omega)) (px_upc (by omega))⟩
  · rw [px_up, if_neg (by omega)]
  · rw [px_up, if_neg (by omega)]
  · rw [px_up, if_neg (by omega)]
/-- a field that the row doesn't hold -/
theorem pc_V.free {N : cx_N} {E : ps_E} {M : cx_M} {b : Nat} {s : ps_T} {G : ps_S → Prop} (h : pc_V N E M b s G) (v : Int32) : pc_V N E M b (cx_up s.1 0 17 v, s.2) G := by
  obtain ⟨⟨h1, h2, h3, h4, h5, h6⟩, hr⟩ := h
  refine ⟨⟨fun i hi => ?_, ?_, ?_, ?_, ?_, ?_⟩, hr⟩
  · show _ = cx_up s.1 0 17 v 0 _
    rw [px_up, if_neg, h1 i hi]
    intro x
    have : ∀ i, i < 43 → pc_F i ≠ 17 := by decide +kernel
    unfold pc_d at hi
    exact this i (by omega) x.2
  · show cx_up s.1 0 17 v 0 35 = 0 ∨ _ = 1
    rw [px_up, if_neg (by decide)]
    exact h2
  · show ∀ k, k < pn (cx_up s.1 0 17 v 0 31) → _ = cx_up s.1 0 17 v 1 k ∧ _ = cx_up s.1 0 17 v 2 k ∧ _ = cx_up s.1 0 17 v 3 k
    rw [px_up, if_neg (by decide), px_upc (by decide), px_upc (by decide), px_upc (by decide)]
    exact h3
  · show ∀ k, k < 64 → _ = cx_up s.1 0 17 v 5 k ∧ (cx_up s.1 0 17 v 5 k ≠ -1 → _ = cx_up s.1 0 17 v 4 k)
    rw [px_upc (by decide), px_upc (by decide)]
    exact h4
  · show ∀ k : Nat, k < 128 → ((k : Int) < (cx_up s.1 0 17 v 0 6).toInt → _ = cx_up s.1 0 17 v 7 k) ∧ ((k : Int) < (cx_up s.1 0 17 v 0 32).toInt → _ = cx_up s.1 0 17 v 6 k)
    rw [px_up, if_neg (by decide), px_up, if_neg (by decide), px_upc (show (7 : Nat) ≠ 0 by decide), px_upc (show (6 : Nat) ≠ 0 by decide)]
    exact h5
  · exact h6.fr rfl rfl (by show cx_up s.1 0 17 v 0 6 = _; rw [px_up, if_neg (by decide)]) (by show cx_up s.1 0 17 v 8 = _; rw [px_upc (show (8 : Nat) ≠ 0 by decide)])
/-! rules, kept by packets -/
theorem cCo_has_s {N : cx_N} {M : cx_M} {x : Int32} (hb : 0 ≤ (M 9000 2).toInt ∧ (M 9000 2).toInt ≤ 90000) : cCo_has N M x = some (M, if (M 9000 2).toInt ≤ x.toInt ∧ x.toInt < (M 9000 2).toInt + 512 then 1 else 0, 0) := by
  have e : (512 : Int32).toInt = 512 := rfl
  have e2 : (M 9000 2 + 512).toInt = (M 9000 2).toInt + 512 := by rw [i32_add (by omega) (by omega), e]
  unfold cCo_has cCo_has_0
  simp only [cx_get]
  by_cases c1 : x < M 9000 2
  · rw [if_pos c1, if_neg]
    rw [i32_lt] at c1
    omega
  · rw [if_neg c1]
    by_cases c2 : M 9000 2 + 512 ≤ x
    · rw [if_pos c2, if_neg]
      rw [i32_le] at c2
      omega
    · rw [if_neg c2, if_pos]
      rw [i32_lt] at c1
      rw [i32_le] at c2
      omega
theorem pc_key {x y : Int32} (hb : 0 ≤ y.toInt ∧ y.toInt ≤ 90000) (h : y.toInt ≤ x.toInt ∧ x.toInt < y.toInt + 512) : 0 ≤ (x - y).toInt ∧ (x - y).toInt < 512 ∧ x = y + nI (pn (x - y)) := by
  have hr := i32_rng x
  have e : (x - y).toInt = x.toInt - y.toInt := i32_sub (by omega) (by omega)
  refine ⟨by omega, by omega, ?_⟩
  rw [← pn_nI (x := x - y) (by omega), i32_eq, i32_add (by omega) (by omega), e]
  omega
theorem cCo_delay_s {N : cx_N} {M : cx_M} {x : Int32} (hb : 0 ≤ (M 9000 2).toInt ∧ (M 9000 2).toInt ≤ 90000) : cCo_delay N M x = some (M, if (M 9000 2).toInt ≤ x.toInt ∧ x.toInt < (M 9000 2).toInt + 512 then M 9001 (pn (x - M 9000 2)) else -1, 0) := by
  unfold cCo_delay cCo_delay_0
  rw [px_cal (cCo_has_s hb)]
  simp only [cx_get]
  by_cases c : (M 9000 2).toInt ≤ x.toInt ∧ x.toInt < (M 9000 2).toInt + 512
  · obtain ⟨k0, k1, -⟩ := pc_key hb c
    rw [if_pos c, if_neg (by decide), px_ld k0 (by omega), if_pos c]
  · rw [if_neg c, if_pos rfl, if_neg c]
theorem cCo_lost_s {N : cx_N} {M : cx_M} {x : Int32} (hb : 0 ≤ (M 9000 2).toInt ∧ (M 9000 2).toInt ≤ 90000) : cCo_lost N M x = some (M, if (M 9000 2).toInt ≤ x.toInt ∧ x.toInt < (M 9000 2).toInt + 512 then M 9002 (pn (x - M 9000 2)) else -1, 0) := by
  unfold cCo_lost cCo_lost_0
  rw [px_cal (cCo_has_s hb)]
  simp only [cx_get]
  by_cases c : (M 9000 2).toInt ≤ x.toInt ∧ x.toInt < (M 9000 2).toInt + 512
  · obtain ⟨k0, k1, -⟩ := pc_key hb c
    rw [if_pos c, if_neg (by decide), px_ld k0 (by omega), if_pos c]
  · rw [if_neg c, if_pos rfl, if_neg c]
theorem cCo_keepsDelay_s {N : cx_N} {M : cx_M} {x d : Int32} (hb : 0 ≤ (M 9000 2).toInt ∧ (M 9000 2).toInt ≤ 90000) : cCo_keepsDelay N M x d = some (if (M 9000 2).toInt ≤ x.toInt ∧ x.toInt < (M 9000 2).toInt + 512 then cx_up M 9001 (pn (x - M 9000 2)) d else M, 0, 0) := by
  unfold cCo_keepsDelay cCo_keepsDelay_0
  rw [px_cal (cCo_has_s hb)]
  simp only [cx_get]
  by_cases c : (M 9000 2).toInt ≤ x.toInt ∧ x.toInt < (M 9000 2).toInt + 512
  · obtain ⟨k0, k1, -⟩ := pc_key hb c
    rw [if_pos c, if_neg (by decide), px_st k0 (by omega), if_pos c]
  · rw [if_neg c, if_pos rfl, if_neg c]
theorem cCo_keepsLost_s {N : cx_N} {M : cx_M} {x d : Int32} (hd : d = 0 ∨ d = 1) (hb : 0 ≤ (M 9000 2).toInt ∧ (M 9000 2).toInt ≤ 90000) : cCo_keepsLost N M x d = some (if (M 9000 2).toInt ≤ x.toInt ∧ x.toInt < (M 9000 2).toInt + 512 then cx_up M 9002 (pn (x - M 9000 2)) d else M, 0, 0) := by
  unfold cCo_keepsLost cCo_keepsLost_0
  rw [px_cal (cCo_has_s hb)]
  simp only [cx_get]
  by_cases c : (M 9000 2).toInt ≤ x.toInt ∧ x.toInt < (M 9000 2).toInt + 512
  · obtain ⟨k0, k1, -⟩ := pc_key hb c
    rw [if_pos c, if_neg (by decide), if_pos c]
    rcases hd with rfl | rfl
    · rw [if_pos rfl, px_st k0 (by omega)]
    · rw [if_neg (by decide), px_st k0 (by omega)]
  · rw [if_neg c, if_pos rfl, if_neg c]
theorem pc_O.keepD {E : ps_E} {M : cx_M} {b : Nat} {G : ps_S → Prop} {S : ps_S} {d : Int32} (h : pc_O E M b G) (hG : G S) (hd : d = ps_delay E S) (hb : b + 43 < 8000) (h45 : M b 45 ≠ 0) (c : (M 9000 2).toInt ≤ (S 0 2).toInt ∧ (S 0 2).toInt < (M 9000 2).toInt + 512) : pc_O E (cx_up M 9001 (pn (S 0 2 - M 9000 2)) d) b G := by
  rcases h with h | ⟨h0, hr, hc, hv⟩
  · exact absurd h h45
  · obtain ⟨k0, k1, k2⟩ := pc_key hr c
    refine Or.inr ⟨by rw [px_upc (by omega)]; exact h0, by rw [px_upc (by decide)]; exact hr, hc, fun X hX j hj hx => ?_⟩
    rw [px_upc (show (9000 : Nat) ≠ 9001 by decide)] at hx
    rw [px_upc (show (9002 : Nat) ≠ 9001 by decide), px_up]
    refine ⟨?_, (hv X hX j hj hx).2⟩
    by_cases e : j = pn (S 0 2 - M 9000 2)
    · rw [if_pos ⟨rfl, e⟩]
      right
      rw [hd]
      exact (hc S X hG hX (by rw [hx, e]; exact k2)).1
    · rw [if_neg (fun z => e z.2)]
      exact (hv X hX j hj hx).1
theorem pc_O.keepL {E : ps_E} {M : cx_M} {b : Nat} {G : ps_S → Prop} {S : ps_S} {d : Int32} (h : pc_O E M b G) (hG : G S) (hd : d = if 0 < E.2.2.2 (ps_view S) then 1 else 0) (hb : b + 43 < 8000) (h45 : M b 45 ≠ 0) (c : (M 9000 2).toInt ≤ (S 0 2).toInt ∧ (S 0 2).toInt < (M 9000 2).toInt + 512) : pc_O E (cx_up M 9002 (pn (S 0 2 - M 9000 2)) d) b G := by
  rcases h with h | ⟨h0, hr, hc, hv⟩
  · exact absurd h h45
  · obtain ⟨k0, k1, k2⟩ := pc_key hr c
    refine Or.inr ⟨by rw [px_upc (by omega)]; exact h0, by rw [px_upc (by decide)]; exact hr, hc, fun X hX j hj hx => ?_⟩
    rw [px_upc (show (9000 : Nat) ≠ 9002 by decide)] at hx
    rw [px_upc (show (9001 : Nat) ≠ 9002 by decide), px_up]
    refine ⟨(hv X hX j hj hx).1, ?_⟩
    by_cases e : j = pn (S 0 2 - M 9000 2)
    · rw [if_pos ⟨rfl, e⟩]
      right
      rw [hd]
      have := (hc S X hG hX (by rw [hx, e]; exact k2)).2
      by_cases z : 0 < E.2.2.2 (ps_view S)
      · rw [if_pos z, if_pos (this.mp z)]
      · rw [if_neg z, if_neg (fun y => z (this.mpr y))]
    · rw [if_neg (fun z => e z.2)]
      exact (hv X hX j hj hx).2
/-- cells far from the state -/
theorem pc_V.oth {N : cx_N} {E : ps_E} {M M' : cx_M} {b : Nat} {s : ps_T} {G : ps_S → Prop} (h : pc_V N E M b s G) (e : ∀ c, b ≤ c ∧ c ≤ b + 43 ∨ c = 8000 → M' c = M c) (hO : pc_O E M' b G) : pc_V N E M' b s G := by
  obtain ⟨⟨h1, h2, h3, h4, h5, h6⟩, hK, hQ, -⟩ := h
  have eb : M' b = M b := e b (by omega)
  refine ⟨⟨?_, h2, ?_, ?_, ?_, ?_⟩, hK.fr (e 8000 (by omega)), hQ.fr (by rw [eb]) (by rw [eb]), hO⟩
  · rw [eb]; exact h1
  · rw [e (b + 35) (by omega), e (b + 36) (by omega), e (b + 37) (by omega)]; exact h3
  · rw [e (b + 38) (by omega), e (b + 39) (by omega)]; exact h4
  · rw [e (b + 40) (by omega), e (b + 41) (by omega)]; exact h5
  · exact h6.fr (e (b + 42) (by omega)) (e (b + 42 + 1) (by omega)) rfl rfl
theorem pc_far {b k : Nat} {M : cx_M} {v : Int32} {c : Nat} (hb : b + 43 < 8000) (hc : c = 8011 ∨ c = 9001 ∨ c = 9002) : pc_Fr b M (cx_up M c k v) :=
  ⟨fun d _ h1 h2 h3 => px_upc (by omega), by rw [px_upc (by omega)]⟩
theorem cSt_delayBy_s {N : cx_N} {E : ps_E} {M : cx_M} {b : Nat} {s : ps_T} {G : ps_S → Prop} (hE : ps_EO E) (hb : b + 43 < 8000) (hV : pc_V N E M b s G) (hG : M b 45 ≠ 0 → G s.1) (hv : ∀ k, k < 4 → M 8011 k = ps_view s.1 k) :
    ∃ M', cSt_delayBy N b M = some (M', ps_delay E s.1, 0) ∧ pc_V N E M' b s G ∧ pc_Fr b M M' ∧ M' 8011 = M 8011 := by
  have hK := hV.2.1
  unfold cSt_delayBy cSt_delayBy_0
  simp only [cx_get]
  by_cases h8 : M 8000 8 = 0
  · rw [if_pos h8]
    refine ⟨M, ?_, hV, pc_Fr.rf, rfl⟩
    have : E.1 8 = 0 := by
      have h1 := hK.2.2.2.1.mp h8
      have h2 := hE.2.2.2.1.1
      rw [i32_lt, i32_0] at h1
      rw [i32_eq, i32_0]
      omega
    unfold ps_delay
    rw [if_pos this]
  · have hpos : 0 < E.1 8 := by
      have h1 := fun z => h8 (hK.2.2.2.1.mpr z)
      exact Decidable.not_not.mp h1
    have hne : ¬ E.1 8 = 0 := by
      intro e
      rw [e] at hpos
      revert hpos
      decide
    obtain ⟨n1, n2⟩ := hK.2.2.2.2.2.1 hpos
    have by0 : cEx_by N 0 M = some (M, E.2.2.1 (ps_view s.1), 0) := by
      unfold cEx_by
      rw [if_neg n1, n2, hE.2.2.2.2.1 _ _ hv]
    have hd : cx_max 0 (cx_min 60 (E.2.2.1 (ps_view s.1))) = ps_delay E s.1 := by
      unfold ps_delay
      rw [if_neg hne]
    have e2 : M b 2 = s.1 0 2 := pc_n hV.1 2 (Or.inl (by decide)) rfl
    have step : ∃ M', cSt_delayBy_43 N b M = some (M', ps_delay E s.1, 0) ∧ pc_V N E M' b s G ∧ pc_Fr b M M' ∧ M' 8011 = M 8011 := by
      unfold cSt_delayBy_43
      simp only [cx_get, cx_let]
      rw [px_nz h8, px_cal by0, hd]
      by_cases h45 : M b 45 = 0
      · rw [if_pos h45]
        exact ⟨M, rfl, hV, pc_Fr.rf, rfl⟩
      · rw [if_neg h45, px_nz h45]
        have hO := hV.2.2.2
        have hr : 0 ≤ (M 9000 2).toInt ∧ (M 9000 2).toInt ≤ 90000 := by
          rcases hO with z | z
          · exact absurd z h45
          · exact z.2.1
        rw [e2, px_cal (cCo_keepsDelay_s hr)]
        by_cases c : (M 9000 2).toInt ≤ (s.1 0 2).toInt ∧ (s.1 0 2).toInt < (M 9000 2).toInt + 512
        · rw [if_pos c]
          exact ⟨_, rfl, hV.oth (fun c hc => px_upc (by omega)) (hO.keepD (hG h45) rfl hb h45 c), pc_far hb (by decide), px_upc (by decide)⟩
        · rw [if_neg c]
          exact ⟨M, rfl, hV, pc_Fr.rf, rfl⟩
    rw [if_neg h8]
    by_cases h45 : M b 45 = 0
    · rw [if_pos h45]
      exact step
    · rw [if_neg h45, px_nz h45]
      have hO := hV.2.2.2
      obtain ⟨-, hr, -, hvv⟩ := hO.resolve_left h45
      rw [e2, px_cal (cCo_delay_s hr)]
      by_cases c : (M 9000 2).toInt ≤ (s.1 0 2).toInt ∧ (s.1 0 2).toInt < (M 9000 2).toInt + 512
      · rw [if_pos c]
        obtain ⟨k0, k1, k2⟩ := pc_key hr c
        by_cases cm : M 9001 (pn (s.1 0 2 - M 9000 2)) = -1
        · rw [if_pos cm]
          exact step
        · rw [if_neg cm, px_nz h45, px_cal (cCo_delay_s hr), e2, if_pos c]
          have := ((hvv s.1 (hG h45) (pn (s.1 0 2 - M 9000 2)) (by rw [pn_def]; omega) k2).1).resolve_left cm
          rw [this]
          exact ⟨M, rfl, hV, pc_Fr.rf, rfl⟩
      · rw [if_neg c, if_pos rfl]
        exact step
theorem cSt_isLostBy_s {N : cx_N} {E : ps_E} {M : cx_M} {b : Nat} {s : ps_T} {G : ps_S → Prop} (hE : ps_EO E) (hb : b + 43 < 8000) (hV : pc_V N E M b s G) (hG : M b 45 ≠ 0 → G s.1) (hv : ∀ k, k < 4 → M 8011 k = ps_view s.1 k) :
    ∃ M', cSt_isLostBy N b M = some (M', if 0 < E.1 9 ∧ 0 < E.2.2.2 (ps_view s.1) then 1 else 0, 0) ∧ pc_V N E M' b s G ∧ pc_Fr b M M' ∧ M' 8011 = M 8011 := by
  have hK := hV.2.1
  unfold cSt_isLostBy cSt_isLostBy_0
  simp only [cx_get]
  by_cases h8 : M 8000 9 = 0
  · have h1 := hK.2.2.2.2.1.mp h8
    rw [if_pos h8, if_neg (fun z => h1 z.1)]
    exact ⟨M, rfl, hV, pc_Fr.rf, rfl⟩
  · have hpos : 0 < E.1 9 := by
      have h1 := fun z => h8 (hK.2.2.2.2.1.mpr z)
      exact Decidable.not_not.mp h1
    obtain ⟨n1, n2⟩ := hK.2.2.2.2.2.2.1 hpos
    have by0 : cEx_by N 1 M = some (M, E.2.2.2 (ps_view s.1), 0) := by
      unfold cEx_by
      rw [if_neg n1, n2, hE.2.2.2.2.2 _ _ hv]
    have hif : (if 0 < E.1 9 ∧ 0 < E.2.2.2 (ps_view s.1) then (1 : Int32) else 0) = if 0 < E.2.2.2 (ps_view s.1) then 1 else 0 := by
      simp only [hpos, true_and]
    rw [hif]
    have e2 : M b 2 = s.1 0 2 := pc_n hV.1 2 (Or.inl (by decide)) rfl
    have step : ∃ M', cSt_isLostBy_52 N b M = some (M', if 0 < E.2.2.2 (ps_view s.1) then 1 else 0, 0) ∧ pc_V N E M' b s G ∧ pc_Fr b M M' ∧ M' 8011 = M 8011 := by
      unfold cSt_isLostBy_52 cSt_isLostBy_71
      simp only [cx_get]
      rw [px_nz h8, px_cal by0]
      have h01 : ∀ z : Int32, (z = 0 ∨ z = 1) → z = (if 0 < E.2.2.2 (ps_view s.1) then 1 else 0) → ∃ M', (if M b 45 = 0 then cx_bl z (some (M, z, 0)) else cx_nz (M b 45) (cx_cal (cCo_keepsLost N M (M b 2) z) fun M4 _ => cx_bl z (some (M4, z, 0)))) = some (M', z, 0) ∧ pc_V N E M' b s G ∧ pc_Fr b M M' ∧ M' 8011 = M 8011 := by
        intro z hz hz2
        have hbl : ∀ o : Option cx_R, cx_bl z o = o := by
          intro o
          unfold cx_bl
          rw [if_pos hz]
        by_cases h45 : M b 45 = 0
        · rw [if_pos h45, hbl]
          exact ⟨M, rfl, hV, pc_Fr.rf, rfl⟩
        · rw [if_neg h45, px_nz h45]
          have hO := hV.2.2.2
          obtain ⟨-, hr, -, -⟩ := hO.resolve_left h45
          rw [e2, px_cal (cCo_keepsLost_s hz hr), hbl]
          by_cases c : (M 9000 2).toInt ≤ (s.1 0 2).toInt ∧ (s.1 0 2).toInt < (M 9000 2).toInt + 512
          · rw [if_pos c]
            exact ⟨_, rfl, hV.oth (fun c hc => px_upc (by omega)) (hO.keepL (hG h45) hz2 hb h45 c), pc_far hb (by decide), px_upc (by decide)⟩
          · rw [if_neg c]
            exact ⟨M, rfl, hV, pc_Fr.rf, rfl⟩
      by_cases hl : 0 < E.2.2.2 (ps_view s.1)
      · have hl' : ¬ E.2.2.2 (ps_view s.1) ≤ 0 := by rw [i32_lt] at hl; rw [i32_le]; omega
        rw [if_neg hl', if_pos hl]
        exact h01 1 (Or.inr rfl) (by rw [if_pos hl])
      · have hl' : E.2.2.2 (ps_view s.1) ≤ 0 := by rw [i32_lt] at hl; rw [i32_le]; omega
        rw [if_pos hl', if_neg hl]
        exact h01 0 (Or.inl rfl) (by rw [if_neg hl])
    rw [if_neg h8]
    by_cases h45 : M b 45 = 0
    · rw [if_pos h45]
      exact step
    · rw [if_neg h45, px_nz h45]
      have hO := hV.2.2.2
      obtain ⟨-, hr, -, hvv⟩ := hO.resolve_left h45
      rw [e2, px_cal (cCo_lost_s hr)]
      by_cases c : (M 9000 2).toInt ≤ (s.1 0 2).toInt ∧ (s.1 0 2).toInt < (M 9000 2).toInt + 512
      · rw [if_pos c]
        obtain ⟨k0, k1, k2⟩ := pc_key hr c
        by_cases cm : M 9002 (pn (s.1 0 2 - M 9000 2)) = -1
        · rw [if_pos cm]
          exact step
        · rw [if_neg cm, px_nz h45, px_cal (cCo_lost_s hr), e2, if_pos c]
          have := ((hvv s.1 (hG h45) (pn (s.1 0 2 - M 9000 2)) (by rw [pn_def]; omega) k2).2).resolve_left cm
          rw [this]
          by_cases hl : 0 < E.2.2.2 (ps_view s.1)
          · rw [if_pos hl, if_pos rfl]
            exact ⟨M, rfl, hV, pc_Fr.rf, rfl⟩
          · rw [if_neg hl, if_neg (by decide)]
            exact ⟨M, rfl, hV, pc_Fr.rf, rfl⟩
      · rw [if_neg c, if_pos rfl]
        exact step
theorem cSt_isLost_71_s {N : cx_N} {E : ps_E} {M : cx_M} {b : Nat} {s : ps_T} {G : ps_S → Prop} (hE : ps_EO E) (hb : b + 43 < 8000) (hV : pc_V N E M b s G) (hG : M b 45 ≠ 0 → G s.1) (hv : ∀ k, k < 4 → M 8011 k = ps_view s.1 k) :
    ∃ M', cSt_isLost_71 N b M = some (M', if ps_rule E s.1 then 1 else 0, 0) ∧ pc_V N E M' b s G ∧ pc_Fr b M M' := by
  obtain ⟨M1, e1, hV1, hF1, -⟩ := cSt_isLostBy_s hE hb hV hG hv
  unfold cSt_isLost_71
  rw [px_cal e1]
  simp only [cx_get]
  rw [pc_n hV1.1 33 (Or.inl (by decide)) (show pc_F 33 = 31 from rfl)]
  unfold ps_rule
  by_cases c : 0 < E.1 9 ∧ 0 < E.2.2.2 (ps_view s.1)
  · rw [if_pos c, if_neg (by decide), if_pos (Or.inl c)]
    exact ⟨M1, rfl, hV1, hF1⟩
  · rw [if_neg c, if_pos rfl]
    by_cases c2 : s.1 0 31 = 40
    · rw [if_pos c2, if_pos (Or.inr c2)]
      exact ⟨M1, rfl, hV1, hF1⟩
    · rw [if_neg c2, if_neg (fun z => z.elim c c2)]
      exact ⟨M1, rfl, hV1, hF1⟩
theorem pc_shr : ∀ w, w < 32 → nI w >>> (1 &&& 31 : Int32) = nI (w / 2) := by decide +kernel
theorem pc_and1 : ∀ w, w < 32 → (nI w &&& 1 = 1 ↔ w % 2 = 1) := by decide +kernel
theorem cSt_isLost_s {N : cx_N} {E : ps_E} {M : cx_M} {b : Nat} {s : ps_T} {G : ps_S → Prop} (hE : ps_EO E) (hb : b + 43 < 8000) (hV : pc_V N E M b s G) (hG : M b 45 ≠ 0 → G s.1) (hv : ∀ k, k < 4 → M 8011 k = ps_view s.1 k) :
    ∃ M', cSt_isLost N b M = some (M', if ps_isL E s = true then 1 else 0, 0) ∧ pc_V N E M' b (ps_draw s) G ∧ pc_Fr b M M' := by
  obtain ⟨S, q⟩ := s
  have e25 : M b 26 = S 0 25 := pc_n hV.1 26 (Or.inl (by decide)) rfl
  obtain ⟨M1, e1, hV1, hF1⟩ := cSt_isLost_71_s hE hb hV hG hv
  have hq := hV.2.2.1
  unfold pc_Q at hq
  unfold cSt_isLost cSt_isLost_0
  simp only [cx_get, cx_put]
  cases q with
  | nil =>
    have e43 : M b 43 = 0 := hq.1
    rw [e43, if_pos (by decide), e25]
    by_cases h25 : S 0 25 ≤ 0
    · have h25' : ¬ 0 < S 0 25 := by rw [i32_le] at h25; rw [i32_lt]; omega
      rw [if_pos h25]
      refine ⟨M1, ?_, ?_, hF1⟩
      · rw [e1]
        unfold ps_isL
        simp only [h25', decide_false, Bool.false_or, decide_eq_true_eq]
      · unfold ps_draw
        simp only [h25', ↓reduceIte]
        exact hV1
    · have h25' : 0 < S 0 25 := by rw [i32_le] at h25; rw [i32_lt]; omega
      rw [if_neg h25]
      refine ⟨cx_up M b 26 (S 0 25 - 1), ?_, ?_, pc_Fr.up (by omega) (by omega)⟩
      · unfold ps_isL
        simp only [h25', decide_true, Bool.true_or, ↓reduceIte]
      · unfold ps_draw
        simp only [h25', ↓reduceIte]
        exact hV.up hb 26 (S 0 25 - 1) (j := 25) (Or.inl (by decide)) rfl (by decide) (fun z => absurd z (by decide))
  | cons x q =>
    have hl : (x :: q).length = q.length + 1 := rfl
    have e43 : M b 43 = nI (q.length + 1) := hq.1
    have h8 : q.length + 1 ≤ 8 := hq.2.1
    obtain ⟨w, hw, e44, hbit⟩ := hq.2.2 (by rw [hl]; omega)
    have hm1 : nI (q.length + 1) - 1 = nI q.length := nI_pred _
    have hpos : ¬ nI (q.length + 1) ≤ 0 := nI_nle (by omega) (by omega)
    rw [e43, if_neg hpos, hm1]
    have q44 : cx_up M b 43 (nI q.length) b 44 = nI w := by rw [px_up, if_neg (by omega)]; exact e44
    rw [q44]
    have hx := hbit 0 (by rw [hl]; omega)
    simp only [Nat.pow_zero, Nat.div_one, List.getElem?_cons_zero, Option.some.injEq] at hx
    generalize hM2 : cx_up (cx_up M b 43 (nI q.length)) b 44 (nI (w / 2)) = M2
    have h2b : ∀ k, k ≠ 43 → k ≠ 44 → M2 b k = M b k := by
      intro k h1 h2
      rw [← hM2, px_up, if_neg (by omega), px_up, if_neg (by omega)]
    have h2c : ∀ c, c ≠ b → M2 c = M c := by
      intro c h1
      rw [← hM2, px_upc h1, px_upc h1]
    have hV2 : pc_V N E M2 b (S, q) G := by
      obtain ⟨⟨h1, h2, h3, h4, h5, h6⟩, hK, -, hO⟩ := hV
      refine ⟨⟨fun k hk => ?_, h2, ?_, ?_, ?_, ?_⟩, hK.fr (h2c _ (by omega)), ?_, hO.fr (h2b 45 (by decide) (by decide)) (h2c _ (by omega)) (h2c _ (by omega)) (h2c _ (by omega))⟩
      · rw [h2b k (by unfold pc_d at hk; omega) (by unfold pc_d at hk; omega)]
        exact h1 k hk
      · rw [h2c _ (by omega), h2c _ (by omega), h2c _ (by omega)]; exact h3
      · rw [h2c _ (by omega), h2c _ (by omega)]; exact h4
      · rw [h2c _ (by omega), h2c _ (by omega)]; exact h5
      · exact h6.fr (h2c _ (by omega)) (h2c _ (by omega)) rfl rfl
      · refine ⟨by rw [← hM2, px_up, if_neg (by omega), px_up, if_pos ⟨rfl, rfl⟩], (show q.length ≤ 8 by omega), fun _ => ⟨w / 2, by omega, by rw [← hM2, px_up, if_pos ⟨rfl, rfl⟩], fun j hj => ?_⟩⟩
        have hj' : j < q.length := hj
        have := hbit (j + 1) (by rw [hl]; omega)
        rw [List.getElem?_cons_succ, Nat.pow_succ, Nat.mul_comm, ← Nat.div_div_eq_div_mul] at this
        exact this
    have hF2 : pc_Fr b M M2 := ⟨fun c hc _ _ _ => h2c c (by omega), h2b 45 (by decide) (by decide)⟩
    have hd : ps_draw (S, x :: q) = (S, q) := rfl
    rw [hd]
    have h32 : ∀ z : Int32, cSt_isLost_32 N b (cx_up M b 43 (nI q.length)) z = if z = 0 then cSt_isLost_71 N b M2 else cx_bl z (some (M2, z, 0)) := by
      intro z
      unfold cSt_isLost_32
      simp only [cx_get, cx_put]
      rw [q44, pc_shr w hw, hM2]
    by_cases hxt : x = true
    · rw [if_pos ((pc_and1 w hw).mpr (hx.mpr hxt)), h32, if_neg (by decide)]
      refine ⟨M2, ?_, hV2, hF2⟩
      unfold ps_isL cx_bl
      simp only [hxt, Bool.true_or, ↓reduceIte, or_true]
    · rw [if_neg (fun z => hxt (hx.mp ((pc_and1 w hw).mp z))), h32, if_pos rfl]
      obtain ⟨M3, e3, hV3, hF3⟩ := cSt_isLost_71_s hE hb hV2 (by rw [h2b 45 (by decide) (by decide)]; exact hG) (by rw [h2c _ (by omega)]; exact hv)
      refine ⟨M3, ?_, hV3, hF2.tr hF3⟩
      rw [e3]
      unfold ps_isL
      simp only [Bool.not_eq_true] at hxt
      simp only [hxt, Bool.false_or, decide_eq_true_eq]
