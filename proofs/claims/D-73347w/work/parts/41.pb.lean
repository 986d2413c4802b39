/-! THE REFERENCE'S ROW, AND ITS STEP -/
def ps_c (q : Nat) : Nat := if q < 33 then 0 else if q < 153 then 1 + (q - 33) % 3 else if q < 217 then 4 else if q < 281 then 5 else if q < 409 then 6 else if q < 537 then 7 else 8
def ps_k (q : Nat) : Nat := if q < 33 then q else if q < 153 then (q - 33) / 3 else if q < 217 then q - 153 else if q < 281 then q - 217 else if q < 409 then q - 281 else if q < 537 then q - 409 else q - 537
def ps_p (c k : Nat) : Nat := if c = 0 then k else if c < 4 then 33 + 3 * k + (c - 1) else if c = 4 then 153 + k else if c = 5 then 217 + k else if c = 6 then 281 + k else if c = 7 then 409 + k else 537 + k
theorem ps_p_ck : ∀ q, q < 665 → ps_p (ps_c q) (ps_k q) = q := by decide +kernel
theorem ps_ck_inj {p q : Nat} (hp : p < 665) (hq : q < 665) (hc : ps_c q = ps_c p) (hk : ps_k q = ps_k p) : q = p := by
  rw [← ps_p_ck q hq, ← ps_p_ck p hp, hc, hk]
theorem ps_c_fl {k j : Nat} (hk : k < 40) (hj : j < 3) : ps_c (33 + 3 * k + j) = 1 + j ∧ ps_k (33 + 3 * k + j) = k := by
  unfold ps_c ps_k
  rw [if_neg (by omega), if_pos (by omega), if_neg (by omega), if_pos (by omega)]
  omega
theorem ps_c_4 {k : Nat} (hk : k < 64) : ps_c (153 + k) = 4 ∧ ps_k (153 + k) = k := by
  unfold ps_c ps_k
  rw [if_neg (by omega), if_neg (by omega), if_pos (by omega), if_neg (by omega), if_neg (by omega), if_pos (by omega)]
  omega
theorem ps_c_5 {k : Nat} (hk : k < 64) : ps_c (217 + k) = 5 ∧ ps_k (217 + k) = k := by
  unfold ps_c ps_k
  rw [if_neg (by omega), if_neg (by omega), if_neg (by omega), if_pos (by omega), if_neg (by omega), if_neg (by omega), if_neg (by omega), if_pos (by omega)]
  omega
theorem ps_c_6 {k : Nat} (hk : k < 128) : ps_c (281 + k) = 6 ∧ ps_k (281 + k) = k := by
  unfold ps_c ps_k
  rw [if_neg (by omega), if_neg (by omega), if_neg (by omega), if_neg (by omega), if_pos (by omega), if_neg (by omega), if_neg (by omega), if_neg (by omega), if_neg (by omega), if_pos (by omega)]
  omega
theorem ps_c_7 {k : Nat} (hk : k < 128) : ps_c (409 + k) = 7 ∧ ps_k (409 + k) = k := by
  unfold ps_c ps_k
  rw [if_neg (by omega), if_neg (by omega), if_neg (by omega), if_neg (by omega), if_neg (by omega), if_pos (by omega), if_neg (by omega), if_neg (by omega), if_neg (by omega), if_neg (by omega), if_neg (by omega), if_pos (by omega)]
  omega
theorem ps_c_8 {k : Nat} : ps_c (537 + k) = 8 ∧ ps_k (537 + k) = k := by
  unfold ps_c ps_k
  rw [if_neg (by omega), if_neg (by omega), if_neg (by omega), if_neg (by omega), if_neg (by omega), if_neg (by omega), if_neg (by omega), if_neg (by omega), if_neg (by omega), if_neg (by omega), if_neg (by omega), if_neg (by omega)]
  omega
def pr_R (f : Nat → Int32) (S : ps_S) : Prop := ∀ q, q < 665 → f q = S (ps_c q) (ps_k q)
theorem pr_up {M : cx_M} {S : ps_S} (h : pr_R (M 8) S) (p : Nat) (v : Int32) {c k : Nat} (hp : p < 665) (hc : ps_c p = c ∧ ps_k p = k) : pr_R (cx_up M 8 p v 8) (cx_up S c k v) := by
  intro q hq
  rw [px_up, px_up]
  by_cases e : q = p
  · subst e
    rw [if_pos ⟨rfl, rfl⟩, if_pos hc]
  · rw [if_neg (fun x => e x.2), if_neg (fun x => e (ps_ck_inj hp hq (by rw [hc.1]; exact x.1) (by rw [hc.2]; exact x.2))), h q hq]
theorem pr_n {f : Nat → Int32} {S : ps_S} (h : pr_R f S) (k : Nat) (hk : k < 33) : f k = S 0 k := by
  have := h k (by omega)
  unfold ps_c ps_k at this
  rw [if_pos hk, if_pos hk] at this
  exact this
theorem pr_at {f : Nat → Int32} {S : ps_S} (h : pr_R f S) {p c k : Nat} (hp : p < 665) (hc : ps_c p = c ∧ ps_k p = k) : f p = S c k := by
  rw [h p hp, hc.1, hc.2]
/-- what a line left: its numbers, word, rules; what rules gave -/
def pr_K (N : Nat) (E : ps_E) (M : cx_M) : Prop :=
  (∀ k, k < 10 → M 3 k = E.1 k) ∧ (1 ≤ (E.1 7).toInt ∧ (E.1 7).toInt ≤ 16) ∧ (∀ x : Int32, 0 ≤ x.toInt → (M 4 (pn (cx_rem x (E.1 7))) + x) &&& 255 = E.2.1 x) ∧
  (0 < E.1 8 → ∀ M2 : cx_M, (∀ j, j < 700 → M2 5 j = M 5 j) → ∃ st, tw_valueNow N 5 M2 (E.1 8) = some (cx_set M2 23 st, E.2.2.1 (M2 22), 0)) ∧
  (0 < E.1 9 → ∀ M2 : cx_M, (∀ j, j < 700 → M2 6 j = M 6 j) → ∃ st, tw_valueNow N 6 M2 (E.1 9) = some (cx_set M2 23 st, E.2.2.2 (M2 22), 0)) ∧
  (∀ j, j < 2048 → M 28 j ≠ 0 → M 27 j = (if j < 1024 then E.2.2.1 else E.2.2.2) (fun k => M 26 (4 * j + k)))
def pr_Q (M : cx_M) (q : List Bool) : Prop := M 60 29 = nI q.length ∧ q.length ≤ 8 ∧ ∀ j, j < q.length → (((M 60 30 >>> (nI (q.length - 1 - j) &&& 31)) &&& 1) = 1 ↔ q[j]? = some true)
def pr_V (N : Nat) (E : ps_E) (M : cx_M) (s : ps_T) : Prop := pr_R (M 8) s.1 ∧ (M 60 24 = s.1 0 33 ∧ M 60 25 = s.1 0 34) ∧ pr_K N E M ∧ pr_Q M s.2
def pr_F (M M' : cx_M) : Prop := (∀ c, c ∉ [8, 22, 23, 26, 27, 28, 60] → M' c = M c) ∧ ∀ k, k ≠ 29 → M' 60 k = M 60 k
theorem pr_F.rf {M : cx_M} : pr_F M M := ⟨fun _ _ => rfl, fun _ _ => rfl⟩
theorem pr_F.tr {M M1 M2 : cx_M} (h1 : pr_F M M1) (h2 : pr_F M1 M2) : pr_F M M2 := ⟨fun c hc => (h2.1 c hc).trans (h1.1 c hc), fun k hk => (h2.2 k hk).trans (h1.2 k hk)⟩
theorem pr_F.up {M : cx_M} {c k : Nat} {v : Int32} (h : c ∈ [8, 22, 23, 26, 27, 28]) : pr_F M (cx_up M c k v) := by
  refine ⟨fun d hd => px_upc (fun e => hd ?_), fun j _ => ?_⟩
  · rw [e]
    exact (by decide : ∀ x ∈ [8, 22, 23, 26, 27, 28], x ∈ [8, 22, 23, 26, 27, 28, 60]) c h
  · rw [px_upc (show (60 : Nat) ≠ c from fun e => (by decide : (60 : Nat) ∉ [8, 22, 23, 26, 27, 28]) (by rw [e]; exact h))]
theorem pr_F.set {M : cx_M} {c : Nat} {f : Nat → Int32} (h : c ∈ [8, 22, 23, 26, 27, 28]) : pr_F M (cx_set M c f) := by
  refine ⟨fun d hd => px_setc (fun e => hd ?_), fun j _ => ?_⟩
  · rw [e]
    exact (by decide : ∀ x ∈ [8, 22, 23, 26, 27, 28], x ∈ [8, 22, 23, 26, 27, 28, 60]) c h
  · rw [px_setc (show (60 : Nat) ≠ c from fun e => (by decide : (60 : Nat) ∉ [8, 22, 23, 26, 27, 28]) (by rw [e]; exact h))]
theorem pr_K.fr {N : Nat} {E : ps_E} {M M' : cx_M} (h : pr_K N E M) (e : ∀ c ∈ [3, 4, 5, 6, 26, 27, 28], M' c = M c) : pr_K N E M' := by
  unfold pr_K at h ⊢
  rw [e 3 (by decide), e 4 (by decide), e 5 (by decide), e 6 (by decide), e 26 (by decide), e 27 (by decide), e 28 (by decide)]
  exact h
theorem pr_V.up {N : Nat} {E : ps_E} {M : cx_M} {s : ps_T} (h : pr_V N E M s) (p : Nat) (v : Int32) {c k : Nat} (hp : p < 665) (hc : ps_c p = c ∧ ps_k p = k) : pr_V N E (cx_up M 8 p v) (cx_up s.1 c k v, s.2) := by
  have hk : k ≠ 33 ∧ k ≠ 34 ∨ c ≠ 0 := by
    obtain ⟨rfl, rfl⟩ := hc
    unfold ps_c ps_k
    split
    · left; omega
    · right
      split
      · omega
      · split
        · decide
        · split
          · decide
          · split
            · decide
            · split <;> decide
  refine ⟨pr_up h.1 p v hp hc, ?_, h.2.2.1.fr (fun c hc => px_upc ?_), ?_⟩
  · show _ = cx_up s.1 c k v 0 33 ∧ _ = cx_up s.1 c k v 0 34
    rw [px_up, px_up, px_up, px_up, if_neg (by omega), if_neg (by omega), if_neg (by omega), if_neg (by omega)]
    exact h.2.1
  · exact fun e => by rw [e] at hc; revert hc; decide
  · have := h.2.2.2
    unfold pr_Q at this ⊢
    rw [px_upc (show (60 : Nat) ≠ 8 by decide)]
    exact this
theorem pr_V.oth {N : Nat} {E : ps_E} {M M' : cx_M} {s : ps_T} (h : pr_V N E M s) (e : ∀ c ∈ [8, 60, 3, 4, 5, 6, 26, 27, 28], M' c = M c) : pr_V N E M' s := by
  refine ⟨?_, ?_, h.2.2.1.fr (fun c hc => e c ((by decide : ∀ x ∈ [3, 4, 5, 6, 26, 27, 28], x ∈ [8, 60, 3, 4, 5, 6, 26, 27, 28]) c hc)), ?_⟩
  · rw [e 8 (by decide)]; exact h.1
  · rw [e 60 (by decide)]; exact h.2.1
  · have := h.2.2.2
    unfold pr_Q at this ⊢
    rw [e 60 (by decide)]
    exact this
/-! rules' answers, kept -/
theorem tw_ruleNow_hash {N : Nat} {M : cx_M} {x1 : Int32} (n : Nat) : ∃ h, tw_ruleNow_4 N (n + 5) M x1 0 0 = if x1 = 0 then tw_ruleNow_43 N M x1 (h &&& 1023) 0 else tw_ruleNow_43 N M x1 (h &&& 1023) 1024 := by
  have st : ∀ (x3 y : Int32) (n : Nat) (h : Int32), 0 ≤ x3.toInt → x3.toInt < 4 → x3 + 1 = y → ∃ h', tw_ruleNow_4 N (n + 1) M x1 h x3 = tw_ruleNow_4 N n M x1 h' y := by
    intro x3 y n h h0 h1 hy
    refine ⟨(31 : Int32) * h + M 22 (pn x3), ?_⟩
    have e4 : (4 : Int32).toInt = 4 := rfl
    show tw_ruleNow_4b N (tw_ruleNow_4 N n) M x1 h x3 = _
    unfold tw_ruleNow_4b
    simp only [cx_let]
    rw [if_neg (by rw [i32_le]; omega), px_ld h0 h1, hy]
  obtain ⟨h1, e1⟩ := st 0 1 (n + 4) 0 (by decide) (by decide) (by decide)
  obtain ⟨h2, e2⟩ := st 1 2 (n + 3) h1 (by decide) (by decide) (by decide)
  obtain ⟨h3, e3⟩ := st 2 3 (n + 2) h2 (by decide) (by decide) (by decide)
  obtain ⟨h4, e4⟩ := st 3 4 (n + 1) h3 (by decide) (by decide) (by decide)
  refine ⟨h4, ?_⟩
  rw [e1, e2, e3, e4]
  show tw_ruleNow_4b N (tw_ruleNow_4 N n) M x1 h4 4 = _
  unfold tw_ruleNow_4b
  rw [if_pos (by decide)]
theorem tw_r55_0 {N n : Nat} {M : cx_M} {x1 x2 x4 : Int32} : tw_ruleNow_55 N (n + 1) M x1 x2 0 x4 = tw_ruleNow_112 N N M x1 x2 0 := by
  show tw_ruleNow_55b N (tw_ruleNow_55 N n) M x1 x2 0 x4 = _
  unfold tw_ruleNow_55b tw_ruleNow_98
  rw [if_pos rfl, if_pos rfl]
theorem tw_r55_4 {N n : Nat} {M : cx_M} {x1 x2 x3 : Int32} (h : x3 ≠ 0) (h0 : 0 ≤ x2.toInt) (h1 : x2.toInt < 2048) : tw_ruleNow_55 N (n + 1) M x1 x2 x3 4 = some (M, M 27 (pn x2), 0) := by
  show tw_ruleNow_55b N (tw_ruleNow_55 N n) M x1 x2 x3 4 = _
  unfold tw_ruleNow_55b tw_ruleNow_98
  rw [if_neg h, if_pos (by decide), if_neg h, px_ld h0 h1]
theorem tw_key {x2 x4 : Int32} {k : Nat} (h0 : 0 ≤ x2.toInt) (h1 : x2.toInt < 2048) (h4 : x4.toInt = k) (hk : k < 4) : 0 ≤ ((4 : Int32) * x2 + x4).toInt ∧ ((4 : Int32) * x2 + x4).toInt < 8192 ∧ pn ((4 : Int32) * x2 + x4) = 4 * pn x2 + k := by
  have e4 : (4 : Int32).toInt = 4 := rfl
  have e : ((4 : Int32) * x2).toInt = 4 * x2.toInt := by rw [pi_mul (by rw [e4]; omega) (by rw [e4]; omega), e4]
  have e2 : ((4 : Int32) * x2 + x4).toInt = 4 * x2.toInt + k := by rw [i32_add (by omega) (by omega), e, h4]
  rw [pn_def, pn_def, e2]
  omega
theorem tw_r55_k {N n : Nat} {M : cx_M} {x1 x2 x3 x4 : Int32} {k : Nat} (h : x3 ≠ 0) (h0 : 0 ≤ x2.toInt) (h1 : x2.toInt < 2048) (h4 : x4.toInt = k) (hk : k < 4) : tw_ruleNow_55 N (n + 1) M x1 x2 x3 x4 = if M 26 (4 * pn x2 + k) = M 22 k then tw_ruleNow_55 N n M x1 x2 1 (x4 + 1) else tw_ruleNow_55 N n M x1 x2 0 (x4 + 1) := by
  obtain ⟨k0, k1, k2⟩ := tw_key h0 h1 h4 hk
  have e4 : (4 : Int32).toInt = 4 := rfl
  show tw_ruleNow_55b N (tw_ruleNow_55 N n) M x1 x2 x3 x4 = _
  unfold tw_ruleNow_55b tw_ruleNow_91
  rw [if_neg h, if_neg (by rw [i32_le]; omega), px_ld k0 k1, px_ld (by omega) (by omega), k2]
  have : pn x4 = k := by rw [pn_def]; omega
  rw [this]
  rfl
theorem tw_r55_hit {N n : Nat} {M : cx_M} {x1 x2 x3 : Int32} (h : x3 ≠ 0) (h0 : 0 ≤ x2.toInt) (h1 : x2.toInt < 2048) (hk : ∀ k, k < 4 → M 26 (4 * pn x2 + k) = M 22 k) : tw_ruleNow_55 N (n + 5) M x1 x2 x3 0 = some (M, M 27 (pn x2), 0) := by
  rw [tw_r55_k (k := 0) h h0 h1 rfl (by decide), if_pos (hk 0 (by decide)), tw_r55_k (k := 1) (by decide) h0 h1 rfl (by decide), if_pos (hk 1 (by decide)), tw_r55_k (k := 2) (by decide) h0 h1 rfl (by decide), if_pos (hk 2 (by decide)), tw_r55_k (k := 3) (by decide) h0 h1 rfl (by decide), if_pos (hk 3 (by decide))]
  exact tw_r55_4 (by decide) h0 h1
theorem tw_r55_miss {N n : Nat} {M : cx_M} {x1 x2 x3 : Int32} (h0 : 0 ≤ x2.toInt) (h1 : x2.toInt < 2048) (hm : ¬ (x3 ≠ 0 ∧ ∀ k, k < 4 → M 26 (4 * pn x2 + k) = M 22 k)) : tw_ruleNow_55 N (n + 5) M x1 x2 x3 0 = tw_ruleNow_112 N N M x1 x2 0 := by
  by_cases h : x3 = 0
  · subst h; exact tw_r55_0
  · rw [tw_r55_k (k := 0) h h0 h1 rfl (by decide)]
    by_cases c0 : M 26 (4 * pn x2 + 0) = M 22 0
    · rw [if_pos c0, tw_r55_k (k := 1) (by decide) h0 h1 rfl (by decide)]
      by_cases c1 : M 26 (4 * pn x2 + 1) = M 22 1
      · rw [if_pos c1, tw_r55_k (k := 2) (by decide) h0 h1 rfl (by decide)]
        by_cases c2 : M 26 (4 * pn x2 + 2) = M 22 2
        · rw [if_pos c2, tw_r55_k (k := 3) (by decide) h0 h1 rfl (by decide)]
          by_cases c3 : M 26 (4 * pn x2 + 3) = M 22 3
          · refine absurd ⟨h, fun k hk => ?_⟩ hm
            match k, hk with
            | 0, _ => exact c0
            | 1, _ => exact c1
            | 2, _ => exact c2
            | 3, _ => exact c3
          · rw [if_neg c3]; exact tw_r55_0
        · rw [if_neg c2]; exact tw_r55_0
      · rw [if_neg c1]; exact tw_r55_0
    · rw [if_neg c0]; exact tw_r55_0
/-- the keys that are laid down -/
def pr_M4 (M : cx_M) (j : Nat) : cx_M := cx_up (cx_up (cx_up (cx_up M 26 (4 * j + 0) (M 22 0)) 26 (4 * j + 1) (M 22 1)) 26 (4 * j + 2) (M 22 2)) 26 (4 * j + 3) (M 22 3)
theorem pr_M4_c {M : cx_M} {j c : Nat} (h : c ≠ 26) : pr_M4 M j c = M c := by
  unfold pr_M4
  rw [px_upc h, px_upc h, px_upc h, px_upc h]
theorem pr_M4_k {M : cx_M} {j k : Nat} (h : k < 4) : pr_M4 M j 26 (4 * j + k) = M 22 k := by
  unfold pr_M4
  rw [px_up, px_up, px_up, px_up]
  match k, h with
  | 0, _ => rw [if_neg (by omega), if_neg (by omega), if_neg (by omega), if_pos (by omega)]
  | 1, _ => rw [if_neg (by omega), if_neg (by omega), if_pos (by omega)]
  | 2, _ => rw [if_neg (by omega), if_pos (by omega)]
  | 3, _ => rw [if_pos (by omega)]
theorem pr_M4_o {M : cx_M} {j i k : Nat} (h : i ≠ j) (hk : k < 4) : pr_M4 M j 26 (4 * i + k) = M 26 (4 * i + k) := by
  unfold pr_M4
  rw [px_up, px_up, px_up, px_up, if_neg (by omega), if_neg (by omega), if_neg (by omega), if_neg (by omega)]
theorem tw_r112_k {N n : Nat} {M : cx_M} {x1 x2 x4 : Int32} {k : Nat} (h0 : 0 ≤ x2.toInt) (h1 : x2.toInt < 2048) (h4 : x4.toInt = k) (hk : k < 4) : tw_ruleNow_112 N (n + 1) M x1 x2 x4 = tw_ruleNow_112 N n (cx_up M 26 (4 * pn x2 + k) (M 22 k)) x1 x2 (x4 + 1) := by
  obtain ⟨k0, k1, k2⟩ := tw_key h0 h1 h4 hk
  have e4 : (4 : Int32).toInt = 4 := rfl
  show tw_ruleNow_112b N (tw_ruleNow_112 N n) M x1 x2 x4 = _
  unfold tw_ruleNow_112b
  rw [if_neg (by rw [i32_le]; omega), px_ld (by omega) (by omega), px_st k0 k1, k2]
  have : pn x4 = k := by rw [pn_def]; omega
  rw [this]
  rfl
theorem tw_r112 {N n : Nat} {M : cx_M} {x1 x2 : Int32} (h0 : 0 ≤ x2.toInt) (h1 : x2.toInt < 2048) : tw_ruleNow_112 N (n + 5) M x1 x2 0 = tw_ruleNow_112 N (n + 1) (pr_M4 M (pn x2)) x1 x2 4 := by
  rw [tw_r112_k (k := 0) h0 h1 rfl (by decide), tw_r112_k (k := 1) h0 h1 rfl (by decide), tw_r112_k (k := 2) h0 h1 rfl (by decide), tw_r112_k (k := 3) h0 h1 rfl (by decide)]
  rfl
theorem tw_ruleNow_s {N : Nat} {E : ps_E} {M : cx_M} {x1 : Int32} (hN : 5 ≤ N) (hE : ps_EO E) (hK : pr_K N E M) (hx : (x1 = 0 ∧ 0 < E.1 8) ∨ (x1 = 1 ∧ 0 < E.1 9)) :
    ∃ M', tw_ruleNow N M x1 = some (M', (if x1 = 0 then E.2.2.1 else E.2.2.2) (M 22), 0) ∧ pr_K N E M' ∧ ∀ c, c ≠ 23 → c ≠ 26 → c ≠ 27 → c ≠ 28 → M' c = M c := by
  obtain ⟨n, rfl⟩ : ∃ n, N = n + 5 := ⟨N - 5, by omega⟩
  obtain ⟨h, eh⟩ := tw_ruleNow_hash (N := n + 5) (M := M) (x1 := x1) n
  have hh : (h &&& 1023).toInt = h.toInt % 1024 := pi_mask h (k := 10) (by decide) (by decide)
  have key : ∃ x2 : Int32, 0 ≤ x2.toInt ∧ x2.toInt < 2048 ∧ (pn x2 < 1024 ↔ x1 = 0) ∧ tw_ruleNow (n + 5) M x1 = tw_ruleNow_55 (n + 5) (n + 5) M x1 x2 (M 28 (pn x2)) 0 := by
    unfold tw_ruleNow tw_ruleNow_0
    rw [eh]
    rcases hx with ⟨rfl, -⟩ | ⟨rfl, -⟩
    · have e : ((h &&& 1023) + 0).toInt = h.toInt % 1024 := by rw [i32_add (by rw [hh, i32_0]; omega) (by rw [hh, i32_0]; omega), hh, i32_0]; omega
      refine ⟨(h &&& 1023) + 0, by omega, by omega, ?_, ?_⟩
      · rw [pn_def, e]
        exact ⟨fun _ => rfl, fun _ => by omega⟩
      · rw [if_pos rfl]
        unfold tw_ruleNow_43
        try simp only [cx_get, cx_put, cx_let]
        rw [px_ld (by omega) (by omega)]
    · have e1 : (1024 : Int32).toInt = 1024 := rfl
      have e : ((h &&& 1023) + 1024).toInt = h.toInt % 1024 + 1024 := by rw [i32_add (by rw [hh, e1]; omega) (by rw [hh, e1]; omega), hh, e1]
      refine ⟨(h &&& 1023) + 1024, by omega, by omega, ?_, ?_⟩
      · rw [pn_def, e]
        exact ⟨fun _ => by omega, fun h => absurd h (by decide)⟩
      · rw [if_neg (by decide)]
        unfold tw_ruleNow_43
        try simp only [cx_get, cx_put, cx_let]
        rw [px_ld (by omega) (by omega)]
  obtain ⟨x2, h0, h1, hj, e⟩ := key
  rw [e]
  have hJ : pn x2 < 2048 := by rw [pn_def]; omega
  have hf : (if pn x2 < 1024 then E.2.2.1 else E.2.2.2) = (if x1 = 0 then E.2.2.1 else E.2.2.2) := by
    by_cases c : x1 = 0
    · rw [if_pos c, if_pos (hj.mpr c)]
    · rw [if_neg c, if_neg (fun z => c (hj.mp z))]
  have hext : ∀ v w : Nat → Int32, (∀ k, k < 4 → v k = w k) → (if x1 = 0 then E.2.2.1 else E.2.2.2) v = (if x1 = 0 then E.2.2.1 else E.2.2.2) w := by
    intro v w hv
    split
    · exact hE.2.2.2.2.1 v w hv
    · exact hE.2.2.2.2.2 v w hv
  by_cases hit : M 28 (pn x2) ≠ 0 ∧ ∀ k, k < 4 → M 26 (4 * pn x2 + k) = M 22 k
  · refine ⟨M, ?_, hK, fun _ _ _ _ _ => rfl⟩
    rw [tw_r55_hit hit.1 h0 h1 hit.2, hK.2.2.2.2.2 _ hJ hit.1, hf, hext _ (M 22) hit.2]
  · rw [tw_r55_miss h0 h1 hit, tw_r112 h0 h1]
    have c22 : pr_M4 M (pn x2) 22 = M 22 := pr_M4_c (by decide)
    have hv : ∃ st, tw_ruleNow_112 (n + 5) (n + 1) (pr_M4 M (pn x2)) x1 x2 4 = tw_ruleNow_184 (n + 5) (cx_set (pr_M4 M (pn x2)) 23 st) x2 x2 ((if x1 = 0 then E.2.2.1 else E.2.2.2) (M 22)) := by
      show ∃ st, tw_ruleNow_112b (n + 5) (tw_ruleNow_112 (n + 5) n) (pr_M4 M (pn x2)) x1 x2 4 = _
      unfold tw_ruleNow_112b
      rw [if_pos (by decide)]
      have t8 : pr_M4 M (pn x2) 3 8 = E.1 8 := by rw [pr_M4_c (by decide)]; exact hK.1 8 (by decide)
      have t9 : pr_M4 M (pn x2) 3 9 = E.1 9 := by rw [pr_M4_c (by decide)]; exact hK.1 9 (by decide)
      rcases hx with ⟨rfl, hd⟩ | ⟨rfl, hd⟩
      · obtain ⟨st, es⟩ := hK.2.2.2.1 hd (pr_M4 M (pn x2)) (fun j _ => by rw [pr_M4_c (by decide)])
        refine ⟨st, ?_⟩
        rw [if_pos rfl, if_pos rfl]
        try simp only [cx_get, cx_put, cx_let]
        rw [t8, px_cal es, c22]
      · obtain ⟨st, es⟩ := hK.2.2.2.2.1 hd (pr_M4 M (pn x2)) (fun j _ => by rw [pr_M4_c (by decide)])
        refine ⟨st, ?_⟩
        rw [if_neg (by decide), if_neg (by decide)]
        try simp only [cx_get, cx_put, cx_let]
        rw [t9, px_cal es, c22]
    obtain ⟨st, es⟩ := hv
    rw [es]
    generalize hg : (if x1 = 0 then E.2.2.1 else E.2.2.2) (M 22) = v
    unfold tw_ruleNow_184
    rw [px_st h0 h1, px_st h0 h1, px_ld h0 h1]
    refine ⟨_, congrArg some (Prod.ext rfl (Prod.ext ?_ rfl)), ?_, ?_⟩
    · show cx_up (cx_up _ 27 (pn x2) v) 28 (pn x2) 1 27 (pn x2) = v
      simp (decide := true) only [px_up, false_and, and_false, true_and, and_true, ↓reduceIte]
    · obtain ⟨k1, k2, k3, k4, k5, k6⟩ := hK
      have ho : ∀ c, c ≠ 23 → c ≠ 26 → c ≠ 27 → c ≠ 28 → cx_up (cx_up (cx_set (pr_M4 M (pn x2)) 23 st) 27 (pn x2) v) 28 (pn x2) 1 c = M c := by
        intro c a b c' d
        rw [px_upc d, px_upc c', px_setc a, pr_M4_c b]
      refine ⟨?_, k2, ?_, ?_, ?_, ?_⟩
      · rw [ho 3 (by decide) (by decide) (by decide) (by decide)]; exact k1
      · rw [ho 4 (by decide) (by decide) (by decide) (by decide)]; exact k3
      · rw [ho 5 (by decide) (by decide) (by decide) (by decide)]; exact k4
      · rw [ho 6 (by decide) (by decide) (by decide) (by decide)]; exact k5
      · intro j hj2 hne
        rw [px_up] at hne
        simp (decide := true) only [px_up, false_and, and_false, true_and, and_true, ↓reduceIte, true_and] at hne ⊢
        have e26 : cx_set (pr_M4 M (pn x2)) 23 st 26 = pr_M4 M (pn x2) 26 := px_setc (by decide)
        rw [e26]
        by_cases ej : j = pn x2
        · subst ej
          rw [if_pos rfl, hf, ← hg]
          exact hext _ _ (fun k hk => (pr_M4_k hk).symm)
        · rw [if_neg ej] at hne ⊢
          rw [px_setc (by decide), pr_M4_c (by decide)] at hne ⊢
          rw [k6 j hj2 hne]
          split
          · exact hE.2.2.2.2.1 _ _ (fun k hk => (pr_M4_o ej hk).symm)
          · exact hE.2.2.2.2.2 _ _ (fun k hk => (pr_M4_o ej hk).symm)
    · intro c a b c' d
      rw [px_upc d, px_upc c', px_setc a, pr_M4_c b]
/-! a step: the far end -/
theorem pr_V.free {N : Nat} {E : ps_E} {M : cx_M} {s : ps_T} (h : pr_V N E M s) (k : Nat) (v : Int32) (hk : 35 ≤ k) : pr_V N E M (cx_up s.1 0 k v, s.2) := by
  refine ⟨fun q hq => ?_, ?_, h.2.2.1, h.2.2.2⟩
  · rw [h.1 q hq]
    show _ = cx_up s.1 0 k v _ _
    rw [px_up, if_neg]
    intro x
    have h1 := x.2
    have h0 := x.1
    unfold ps_c at h0
    unfold ps_k at h1
    by_cases h33 : q < 33
    · rw [if_pos h33] at h1; omega
    · rw [if_neg h33] at h0
      revert h0
      split
      · omega
      · split
        · decide
        · split
          · decide
          · split
            · decide
            · split <;> decide
  · show _ = cx_up s.1 0 k v 0 33 ∧ _ = cx_up s.1 0 k v 0 34
    rw [px_up, px_up, if_neg (by omega), if_neg (by omega)]
    exact h.2.1
theorem tw_isLost_74_s {N : Nat} {M : cx_M} : tw_isLost_74 N M = some (M, if M 8 31 = 40 then 1 else 0, 0) := by
  unfold tw_isLost_74
  try simp only [cx_get, cx_put, cx_let]
  split <;> rfl
theorem tw_isLost_56_s {N : Nat} {E : ps_E} {M : cx_M} {s : ps_T} (hN : 5 ≤ N) (hE : ps_EO E) (hV : pr_V N E M s) (hv : ∀ k, k < 4 → M 22 k = ps_view s.1 k) : ∃ M', tw_isLost_56 N M = some (M', if ps_rule E s.1 then 1 else 0, 0) ∧ pr_V N E M' s ∧ pr_F M M' := by
  have e9 : M 3 9 = E.1 9 := hV.2.2.1.1 9 (by decide)
  have e31 : M 8 31 = s.1 0 31 := pr_n hV.1 31 (by decide)
  unfold tw_isLost_56
  try simp only [cx_get, cx_put, cx_let]
  rw [e9]
  by_cases h9 : E.1 9 ≤ 0
  · have h9' : ¬ 0 < E.1 9 := by rw [i32_le] at h9; rw [i32_lt]; omega
    rw [if_pos h9, tw_isLost_74_s, e31]
    refine ⟨M, ?_, hV, pr_F.rf⟩
    unfold ps_rule
    simp only [h9', false_and, false_or]
  · have h9' : 0 < E.1 9 := by rw [i32_le] at h9; rw [i32_lt]; omega
    rw [if_neg h9]
    obtain ⟨M2, e2, hK2, ho⟩ := tw_ruleNow_s (x1 := 1) hN hE hV.2.2.1 (Or.inr ⟨rfl, h9'⟩)
    have e2' : tw_ruleNow N M 1 = some (M2, E.2.2.2 (M 22), 0) := by rw [e2, if_neg (by decide)]
    rw [px_cal e2']
    have hvw : E.2.2.2 (M 22) = E.2.2.2 (ps_view s.1) := hE.2.2.2.2.2 _ _ hv
    have o8 := ho 8 (by decide) (by decide) (by decide) (by decide)
    have o60 := ho 60 (by decide) (by decide) (by decide) (by decide)
    have hV2 : pr_V N E M2 s := by
      refine ⟨by rw [o8]; exact hV.1, by rw [o60]; exact hV.2.1, hK2, ?_⟩
      have := hV.2.2.2
      unfold pr_Q at this ⊢
      rw [o60]
      exact this
    have hF2 : pr_F M M2 := by
      refine ⟨fun c hc => ho c ?_ ?_ ?_ ?_, fun k _ => by rw [o60]⟩ <;> (intro e; rw [e] at hc; revert hc; decide)
    rw [hvw]
    by_cases hl : 0 < E.2.2.2 (ps_view s.1)
    · rw [if_pos hl]
      refine ⟨M2, ?_, hV2, hF2⟩
      unfold ps_rule
      simp only [h9', hl, and_self, true_or, ↓reduceIte]
    · rw [if_neg hl, tw_isLost_74_s]
      refine ⟨M2, ?_, hV2, hF2⟩
      unfold ps_rule
      simp only [hl, and_false, false_or]
      rw [o8, e31]
theorem tw_isOf_s {N : Nat} {M : cx_M} {x0 x1 : Int32} : tw_isOf N M x0 x1 = some (M, if ((x0 >>> (x1 &&& 31)) &&& 1) = 1 then 1 else 0, 0) := by
  unfold tw_isOf tw_isOf_0
  split <;> rfl
theorem tw_isLost_s {N : Nat} {E : ps_E} {M : cx_M} {s : ps_T} (hN : 5 ≤ N) (hE : ps_EO E) (hV : pr_V N E M s) (hv : ∀ k, k < 4 → M 22 k = ps_view s.1 k) : ∃ M', tw_isLost N M = some (M', if ps_isL E s = true then 1 else 0, 0) ∧ pr_V N E M' (ps_draw s) ∧ pr_F M M' := by
  obtain ⟨S, q⟩ := s
  have e25 : M 8 25 = S 0 25 := pr_n hV.1 25 (by decide)
  obtain ⟨M1, e1, hV1, hF1⟩ := tw_isLost_56_s hN hE hV hv
  have hq := hV.2.2.2
  unfold pr_Q at hq
  unfold tw_isLost tw_isLost_0
  try simp only [cx_get, cx_put, cx_let]
  cases q with
  | nil =>
    have e29 : M 60 29 = 0 := hq.1
    rw [e29, if_pos (by decide), e25]
    by_cases h25 : S 0 25 ≤ 0
    · have h25' : ¬ 0 < S 0 25 := by rw [i32_le] at h25; rw [i32_lt]; omega
      rw [if_pos h25]
      refine ⟨M1, ?_, ?_, hF1⟩
      · rw [e1]
        unfold ps_isL
        simp only [h25', decide_false, Bool.false_or, decide_eq_true_eq]
      · unfold ps_draw
        simp only [h25', ↓reduceIte]
        exact hV1
    · have h25' : 0 < S 0 25 := by rw [i32_le] at h25; rw [i32_lt]; omega
      rw [if_neg h25]
      try simp only [cx_get, cx_put, cx_let]
      refine ⟨cx_up M 8 25 (S 0 25 - 1), ?_, ?_, pr_F.up (c := 8) (by decide)⟩
      · unfold ps_isL
        simp only [h25', decide_true, Bool.true_or, ↓reduceIte]
        all_goals rfl
      · unfold ps_draw
        simp only [h25', ↓reduceIte]
        have := hV.up 25 (S 0 25 - 1) (c := 0) (k := 25) (by decide) (by decide)
        exact this
  | cons x q =>
    have hl : (x :: q).length = q.length + 1 := rfl
    have e29 : M 60 29 = nI (q.length + 1) := hq.1
    have h8 : q.length + 1 ≤ 8 := hq.2.1
    have hm1 : nI (q.length + 1) - 1 = nI q.length := nI_pred _
    have hpos : ¬ nI (q.length + 1) ≤ 0 := nI_nle (by omega) (by omega)
    rw [e29, if_neg hpos]
    try simp only [cx_get, cx_put, cx_let]
    simp (decide := true) only [px_up, false_and, and_false, true_and, and_true, ↓reduceIte]
    rw [hm1, px_cal tw_isOf_s]
    have hx := hq.2.2 0 (by rw [hl]; omega)
    rw [hl] at hx
    simp only [Nat.add_sub_cancel, Nat.sub_zero, List.getElem?_cons_zero, Option.some.injEq] at hx
    have hV2 : pr_V N E (cx_up M 60 29 (nI q.length)) (S, q) := by
      refine ⟨by rw [px_upc (by decide)]; exact hV.1, by rw [px_up, px_up, if_neg (by decide), if_neg (by decide)]; exact hV.2.1, hV.2.2.1.fr (fun c hc => px_upc (fun e => by rw [e] at hc; revert hc; decide)), ?_⟩
      refine ⟨by rw [px_up, if_pos ⟨rfl, rfl⟩], (show q.length ≤ 8 by omega), fun j hj => ?_⟩
      have hj' : j < q.length := hj
      rw [px_up, if_neg (by decide)]
      have := hq.2.2 (j + 1) (by rw [hl]; omega)
      rw [hl, List.getElem?_cons_succ, show q.length + 1 - 1 - (j + 1) = q.length - 1 - j by omega] at this
      exact this
    have hF2 : pr_F M (cx_up M 60 29 (nI q.length)) := by
      refine ⟨fun c hc => px_upc (fun e => by rw [e] at hc; revert hc; decide), fun k hk => ?_⟩
      rw [px_up, if_neg (fun z => hk z.2)]
    have hd : ps_draw (S, x :: q) = (S, q) := rfl
    rw [hd]
    by_cases hxt : x = true
    · rw [if_pos (hx.mpr hxt), if_neg (by decide)]
      refine ⟨_, ?_, hV2, hF2⟩
      unfold ps_isL
      simp only [hxt, Bool.true_or, ↓reduceIte]
    · rw [if_neg (fun z => hxt (hx.mp z)), if_pos rfl]
      obtain ⟨M3, e3, hV3, hF3⟩ := tw_isLost_56_s hN hE hV2 (by intro k hk; rw [px_upc (by decide)]; exact hv k hk)
      refine ⟨M3, ?_, hV3, hF2.tr hF3⟩
      rw [e3]
      unfold ps_isL
      simp only [Bool.not_eq_true] at hxt
      simp only [hxt, Bool.false_or, decide_eq_true_eq]
theorem tw_send_174_s {N : Nat} {E : ps_E} {M : cx_M} {s : ps_T} {d : Int32} (hV : pr_V N E M s) : ∃ M', tw_send_174 N M d = some (M', 0, 0) ∧ pr_V N E M' (cx_up (cx_up s.1 0 24 d) 0 2 (s.1 0 2 + 1), s.2) ∧ pr_F M M' := by
  unfold tw_send_174
  try simp only [cx_get, cx_put, cx_let]
  have h1 := hV.up 24 d (c := 0) (k := 24) (by decide) (by decide)
  have e2 : cx_up M 8 24 d 8 2 = s.1 0 2 := by rw [px_up, if_neg (by decide)]; exact pr_n hV.1 2 (by decide)
  rw [e2]
  exact ⟨_, rfl, h1.up 2 (s.1 0 2 + 1) (c := 0) (k := 2) (by decide) (by decide), (pr_F.up (by decide)).tr (pr_F.up (by decide))⟩
theorem pi_fl {x : Int32} (h0 : 0 ≤ x.toInt) (h1 : x.toInt < 1000) : ((33 : Int32) + (3 : Int32) * x).toInt = 33 + 3 * x.toInt := by
  have e3 : (3 : Int32).toInt = 3 := rfl
  have e33 : (33 : Int32).toInt = 33 := rfl
  have e : ((3 : Int32) * x).toInt = 3 * x.toInt := by rw [pi_mul (by rw [e3]; omega) (by rw [e3]; omega), e3]
  rw [i32_add (by omega) (by omega), e, e33]
theorem tw_send_75_s {N : Nat} {E : ps_E} {M : cx_M} {s : ps_T} {d : Int32} (hN : 5 ≤ N) (hE : ps_EO E) (hV : pr_V N E M s) (hv : ∀ k, k < 4 → M 22 k = ps_view s.1 k) (h31 : 0 ≤ (s.1 0 31).toInt ∧ (s.1 0 31).toInt ≤ 40) (hd : d = ps_delay E s.1) : ∃ M', tw_send_75 N M d = some (M', 0, 0) ∧ pr_V N E M' (ps_send E s) ∧ pr_F M M' := by
  obtain ⟨M1, e1, hV1, hF1⟩ := tw_isLost_s hN hE hV hv
  unfold tw_send_75
  rw [px_cal e1]
  unfold ps_send
  rw [← hd]
  have n (k : Nat) (hk : k < 33) (h25 : k ≠ 25) : M1 8 k = s.1 0 k := by rw [pr_n hV1.1 k hk, ps_draw_n s h25]
  by_cases hl : ps_isL E s = true
  · simp only [if_pos hl]
    rw [if_neg (by decide)]
    try simp only [cx_get, cx_put, cx_let]
    have h1 := hV1.up 3 (M1 8 3 + 1) (c := 0) (k := 3) (by decide) (by decide)
    obtain ⟨M2, e2, hV2, hF2⟩ := tw_send_174_s (d := d) h1
    refine ⟨M2, e2, ?_, (hF1.tr (pr_F.up (by decide))).tr hF2⟩
    rw [pr_n hV1.1 3 (by decide)] at hV2
    exact hV2
  · have h40 : (s.1 0 31).toInt < 40 := by
      have : s.1 0 31 ≠ 40 := by
        intro e
        apply hl
        unfold ps_isL
        split <;> simp [ps_rule, e]
      have h2 : (s.1 0 31).toInt ≠ 40 := fun e => this (i32_eq.mpr e)
      omega
    simp only [if_neg hl, if_true]
    try simp only [cx_get, cx_put, cx_let]
    rw [n 31 (by decide) (by decide)]
    have ei := pi_fl h31.1 (by omega)
    have e1' : ((33 : Int32) + (3 : Int32) * s.1 0 31 + 1).toInt = 34 + 3 * (s.1 0 31).toInt := by rw [i32_add (by rw [i32_1]; omega) (by rw [i32_1]; omega), ei, i32_1]; omega
    have e2c : (2 : Int32).toInt = 2 := rfl
    have e2' : ((33 : Int32) + (3 : Int32) * s.1 0 31 + 2).toInt = 35 + 3 * (s.1 0 31).toInt := by rw [i32_add (by omega) (by omega), ei, e2c]; omega
    have hp31 : pn (s.1 0 31) < 40 := by rw [pn_def]; omega
    have p0 : pn ((33 : Int32) + (3 : Int32) * s.1 0 31) = 33 + 3 * pn (s.1 0 31) + 0 := by rw [pn_def, pn_def]; omega
    have p1 : pn ((33 : Int32) + (3 : Int32) * s.1 0 31 + 1) = 33 + 3 * pn (s.1 0 31) + 1 := by rw [pn_def, pn_def]; omega
    have p2 : pn ((33 : Int32) + (3 : Int32) * s.1 0 31 + 2) = 33 + 3 * pn (s.1 0 31) + 2 := by rw [pn_def, pn_def]; omega
    rw [px_st (by omega) (by omega), px_st (by omega) (by omega), px_st (by omega) (by omega), p0, p1, p2]
    generalize hk : pn (s.1 0 31) = kk at hp31 ⊢
    have d31 : (ps_draw s).1 0 31 = s.1 0 31 := ps_draw_n s (by decide)
    have hA := hV1.up (33 + 3 * kk + 0) (M1 8 2) (by omega) (ps_c_fl hp31 (by decide))
    have q0 : cx_up M1 8 (33 + 3 * kk + 0) (M1 8 2) 8 0 = s.1 0 0 := by rw [px_up, if_neg (by omega)]; exact n 0 (by decide) (by decide)
    have q26 : cx_up M1 8 (33 + 3 * kk + 0) (M1 8 2) 8 26 = s.1 0 26 := by rw [px_up, if_neg (by omega)]; exact n 26 (by decide) (by decide)
    rw [q0, q26]
    have hB := hA.up (33 + 3 * kk + 1) (s.1 0 0 + d + s.1 0 26) (by omega) (ps_c_fl hp31 (by decide))
    have r0 : cx_up (cx_up M1 8 (33 + 3 * kk + 0) (M1 8 2)) 8 (33 + 3 * kk + 1) (s.1 0 0 + d + s.1 0 26) 8 0 = s.1 0 0 := by rw [px_up, if_neg (by omega)]; exact q0
    rw [r0]
    have hC := hB.up (33 + 3 * kk + 2) (s.1 0 0 &&& 255) (by omega) (ps_c_fl hp31 (by decide))
    have r31 : cx_up (cx_up (cx_up M1 8 (33 + 3 * kk + 0) (M1 8 2)) 8 (33 + 3 * kk + 1) (s.1 0 0 + d + s.1 0 26)) 8 (33 + 3 * kk + 2) (s.1 0 0 &&& 255) 8 31 = s.1 0 31 := by
      rw [px_up, if_neg (by omega), px_up, if_neg (by omega), px_up, if_neg (by omega)]
      exact n 31 (by decide) (by decide)
    rw [r31]
    have hD := hC.up 31 (s.1 0 31 + 1) (c := 0) (k := 31) (by decide) (by decide)
    obtain ⟨M2, e2, hV2, hF2⟩ := tw_send_174_s (d := d) hD
    refine ⟨M2, e2, ?_, ((((hF1.tr (pr_F.up (by decide))).tr (pr_F.up (by decide))).tr (pr_F.up (by decide))).tr (pr_F.up (by decide))).tr hF2⟩
    rw [n 2 (by decide) (by decide)] at hV2
    unfold ps_fly
    rw [d31, hk, ps_draw_n s (k := 2) (by decide), ps_draw_n s (k := 0) (by decide), ps_draw_n s (k := 26) (by decide)]
    exact hV2
theorem tw_send_s {N : Nat} {E : ps_E} {M : cx_M} {s : ps_T} (hN : 5 ≤ N) (hE : ps_EO E) (hV : pr_V N E M s) (h31 : 0 ≤ (s.1 0 31).toInt ∧ (s.1 0 31).toInt ≤ 40) : ∃ M', tw_send N M = some (M', 0, 0) ∧ pr_V N E M' (ps_send E s) ∧ pr_F M M' := by
  unfold tw_send tw_send_0
  try simp only [cx_get, cx_put, cx_let]
  simp (decide := true) only [px_up, false_and, and_false, true_and, and_true, ↓reduceIte]
  rw [pr_n hV.1 2 (by decide), pr_n hV.1 0 (by decide), pr_n hV.1 24 (by decide), pr_n hV.1 31 (by decide)]
  generalize hM : cx_up (cx_up (cx_up (cx_up M 22 0 (s.1 0 2)) 22 1 (s.1 0 0)) 22 2 (s.1 0 24)) 22 3 (s.1 0 31) = M8
  have hc : ∀ c, c ≠ 22 → M8 c = M c := fun c h => by rw [← hM, px_upc h, px_upc h, px_upc h, px_upc h]
  have hV8 : pr_V N E M8 s := hV.oth (fun c h => hc c (fun e => by rw [e] at h; revert h; decide))
  have hF8 : pr_F M M8 := ⟨fun c h => hc c (fun e => by rw [e] at h; revert h; decide), fun k _ => by rw [hc 60 (by decide)]⟩
  have hv : ∀ k, k < 4 → M8 22 k = ps_view s.1 k := by
    intro k hk
    rw [← hM]
    unfold ps_view
    match k, hk with
    | 0, _ => simp (decide := true) only [px_up, false_and, and_false, true_and, and_true, ↓reduceIte]
    | 1, _ => simp (decide := true) only [px_up, false_and, and_false, true_and, and_true, ↓reduceIte]
    | 2, _ => simp (decide := true) only [px_up, false_and, and_false, true_and, and_true, ↓reduceIte]
    | 3, _ => simp (decide := true) only [px_up, false_and, and_false, true_and, and_true, ↓reduceIte]
  have e8 : M 3 8 = E.1 8 := hV.2.2.1.1 8 (by decide)
  rw [e8]
  by_cases h8 : E.1 8 = 0
  · rw [if_pos h8]
    obtain ⟨M2, e2, hV2, hF2⟩ := tw_send_75_s (d := 3) hN hE hV8 hv h31 (by unfold ps_delay; rw [if_pos h8])
    exact ⟨M2, e2, hV2, hF8.tr hF2⟩
  · rw [if_neg h8]
    have hpos : 0 < E.1 8 := by
      rw [i32_lt, i32_0]
      have h0 := hE.2.2.2.1.1
      have : (E.1 8).toInt ≠ 0 := fun e => h8 (i32_eq.mpr e)
      omega
    obtain ⟨M1, e1, hK1, ho⟩ := tw_ruleNow_s (x1 := 0) hN hE hV8.2.2.1 (Or.inl ⟨rfl, hpos⟩)
    rw [px_cal e1, if_pos rfl, px_cal (show tw_within N M1 _ 0 60 = some (M1, _, 0) from rfl)]
    have o8 := ho 8 (by decide) (by decide) (by decide) (by decide)
    have o60 := ho 60 (by decide) (by decide) (by decide) (by decide)
    have hV1 : pr_V N E M1 s := by
      refine ⟨by rw [o8]; exact hV8.1, by rw [o60]; exact hV8.2.1, hK1, ?_⟩
      have := hV8.2.2.2
      unfold pr_Q at this ⊢
      rw [o60]
      exact this
    have hF1 : pr_F M8 M1 := by
      refine ⟨fun c hc => ho c ?_ ?_ ?_ ?_, fun k _ => by rw [o60]⟩ <;> (intro e; rw [e] at hc; revert hc; decide)
    obtain ⟨M2, e2, hV2, hF2⟩ := tw_send_75_s (d := cx_max 0 (cx_min 60 (E.2.2.1 (M8 22)))) hN hE hV1 (by intro k hk; rw [ho 22 (by decide) (by decide) (by decide) (by decide)]; exact hv k hk) h31 (by unfold ps_delay; rw [if_neg h8, hE.2.2.2.2.1 _ _ hv])
    exact ⟨M2, e2, hV2, (hF8.tr hF1).tr hF2⟩
theorem tw_make_s {N : Nat} {E : ps_E} {p c : Int} (hN : 5 ≤ N) (hE : ps_EO E) : ∀ (n m : Nat) (M : cx_M) (s : ps_T) (a : Int), pr_V N E M s → ps_J E s.1 a p c → a + n ≤ 90000 → 0 ≤ (s.1 0 22).toInt → (s.1 0 22).toInt < 1000 * (n + 1) → n < m →
    ∃ M', tw_makeOctets_21 N m M = some (M', 0, 0) ∧ pr_V N E M' (ps_make E n s) ∧ pr_F M M' := by
  have hk : (1000 : Int32).toInt = 1000 := rfl
  have hE0 : E.1 0 ≠ 0 := by
    intro e
    have h1 := hE.1.1
    rw [e] at h1
    revert h1
    decide
  have stop : ∀ (m : Nat) (M : cx_M) (s : ps_T), pr_V N E M s → s.1 0 22 < 1000 → tw_makeOctets_21 N (m + 1) M = some (M, 0, 0) := by
    intro m M s hV h
    show tw_makeOctets_21b N (tw_makeOctets_21 N m) M = _
    unfold tw_makeOctets_21b
    try simp only [cx_get, cx_put, cx_let]
    rw [pr_n hV.1 22 (by decide), if_pos h]
  intro n
  induction n with
  | zero =>
    intro m M s a hV hJ ha h0 h1 hm
    obtain ⟨m, rfl⟩ : ∃ k, m = k + 1 := ⟨m - 1, by omega⟩
    exact ⟨M, stop m M s hV (by rw [i32_lt, hk]; omega), hV, pr_F.rf⟩
  | succ n ih =>
    intro m M s a hV hJ ha h0 h1 hm
    obtain ⟨m, rfl⟩ : ∃ k, m = k + 1 := ⟨m - 1, by omega⟩
    by_cases h : s.1 0 22 < 1000
    · refine ⟨M, stop m M s hV h, ?_, pr_F.rf⟩
      unfold ps_make
      rw [if_pos h]
      exact hV
    · have h' := h
      rw [i32_lt, hk] at h'
      have hr := i32_rng (s.1 0 22)
      have e22 : (s.1 0 22 - 1000).toInt = (s.1 0 22).toInt - 1000 := by rw [i32_sub (by omega) (by omega), hk]
      have hn0 := hJ.1
      unfold ps_Jn at hn0
      have hA := hV.up 22 (s.1 0 22 - 1000) (c := 0) (k := 22) (by decide) (by decide)
      have hB := hA.up 1 (s.1 0 1 + 1) (c := 0) (k := 1) (by decide) (by decide)
      have hJA : ps_J E (cx_up s.1 0 22 (s.1 0 22 - 1000)) a p c := ps_J_up _ (by decide) hJ
      have hJm := ps_made_J (s := (cx_up s.1 0 22 (s.1 0 22 - 1000), s.2)) hJA (by omega)
      have hm22 : (ps_made E (cx_up s.1 0 22 (s.1 0 22 - 1000), s.2)).1 0 22 = s.1 0 22 - 1000 := by
        rw [ps_made_0 (by decide)]
        simp (decide := true) only [px_up, false_and, and_false, true_and, and_true, ↓reduceIte]
      have hFB : pr_F M (cx_up (cx_up M 8 22 (s.1 0 22 - 1000)) 8 1 (s.1 0 1 + 1)) := (pr_F.up (by decide)).tr (pr_F.up (by decide))
      have body : ∃ M1, tw_makeOctets_21 N (m + 1) M = tw_makeOctets_21 N m M1 ∧ pr_V N E M1 (ps_made E (cx_up s.1 0 22 (s.1 0 22 - 1000), s.2)) ∧ pr_F M M1 := by
        show ∃ M1, tw_makeOctets_21b N (tw_makeOctets_21 N m) M = _ ∧ _
        unfold tw_makeOctets_21b
        try simp only [cx_get, cx_put, cx_let]
        rw [pr_n hV.1 22 (by decide), if_neg h]
        have q1 : cx_up M 8 22 (s.1 0 22 - 1000) 8 1 = s.1 0 1 := by rw [px_up, if_neg (by decide)]; exact pr_n hV.1 1 (by decide)
        rw [q1]
        have q2 : cx_up (cx_up M 8 22 (s.1 0 22 - 1000)) 8 1 (s.1 0 1 + 1) 8 1 = s.1 0 1 + 1 := by rw [px_up, if_pos ⟨rfl, rfl⟩]
        have q3 : cx_up (cx_up M 8 22 (s.1 0 22 - 1000)) 8 1 (s.1 0 1 + 1) 3 0 = E.1 0 := hB.2.2.1.1 0 (by decide)
        rw [q2, q3, px_nz hE0]
        unfold ps_made
        have q4 : cx_up (cx_up s.1 0 22 (s.1 0 22 - 1000)) 0 1 (cx_up s.1 0 22 (s.1 0 22 - 1000) 0 1 + 1) 0 1 = s.1 0 1 + 1 := by
          simp (decide := true) only [px_up, false_and, and_false, true_and, and_true, ↓reduceIte]
        have q5 : cx_up s.1 0 22 (s.1 0 22 - 1000) 0 1 = s.1 0 1 := by
          simp (decide := true) only [px_up, false_and, and_false, true_and, and_true, ↓reduceIte]
        simp only [q4]
        rw [q5]
        by_cases hd : cx_rem (s.1 0 1 + 1) (E.1 0) = 0
        · rw [if_pos hd, if_pos hd]
          obtain ⟨M2, e2, hV2, hF2⟩ := tw_send_s hN hE hB (by simp (decide := true) only [px_up, false_and, and_false, true_and, and_true, ↓reduceIte]; omega)
          rw [px_cal e2]
          exact ⟨M2, rfl, hV2, hFB.tr hF2⟩
        · rw [if_neg hd, if_neg hd]
          exact ⟨_, rfl, hB, hFB⟩
      obtain ⟨M1, e1, hV1, hF1⟩ := body
      obtain ⟨M2, e2, hV2, hF2⟩ := ih m M1 _ (a + 1) hV1 hJm (by omega) (by rw [hm22, e22]; omega) (by rw [hm22, e22]; omega) (by omega)
      refine ⟨M2, by rw [e1, e2], ?_, hF1.tr hF2⟩
      unfold ps_make
      rw [if_neg h]
      exact hV2
theorem tw_makeOctets_s {N : Nat} {E : ps_E} {M : cx_M} {s : ps_T} {a p c : Int} (hN : 5 ≤ N) (hE : ps_EO E) (hV : pr_V N E M s) (hJ : ps_J E s.1 a p c) (ha : a + 3 ≤ 90000) (h22 : 0 ≤ (s.1 0 22).toInt ∧ (s.1 0 22).toInt < 1000) : ∃ M', tw_makeOctets N M = some (M', 0, 0) ∧ pr_V N E M' (ps_far E s) ∧ pr_F M M' := by
  have hk : (1000 : Int32).toInt = 1000 := rfl
  have hn0 := hJ.1
  unfold ps_Jn at hn0
  have e1 : ((1000 : Int32) + s.1 0 27).toInt = 1000 + (s.1 0 27).toInt := by rw [i32_add (by omega) (by omega), hk]
  have e2 : (s.1 0 22 + ((1000 : Int32) + s.1 0 27)).toInt = (s.1 0 22).toInt + (1000 + (s.1 0 27).toInt) := by rw [i32_add (by omega) (by omega), e1]
  unfold tw_makeOctets tw_makeOctets_0
  try simp only [cx_get, cx_put, cx_let]
  rw [pr_n hV.1 22 (by decide), pr_n hV.1 27 (by decide)]
  have hA := hV.up 22 (s.1 0 22 + ((1000 : Int32) + s.1 0 27)) (c := 0) (k := 22) (by decide) (by decide)
  obtain ⟨M1, e, hV1, hF1⟩ := tw_make_s (p := p) (c := c) hN hE 3 N _ _ a hA (ps_J_up _ (by decide) hJ) ha (by simp (decide := true) only [px_up, false_and, and_false, true_and, and_true, ↓reduceIte]; omega) (by simp (decide := true) only [px_up, false_and, and_false, true_and, and_true, ↓reduceIte]; omega) (by omega)
  exact ⟨M1, e, hV1, (pr_F.up (by decide)).tr hF1⟩
/-! what comes -/
theorem tw_spot_s {N : Nat} {E : ps_E} {M : cx_M} {s : ps_T} (hE : ps_EO E) (hV : pr_V N E M s) : tw_spotNow N M = some (M, s.1 0 14 / E.1 0, 0) := by
  have e0 : M 3 0 = E.1 0 := hV.2.2.1.1 0 (by decide)
  rw [tw_spotNow_eq, pr_n hV.1 14 (by decide), e0]
  rw [e0]
  intro e
  have h1 := hE.1.1
  rw [e] at h1
  revert h1
  decide
theorem pi_addk {k : Nat} {x : Int32} (hk : k < 1000) (h0 : 0 ≤ x.toInt) (h1 : x.toInt < 1000) : 0 ≤ (nI k + x).toInt ∧ (nI k + x).toInt < k + 1000 ∧ pn (nI k + x) = k + pn x := by
  have ek := pi_nI (n := k) (by omega)
  have e : (nI k + x).toInt = k + x.toInt := by rw [i32_add (by omega) (by omega), ek]
  rw [pn_def, pn_def, e]
  omega
theorem pr_lay_s {N : Nat} {E : ps_E} {M : cx_M} {s : ps_T} {n sp p st : Int32} (hV : pr_V N E M s) (hn : 0 ≤ n.toInt ∧ n.toInt < 64) :
    ∃ M', (cx_st M 8 665 ((153 : Int32) + n) p fun M7 => cx_st M7 8 665 ((217 : Int32) + n) sp fun M8 => cx_get M8 8 18 fun v9 => if v9 < sp then (cx_get M8 8 17 fun v10 => cx_put M8 8 21 (sp - v10) fun M11 => cx_get M11 8 20 fun v12 => cx_get M11 8 19 fun v13 => cx_put M11 8 20 (v12 + ((st - v13) &&& 255)) fun M14 => cx_put M14 8 18 sp fun M15 => cx_put M15 8 19 st fun M16 => some (M16, 0, 0)) else some (M8, 0, 0)) = some (M', 0, 0) ∧ pr_V N E M' (ps_lay s.1 n sp p st, s.2) ∧ pr_F M M' := by
  obtain ⟨a0, a1, a2⟩ := pi_addk (k := 153) (x := n) (by decide) hn.1 (by omega)
  obtain ⟨b0, b1, b2⟩ := pi_addk (k := 217) (x := n) (by decide) hn.1 (by omega)
  have hpn : pn n < 64 := by rw [pn_def]; omega
  have c153 : ((153 : Int32) + n).toInt < 665 := by
    have e : (153 : Int32).toInt = 153 := rfl
    rw [i32_add (by omega) (by omega), e]; omega
  have c217 : ((217 : Int32) + n).toInt < 665 := by
    have e : (217 : Int32).toInt = 217 := rfl
    rw [i32_add (by omega) (by omega), e]; omega
  rw [px_st (show 0 ≤ ((153 : Int32) + n).toInt from a0) c153, px_st (show 0 ≤ ((217 : Int32) + n).toInt from b0) c217, show pn ((153 : Int32) + n) = 153 + pn n from a2, show pn ((217 : Int32) + n) = 217 + pn n from b2]
  have hA := hV.up (153 + pn n) p (by omega) (ps_c_4 hpn)
  have hB := hA.up (217 + pn n) sp (by omega) (ps_c_5 hpn)
  try simp only [cx_get, cx_put, cx_let]
  have g (k : Nat) (hk : k < 33) : cx_up (cx_up M 8 (153 + pn n) p) 8 (217 + pn n) sp 8 k = s.1 0 k := by
    rw [pr_n hB.1 k hk]
    simp (decide := true) only [px_up, false_and, and_false, true_and, and_true, ↓reduceIte]
  rw [g 18 (by decide)]
  unfold ps_lay
  by_cases h : s.1 0 18 < sp
  · simp only [if_pos h]
    rw [g 17 (by decide)]
    have hC := hB.up 21 (sp - s.1 0 17) (c := 0) (k := 21) (by decide) (by decide)
    have q20 : cx_up (cx_up (cx_up M 8 (153 + pn n) p) 8 (217 + pn n) sp) 8 21 (sp - s.1 0 17) 8 20 = s.1 0 20 := by rw [px_up, if_neg (by decide), g 20 (by decide)]
    have q19 : cx_up (cx_up (cx_up M 8 (153 + pn n) p) 8 (217 + pn n) sp) 8 21 (sp - s.1 0 17) 8 19 = s.1 0 19 := by rw [px_up, if_neg (by decide), g 19 (by decide)]
    rw [q20, q19]
    have hD := hC.up 20 (s.1 0 20 + ((st - s.1 0 19) &&& 255)) (c := 0) (k := 20) (by decide) (by decide)
    have hE' := hD.up 18 sp (c := 0) (k := 18) (by decide) (by decide)
    have hF' := hE'.up 19 st (c := 0) (k := 19) (by decide) (by decide)
    exact ⟨_, rfl, hF', (((((pr_F.up (by decide)).tr (pr_F.up (by decide))).tr (pr_F.up (by decide))).tr (pr_F.up (by decide))).tr (pr_F.up (by decide))).tr (pr_F.up (by decide))⟩
  · simp only [if_neg h]
    exact ⟨_, rfl, hB, (pr_F.up (by decide)).tr (pr_F.up (by decide))⟩
theorem tw_come_100_s {N : Nat} {E : ps_E} {M : cx_M} {s : ps_T} {n p st : Int32} (hE : ps_EO E) (hV : pr_V N E M s) (hn : 0 ≤ n.toInt ∧ n.toInt < 64) : ∃ M', tw_come_100 N M p st n = some (M', 0, 0) ∧ pr_V N E M' (ps_come2 E s.1 n p st, s.2) ∧ pr_F M M' := by
  have hs := tw_spot_s hE hV
  unfold tw_come_100
  rw [px_cal hs]
  unfold ps_come2
  try simp only [cx_get, cx_put, cx_let]
  try dsimp only
  by_cases h32 : cx_rem (n - cx_rem (s.1 0 14 / E.1 0) 64 + 64) 64 < 32
  · rw [if_pos h32, if_pos h32]
    by_cases h16 : cx_rem (n - cx_rem (s.1 0 14 / E.1 0) 64 + 64) 64 < 16
    · rw [if_pos h16, if_pos h16, px_cal hs]
      exact pr_lay_s hV hn
    · rw [if_neg h16, if_neg h16]
      try simp only [cx_get, cx_put, cx_let]
      rw [pr_n hV.1 5 (by decide)]
      exact ⟨_, rfl, (hV.up 5 (s.1 0 5 + 1) (c := 0) (k := 5) (by decide) (by decide)).free 35 1 (by decide), pr_F.up (by decide)⟩
  · rw [if_neg h32, if_neg h32]
    try simp only [cx_get, cx_put, cx_let]
    rw [pr_n hV.1 4 (by decide)]
    exact ⟨_, rfl, (hV.up 4 (s.1 0 4 + 1) (c := 0) (k := 4) (by decide) (by decide)).free 35 1 (by decide), pr_F.up (by decide)⟩
theorem tw_come_s {N : Nat} {E : ps_E} {M : cx_M} {s : ps_T} {p st : Int32} (hE : ps_EO E) (hV : pr_V N E M s) (hp : 0 ≤ p.toInt) : ∃ M', tw_come N M p st = some (M', 0, 0) ∧ pr_V N E M' (ps_come E s.1 p st, s.2) ∧ pr_F M M' := by
  have hr := pi_rem64 hp
  have hn : 0 ≤ (cx_rem p 64).toInt ∧ (cx_rem p 64).toInt < 64 := by omega
  unfold tw_come tw_come_0 ps_come
  try simp only [cx_get, cx_put, cx_let]
  rw [pr_n hV.1 8 (by decide)]
  by_cases h8 : s.1 0 8 = 0
  · rw [if_pos h8, if_pos h8]
    have e0 : M 3 0 = E.1 0 := hV.2.2.1.1 0 (by decide)
    rw [e0]
    have q14 : cx_up (cx_up (cx_up M 8 14 (E.1 0 * cx_rem p 64)) 8 8 1) 8 16 p 8 14 = E.1 0 * cx_rem p 64 := by
      simp (decide := true) only [px_up, false_and, and_false, true_and, and_true, ↓reduceIte]
    rw [q14]
    have h1 := hV.up 14 (E.1 0 * cx_rem p 64) (c := 0) (k := 14) (by decide) (by decide)
    have h2 := h1.up 8 1 (c := 0) (k := 8) (by decide) (by decide)
    have h3 := h2.up 16 p (c := 0) (k := 16) (by decide) (by decide)
    have h4 := h3.up 15 (E.1 0 * cx_rem p 64) (c := 0) (k := 15) (by decide) (by decide)
    have h5 := h4.up 17 (cx_rem p 64) (c := 0) (k := 17) (by decide) (by decide)
    have h6 := h5.up 18 (cx_rem p 64) (c := 0) (k := 18) (by decide) (by decide)
    have h7 := h6.up 19 st (c := 0) (k := 19) (by decide) (by decide)
    have h8 := h7.up 20 0 (c := 0) (k := 20) (by decide) (by decide)
    have h9 := h8.up 21 0 (c := 0) (k := 21) (by decide) (by decide)
    obtain ⟨M2, e2, hV2, hF2⟩ := tw_come_100_s (p := p) (st := st) hE h9 hn
    refine ⟨M2, e2, hV2, ?_⟩
    exact ((((((((((pr_F.up (by decide)).tr (pr_F.up (by decide))).tr (pr_F.up (by decide))).tr (pr_F.up (by decide))).tr (pr_F.up (by decide))).tr (pr_F.up (by decide))).tr (pr_F.up (by decide))).tr (pr_F.up (by decide))).tr (pr_F.up (by decide)))).tr hF2
  · rw [if_neg h8, if_neg h8]
    exact tw_come_100_s hE hV hn
theorem tw_recv_wipe {N : Nat} {E : ps_E} {l k : Nat} {x2 : Int32} (hk : k ≤ 40) (hl : l ≤ k) : ∀ (j n : Nat) (M : cx_M) (s : ps_T), pr_V N E M (ps_wipe s.1 l k, s.2) ∨ True → (∀ q, q < 665 → (33 + 3 * l ≤ q ∧ q < 33 + 3 * k - j → M 8 q = 0) ∧ (¬ (33 + 3 * l ≤ q ∧ q < 33 + 3 * k - j) → M 8 q = s.1 (ps_c q) (ps_k q))) → j ≤ 3 * (k - l) → j < n →
    ∃ M', tw_receive_137 N n M (nI k) x2 (nI (33 + 3 * k - j)) = some (cx_up M' 8 31 x2, 0, 0) ∧ pr_R (M' 8) (ps_wipe s.1 l k) ∧ ∀ c, c ≠ 8 → M' c = M c := by
  have e3 : ((33 : Int32) + (3 : Int32) * nI k) = nI (33 + 3 * k) := by
    rw [i32_eq, pi_fl (by rw [pi_nI (by omega)]; omega) (by rw [pi_nI (by omega)]; omega), pi_nI (by omega), pi_nI (by omega)]
    omega
  intro j
  induction j with
  | zero =>
    intro n M s _ h hj hn
    obtain ⟨m, rfl⟩ : ∃ m, n = m + 1 := ⟨n - 1, by omega⟩
    refine ⟨M, ?_, ?_, fun _ _ => rfl⟩
    · show tw_receive_137b N (tw_receive_137 N m) M (nI k) x2 (nI (33 + 3 * k - 0)) = _
      unfold tw_receive_137b
      try simp only [cx_get, cx_put, cx_let]
      rw [e3, if_pos (nI_le (by omega) (by omega))]
    · intro q hq
      obtain ⟨ha, hb⟩ := h q hq
      unfold ps_wipe
      by_cases c : 33 + 3 * l ≤ q ∧ q < 33 + 3 * k - 0
      · rw [ha c, if_pos]
        unfold ps_c ps_k
        rw [if_neg (by omega), if_pos (by omega), if_neg (by omega), if_pos (by omega)]
        omega
      · rw [hb c, if_neg]
        unfold ps_c ps_k
        intro hx
        by_cases c1 : q < 33
        · rw [if_pos c1] at hx; omega
        · rw [if_neg c1, if_neg c1] at hx
          by_cases c2 : q < 153
          · rw [if_pos c2, if_pos c2] at hx; omega
          · rw [if_neg c2] at hx
            revert hx
            split
            · omega
            · split
              · omega
              · split
                · omega
                · split <;> omega
  | succ j ih =>
    intro n M s _ h hj hn
    obtain ⟨m, rfl⟩ : ∃ m, n = m + 1 := ⟨n - 1, by omega⟩
    have e1 : nI (33 + 3 * k - (j + 1)) + 1 = nI (33 + 3 * k - j) := by rw [← nI_succ]; congr 1; omega
    have et := pi_nI (n := 33 + 3 * k - (j + 1)) (by omega)
    have ep : pn (nI (33 + 3 * k - (j + 1))) = 33 + 3 * k - (j + 1) := by rw [pn_def, et]; omega
    obtain ⟨M', e, hR, ho⟩ := ih m (cx_up M 8 (33 + 3 * k - (j + 1)) 0) s (Or.inr trivial) (by
      intro q hq
      rw [px_up]
      obtain ⟨ha, hb⟩ := h q hq
      by_cases c : q = 33 + 3 * k - (j + 1)
      · rw [if_pos ⟨rfl, c⟩]
        exact ⟨fun _ => rfl, fun z => absurd (by omega) z⟩
      · rw [if_neg (fun z => c z.2)]
        exact ⟨fun z => ha (by omega), fun z => hb (by omega)⟩) (by omega) (by omega)
    refine ⟨M', ?_, hR, fun c hc => by rw [ho c hc, px_upc hc]⟩
    show tw_receive_137b N (tw_receive_137 N m) M (nI k) x2 (nI (33 + 3 * k - (j + 1))) = _
    unfold tw_receive_137b
    try simp only [cx_get, cx_put, cx_let]
    rw [e3, if_neg (nI_ge (by omega) (by omega)), px_st (by omega) (by omega), ep, e1]
    exact e
theorem tw_recv_s {N : Nat} {E : ps_E} {a p : Int} (hN : 130 ≤ N) (hE : ps_EO E) : ∀ (m k l n : Nat) (M : cx_M) (s : ps_T) (c : Int), pr_V N E M s → ps_J E s.1 a p c → c + m ≤ 2000000 → pn (s.1 0 31) = k + m → l ≤ k → m < n →
    ∃ M', tw_receive_12 N n M (nI (k + m)) (nI l) (nI k) = some (M', 0, 0) ∧ pr_V N E M' (ps_recv E m k l s.1, s.2) ∧ pr_F M M' := by
  intro m
  induction m with
  | zero =>
    intro k l n M s c hV hJ hc h31 hl hn
    obtain ⟨n, rfl⟩ : ∃ j, n = j + 1 := ⟨n - 1, by omega⟩
    have hk : k ≤ 40 := by
      have := hJ.1
      unfold ps_Jn at this
      rw [pn_def] at h31
      omega
    have e3 : ((33 : Int32) + (3 : Int32) * nI l) = nI (33 + 3 * k - 3 * (k - l)) := by
      rw [i32_eq, pi_fl (by rw [pi_nI (by omega)]; omega) (by rw [pi_nI (by omega)]; omega), pi_nI (by omega), pi_nI (by omega)]
      omega
    obtain ⟨M1, e1, hR, ho⟩ := tw_recv_wipe (N := N) (E := E) (x2 := nI l) hk hl (3 * (k - l)) N M s (Or.inr trivial) (fun q hq => ⟨fun z => by omega, fun _ => hV.1 q hq⟩) (by omega) (by omega)
    have hV1 : pr_V N E M1 (ps_wipe s.1 l k, s.2) := by
      refine ⟨hR, ?_, hV.2.2.1.fr (fun c hc => ho c (fun e => by rw [e] at hc; revert hc; decide)), ?_⟩
      · rw [ho 60 (by decide)]
        show M 60 24 = ps_wipe s.1 l k 0 33 ∧ M 60 25 = ps_wipe s.1 l k 0 34
        rw [ps_wipe_c (Or.inl rfl)]
        exact hV.2.1
      · have := hV.2.2.2
        unfold pr_Q at this ⊢
        rw [ho 60 (by decide)]
        exact this
    refine ⟨cx_up M1 8 31 (nI l), ?_, ?_, ?_⟩
    · show tw_receive_12b N (tw_receive_12 N n) M (nI (k + 0)) (nI l) (nI k) = _
      unfold tw_receive_12b
      try simp only [cx_get, cx_put, cx_let]
      rw [if_pos (nI_le (by omega) (by omega)), e3]
      exact e1
    · exact hV1.up 31 (nI l) (c := 0) (k := 31) (by decide) (by decide)
    · refine pr_F.tr ⟨fun c hc => ho c (fun e => by rw [e] at hc; revert hc; decide), fun j _ => by rw [ho 60 (by decide)]⟩ (pr_F.up (by decide))
  | succ m ih =>
    intro k l n M s c hV hJ hc h31 hl hn
    obtain ⟨n, rfl⟩ : ∃ j, n = j + 1 := ⟨n - 1, by omega⟩
    have hk40 : k + (m + 1) ≤ 40 := by
      have := hJ.1
      unfold ps_Jn at this
      rw [pn_def] at h31
      omega
    have hfl := hJ.2.1 k (by omega)
    have tk := pi_nI (n := k) (by omega)
    have tl := pi_nI (n := l) (by omega)
    have ei := pi_fl (x := nI k) (by omega) (by omega)
    have el := pi_fl (x := nI l) (by omega) (by omega)
    have e2c : (2 : Int32).toInt = 2 := rfl
    have ei1 : ((33 : Int32) + (3 : Int32) * nI k + 1).toInt = 34 + 3 * k := by rw [i32_add (by rw [i32_1]; omega) (by rw [i32_1]; omega), ei, i32_1]; omega
    have ei2 : ((33 : Int32) + (3 : Int32) * nI k + 2).toInt = 35 + 3 * k := by rw [i32_add (by omega) (by omega), ei, e2c]; omega
    have el1 : ((33 : Int32) + (3 : Int32) * nI l + 1).toInt = 34 + 3 * l := by rw [i32_add (by rw [i32_1]; omega) (by rw [i32_1]; omega), el, i32_1]; omega
    have el2 : ((33 : Int32) + (3 : Int32) * nI l + 2).toInt = 35 + 3 * l := by rw [i32_add (by omega) (by omega), el, e2c]; omega
    have a0 : pn ((33 : Int32) + (3 : Int32) * nI k) = 33 + 3 * k + 0 := by rw [pn_def]; omega
    have a1 : pn ((33 : Int32) + (3 : Int32) * nI k + 1) = 33 + 3 * k + 1 := by rw [pn_def]; omega
    have a2 : pn ((33 : Int32) + (3 : Int32) * nI k + 2) = 33 + 3 * k + 2 := by rw [pn_def]; omega
    have b0 : pn ((33 : Int32) + (3 : Int32) * nI l) = 33 + 3 * l + 0 := by rw [pn_def]; omega
    have b1 : pn ((33 : Int32) + (3 : Int32) * nI l + 1) = 33 + 3 * l + 1 := by rw [pn_def]; omega
    have b2 : pn ((33 : Int32) + (3 : Int32) * nI l + 2) = 33 + 3 * l + 2 := by rw [pn_def]; omega
    have r0 : M 8 (33 + 3 * k + 0) = s.1 1 k := pr_at hV.1 (by omega) (ps_c_fl (by omega) (by decide))
    have r1 : M 8 (33 + 3 * k + 1) = s.1 2 k := pr_at hV.1 (by omega) (ps_c_fl (by omega) (by decide))
    have r2 : M 8 (33 + 3 * k + 2) = s.1 3 k := pr_at hV.1 (by omega) (ps_c_fl (by omega) (by decide))
    have nx : nI k + 1 = nI (k + 1) := (nI_succ k).symm
    have nl : nI l + 1 = nI (l + 1) := (nI_succ l).symm
    show ∃ M', tw_receive_12b N (tw_receive_12 N n) M (nI (k + (m + 1))) (nI l) (nI k) = _ ∧ _
    unfold tw_receive_12b tw_receive_124
    try simp only [cx_get, cx_put, cx_let]
    rw [if_neg (nI_ge (by omega) (by omega)), px_ld (by omega) (by omega), px_ld (by omega) (by omega), px_ld (by omega) (by omega), a0, a1, a2, r0, r1, r2, pr_n hV.1 0 (by decide), nx]
    rw [show k + (m + 1) = k + 1 + m by omega]
    unfold ps_recv
    by_cases hle : s.1 2 k ≤ s.1 0 0
    · have hlt : ¬ s.1 0 0 < s.1 2 k := by rw [i32_le] at hle; rw [i32_lt]; omega
      rw [if_neg hlt, if_pos hle]
      obtain ⟨M1, e1, hV1, hF1⟩ := tw_come_s (p := s.1 1 k) (st := s.1 3 k) hE hV hfl.1.1
      rw [px_cal e1]
      obtain ⟨M2, e2, hV2, hF2⟩ := ih (k + 1) l n M1 _ (c + 1) hV1 (ps_come_J hE hJ hfl.1 hfl.2 (by omega)) (by omega) (by show pn (ps_come E s.1 (s.1 1 k) (s.1 3 k) 0 31) = _; rw [ps_come_0 (by decide)]; omega) (by omega) (by omega)
      exact ⟨M2, e2, hV2, hF1.tr hF2⟩
    · have hlt : s.1 0 0 < s.1 2 k := by rw [i32_le] at hle; rw [i32_lt]; omega
      rw [if_pos hlt, if_neg hle, px_st (by omega) (by omega), px_st (by omega) (by omega), px_st (by omega) (by omega), b0, b1, b2, nl]
      have hA := hV.up (33 + 3 * l + 0) (s.1 1 k) (by omega) (ps_c_fl (by omega) (by decide))
      have hB := hA.up (33 + 3 * l + 1) (s.1 2 k) (by omega) (ps_c_fl (by omega) (by decide))
      have hC := hB.up (33 + 3 * l + 2) (s.1 3 k) (by omega) (ps_c_fl (by omega) (by decide))
      have h0 : ps_move s.1 k l 0 = s.1 0 := ps_move_c (Or.inl rfl)
      have hJm : ps_J E (ps_move s.1 k l) a p c := by
        obtain ⟨hn', hf, hsl, hb⟩ := hJ
        refine ⟨?_, ?_, ?_, ?_⟩
        · unfold ps_Jn at hn' ⊢
          rw [h0]
          exact hn'
        · intro j hj
          rw [h0] at hj
          unfold ps_move
          simp (decide := true) only [px_up, false_and, and_false, true_and, and_true, ↓reduceIte]
          by_cases ej : j = l
          · simp only [ej, and_self, ↓reduceIte, true_and]
            exact hfl
          · simp only [ej, and_false, ↓reduceIte]
            exact hf j hj
        · unfold ps_Js at hsl ⊢
          rw [h0, ps_move_c (by omega), ps_move_c (by omega)]
          exact hsl
        · unfold ps_Jb at hb ⊢
          rw [ps_move_c (by omega)]
          exact hb
      obtain ⟨M2, e2, hV2, hF2⟩ := ih (k + 1) (l + 1) n _ (ps_move s.1 k l, s.2) c hC hJm (by omega) (by show pn (ps_move s.1 k l 0 31) = _; rw [h0]; omega) (by omega) (by omega)
      exact ⟨M2, e2, hV2, (((pr_F.up (by decide)).tr (pr_F.up (by decide))).tr (pr_F.up (by decide))).tr hF2⟩
theorem tw_receive_s {N : Nat} {E : ps_E} {M : cx_M} {s : ps_T} {a p c : Int} (hN : 130 ≤ N) (hE : ps_EO E) (hV : pr_V N E M s) (hJ : ps_J E s.1 a p c) (hc : c + 40 ≤ 2000000) : ∃ M', tw_receive N M = some (M', 0, 0) ∧ pr_V N E M' (ps_recv E (pn (s.1 0 31)) 0 0 s.1, s.2) ∧ pr_F M M' := by
  have hn0 := hJ.1
  unfold ps_Jn at hn0
  have h40 : pn (s.1 0 31) ≤ 40 := by rw [pn_def]; omega
  obtain ⟨M1, e1, h1⟩ := tw_recv_s hN hE (pn (s.1 0 31)) 0 0 N M s c hV hJ (by omega) (by omega) (by omega) (by omega)
  refine ⟨M1, ?_, h1⟩
  unfold tw_receive tw_receive_0
  try simp only [cx_get, cx_put, cx_let]
  rw [pr_n hV.1 31 (by decide), pn_nI (x := s.1 0 31) (by omega)]
  rw [Nat.zero_add] at e1
  exact e1
/-! the level, steering -/
theorem tw_level_74_s {N : Nat} {E : ps_E} {M : cx_M} {s : ps_T} (hV : pr_V N E M s) {h : Int32} : tw_levelNow_74 N M h = some (M, if h = -1 then 0 else (h + 1) * E.1 0 - s.1 0 14, 0) := by
  have e0 : M 3 0 = E.1 0 := hV.2.2.1.1 0 (by decide)
  unfold tw_levelNow_74
  try simp only [cx_get, cx_put, cx_let]
  rw [e0, pr_n hV.1 14 (by decide)]
  split <;> rfl
theorem tw_level_s {N : Nat} {E : ps_E} {M : cx_M} {s : ps_T} (hN : 65 ≤ N) (hE : ps_EO E) (hV : pr_V N E M s) : tw_levelNow N M = some (M, ps_level E s.1, 0) := by
  have hs := tw_spot_s hE hV
  unfold tw_levelNow tw_levelNow_0
  rw [px_cal hs]
  have h8 : M 8 8 = s.1 0 8 := pr_n hV.1 8 (by decide)
  have e153 (k : Nat) (hk : k < 64) : (153 : Int32) + nI k = nI (153 + k) := nI_add 153 k
  have e217 (k : Nat) (hk : k < 64) : (217 : Int32) + nI k = nI (217 + k) := nI_add 217 k
  by_cases c8 : s.1 0 8 = 0
  · obtain ⟨n, rfl⟩ : ∃ n, N = n + 1 := ⟨N - 1, by omega⟩
    show tw_levelNow_9b (n + 1) (tw_levelNow_9 (n + 1) n) M (-1) _ 0 = _
    unfold tw_levelNow_9b
    try simp only [cx_get, cx_put, cx_let]
    rw [if_neg (by decide), h8, if_pos c8, tw_level_74_s hV, if_pos rfl]
    unfold ps_level
    simp only [c8, true_or, ↓reduceIte]
  · generalize hsp : s.1 0 14 / E.1 0 = sp
    have loop : ∀ (j k n : Nat), j + k = 64 → j < n → tw_levelNow_9 N n M (ps_top s.1 sp k) sp (nI k) = tw_levelNow_74 N M (ps_top s.1 sp 64) := by
      intro j
      induction j with
      | zero =>
        intro k n hk hn
        obtain ⟨n, rfl⟩ : ∃ m, n = m + 1 := ⟨n - 1, by omega⟩
        have : k = 64 := by omega
        subst this
        show tw_levelNow_9b N (tw_levelNow_9 N n) M _ sp (nI 64) = _
        unfold tw_levelNow_9b
        rw [if_pos (by decide)]
      | succ j ih =>
        intro k n hk hn
        obtain ⟨n, rfl⟩ : ∃ m, n = m + 1 := ⟨n - 1, by omega⟩
        have nx : nI k + 1 = nI (k + 1) := (nI_succ k).symm
        have t1 := pi_nI (n := 153 + k) (by omega)
        have t2 := pi_nI (n := 217 + k) (by omega)
        have p1 : pn (nI (153 + k)) = 153 + k := by rw [pn_def, t1]; omega
        have p2 : pn (nI (217 + k)) = 217 + k := by rw [pn_def, t2]; omega
        have r1 : M 8 (153 + k) = s.1 4 k := pr_at hV.1 (by omega) (ps_c_4 (by omega))
        have r2 : M 8 (217 + k) = s.1 5 k := pr_at hV.1 (by omega) (ps_c_5 (by omega))
        show tw_levelNow_9b N (tw_levelNow_9 N n) M _ sp (nI k) = _
        unfold tw_levelNow_9b tw_levelNow_68
        try simp only [cx_get, cx_put, cx_let]
        rw [if_neg (show ¬ (64 : Int32) ≤ nI k from nI_ge (a := k) (b := 64) (by omega) (by omega)), h8, if_neg c8, e153 k (by omega), e217 k (by omega), px_ld (by omega) (by omega), p1, r1, nx]
        have h2 := ih (k + 1) n (by omega) (by omega)
        have ht : ps_top s.1 sp (k + 1) = if s.1 4 k = -1 ∨ s.1 5 k < sp then ps_top s.1 sp k else cx_max (ps_top s.1 sp k) (s.1 5 k) := rfl
        by_cases c4 : s.1 4 k = -1
        · rw [if_pos c4]
          rw [ht, if_pos (Or.inl c4)] at h2
          exact h2
        · rw [if_neg c4, px_ld (by omega) (by omega), p2, r2]
          by_cases c5 : s.1 5 k < sp
          · rw [if_pos c5]
            rw [ht, if_pos (Or.inr c5)] at h2
            exact h2
          · rw [if_neg c5, px_ld (by omega) (by omega), p2, r2]
            rw [ht, if_neg (by intro z; rcases z with z | z; exact c4 z; exact c5 z)] at h2
            exact h2
    have h := loop 64 0 N rfl (by omega)
    rw [show (0 : Int32) = nI 0 from rfl, show (-1 : Int32) = ps_top s.1 sp 0 from rfl, h, tw_level_74_s hV]
    unfold ps_level
    rw [hsp]
    simp only [c8, false_or]
    all_goals rfl
theorem tw_steer_67_s {N : Nat} {E : ps_E} {M : cx_M} {s : ps_T} {l : Int32} {a p c : Int} (hE : ps_EO E) (hV : pr_V N E M s) (hJ : ps_J E s.1 a p c) : ∃ M', tw_steer_67 N M l = some (M', 0, 0) ∧ pr_V N E M' (if s.1 0 8 = 2 ∧ cx_rem (s.1 0 0) (E.1 4) = 0 then ps_turn s.1 l else s.1, s.2) ∧ pr_F M M' := by
  have e4 : M 3 4 = E.1 4 := hV.2.2.1.1 4 (by decide)
  have hn0 := hJ.1
  unfold ps_Jn at hn0
  have h4 : E.1 4 ≠ 0 := by
    intro e
    have h1 := hE.2.1.1
    rw [e] at h1
    revert h1
    decide
  unfold tw_steer_67
  try simp only [cx_get, cx_put, cx_let]
  rw [pr_n hV.1 8 (by decide)]
  by_cases c8 : s.1 0 8 = 2
  · rw [if_pos c8, e4, px_nz h4, pr_n hV.1 0 (by decide)]
    by_cases c0 : cx_rem (s.1 0 0) (E.1 4) = 0
    · rw [if_pos c0, if_pos ⟨c8, c0⟩]
      try simp only [cx_get, cx_put, cx_let]
      rw [pr_n hV.1 29 (by decide), pr_n hV.1 10 (by decide), hV.2.1.2, px_cal (show tw_within N M _ (-3200) 3200 = some (M, _, 0) from rfl)]
      have h1 := hV.up 10 (cx_max (-3200) (cx_min 3200 (s.1 0 10 + s.1 0 34 * (l - s.1 0 29)))) (c := 0) (k := 10) (by decide) (by decide)
      generalize hg : cx_max (-3200) (cx_min 3200 (s.1 0 10 + s.1 0 34 * (l - s.1 0 29))) = g at h1 ⊢
      have q24 : cx_up M 8 10 g 60 24 = s.1 0 33 := by rw [px_up, if_neg (by decide)]; exact hV.2.1.1
      have q10 : cx_up M 8 10 g 8 10 = g := by rw [px_up, if_pos ⟨rfl, rfl⟩]
      rw [q24, q10, px_cal (show tw_within N (cx_up M 8 10 g) _ (-200) 200 = some (cx_up M 8 10 g, _, 0) from rfl)]
      generalize hgc : cx_max (-200) (cx_min 200 ((s.1 0 33 * (l - s.1 0 29) + g) / 16)) = v
      have h2 := h1.up 9 v (c := 0) (k := 9) (by decide) (by decide)
      have q32 : cx_up (cx_up M 8 10 g) 8 9 v 8 32 = s.1 0 32 := by rw [px_up, if_neg (by decide), px_up, if_neg (by decide)]; exact pr_n hV.1 32 (by decide)
      have q11 : cx_up (cx_up M 8 10 g) 8 9 v 8 11 = s.1 0 11 := by rw [px_up, if_neg (by decide), px_up, if_neg (by decide)]; exact pr_n hV.1 11 (by decide)
      rw [q32, q11]
      have hr := pi_rem128 (x := s.1 0 32) (by omega)
      have hi : ((281 : Int32) + cx_rem (s.1 0 32) 128).toInt = 281 + (cx_rem (s.1 0 32) 128).toInt := by
        have e : (281 : Int32).toInt = 281 := rfl
        rw [i32_add (by omega) (by omega), e]
      have hp128 : pn (cx_rem (s.1 0 32) 128) < 128 := by rw [pn_def]; omega
      have hp : pn ((281 : Int32) + cx_rem (s.1 0 32) 128) = 281 + pn (cx_rem (s.1 0 32) 128) := by rw [pn_def, pn_def]; omega
      rw [px_st (by omega) (by omega), hp]
      have h3 := h2.up (281 + pn (cx_rem (s.1 0 32) 128)) (s.1 0 11) (by omega) (ps_c_6 hp128)
      have r32 : cx_up (cx_up (cx_up M 8 10 g) 8 9 v) 8 (281 + pn (cx_rem (s.1 0 32) 128)) (s.1 0 11) 8 32 = s.1 0 32 := by rw [px_up, if_neg (by omega)]; exact q32
      rw [r32]
      have h4 := h3.up 32 (s.1 0 32 + 1) (c := 0) (k := 32) (by decide) (by decide)
      refine ⟨_, rfl, ?_, (((pr_F.up (by decide)).tr (pr_F.up (by decide))).tr (pr_F.up (by decide))).tr (pr_F.up (by decide))⟩
      unfold ps_turn
      simp only [hg, hgc]
      exact h4
    · rw [if_neg c0, if_neg (fun z => c0 z.2)]
      exact ⟨M, rfl, hV, pr_F.rf⟩
  · rw [if_neg c8, if_neg (fun z => c8 z.1)]
    exact ⟨M, rfl, hV, pr_F.rf⟩
theorem tw_steer_s {N : Nat} {E : ps_E} {M : cx_M} {s : ps_T} {a p c : Int} (hN : 65 ≤ N) (hE : ps_EO E) (hV : pr_V N E M s) (hJ : ps_J E s.1 a p c) : ∃ M', tw_steer N M = some (M', 0, 0) ∧ pr_V N E M' (ps_steer E s.1, s.2) ∧ pr_F M M' := by
  unfold tw_steer tw_steer_0 ps_steer
  rw [px_cal (tw_level_s hN hE hV)]
  generalize hl : ps_level E s.1 = l
  try simp only [cx_get, cx_put, cx_let]
  try dsimp only
  rw [pr_n hV.1 8 (by decide)]
  by_cases c1 : s.1 0 8 = 1
  · rw [if_pos c1, pr_n hV.1 29 (by decide)]
    by_cases c2 : l < s.1 0 29
    · have hb : ps_begin s.1 l = s.1 := by unfold ps_begin; rw [if_neg (fun z => z.2 c2)]
      rw [if_pos c2, hb]
      exact tw_steer_67_s hE hV hJ
    · have hb : ps_begin s.1 l = cx_up (cx_up (cx_up (cx_up (cx_up s.1 0 8 2) 0 23 0) 0 10 0) 0 9 0) 0 11 0 := by unfold ps_begin; rw [if_pos ⟨c1, c2⟩]
      have hJ5 := ps_begin_J (l := l) hJ
      rw [if_neg c2]
      rw [hb] at hJ5 ⊢
      have h1 := hV.up 8 2 (c := 0) (k := 8) (by decide) (by decide)
      have h2 := h1.up 23 0 (c := 0) (k := 23) (by decide) (by decide)
      have h3 := h2.up 10 0 (c := 0) (k := 10) (by decide) (by decide)
      have h4 := h3.up 9 0 (c := 0) (k := 9) (by decide) (by decide)
      have h5 := h4.up 11 0 (c := 0) (k := 11) (by decide) (by decide)
      obtain ⟨M2, e2, hV2, hF2⟩ := tw_steer_67_s (l := l) hE h5 hJ5
      exact ⟨M2, e2, hV2, (((((pr_F.up (by decide)).tr (pr_F.up (by decide))).tr (pr_F.up (by decide))).tr (pr_F.up (by decide))).tr (pr_F.up (by decide))).tr hF2⟩
  · have hb : ps_begin s.1 l = s.1 := by unfold ps_begin; rw [if_neg (fun z => c1 z.1)]
    rw [if_neg c1, hb]
    exact tw_steer_67_s hE hV hJ
/-! playing -/
theorem tw_octetOf_s {N : Nat} {E : ps_E} {M : cx_M} {s : ps_T} {x : Int32} (hV : pr_V N E M s) (hx : 0 ≤ x.toInt) : tw_octetOf N M x = some (M, E.2.1 x, 0) := by
  have e7 : M 3 7 = E.1 7 := hV.2.2.1.1 7 (by decide)
  obtain ⟨h1, h2⟩ := hV.2.2.1.2.1
  have h7 : E.1 7 ≠ 0 := by
    intro e
    rw [e] at h1
    revert h1
    decide
  have hr := pi_rem (x := x) (y := E.1 7) hx (by omega)
  have hb := Int.emod_nonneg x.toInt (show (E.1 7).toInt ≠ 0 by omega)
  have hb2 := Int.emod_lt_of_pos x.toInt (show 0 < (E.1 7).toInt by omega)
  unfold tw_octetOf tw_octetOf_0
  try simp only [cx_get, cx_put, cx_let]
  rw [e7, px_nz h7, px_ld (by omega) (by omega), hV.2.2.1.2.2.1 x hx]
theorem tw_playedBack_s {N : Nat} {E : ps_E} {M : cx_M} {s : ps_T} {n : Int32} (hV : pr_V N E M s) (h6 : 0 ≤ (s.1 0 6).toInt ∧ (s.1 0 6).toInt ≤ 90000) (hn : 0 ≤ n.toInt) : tw_playedBack N M n = some (M, ps_back s.1 n, 0) := by
  unfold tw_playedBack tw_playedBack_0 ps_back
  try simp only [cx_get, cx_put, cx_let]
  rw [pr_n hV.1 6 (by decide)]
  by_cases c : n ≤ s.1 0 6
  · rw [if_pos c, if_pos c]
    rw [i32_le] at c
    have e : (s.1 0 6 - n).toInt = (s.1 0 6).toInt - n.toInt := i32_sub (by omega) (by omega)
    have hr := pi_rem128 (x := s.1 0 6 - n) (by omega)
    have hi : ((409 : Int32) + cx_rem (s.1 0 6 - n) 128).toInt = 409 + (cx_rem (s.1 0 6 - n) 128).toInt := by
      have e : (409 : Int32).toInt = 409 := rfl
      rw [i32_add (by omega) (by omega), e]
    have hp128 : pn (cx_rem (s.1 0 6 - n) 128) < 128 := by rw [pn_def]; omega
    have hp : pn ((409 : Int32) + cx_rem (s.1 0 6 - n) 128) = 409 + pn (cx_rem (s.1 0 6 - n) 128) := by rw [pn_def, pn_def]; omega
    rw [px_ld (by omega) (by omega), hp, pr_at hV.1 (by omega) (ps_c_7 hp128)]
  · rw [if_neg c, if_neg c]
theorem tw_filler_s {N : Nat} {E : ps_E} {M : cx_M} {s : ps_T} (hE : ps_EO E) (hV : pr_V N E M s) (h6 : 0 ≤ (s.1 0 6).toInt ∧ (s.1 0 6).toInt ≤ 90000) : tw_filler N M = some (M, ps_fill E s.1, 0) := by
  have e6 : M 3 6 = E.1 6 := hV.2.2.1.1 6 (by decide)
  have h1 := hE.2.2.1.1
  unfold tw_filler tw_filler_0 tw_filler_36 ps_fill
  try simp only [cx_get, cx_put, cx_let]
  rw [pr_n hV.1 28 (by decide)]
  by_cases c1 : s.1 0 28 = 1
  · rw [if_pos c1, if_pos c1]
  · rw [if_neg c1, if_neg c1]
    by_cases c0 : s.1 0 28 = 0
    · rw [if_pos c0, if_pos c0, px_cal (tw_playedBack_s hV h6 (by decide))]
    · rw [if_neg c0, if_neg c0, e6, px_cal (tw_playedBack_s hV h6 (by omega))]
theorem pr_empty {f : Nat → Int32} {S : ps_S} (h : pr_R f S) : pr_R (rw_empty f 0) (ps_empty S) := by
  intro q hq
  unfold rw_empty ps_empty
  by_cases c : (153 + 0 ≤ q ∧ q < 217) ∨ (217 + 0 ≤ q ∧ q < 281)
  · rw [if_pos c, if_pos]
    rcases c with c | c
    · obtain ⟨k, rfl⟩ : ∃ k, q = 153 + k := ⟨q - 153, by omega⟩
      have := ps_c_4 (k := k) (by omega)
      omega
    · obtain ⟨k, rfl⟩ : ∃ k, q = 217 + k := ⟨q - 217, by omega⟩
      have := ps_c_5 (k := k) (by omega)
      omega
  · rw [if_neg c, if_neg, h q hq]
    intro z
    have z1 := z.1
    unfold ps_c at z1
    revert z1
    split
    · omega
    · split
      · omega
      · split
        · omega
        · split
          · omega
          · split
            · omega
            · split <;> omega
theorem tw_play_246_s {N : Nat} {E : ps_E} {M : cx_M} {s : ps_T} {v6 v14 : Int32} {i : Int32} {b : Int32} (hN : 65 ≤ N) (hV : pr_V N E M s) (hi : 0 ≤ (cx_rem i 128).toInt ∧ (cx_rem i 128).toInt < 128) (e6 : s.1 0 6 = v6) (e14 : s.1 0 14 = v14) :
    ∃ M', tw_play_246 N M ((537 : Int32) + cx_rem i 128) b = some (M', 0, 0) ∧ pr_V N E M' (ps_end (cx_up (cx_up (cx_up s.1 8 (pn (cx_rem i 128)) b) 0 6 (v6 + 1)) 0 14 (v14 + 1)), s.2) ∧ pr_F M M' := by
  have hi2 : ((537 : Int32) + cx_rem i 128).toInt = 537 + (cx_rem i 128).toInt := by
    have e : (537 : Int32).toInt = 537 := rfl
    rw [i32_add (by omega) (by omega), e]
  have hp : pn ((537 : Int32) + cx_rem i 128) = 537 + pn (cx_rem i 128) := by rw [pn_def, pn_def]; omega
  have hp128 : pn (cx_rem i 128) < 128 := by rw [pn_def]; omega
  unfold tw_play_246
  try simp only [cx_get, cx_put, cx_let]
  rw [px_st (by omega) (by omega), hp]
  generalize pn (cx_rem i 128) = k at hp128 ⊢
  have h1 := hV.up (537 + k) b (by omega) ps_c_8
  have q6 : cx_up M 8 (537 + k) b 8 6 = v6 := by rw [px_up, if_neg (by omega), ← e6]; exact pr_n hV.1 6 (by decide)
  rw [q6]
  have h2 := h1.up 6 (v6 + 1) (c := 0) (k := 6) (by decide) (by decide)
  have q14 : cx_up (cx_up M 8 (537 + k) b) 8 6 (v6 + 1) 8 14 = v14 := by rw [px_up, if_neg (by omega), px_up, if_neg (by omega), ← e14]; exact pr_n hV.1 14 (by decide)
  rw [q14]
  have h3 := h2.up 14 (v14 + 1) (c := 0) (k := 14) (by decide) (by decide)
  have hF3 : pr_F M (cx_up (cx_up (cx_up M 8 (537 + k) b) 8 6 (v6 + 1)) 8 14 (v14 + 1)) := ((pr_F.up (by decide)).tr (pr_F.up (by decide))).tr (pr_F.up (by decide))
  generalize cx_up (cx_up (cx_up M 8 (537 + k) b) 8 6 (v6 + 1)) 8 14 (v14 + 1) = M3 at h3 hF3 ⊢
  rw [pr_n h3.1 30 (by decide)]
  generalize cx_up (cx_up (cx_up s.1 8 k b) 0 6 (v6 + 1)) 0 14 (v14 + 1) = S3 at h3 ⊢
  have h64 : (64 : Int32).toInt = 64 := rfl
  unfold ps_end
  by_cases c : S3 0 30 < 64
  · have c' : ¬ (64 : Int32) ≤ S3 0 30 := by rw [i32_lt] at c; rw [i32_le]; omega
    rw [if_pos c, if_neg c']
    exact ⟨M3, rfl, h3, hF3⟩
  · have c' : (64 : Int32) ≤ S3 0 30 := by rw [i32_lt] at c; rw [i32_le]; omega
    rw [if_neg c, if_pos c']
    have h4 := h3.up 30 0 (c := 0) (k := 30) (by decide) (by decide)
    have h5 := h4.up 8 0 (c := 0) (k := 8) (by decide) (by decide)
    have q12 : cx_up (cx_up M3 8 30 0) 8 8 0 8 12 = S3 0 12 := by rw [px_up, if_neg (by decide), px_up, if_neg (by decide)]; exact pr_n h3.1 12 (by decide)
    rw [q12]
    have h6 := h5.up 12 (S3 0 12 + 1) (c := 0) (k := 12) (by decide) (by decide)
    have he := tw_emptySlots_loop (N := N) 64 0 N (cx_up (cx_up (cx_up M3 8 30 0) 8 8 0) 8 12 (S3 0 12 + 1)) rfl (by omega)
    rw [px_cal (show tw_emptySlots N _ = _ from he)]
    refine ⟨_, rfl, ?_, (((hF3.tr (pr_F.up (by decide))).tr (pr_F.up (by decide))).tr (pr_F.up (by decide))).tr (pr_F.set (by decide))⟩
    refine ⟨?_, ?_, h6.2.2.1.fr (fun c hc => px_setc (fun e => by rw [e] at hc; revert hc; decide)), ?_⟩
    · rw [px_sets]
      exact pr_empty h6.1
    · rw [px_setc (by decide)]
      show _ = ps_empty _ 0 33 ∧ _ = ps_empty _ 0 34
      rw [ps_empty_0 (by decide) (by decide)]
      exact h6.2.1
    · have := h6.2.2.2
      unfold pr_Q at this ⊢
      rw [px_setc (by decide)]
      exact this
theorem pi_add0 (x : Int32) : x + 0 = x := Int32.add_zero x
theorem tw_play_152_s {N : Nat} {E : ps_E} {M : cx_M} {s : ps_T} {x2 o w : Int32} {is : Bool} (hN : 65 ≤ N) (hV : pr_V N E M s) (h6 : 0 ≤ (s.1 0 6).toInt) (hx : x2 = 0 ↔ is = false) (z2 z3 : Int32) (hw : z2 + z3 = w) :
    ∃ M', tw_play_152 N M x2 o 13 z2 z3 = some (M', 0, 0) ∧ pr_V N E M' (ps_end (ps_put E s.1 o w is), s.2) ∧ pr_F M M' := by
  have hr := pi_rem128 h6
  have hi : ((409 : Int32) + cx_rem (s.1 0 6) 128).toInt = 409 + (cx_rem (s.1 0 6) 128).toInt := by
    have e : (409 : Int32).toInt = 409 := rfl
    rw [i32_add (by omega) (by omega), e]
  have hp128 : pn (cx_rem (s.1 0 6) 128) < 128 := by rw [pn_def]; omega
  have hp : pn ((409 : Int32) + cx_rem (s.1 0 6) 128) = 409 + pn (cx_rem (s.1 0 6) 128) := by rw [pn_def, pn_def]; omega
  have c665 : ((665 : Nat) : Int) = 665 := rfl
  unfold tw_play_152 tw_play_171 tw_play_196
  try simp only [cx_get, cx_put, cx_let]
  rw [px_st (by decide) (by decide), hw, show pn 13 = 13 from rfl]
  have h1 := hV.up 13 w (c := 0) (k := 13) (by decide) (by decide)
  have q7 : cx_up M 8 13 w 8 7 = s.1 0 7 := by rw [px_up, if_neg (by decide)]; exact pr_n hV.1 7 (by decide)
  rw [q7]
  cases is with
  | false =>
    have hx0 : x2 = 0 := hx.mpr rfl
    simp only [if_pos hx0]
    rw [px_st (by decide) (by decide), show pn 7 = 7 from rfl]
    have h2 := h1.up 7 (s.1 0 7 + 1) (c := 0) (k := 7) (by decide) (by decide)
    have q30 : cx_up (cx_up M 8 13 w) 8 7 (s.1 0 7 + 1) 8 30 = s.1 0 30 := by rw [px_up, if_neg (by decide), px_up, if_neg (by decide)]; exact pr_n hV.1 30 (by decide)
    rw [q30, px_st (by decide) (by decide), show pn 30 = 30 from rfl]
    have h3 := h2.up 30 (s.1 0 30 + 1) (c := 0) (k := 30) (by decide) (by decide)
    have q6 : cx_up (cx_up (cx_up M 8 13 w) 8 7 (s.1 0 7 + 1)) 8 30 (s.1 0 30 + 1) 8 6 = s.1 0 6 := by rw [px_up, if_neg (by decide), px_up, if_neg (by decide), px_up, if_neg (by decide)]; exact pr_n hV.1 6 (by decide)
    rw [q6, px_st (by omega) (by omega), hp]
    have h4 := h3.up (409 + pn (cx_rem (s.1 0 6) 128)) o (by omega) (ps_c_7 hp128)
    have r6 : cx_up (cx_up (cx_up (cx_up M 8 13 w) 8 7 (s.1 0 7 + 1)) 8 30 (s.1 0 30 + 1)) 8 (409 + pn (cx_rem (s.1 0 6) 128)) o 8 6 = s.1 0 6 := by rw [px_up, if_neg (by omega)]; exact q6
    rw [r6]
    obtain ⟨M2, e2, hV2, hF2⟩ := tw_play_246_s (v6 := s.1 0 6) (v14 := s.1 0 14) (i := s.1 0 6) (b := 1) hN h4 (by omega) (by simp (decide := true) only [px_up, false_and, and_false, true_and, and_true, ↓reduceIte]) (by simp (decide := true) only [px_up, false_and, and_false, true_and, and_true, ↓reduceIte])
    exact ⟨M2, e2, hV2, ((((pr_F.up (by decide)).tr (pr_F.up (by decide))).tr (pr_F.up (by decide))).tr (pr_F.up (by decide))).tr hF2⟩
  | true =>
    have hx0 : ¬ x2 = 0 := fun e => by have := hx.mp e; revert this; decide
    simp only [if_neg hx0]
    rw [px_st (by decide) (by decide), show pn 7 = 7 from rfl, pi_add0]
    have h2 := h1.up 7 (s.1 0 7) (c := 0) (k := 7) (by decide) (by decide)
    rw [px_st (by decide) (by decide), show pn 30 = 30 from rfl]
    have h3 := h2.up 30 0 (c := 0) (k := 30) (by decide) (by decide)
    have q6 : cx_up (cx_up (cx_up M 8 13 w) 8 7 (s.1 0 7)) 8 30 0 8 6 = s.1 0 6 := by rw [px_up, if_neg (by decide), px_up, if_neg (by decide), px_up, if_neg (by decide)]; exact pr_n hV.1 6 (by decide)
    rw [q6, px_st (by omega) (by omega), hp]
    have h4 := h3.up (409 + pn (cx_rem (s.1 0 6) 128)) o (by omega) (ps_c_7 hp128)
    have r6 : cx_up (cx_up (cx_up (cx_up M 8 13 w) 8 7 (s.1 0 7)) 8 30 0) 8 (409 + pn (cx_rem (s.1 0 6) 128)) o 8 6 = s.1 0 6 := by rw [px_up, if_neg (by omega)]; exact q6
    rw [r6]
    obtain ⟨M2, e2, hV2, hF2⟩ := tw_play_246_s (v6 := s.1 0 6) (v14 := s.1 0 14) (i := s.1 0 6) (b := 0) hN h4 (by omega) (by simp (decide := true) only [px_up, false_and, and_false, true_and, and_true, ↓reduceIte]) (by simp (decide := true) only [px_up, false_and, and_false, true_and, and_true, ↓reduceIte])
    exact ⟨M2, e2, hV2, ((((pr_F.up (by decide)).tr (pr_F.up (by decide))).tr (pr_F.up (by decide))).tr (pr_F.up (by decide))).tr hF2⟩
theorem tw_play_92_s {N : Nat} {E : ps_E} {M : cx_M} {s : ps_T} {a p c : Int} {x2 : Int32} (hN : 65 ≤ N) (hE : ps_EO E) (hV : pr_V N E M s) (hJ : ps_J E s.1 a p c) (hx : (x2 = 0 ∧ ¬ ps_is E s.1) ∨ (x2 = 1 ∧ ps_is E s.1)) : ∃ M', tw_play_92 N M x2 (ps_o E s.1) = some (M', 0, 0) ∧ pr_V N E M' (ps_play E s.1, s.2) ∧ pr_F M M' := by
  have hn0 := hJ.1
  unfold ps_Jn at hn0
  obtain ⟨⟨hE1, hE2⟩, -⟩ := id hE
  have hm := pi_mulb (a := (s.1 0 16).toInt) (b := (E.1 0).toInt) (A := 90000) (B := 8) (by omega) (by omega) (by omega) (by omega)
  have e1 : (s.1 0 16 * E.1 0).toInt = (s.1 0 16).toInt * (E.1 0).toInt := pi_mul (by omega) (by omega)
  have e2 : (s.1 0 16 * E.1 0 + s.1 0 14).toInt = (s.1 0 16).toInt * (E.1 0).toInt + (s.1 0 14).toInt := by rw [i32_add (by omega) (by omega), e1]
  have e3 : (s.1 0 16 * E.1 0 + s.1 0 14 - s.1 0 15).toInt = (s.1 0 16).toInt * (E.1 0).toInt + (s.1 0 14).toInt - (s.1 0 15).toInt := by rw [i32_sub (by omega) (by omega), e2]
  have e0 : M 3 0 = E.1 0 := hV.2.2.1.1 0 (by decide)
  unfold tw_play_92 tw_play_151
  try simp only [cx_get, cx_put, cx_let]
  rw [pr_n hV.1 16 (by decide), e0, pr_n hV.1 14 (by decide), pr_n hV.1 15 (by decide), px_cal (tw_octetOf_s hV (by omega)), pr_n hV.1 13 (by decide)]
  unfold ps_play
  rcases hx with ⟨rfl, hi⟩ | ⟨rfl, hi⟩
  · rw [if_pos rfl]
    have hw : ps_w E s.1 = s.1 0 13 := by unfold ps_w; rw [if_neg (fun z => hi z.1)]
    rw [decide_eq_false hi, hw]
    exact tw_play_152_s hN hV (by omega) (by decide) _ _ (pi_add0 _)
  · rw [if_neg (by decide), decide_eq_true hi]
    by_cases ho : ps_o E s.1 = E.2.1 (s.1 0 16 * E.1 0 + s.1 0 14 - s.1 0 15)
    · rw [if_pos ho]
      have hw : ps_w E s.1 = s.1 0 13 := by unfold ps_w; rw [if_neg (fun z => z.2 ho)]
      rw [hw]
      exact tw_play_152_s hN hV (by omega) (by decide) _ _ (pi_add0 _)
    · rw [if_neg ho]
      have hw : ps_w E s.1 = s.1 0 13 + 1 := by unfold ps_w; rw [if_pos ⟨hi, ho⟩]
      rw [hw]
      exact tw_play_152_s hN hV (by omega) (by decide) _ _ rfl
theorem tw_play_44_s {N : Nat} {E : ps_E} {M : cx_M} {s : ps_T} {a p c : Int} {x1 z0 : Int32} (hN : 65 ≤ N) (hE : ps_EO E) (hV : pr_V N E M s) (hJ : ps_J E s.1 a p c) (hx1 : x1 = cx_rem (s.1 0 14 / E.1 0) 64) (hx : (z0 = 0 ∧ ¬ ps_is E s.1) ∨ (z0 = 1 ∧ ps_is E s.1)) : ∃ M', tw_play_44 N M x1 z0 = some (M', 0, 0) ∧ pr_V N E M' (ps_play E s.1, s.2) ∧ pr_F M M' := by
  have hn0 := hJ.1
  unfold ps_Jn at hn0
  obtain ⟨⟨hE1, hE2⟩, -⟩ := id hE
  unfold tw_play_44
  try simp only [cx_get, cx_put, cx_let]
  rcases hx with ⟨rfl, hi⟩ | ⟨rfl, hi⟩
  · rw [if_pos rfl, px_cal (tw_filler_s hE hV (by omega))]
    have ho : ps_o E s.1 = ps_fill E s.1 := by unfold ps_o; rw [if_neg hi]
    rw [← ho]
    exact tw_play_92_s hN hE hV hJ (Or.inl ⟨rfl, hi⟩)
  · have hd : (s.1 0 14 / E.1 0).toInt = (s.1 0 14).toInt / (E.1 0).toInt := pi_div (by omega) (by omega)
    have hd0 : 0 ≤ (s.1 0 14).toInt / (E.1 0).toInt := Int.ediv_nonneg (by omega) (by omega)
    have hr := pi_rem64 (x := s.1 0 14 / E.1 0) (by omega)
    rw [← hx1] at hr
    have hp64 : pn x1 < 64 := by rw [pn_def]; omega
    have hi2 : ((153 : Int32) + x1).toInt = 153 + x1.toInt := by
      have e : (153 : Int32).toInt = 153 := rfl
      rw [i32_add (by omega) (by omega), e]
    have hp : pn ((153 : Int32) + x1) = 153 + pn x1 := by rw [pn_def, pn_def]; omega
    have e0 : M 3 0 = E.1 0 := hV.2.2.1.1 0 (by decide)
    have hE0 : E.1 0 ≠ 0 := by
      intro e
      rw [e] at hE1
      revert hE1
      decide
    rw [if_neg (by decide), px_ld (by omega) (by omega), hp, pr_at hV.1 (by omega) (ps_c_4 hp64), e0, pr_n hV.1 14 (by decide), px_nz hE0]
    have hne : s.1 4 (pn x1) ≠ -1 := by rw [hx1]; exact hi.1
    have hsl := (hJ.2.2.1.1 (pn x1) hp64).resolve_left (fun z => hne z.1)
    have hm := pi_mulb (a := (s.1 4 (pn x1)).toInt) (b := (E.1 0).toInt) (A := 90000) (B := 8) (by omega) (by omega) (by omega) (by omega)
    have e1 : (s.1 4 (pn x1) * E.1 0).toInt = (s.1 4 (pn x1)).toInt * (E.1 0).toInt := pi_mul (by omega) (by omega)
    have hr2 := pi_rem (x := s.1 0 14) (y := E.1 0) (by omega) (by omega)
    have hr3 := Int.emod_nonneg (s.1 0 14).toInt (show (E.1 0).toInt ≠ 0 by omega)
    have hr4 := Int.emod_lt_of_pos (s.1 0 14).toInt (show 0 < (E.1 0).toInt by omega)
    have e2 : (s.1 4 (pn x1) * E.1 0 + cx_rem (s.1 0 14) (E.1 0)).toInt = (s.1 4 (pn x1)).toInt * (E.1 0).toInt + (s.1 0 14).toInt % (E.1 0).toInt := by rw [i32_add (by omega) (by omega), e1, hr2]
    rw [px_cal (tw_octetOf_s hV (by omega))]
    have ho : ps_o E s.1 = E.2.1 (s.1 4 (pn x1) * E.1 0 + cx_rem (s.1 0 14) (E.1 0)) := by unfold ps_o; rw [if_pos hi, hx1]
    rw [← ho]
    exact tw_play_92_s hN hE hV hJ (Or.inr ⟨rfl, hi⟩)
theorem tw_play_s {N : Nat} {E : ps_E} {M : cx_M} {s : ps_T} {a p c : Int} (hN : 65 ≤ N) (hE : ps_EO E) (hV : pr_V N E M s) (hJ : ps_J E s.1 a p c) : ∃ M', tw_play N M = some (M', 0, 0) ∧ pr_V N E M' (ps_play E s.1, s.2) ∧ pr_F M M' := by
  have hs := tw_spot_s hE hV
  have hn0 := hJ.1
  unfold ps_Jn at hn0
  obtain ⟨⟨hE1, hE2⟩, -⟩ := id hE
  have hd : (s.1 0 14 / E.1 0).toInt = (s.1 0 14).toInt / (E.1 0).toInt := pi_div (by omega) (by omega)
  have hd0 : 0 ≤ (s.1 0 14).toInt / (E.1 0).toInt := Int.ediv_nonneg (by omega) (by omega)
  have hr := pi_rem64 (x := s.1 0 14 / E.1 0) (by omega)
  unfold tw_play tw_play_0 tw_play_43
  rw [px_cal hs]
  try simp only [cx_get, cx_put, cx_let]
  generalize hx1 : cx_rem (s.1 0 14 / E.1 0) 64 = x1 at hr ⊢
  have hp64 : pn x1 < 64 := by rw [pn_def]; omega
  have hi1 : ((153 : Int32) + x1).toInt = 153 + x1.toInt := by
    have e : (153 : Int32).toInt = 153 := rfl
    rw [i32_add (by omega) (by omega), e]
  have hp1 : pn ((153 : Int32) + x1) = 153 + pn x1 := by rw [pn_def, pn_def]; omega
  have hi2 : ((217 : Int32) + x1).toInt = 217 + x1.toInt := by
    have e : (217 : Int32).toInt = 217 := rfl
    rw [i32_add (by omega) (by omega), e]
  have hp2 : pn ((217 : Int32) + x1) = 217 + pn x1 := by rw [pn_def, pn_def]; omega
  rw [px_ld (by omega) (by omega), hp1, pr_at hV.1 (by omega) (ps_c_4 hp64)]
  by_cases c4 : s.1 4 (pn x1) = -1
  · rw [if_pos c4]
    exact tw_play_44_s hN hE hV hJ hx1.symm (Or.inl ⟨rfl, fun z => z.1 (by rw [hx1]; exact c4)⟩)
  · rw [if_neg c4, px_ld (by omega) (by omega), hp2, pr_at hV.1 (by omega) (ps_c_5 hp64), px_cal hs]
    by_cases c5 : s.1 5 (pn x1) = s.1 0 14 / E.1 0
    · rw [if_pos c5]
      exact tw_play_44_s hN hE hV hJ hx1.symm (Or.inr ⟨rfl, by rw [hx1]; exact c4, by rw [hx1]; exact c5⟩)
    · rw [if_neg c5]
      exact tw_play_44_s hN hE hV hJ hx1.symm (Or.inl ⟨rfl, fun z => c5 (by rw [← hx1]; exact z.2)⟩)
theorem tw_aStep_113_s {N : Nat} {E : ps_E} {M : cx_M} {s : ps_T} (hV : pr_V N E M s) : ∃ M', tw_aStep_113 N M = some (M', 0, 0) ∧ pr_V N E M' (cx_up s.1 0 0 (s.1 0 0 + 1), s.2) ∧ pr_F M M' := by
  unfold tw_aStep_113
  try simp only [cx_get, cx_put, cx_let]
  rw [pr_n hV.1 0 (by decide)]
  exact ⟨_, rfl, hV.up 0 (s.1 0 0 + 1) (c := 0) (k := 0) (by decide) (by decide), pr_F.up (by decide)⟩
theorem tw_plays_s {N : Nat} {E : ps_E} {a c : Int} (hN : 65 ≤ N) (hE : ps_EO E) : ∀ (n m : Nat) (M : cx_M) (s : ps_T) (p : Int), pr_V N E M s → ps_J E s.1 a p c → p + n ≤ 90000 → 0 ≤ (s.1 0 23).toInt → (s.1 0 23).toInt < 1000 * (n + 1) → n < m →
    ∃ M', tw_aStep_69 N m M = some (M', 0, 0) ∧ pr_V N E M' (cx_up (ps_plays E n s.1) 0 0 (ps_plays E n s.1 0 0 + 1), s.2) ∧ pr_F M M' := by
  have hk : (1000 : Int32).toInt = 1000 := rfl
  have stop : ∀ (m : Nat) (M : cx_M) (s : ps_T), pr_V N E M s → ¬ (¬ s.1 0 23 < 1000 ∧ s.1 0 8 = 2) → tw_aStep_69 N (m + 1) M = tw_aStep_113 N M := by
    intro m M s hV h
    show tw_aStep_69b N (tw_aStep_69 N m) M = _
    unfold tw_aStep_69b
    try simp only [cx_get, cx_put, cx_let]
    rw [pr_n hV.1 23 (by decide), pr_n hV.1 8 (by decide)]
    by_cases c1 : s.1 0 23 < 1000
    · rw [if_pos c1]
    · rw [if_neg c1, if_neg (fun z => h ⟨c1, z⟩)]
  intro n
  induction n with
  | zero =>
    intro m M s p hV hJ hp h0 h1 hm
    obtain ⟨m, rfl⟩ : ∃ k, m = k + 1 := ⟨m - 1, by omega⟩
    rw [stop m M s hV (fun z => z.1 (by rw [i32_lt, hk]; omega))]
    exact tw_aStep_113_s hV
  | succ n ih =>
    intro m M s p hV hJ hp h0 h1 hm
    obtain ⟨m, rfl⟩ : ∃ k, m = k + 1 := ⟨m - 1, by omega⟩
    by_cases h : ¬ s.1 0 23 < 1000 ∧ s.1 0 8 = 2
    · have h' := h.1
      rw [i32_lt, hk] at h'
      have e23 : (s.1 0 23 - 1000).toInt = (s.1 0 23).toInt - 1000 := by have := i32_rng (s.1 0 23); rw [i32_sub (by omega) (by omega), hk]
      have hA := hV.up 23 (s.1 0 23 - 1000) (c := 0) (k := 23) (by decide) (by decide)
      have hJA : ps_J E (cx_up s.1 0 23 (s.1 0 23 - 1000)) a p c := ps_J_up _ (by decide) hJ
      obtain ⟨M1, e1, hV1, hF1⟩ := tw_play_s hN hE hA hJA
      have h8 : cx_up s.1 0 23 (s.1 0 23 - 1000) 0 8 = 2 := by
        simp (decide := true) only [px_up, false_and, and_false, true_and, and_true, ↓reduceIte]
        exact h.2
      have q23 : ps_play E (cx_up s.1 0 23 (s.1 0 23 - 1000)) 0 23 = s.1 0 23 - 1000 := by
        rw [ps_play_0 (by decide)]
        simp (decide := true) only [px_up, false_and, and_false, true_and, and_true, ↓reduceIte]
      obtain ⟨M2, e2, hV2, hF2⟩ := ih m M1 _ (p + 1) hV1 (ps_play_J hJA (by omega) h8) (by omega) (by show 0 ≤ (ps_play E (cx_up s.1 0 23 (s.1 0 23 - 1000)) 0 23).toInt; rw [q23, e23]; omega) (by show (ps_play E (cx_up s.1 0 23 (s.1 0 23 - 1000)) 0 23).toInt < _; rw [q23, e23]; omega) (by omega)
      refine ⟨M2, ?_, ?_, ((pr_F.up (by decide)).tr hF1).tr hF2⟩
      · show tw_aStep_69b N (tw_aStep_69 N m) M = _
        unfold tw_aStep_69b
        try simp only [cx_get, cx_put, cx_let]
        rw [pr_n hV.1 23 (by decide), pr_n hV.1 8 (by decide), if_neg h.1, if_pos h.2, px_cal e1]
        exact e2
      · unfold ps_plays
        rw [if_pos h]
        exact hV2
    · rw [stop m M s hV h]
      unfold ps_plays
      rw [if_neg h]
      exact tw_aStep_113_s hV
theorem tw_aStep_s {N : Nat} {E : ps_E} {M : cx_M} {s : ps_T} {T : Nat} (hN : 130 ≤ N) (hE : ps_EO E) (hV : pr_V N E M s) (hI : ps_I E s.1 T) (hT : T + 1 ≤ 22000) : ∃ M', tw_aStep N M = some (M', 0, 0) ∧ pr_V N E M' (ps_step E s) ∧ pr_F M M' := by
  obtain ⟨hJ, h0, -, h22, h23⟩ := hI
  have hJ0 : ps_J E (cx_up s.1 0 35 0) (3 * T) (4 * T) (40 * T) := ps_J_up _ (by decide) hJ
  obtain ⟨M1, e1, hV1, hF1⟩ := tw_makeOctets_s (s := (cx_up s.1 0 35 0, s.2)) (by omega) hE (hV.free 35 0 (by decide)) hJ0 (by omega) (by simpa (decide := true) only [px_up, false_and, and_false, true_and, and_true, ↓reduceIte] using h22)
  have J1 := ps_far_J (s := (cx_up s.1 0 35 0, s.2)) hJ0 (by omega)
  have g23 : (ps_far E (cx_up s.1 0 35 0, s.2)).1 0 23 = s.1 0 23 := by rw [ps_far_0 (by decide)]; simp (decide := true) only [px_up, false_and, and_false, true_and, and_true, ↓reduceIte]
  have g8 : (ps_far E (cx_up s.1 0 35 0, s.2)).1 0 8 = s.1 0 8 := by rw [ps_far_0 (by decide)]; simp (decide := true) only [px_up, false_and, and_false, true_and, and_true, ↓reduceIte]
  unfold tw_aStep tw_aStep_0 ps_step
  rw [px_cal e1]
  try dsimp only
  generalize ps_far E (cx_up s.1 0 35 0, s.2) = t at J1 g23 g8 hV1 ⊢
  have h40 : pn (t.1 0 31) ≤ 40 := by
    have := J1.1
    unfold ps_Jn at this
    rw [pn_def]
    omega
  obtain ⟨M2, e2, hV2, hF2⟩ := tw_receive_s hN hE hV1 J1 (by omega)
  rw [px_cal e2]
  have J2 := ps_J_mono (ps_recv_J hE (pn (t.1 0 31)) 0 0 t.1 _ J1 (by omega) (by omega) (by omega)) (Int.le_refl _) (Int.le_refl _) (show _ ≤ (40 * (T + 1 : Nat) : Int) by omega) (by omega) (by omega) (by omega)
  have r23 : ps_recv E (pn (t.1 0 31)) 0 0 t.1 0 8 = 2 → 0 ≤ (ps_recv E (pn (t.1 0 31)) 0 0 t.1 0 23).toInt ∧ (ps_recv E (pn (t.1 0 31)) 0 0 t.1 0 23).toInt < 1000 := by
    intro e
    have e2 := ps_recv_8 _ _ _ _ e
    rw [ps_recv_0 (by decide), g23]
    rw [g8] at e2
    exact h23 e2
  generalize ps_recv E (pn (t.1 0 31)) 0 0 t.1 = R at J2 r23 hV2 ⊢
  obtain ⟨M3, e3, hV3, hF3⟩ := tw_steer_s (s := (R, t.2)) (by omega) hE hV2 J2
  rw [px_cal e3]
  have J3 := ps_steer_J J2 (by omega)
  have s23 := ps_steer_23 (E := E) r23
  generalize ps_steer E R = G at J3 s23 hV3 ⊢
  unfold ps_near
  try simp only [cx_get, cx_put, cx_let]
  rw [pr_n hV3.1 8 (by decide)]
  have F3 := (hF1.tr hF2).tr hF3
  by_cases c8 : G 0 8 = 2
  · simp only [if_pos c8]
    have b := s23 c8
    have hk : (1000 : Int32).toInt = 1000 := rfl
    have hn := J3.1
    unfold ps_Jn at hn
    have a1 : ((1000 : Int32) + G 0 9).toInt = 1000 + (G 0 9).toInt := by rw [i32_add (by omega) (by omega), hk]
    have a2 : (G 0 23 + ((1000 : Int32) + G 0 9)).toInt = (G 0 23).toInt + (1000 + (G 0 9).toInt) := by rw [i32_add (by omega) (by omega), a1]
    rw [pr_n hV3.1 23 (by decide), pr_n hV3.1 9 (by decide)]
    have hA := hV3.up 23 (G 0 23 + ((1000 : Int32) + G 0 9)) (c := 0) (k := 23) (by decide) (by decide)
    have q11 : cx_up M3 8 23 (G 0 23 + ((1000 : Int32) + G 0 9)) 8 11 = G 0 11 := by rw [px_up, if_neg (by decide)]; exact pr_n hV3.1 11 (by decide)
    have q27 : cx_up M3 8 23 (G 0 23 + ((1000 : Int32) + G 0 9)) 8 27 = G 0 27 := by rw [px_up, if_neg (by decide)]; exact pr_n hV3.1 27 (by decide)
    have q9 : cx_up M3 8 23 (G 0 23 + ((1000 : Int32) + G 0 9)) 8 9 = G 0 9 := by rw [px_up, if_neg (by decide)]; exact pr_n hV3.1 9 (by decide)
    rw [q11, q27, q9]
    have hB := hA.up 11 (G 0 11 + (G 0 27 - G 0 9)) (c := 0) (k := 11) (by decide) (by decide)
    obtain ⟨M4, e4, hV4, hF4⟩ := tw_plays_s (by omega) hE 3 N _ _ _ hB (ps_J_up _ (by decide) (ps_J_up _ (by decide) J3)) (by omega) (by simp (decide := true) only [px_up, false_and, and_false, true_and, and_true, ↓reduceIte]; omega) (by simp (decide := true) only [px_up, false_and, and_false, true_and, and_true, ↓reduceIte]; omega) (by omega)
    exact ⟨M4, e4, hV4, ((F3.tr (pr_F.up (by decide))).tr (pr_F.up (by decide))).tr hF4⟩
  · simp only [if_neg c8]
    obtain ⟨M4, e4, hV4, hF4⟩ := tw_aStep_113_s hV3
    exact ⟨M4, e4, hV4, F3.tr hF4⟩
theorem ps_steps_succ {E : ps_E} (s : ps_T) : ∀ n, ps_steps E (n + 1) s = ps_steps E n (ps_step E s)
  | 0 => rfl
  | n + 1 => by
    show ps_step E (ps_steps E (n + 1) s) = ps_step E (ps_steps E n (ps_step E s))
    rw [ps_steps_succ s n]
theorem tw_goOn_s {N : Nat} {E : ps_E} (hN : 130 ≤ N) (hE : ps_EO E) (z : Nat) (hz : z < 100000) : ∀ (m k n : Nat) (M : cx_M) (s : ps_T) (T : Nat), k + m = z → pr_V N E M s → ps_I E s.1 T → T + m ≤ 22000 → m < n → ∃ M', tw_goOn_2 N n M (nI z) (nI k) = some (M', 0, 0) ∧ pr_V N E M' (ps_steps E m s) ∧ pr_F M M' := by
  intro m
  induction m with
  | zero =>
    intro k n M s T hk hV hI hT hn
    obtain ⟨n, rfl⟩ : ∃ j, n = j + 1 := ⟨n - 1, by omega⟩
    refine ⟨M, ?_, hV, pr_F.rf⟩
    show tw_goOn_2b N (tw_goOn_2 N n) M (nI z) (nI k) = _
    unfold tw_goOn_2b
    rw [if_pos (nI_le (by omega) (by omega))]
  | succ m ih =>
    intro k n M s T hk hV hI hT hn
    obtain ⟨n, rfl⟩ : ∃ j, n = j + 1 := ⟨n - 1, by omega⟩
    obtain ⟨M1, e1, hV1, hF1⟩ := tw_aStep_s hN hE hV hI (by omega)
    obtain ⟨M2, e2, hV2, hF2⟩ := ih (k + 1) n M1 _ (T + 1) (by omega) hV1 (ps_step_I hE hI (by omega)) (by omega) (by omega)
    refine ⟨M2, ?_, by rw [ps_steps_succ]; exact hV2, hF1.tr hF2⟩
    show tw_goOn_2b N (tw_goOn_2 N n) M (nI z) (nI k) = _
    unfold tw_goOn_2b
    try simp only [cx_get, cx_put, cx_let]
    rw [if_neg (nI_ge (by omega) (by omega)), px_cal e1, ← nI_succ]
    exact e2
