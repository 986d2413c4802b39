/-! READING A LINE, 1: signs of the tape, plainly; the reference goes on to the next -/
abbrev rb_bl (c : Int32) : Prop := c = 32 ∨ c = 10
abbrev rb_le (c : Int32) : Prop := ¬ c < 97 ∧ ¬ 122 < c
abbrev rb_di (c : Int32) : Prop := ¬ c < 48 ∧ ¬ 57 < c
abbrev rb_si (c : Int32) : Prop := c = 59 ∨ c = 40 ∨ c = 41 ∨ c = 43 ∨ c = 45 ∨ c = 42 ∨ c = 47 ∨ c = 60 ∨ c = 61
/-- a sign: its sort, where it begins, where it ends -/
abbrev rT : Type := Nat × Nat × Nat
def rRun (b : Nat → Int32) (n : Nat) (F : Int32 → Prop) (p q : Nat) : Prop := p ≤ q ∧ q ≤ n ∧ (∀ i, p ≤ i → i < q → F (b i)) ∧ ¬ (q < n ∧ F (b q))
theorem rRun_ex {b : Nat → Int32} {n : Nat} (F : Int32 → Prop) [DecidablePred F] : ∀ (m p : Nat), p + m = n → ∃ q, rRun b n F p q := by
  intro m
  induction m with
  | zero => exact fun p hp => ⟨p, Nat.le_refl _, by omega, fun i h1 h2 => absurd h1 (by omega), fun z => by omega⟩
  | succ m ih =>
    intro p hp
    by_cases c : F (b p)
    · obtain ⟨q, h1, h2, h3, h4⟩ := ih (p + 1) (by omega)
      refine ⟨q, by omega, h2, fun i g1 g2 => ?_, h4⟩
      by_cases e : i = p
      · rw [e]; exact c
      · exact h3 i (by omega) g2
    · exact ⟨p, Nat.le_refl _, by omega, fun i h1 h2 => absurd h1 (by omega), fun z => c z.2⟩
def rNx (b : Nat → Int32) (n p : Nat) (t : rT) : Prop := rRun b n rb_bl p t.2.1 ∧
  ((t.2.1 = n ∧ t.1 = 0 ∧ t.2.2 = n) ∨ (t.2.1 < n ∧ rb_le (b t.2.1) ∧ t.1 = 1 ∧ rRun b n rb_le t.2.1 t.2.2) ∨
   (t.2.1 < n ∧ ¬ rb_le (b t.2.1) ∧ rb_di (b t.2.1) ∧ t.1 = 2 ∧ rRun b n rb_di t.2.1 t.2.2) ∨
   (t.2.1 < n ∧ ¬ rb_le (b t.2.1) ∧ ¬ rb_di (b t.2.1) ∧ rb_si (b t.2.1) ∧ t.1 = 3 ∧ t.2.2 = t.2.1 + 1) ∨
   (t.2.1 < n ∧ ¬ rb_le (b t.2.1) ∧ ¬ rb_di (b t.2.1) ∧ ¬ rb_si (b t.2.1) ∧ t.1 = 4 ∧ t.2.2 = t.2.1 + 1))
theorem rNx_ex {b : Nat → Int32} {n p : Nat} (hp : p ≤ n) : ∃ t, rNx b n p t := by
  obtain ⟨q, hq⟩ := rRun_ex (b := b) (n := n) rb_bl (n - p) p (by omega)
  by_cases c0 : q = n
  · exact ⟨(0, q, n), hq, Or.inl ⟨c0, rfl, rfl⟩⟩
  · have hl : q < n := by have := hq.2.1; omega
    by_cases c1 : rb_le (b q)
    · obtain ⟨e, he⟩ := rRun_ex (b := b) (n := n) rb_le (n - q) q (by omega)
      exact ⟨(1, q, e), hq, Or.inr (Or.inl ⟨hl, c1, rfl, he⟩)⟩
    · by_cases c2 : rb_di (b q)
      · obtain ⟨e, he⟩ := rRun_ex (b := b) (n := n) rb_di (n - q) q (by omega)
        exact ⟨(2, q, e), hq, Or.inr (Or.inr (Or.inl ⟨hl, c1, c2, rfl, he⟩))⟩
      · by_cases c3 : rb_si (b q)
        · exact ⟨(3, q, q + 1), hq, Or.inr (Or.inr (Or.inr (Or.inl ⟨hl, c1, c2, c3, rfl, rfl⟩)))⟩
        · exact ⟨(4, q, q + 1), hq, Or.inr (Or.inr (Or.inr (Or.inr ⟨hl, c1, c2, c3, rfl, rfl⟩)))⟩
theorem rRun.lt {b : Nat → Int32} {n p q : Nat} {F : Int32 → Prop} (h : rRun b n F p q) (hp : p < n) (hF : F (b p)) : p < q := by
  obtain ⟨h1, h2, h3, h4⟩ := h
  by_cases e : p = q
  · rw [← e] at h4; exact absurd ⟨hp, hF⟩ h4
  · omega
theorem rNx.le {b : Nat → Int32} {n p : Nat} {t : rT} (h : rNx b n p t) : p ≤ t.2.1 ∧ t.2.1 ≤ t.2.2 ∧ t.2.2 ≤ n ∧ (t.1 ≠ 0 → t.2.1 < t.2.2) ∧ t.1 ≤ 4 := by
  obtain ⟨⟨h1, h2, -⟩, h⟩ := h
  rcases h with ⟨a, c, d⟩ | ⟨a, c, d, e⟩ | ⟨a, -, c, d, e⟩ | ⟨a, -, -, -, d, e⟩ | ⟨a, -, -, -, d, e⟩
  · exact ⟨h1, by omega, by omega, fun z => absurd c z, by omega⟩
  · have := e.lt a c
    exact ⟨h1, e.1, e.2.1, fun _ => this, by omega⟩
  · have := e.lt a c
    exact ⟨h1, e.1, e.2.1, fun _ => this, by omega⟩
  · exact ⟨h1, by omega, by omega, fun _ => by omega, by omega⟩
  · exact ⟨h1, by omega, by omega, fun _ => by omega, by omega⟩
/-- the number that so many digits tell -/
def rVal (b : Nat → Int32) (s : Nat) : Nat → Nat
  | 0 => 0
  | k + 1 => 10 * rVal b s k + ((b (s + k)).toInt.toNat - 48)
theorem rb_di_i {c : Int32} (h : rb_di c) : 48 ≤ c.toInt ∧ c.toInt ≤ 57 := by
  obtain ⟨h1, h2⟩ := h
  rw [i32_lt] at h1 h2
  rw [show (48 : Int32).toInt = 48 from rfl] at h1
  rw [show (57 : Int32).toInt = 57 from rfl] at h2
  omega
theorem rVal_lt {b : Nat → Int32} {s : Nat} : ∀ k, (∀ i, i < k → rb_di (b (s + i))) → rVal b s k < 10 ^ k
  | 0, _ => Nat.one_pos
  | k + 1, h => by
    have h1 := rVal_lt k (fun i hi => h i (by omega))
    have h2 := rb_di_i (h k (by omega))
    rw [Nat.pow_succ]
    unfold rVal
    omega
theorem rVal4 {b : Nat → Int32} {s k : Nat} (hk : k ≤ 4) (h : ∀ i, i < k → rb_di (b (s + i))) : rVal b s k < 10000 := Nat.lt_of_lt_of_le (rVal_lt k h) (Nat.le_trans (Nat.pow_le_pow_right (by decide) hk) (by decide))
theorem rVal_s {b : Nat → Int32} {s k : Nat} (hk : k < 4) (h : ∀ i, i < k + 1 → rb_di (b (s + i))) : (((10 : Int32) * nI (rVal b s k)) + b (s + k)) - 48 = nI (rVal b s (k + 1)) := by
  have h1 := rVal4 (b := b) (s := s) (k := k) (by omega) (fun i hi => h i (by omega))
  have h2 := rb_di_i (h k (by omega))
  have h3 := rVal4 (b := b) (s := s) (k := k + 1) (by omega) h
  have t1 := pi_nI (n := rVal b s k) (by omega)
  have t10 : (10 : Int32).toInt = 10 := rfl
  have t48 : (48 : Int32).toInt = 48 := rfl
  have e1 : ((10 : Int32) * nI (rVal b s k)).toInt = 10 * (rVal b s k : Int) := by rw [pi_mul (by rw [t10, t1]; omega) (by rw [t10, t1]; omega), t10, t1]
  have e2 : ((10 : Int32) * nI (rVal b s k) + b (s + k)).toInt = 10 * (rVal b s k : Int) + (b (s + k)).toInt := by rw [i32_add (by omega) (by omega), e1]
  rw [i32_eq, i32_sub (by omega) (by omega), e2, t48, pi_nI (by omega)]
  rw [show rVal b s (k + 1) = 10 * rVal b s k + ((b (s + k)).toInt.toNat - 48) from rfl]
  omega
/-- what a step on may change -/
def rt_F (M M' : cx_M) : Prop := (∀ c, c ≠ 60 → M' c = M c) ∧ ∀ k, k ∉ [13, 15, 16, 17, 18] → M' 60 k = M 60 k
theorem rt_F.rf {M : cx_M} : rt_F M M := ⟨fun _ _ => rfl, fun _ _ => rfl⟩
theorem rt_F.put {M M' : cx_M} {k : Nat} {v : Int32} (h : rt_F M M') (hk : k ∈ [13, 15, 16, 17, 18]) : rt_F M (cx_up M' 60 k v) :=
  ⟨fun c hc => by rw [px_upc hc]; exact h.1 c hc, fun j hj => by rw [px_up, if_neg (fun z => hj (by rw [z.2]; exact hk))]; exact h.2 j hj⟩
theorem rt_F.tr {M M1 M2 : cx_M} (h : rt_F M M1) (h2 : rt_F M1 M2) : rt_F M M2 := ⟨fun c hc => (h2.1 c hc).trans (h.1 c hc), fun k hk => (h2.2 k hk).trans (h.2 k hk)⟩
section TW
variable {N : Nat} {b : Nat → Int32} {n : Nat}
def rt_t (b : Nat → Int32) (n : Nat) (M : cx_M) : Prop := M 60 14 = nI n ∧ ∀ j, j < n → M 11 j = b j
theorem rt_t.fr {M M' : cx_M} (h : rt_t b n M) (hF : rt_F M M') : rt_t b n M' := ⟨by rw [hF.2 14 (by decide)]; exact h.1, fun j hj => by rw [hF.1 11 (by decide)]; exact h.2 j hj⟩
def rB (b : Nat → Int32) (n p : Nat) : Int32 := if p < n then b p else -1
theorem rt_byte {M : cx_M} {p : Nat} (hn : n ≤ 700) (h : rt_t b n M) (hp : p ≤ n) : tw_byteAt N M (nI p) = some (M, rB b n p, 0) := by
  have t1 := pi_nI (n := p) (by omega)
  have t2 := pi_nI (n := n) (by omega)
  unfold tw_byteAt tw_byteAt_0 rB
  rw [px_get, h.1]
  by_cases c : p < n
  · rw [if_neg (by rw [i32_le]; omega), px_ld (by omega) (by omega), if_pos c, pn_I (by omega), h.2 p c]
  · rw [if_pos (by rw [i32_le]; omega), if_neg c]
theorem rt_letter {M : cx_M} {x : Int32} : tw_isLetter N M x = some (M, if rb_le x then 1 else 0, 0) := by
  unfold tw_isLetter tw_isLetter_0 rb_le
  by_cases c1 : x < 97
  · rw [if_pos c1, if_neg (fun z => z.1 c1)]
  · by_cases c2 : 122 < x
    · rw [if_neg c1, if_pos c2, if_neg (fun z => z.2 c2)]
    · rw [if_neg c1, if_neg c2, if_pos ⟨c1, c2⟩]
theorem rt_digit {M : cx_M} {x : Int32} : tw_isDigit N M x = some (M, if rb_di x then 1 else 0, 0) := by
  unfold tw_isDigit tw_isDigit_0 rb_di
  by_cases c1 : x < 48
  · rw [if_pos c1, if_neg (fun z => z.1 c1)]
  · by_cases c2 : 57 < x
    · rw [if_neg c1, if_pos c2, if_neg (fun z => z.2 c2)]
    · rw [if_neg c1, if_neg c2, if_pos ⟨c1, c2⟩]
theorem rt_mark {M : cx_M} {x : Int32} : tw_isMark N M x = some (M, if rb_si x then 1 else 0, 0) := by
  unfold tw_isMark tw_isMark_0 rb_si
  split
  · rename_i h; rw [if_pos (Or.inl h)]
  · split
    · rename_i h; rw [if_pos (Or.inr (Or.inl h))]
    · split
      · rename_i h; rw [if_pos (Or.inr (Or.inr (Or.inl h)))]
      · split
        · rename_i h; rw [if_pos (Or.inr (Or.inr (Or.inr (Or.inl h))))]
        · split
          · rename_i h; rw [if_pos (Or.inr (Or.inr (Or.inr (Or.inr (Or.inl h)))))]
          · split
            · rename_i h; rw [if_pos (Or.inr (Or.inr (Or.inr (Or.inr (Or.inr (Or.inl h))))))]
            · split
              · rename_i h; rw [if_pos (Or.inr (Or.inr (Or.inr (Or.inr (Or.inr (Or.inr (Or.inl h)))))))]
              · split
                · rename_i h; rw [if_pos (Or.inr (Or.inr (Or.inr (Or.inr (Or.inr (Or.inr (Or.inr (Or.inl h))))))))]
                · split
                  · rename_i h; rw [if_pos (Or.inr (Or.inr (Or.inr (Or.inr (Or.inr (Or.inr (Or.inr (Or.inr h))))))))]
                  · rw [if_neg]
                    intro z
                    rcases z with z | z | z | z | z | z | z | z | z <;> contradiction
theorem rB_in {p : Nat} (h : p < n) : rB b n p = b p := by unfold rB; rw [if_pos h]
theorem rB_out {p : Nat} (F : Int32 → Prop) (hF : ¬ F (-1)) (h : ¬ (p < n ∧ F (b p))) : ¬ F (rB b n p) := by
  unfold rB
  by_cases c : p < n
  · rw [if_pos c]; exact fun z => h ⟨c, z⟩
  · rw [if_neg c]; exact hF
/-- letters -/
theorem rt_76 (hn : n ≤ 700) {e : Nat} (hen : e ≤ n) (hE : ¬ (e < n ∧ rb_le (b e))) : ∀ (m q f : Nat) (M : cx_M), q + m = e → m < f → (∀ i, q ≤ i → i < e → rb_le (b i)) → rt_t b n M → M 60 13 = nI q →
    ∃ M', tw_stepOn_76 N f M = some (M', 0, 0) ∧ rt_F M M' ∧ M' 60 13 = nI e ∧ M' 60 15 = 1 ∧ M' 60 17 = M 60 17 ∧ M' 60 18 = nI e := by
  intro m
  induction m with
  | zero =>
    intro q f M hq hf hl ht h13
    obtain ⟨f, rfl⟩ : ∃ q, f = q + 1 := ⟨f - 1, by omega⟩
    have eq : q = e := by omega
    subst eq
    refine ⟨cx_up (cx_up M 60 15 1) 60 18 (nI q), ?_, (rt_F.rf.put (by decide)).put (by decide), by simp [px_up, h13], by simp [px_up], by simp [px_up], by simp [px_up]⟩
    show tw_stepOn_76b N (tw_stepOn_76 N f) M = _
    unfold tw_stepOn_76b
    simp only [px_get, px_put]
    rw [h13, px_cal (rt_byte hn ht hen), px_cal rt_letter, if_neg (rB_out rb_le (by decide) hE), if_pos rfl]
    simp [px_up, h13]
  | succ m ih =>
    intro q f M hq hf hl ht h13
    obtain ⟨f, rfl⟩ : ∃ q, f = q + 1 := ⟨f - 1, by omega⟩
    have hF : rt_F M (cx_up M 60 13 (nI (q + 1))) := rt_F.rf.put (by decide)
    obtain ⟨M', e1, e2, e3, e4, e5, e6⟩ := ih (q + 1) f (cx_up M 60 13 (nI (q + 1))) (by omega) (by omega) (fun i h1 h2 => hl i (by omega) h2) (ht.fr hF) (by simp [px_up])
    refine ⟨M', ?_, hF.tr e2, e3, e4, by rw [e5]; simp [px_up], e6⟩
    show tw_stepOn_76b N (tw_stepOn_76 N f) M = _
    unfold tw_stepOn_76b
    simp only [px_get, px_put]
    rw [h13, px_cal (rt_byte hn ht (by omega)), px_cal rt_letter, rB_in (by omega), if_pos (hl q (by omega) (by omega)), if_neg (by decide), h13, ← nI_succ q]
    exact e1
/-- digits -/
theorem rt_123 (hn : n ≤ 700) {s e : Nat} (hen : e ≤ n) (hE : ¬ (e < n ∧ rb_di (b e))) (hs : ∀ i, s ≤ i → i < e → rb_di (b i)) : ∀ (m q f : Nat) (M : cx_M), q + m = e → m < f → s ≤ q → rt_t b n M → M 60 13 = nI q → (q - s ≤ 4 → M 60 16 = nI (rVal b s (q - s))) →
    ∃ M', tw_stepOn_123 N f M = some (M', 0, 0) ∧ rt_F M M' ∧ M' 60 13 = nI e ∧ M' 60 15 = 2 ∧ M' 60 17 = M 60 17 ∧ M' 60 18 = nI e ∧ (e - s ≤ 4 → M' 60 16 = nI (rVal b s (e - s))) := by
  intro m
  induction m with
  | zero =>
    intro q f M hq hf hsq ht h13 h16
    obtain ⟨f, rfl⟩ : ∃ q, f = q + 1 := ⟨f - 1, by omega⟩
    have eq : q = e := by omega
    subst eq
    refine ⟨cx_up (cx_up M 60 15 2) 60 18 (nI q), ?_, (rt_F.rf.put (by decide)).put (by decide), by simp [px_up, h13], by simp [px_up], by simp [px_up], by simp [px_up], fun z => by rw [← h16 z]; simp [px_up]⟩
    show tw_stepOn_123b N (tw_stepOn_123 N f) M = _
    unfold tw_stepOn_123b
    simp only [px_get, px_put]
    rw [h13, px_cal (rt_byte hn ht hen), px_cal rt_digit, if_neg (rB_out rb_di (by decide) hE), if_pos rfl]
    simp [px_up, h13]
  | succ m ih =>
    intro q f M hq hf hsq ht h13 h16
    obtain ⟨f, rfl⟩ : ∃ q, f = q + 1 := ⟨f - 1, by omega⟩
    have hF : rt_F M (cx_up (cx_up M 60 16 (cx_min 100000 ((((10 : Int32) * M 60 16) + b q) - 48))) 60 13 (nI (q + 1))) := (rt_F.rf.put (by decide)).put (by decide)
    have h16' : q + 1 - s ≤ 4 → cx_up (cx_up M 60 16 (cx_min 100000 ((((10 : Int32) * M 60 16) + b q) - 48))) 60 13 (nI (q + 1)) 60 16 = nI (rVal b s (q + 1 - s)) := by
      intro hz
      have hv := rVal_s (b := b) (s := s) (k := q - s) (by omega) (fun i hi => hs (s + i) (by omega) (by omega))
      rw [show s + (q - s) = q by omega, show q - s + 1 = q + 1 - s by omega] at hv
      have hlt := rVal4 (b := b) (s := s) hz (fun i hi => hs (s + i) (by omega) (by omega))
      rw [px_up, if_neg (by decide), px_up, if_pos ⟨rfl, rfl⟩, h16 (by omega), hv, i32_eq, pi_min, pi_nI (by omega), show (100000 : Int32).toInt = 100000 from rfl]
      omega
    obtain ⟨M', e1, e2, e3, e4, e5, e6, e7⟩ := ih (q + 1) f _ (by omega) (by omega) (by omega) (ht.fr hF) (by simp [px_up]) h16'
    refine ⟨M', ?_, hF.tr e2, e3, e4, by rw [e5]; simp [px_up], e6, e7⟩
    show tw_stepOn_123b N (tw_stepOn_123 N f) M = _
    unfold tw_stepOn_123b
    simp only [px_get, px_put]
    rw [h13, px_cal (rt_byte hn ht (by omega)), px_cal rt_digit, rB_in (by omega), if_pos (hs q (by omega) (by omega)), if_neg (by decide), h13, px_cal (rt_byte hn ht (by omega)), rB_in (by omega), px_up, if_neg (by decide), h13, ← nI_succ q]
    exact e1
/-- where the reference stands -/
def rt_M (b : Nat → Int32) (t : rT) (M : cx_M) : Prop := M 60 13 = nI t.2.2 ∧ M 60 15 = nI t.1 ∧ M 60 17 = nI t.2.1 ∧ M 60 18 = nI t.2.2 ∧ (t.1 = 2 → t.2.2 - t.2.1 ≤ 4 → M 60 16 = nI (rVal b t.2.1 (t.2.2 - t.2.1)))
theorem rt_step_at (hn : n ≤ 700) (hN : 705 ≤ N) (hb0 : ∀ j, j < n → 0 ≤ (b j).toInt) {f p : Nat} {t : rT} {M : cx_M} (hx : rNx b n p t) (ht : rt_t b n M) (h13 : M 60 13 = nI t.2.1) :
    ∃ M', tw_stepOn_0 N (f + 1) M = some (M', 0, 0) ∧ rt_F M M' ∧ rt_M b t M' := by
  obtain ⟨k, s, e⟩ := t
  obtain ⟨⟨-, hsn, -, hb⟩, hx⟩ := hx
  dsimp only at hsn hb hx h13
  have hbl : ∀ z : Int32, ¬ rb_bl z → ¬ z = 32 ∧ ¬ z = 10 := fun z hz => ⟨fun q => hz (Or.inl q), fun q => hz (Or.inr q)⟩
  have hb2 := hbl _ (rB_out rb_bl (by decide) hb)
  have hF17 : rt_F M (cx_up M 60 17 (nI s)) := rt_F.rf.put (by decide)
  have h13' : cx_up M 60 17 (nI s) 60 13 = nI s := by simp [px_up, h13]
  have h17' : cx_up M 60 17 (nI s) 60 17 = nI s := by simp [px_up]
  have ht' := ht.fr hF17
  have go : ∀ R, (if rB b n s = (-1) then (
        cx_put (cx_up M 60 17 (nI s)) 60 15 0 fun M21 =>
        cx_get M21 60 13 fun v22 =>
        cx_put M21 60 18 v22 fun M23 =>
        some (M23, 0, 0))
      else (
        cx_cal (tw_isLetter N (cx_up M 60 17 (nI s)) (rB b n s)) fun M12 v13 =>
        if v13 = 0 then (
          cx_cal (tw_isDigit N M12 (rB b n s)) fun M14 v15 =>
          if v15 = 0 then (
            cx_get M14 60 13 fun v16 =>
            cx_put M14 60 13 (v16 + 1) fun M17 =>
            cx_cal (tw_isMark N M17 (rB b n s)) fun M18 v19 =>
            if v19 = 0 then (
              tw_stepOn_209 N M18 4)
            else (
              tw_stepOn_209 N M18 3))
          else (
            cx_put M14 60 16 0 fun M20 =>
            tw_stepOn_123 N N M20))
        else (
          tw_stepOn_76 N N M12))) = R → tw_stepOn_0 N (f + 1) M = R := by
    intro R hR
    show tw_stepOn_0b N (tw_stepOn_0 N f) M = _
    unfold tw_stepOn_0b
    simp only [px_get]
    rw [h13, px_cal (rt_byte hn ht hsn), if_neg hb2.1, h13, px_cal (rt_byte hn ht hsn), if_neg hb2.2, px_put, h13, h13', px_cal (rt_byte hn ht' hsn)]
    exact hR
  rcases hx with ⟨a1, a2, a3⟩ | ⟨a1, a2, a3, a4⟩ | ⟨a1, a0, a2, a3, a4⟩ | ⟨a1, a2, a3, a4, a5, a6⟩ | ⟨a1, a2, a3, a4, a5, a6⟩
  · subst a2 a3
    refine ⟨cx_up (cx_up (cx_up M 60 17 (nI s)) 60 15 0) 60 18 (nI s), go _ ?_, (hF17.put (by decide)).put (by decide), by simp [px_up, h13, a1], by simp [px_up]; rfl, by simp [px_up], by simp [px_up, a1], fun z => absurd (show (0 : Nat) = 2 from z) (by decide)⟩
    rw [if_pos (by unfold rB; rw [if_neg (by omega)]), px_put, px_get, px_put]
    simp [px_up, h13]
  · subst a3
    have ne : ¬ rB b n s = -1 := by rw [rB_in a1]; intro z; rw [z] at a2; exact absurd a2 (by decide)
    obtain ⟨M', e1, e2, e3, e4, e5, e6⟩ := rt_76 (N := N) hn a4.2.1 a4.2.2.2 (e - s) s N _ (by have := a4.1; omega) (by have := a4.2.1; omega) a4.2.2.1 ht' h13'
    refine ⟨M', go _ ?_, hF17.tr e2, e3, e4, by rw [e5]; exact h17', e6, fun z => absurd (show (1 : Nat) = 2 from z) (by decide)⟩
    rw [if_neg ne, px_cal rt_letter, rB_in a1, if_pos a2, if_neg (by decide)]
    exact e1
  · subst a3
    have ne : ¬ rB b n s = -1 := by rw [rB_in a1]; intro z; rw [z] at a2; exact absurd a2 (by decide)
    have hF : rt_F M (cx_up (cx_up M 60 17 (nI s)) 60 16 0) := hF17.put (by decide)
    obtain ⟨M', e1, e2, e3, e4, e5, e6, e7⟩ := rt_123 (N := N) (s := s) hn a4.2.1 a4.2.2.2 a4.2.2.1 (e - s) s N (cx_up (cx_up M 60 17 (nI s)) 60 16 0) (by have := a4.1; omega) (by have := a4.2.1; omega) (Nat.le_refl _) (ht.fr hF) (by simp [px_up, h13]) (fun _ => by rw [Nat.sub_self]; simp [px_up]; rfl)
    refine ⟨M', go _ ?_, hF.tr e2, e3, e4, by rw [e5]; simp [px_up], e6, fun _ => e7⟩
    rw [if_neg ne, px_cal rt_letter, rB_in a1, if_neg a0, if_pos rfl, px_cal rt_digit, if_pos a2, if_neg (by decide), px_put]
    exact e1
  · subst a5 a6
    have ne : ¬ rB b n s = -1 := by rw [rB_in a1]; intro z; rw [z] at a4; exact absurd a4 (by decide)
    refine ⟨cx_up (cx_up (cx_up (cx_up M 60 17 (nI s)) 60 13 (nI (s + 1))) 60 15 3) 60 18 (nI (s + 1)), go _ ?_, ((hF17.put (by decide)).put (by decide)).put (by decide), by simp [px_up], by simp [px_up]; rfl, by simp [px_up], by simp [px_up], fun z => absurd (show (3 : Nat) = 2 from z) (by decide)⟩
    rw [if_neg ne, px_cal rt_letter, rB_in a1, if_neg a2, if_pos rfl, px_cal rt_digit, if_neg a3, if_pos rfl, px_get, px_put, px_cal rt_mark, if_pos a4, if_neg (by decide), h13', ← nI_succ s]
    unfold tw_stepOn_209
    simp only [px_get, px_put]
    simp [px_up]
  · subst a5 a6
    have ne : ¬ rB b n s = -1 := fun z => by
      have := hb0 s a1
      rw [rB_in a1] at z
      rw [z] at this
      exact absurd this (by decide)
    refine ⟨cx_up (cx_up (cx_up (cx_up M 60 17 (nI s)) 60 13 (nI (s + 1))) 60 15 4) 60 18 (nI (s + 1)), go _ ?_, ((hF17.put (by decide)).put (by decide)).put (by decide), by simp [px_up], by simp [px_up]; rfl, by simp [px_up], by simp [px_up], fun z => absurd (show (4 : Nat) = 2 from z) (by decide)⟩
    rw [if_neg ne, px_cal rt_letter, rB_in a1, if_neg a2, if_pos rfl, px_cal rt_digit, if_neg a3, if_pos rfl, px_get, px_put, px_cal rt_mark, if_neg a4, if_pos rfl, h13', ← nI_succ s]
    unfold tw_stepOn_209
    simp only [px_get, px_put]
    simp [px_up]
theorem rt_step_bl (hn : n ≤ 700) (hN : 705 ≤ N) (hb0 : ∀ j, j < n → 0 ≤ (b j).toInt) {p : Nat} {t : rT} (hx : rNx b n p t) : ∀ (m q f : Nat) (M : cx_M), p ≤ q → q + m = t.2.1 → m < f → rt_t b n M → M 60 13 = nI q →
    ∃ M', tw_stepOn_0 N f M = some (M', 0, 0) ∧ rt_F M M' ∧ rt_M b t M' := by
  intro m
  induction m with
  | zero =>
    intro q f M _ hq hf ht h13
    obtain ⟨f, rfl⟩ : ∃ q, f = q + 1 := ⟨f - 1, by omega⟩
    rw [show q = t.2.1 by omega] at h13
    exact rt_step_at hn hN hb0 hx ht h13
  | succ m ih =>
    intro q f M hpq hq hf ht h13
    obtain ⟨f, rfl⟩ : ∃ q, f = q + 1 := ⟨f - 1, by omega⟩
    have hsn := hx.1.2.1
    have hbl := hx.1.2.2.1 q hpq (by omega)
    have hF : rt_F M (cx_up M 60 13 (nI (q + 1))) := rt_F.rf.put (by decide)
    obtain ⟨M', e1, e2, e3⟩ := ih (q + 1) f (cx_up M 60 13 (nI (q + 1))) (by omega) (by omega) (by omega) (ht.fr hF) (by simp [px_up])
    have e26 : tw_stepOn_26 N (tw_stepOn_0 N f) M = some (M', 0, 0) := by
      unfold tw_stepOn_26
      rw [px_get, px_put, h13, ← nI_succ q]
      exact e1
    refine ⟨M', ?_, hF.tr e2, e3⟩
    show tw_stepOn_0b N (tw_stepOn_0 N f) M = _
    unfold tw_stepOn_0b
    simp only [px_get]
    rw [h13, px_cal (rt_byte hn ht (by omega)), rB_in (by omega)]
    rcases hbl with z | z
    · rw [if_pos z]; exact e26
    · rw [if_neg (by rw [z]; decide), h13, px_cal (rt_byte hn ht (by omega)), rB_in (by omega), if_pos z]; exact e26
/-- the reference goes on to the next sign -/
theorem rt_step (hn : n ≤ 700) (hN : 705 ≤ N) (hb0 : ∀ j, j < n → 0 ≤ (b j).toInt) {p : Nat} {t : rT} {M : cx_M} (hx : rNx b n p t) (ht : rt_t b n M) (h13 : M 60 13 = nI p) : ∃ M', tw_stepOn N M = some (M', 0, 0) ∧ rt_F M M' ∧ rt_M b t M' :=
  rt_step_bl hn hN hb0 hx (t.2.1 - p) p N M (Nat.le_refl _) (by have := hx.1.1; omega) (by have := hx.1.2.1; omega) ht h13
end TW
