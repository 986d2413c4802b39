/-! WANDER: queues that stand in order; the plain law -/
def mx_f (y : Nat → Int) (lo : Nat) : Nat → Int
  | 0 => y lo
  | n + 1 => max (mx_f y lo n) (y (lo + n + 1))
theorem mx_ge {y : Nat → Int} {lo : Nat} : ∀ (n j : Nat), lo ≤ j → j ≤ lo + n → y j ≤ mx_f y lo n
  | 0, j, h1, h2 => by rw [show j = lo by omega]; exact Int.le_refl _
  | n + 1, j, h1, h2 => by
    unfold mx_f
    by_cases c : j = lo + n + 1
    · rw [c]; omega
    · have := mx_ge (y := y) n j h1 (by omega)
      omega
theorem mx_at {y : Nat → Int} {lo : Nat} : ∀ n : Nat, ∃ j, lo ≤ j ∧ j ≤ lo + n ∧ mx_f y lo n = y j
  | 0 => ⟨lo, Nat.le_refl _, Nat.le_refl _, rfl⟩
  | n + 1 => by
    obtain ⟨j, h1, h2, h3⟩ := mx_at (y := y) (lo := lo) n
    unfold mx_f
    by_cases c : mx_f y lo n ≤ y (lo + n + 1)
    · exact ⟨lo + n + 1, by omega, by omega, by omega⟩
    · exact ⟨j, h1, by omega, by omega⟩
theorem mx_eq {y : Nat → Int} {lo n m : Nat} (h1 : lo ≤ m) (h2 : m ≤ lo + n) (h : ∀ j, lo ≤ j → j ≤ lo + n → y j ≤ y m) : mx_f y lo n = y m := by
  obtain ⟨j, a, b, c⟩ := mx_at (y := y) (lo := lo) n
  have := h j a b
  have := mx_ge (y := y) (lo := lo) n m h1 h2
  omega
theorem mx_mono {y : Nat → Int} {lo n lo2 n2 : Nat} (h1 : lo2 ≤ lo) (h2 : lo + n ≤ lo2 + n2) : mx_f y lo n ≤ mx_f y lo2 n2 := by
  obtain ⟨j, a, b, c⟩ := mx_at (y := y) (lo := lo) n
  rw [c]
  exact mx_ge n2 j (by omega) (by omega)
/-- the queue hs (the youngest first): c numbers are behind it, what is ahead of lo has left -/
def mq (y : Nat → Int) (hs : List Nat) (lo c : Nat) : Prop := hs.Pairwise (fun a b => b < a ∧ y a < y b) ∧ (∀ h ∈ hs, lo ≤ h ∧ h < c) ∧ ∀ j, lo ≤ j → j < c → ∃ h ∈ hs, j ≤ h ∧ y j ≤ y h
def mq_pop (y : Nat → Int) (v : Int) (hs : List Nat) : List Nat := hs.dropWhile (fun j => decide (y j ≤ v))
theorem mq_pop_gt {y : Nat → Int} {v : Int} : ∀ {hs : List Nat}, hs.Pairwise (fun a b => b < a ∧ y a < y b) → ∀ h ∈ mq_pop y v hs, v < y h
  | [], _, h, hh => absurd hh (by unfold mq_pop; simp)
  | a :: hs, hp, h, hh => by
    rw [List.pairwise_cons] at hp
    unfold mq_pop at hh
    rw [List.dropWhile_cons] at hh
    by_cases c : y a ≤ v
    · rw [if_pos (by simp [c])] at hh
      exact mq_pop_gt hp.2 h hh
    · rw [if_neg (by simp [c])] at hh
      rcases List.mem_cons.mp hh with e | e
      · rw [e]; omega
      · have := (hp.1 h e).2
        omega
theorem mq_pop_sub {y : Nat → Int} {v : Int} (hs : List Nat) : (mq_pop y v hs).Sublist hs := List.dropWhile_sublist _
theorem mq_pop_out {y : Nat → Int} {v : Int} : ∀ {hs : List Nat}, ∀ h ∈ hs, h ∈ mq_pop y v hs ∨ y h ≤ v
  | [], h, hh => absurd hh (by simp)
  | a :: hs, h, hh => by
    unfold mq_pop
    rw [List.dropWhile_cons]
    by_cases c : y a ≤ v
    · rw [if_pos (by simp [c])]
      rcases List.mem_cons.mp hh with e | e
      · rw [e]; exact Or.inr c
      · exact mq_pop_out h e
    · rw [if_neg (by simp [c])]
      exact Or.inl hh
theorem mq_push {y : Nat → Int} {hs : List Nat} {lo c : Nat} (h : mq y hs lo c) (hlo : lo ≤ c) : mq y (c :: mq_pop y (y c) hs) lo (c + 1) := by
  obtain ⟨h1, h2, h3⟩ := h
  refine ⟨?_, ?_, ?_⟩
  · rw [List.pairwise_cons]
    refine ⟨fun b hb => ⟨(h2 b ((mq_pop_sub hs).subset hb)).2, mq_pop_gt h1 b hb⟩, h1.sublist (mq_pop_sub hs)⟩
  · intro x hx
    rcases List.mem_cons.mp hx with e | e
    · rw [e]; omega
    · have := h2 x ((mq_pop_sub hs).subset e)
      omega
  · intro j j1 j2
    by_cases e : j = c
    · exact ⟨c, List.mem_cons_self, by omega, by rw [e]; exact Int.le_refl _⟩
    · obtain ⟨x, x1, x2, x3⟩ := h3 j j1 (by omega)
      rcases mq_pop_out (v := y c) x x1 with z | z
      · exact ⟨x, List.mem_cons_of_mem _ z, x2, x3⟩
      · exact ⟨c, List.mem_cons_self, by omega, by omega⟩
theorem mq_keep {y : Nat → Int} {init : List Nat} {m lo lo' c : Nat} (h : mq y (init ++ [m]) lo c) (hlo : lo ≤ lo') (hm : lo' ≤ m) : mq y (init ++ [m]) lo' c := by
  obtain ⟨h1, h2, h3⟩ := h
  refine ⟨h1, fun x hx => ⟨?_, (h2 x hx).2⟩, fun j j1 j2 => h3 j (by omega) j2⟩
  rcases List.mem_append.mp hx with z | z
  · have := (List.pairwise_append.mp h1).2.2 x z m (List.mem_singleton.mpr rfl)
    omega
  · rw [List.mem_singleton.mp z]
    exact hm
theorem mq_drop {y : Nat → Int} {init : List Nat} {m lo c : Nat} (h : mq y (init ++ [m]) lo c) (hm : m ≤ lo) : mq y init (lo + 1) c := by
  obtain ⟨h1, h2, h3⟩ := h
  have hp := List.pairwise_append.mp h1
  refine ⟨hp.1, fun x hx => ⟨?_, (h2 x (List.mem_append_left _ hx)).2⟩, fun j j1 j2 => ?_⟩
  · have := hp.2.2 x hx m (List.mem_singleton.mpr rfl)
    have := (h2 m (List.mem_append_right _ (List.mem_singleton.mpr rfl))).1
    omega
  · obtain ⟨x, x1, x2, x3⟩ := h3 j (by omega) j2
    rcases List.mem_append.mp x1 with z | z
    · exact ⟨x, z, x2, x3⟩
    · rw [List.mem_singleton.mp z] at x2
      omega
theorem mq_max {y : Nat → Int} {init : List Nat} {m lo c : Nat} (h : mq y (init ++ [m]) lo c) (hlo : lo < c) : mx_f y lo (c - 1 - lo) = y m := by
  obtain ⟨h1, h2, h3⟩ := h
  have hm := h2 m (List.mem_append_right _ (List.mem_singleton.mpr rfl))
  refine mx_eq hm.1 (by omega) (fun j j1 j2 => ?_)
  obtain ⟨x, x1, x2, x3⟩ := h3 j j1 (by omega)
  rcases List.mem_append.mp x1 with z | z
  · have := ((List.pairwise_append.mp h1).2.2 x z m (List.mem_singleton.mpr rfl)).2
    omega
  · rw [← List.mem_singleton.mp z]
    exact x3
/-- the range of lo .. lo + n -/
def mx_r (y : Nat → Int) (lo n : Nat) : Int := mx_f y lo n + mx_f (fun j => -y j) lo n
theorem mx_r_mono {y : Nat → Int} {lo n lo2 n2 : Nat} (h1 : lo2 ≤ lo) (h2 : lo + n ≤ lo2 + n2) : mx_r y lo n ≤ mx_r y lo2 n2 := by
  have := mx_mono (y := y) h1 h2
  have := mx_mono (y := fun j => -y j) h1 h2
  unfold mx_r
  omega
/-- best: the greatest of the ranges R i, i < c, or 0 -/
def mx_b (R : Nat → Int) (c : Nat) (b : Int) : Prop := 0 ≤ b ∧ (∀ i, i < c → R i ≤ b) ∧ (b = 0 ∨ ∃ i, i < c ∧ b = R i)
theorem mx_b0 {R : Nat → Int} : mx_b R 0 0 := ⟨Int.le_refl _, fun i hi => absurd hi (by omega), Or.inl rfl⟩
theorem mx_bs {R : Nat → Int} {c : Nat} {b : Int} (h : mx_b R c b) : mx_b R (c + 1) (max b (R c)) := by
  obtain ⟨h1, h2, h3⟩ := h
  refine ⟨by omega, fun i hi => ?_, ?_⟩
  · by_cases e : i = c
    · rw [e]; omega
    · have := h2 i (by omega)
      omega
  · by_cases e : R c ≤ b
    · rw [Int.max_eq_left e]
      rcases h3 with z | ⟨i, i1, i2⟩
      · exact Or.inl z
      · exact Or.inr ⟨i, by omega, i2⟩
    · rw [Int.max_eq_right (by omega)]
      exact Or.inr ⟨c, by omega, rfl⟩
/-- windows that end at i, cut at the beginning, and full windows: the greatest range is the same -/
theorem mx_same {y : Nat → Int} {K w W : Nat} {b r : Int} (hw : 1 ≤ w) (hW : W = min K w) (hK : 1 ≤ K) (hb : mx_b (fun i => mx_r y (i + 1 - w) (i - (i + 1 - w))) K b) (hr : mx_b (fun i => mx_r y i (W - 1)) (K + 1 - W) r) : b = r := by
  obtain ⟨b1, b2, b3⟩ := hb
  obtain ⟨r1, r2, r3⟩ := hr
  have le1 : b ≤ r := by
    clear r3
    rcases b3 with z | ⟨i, i1, i2⟩
    · omega
    · rw [i2]
      by_cases c : i + 1 < W
      · exact Int.le_trans (mx_r_mono (lo2 := 0) (n2 := W - 1) (by omega) (by omega)) (r2 0 (by omega))
      · exact Int.le_trans (mx_r_mono (lo2 := i + 1 - W) (n2 := W - 1) (by omega) (by omega)) (r2 (i + 1 - W) (by omega))
  have le2 : r ≤ b := by
    clear b3
    rcases r3 with z | ⟨j, j1, j2⟩
    · omega
    · rw [j2]
      exact Int.le_trans (mx_r_mono (lo2 := j + W - 1 + 1 - w) (n2 := j + W - 1 - (j + W - 1 + 1 - w)) (by omega) (by omega)) (b2 (j + W - 1) (by omega))
  omega
/-- samples are small -/
def pl_W (S : ps_S) : Prop := ∀ k, k < 128 → -90000000 ≤ (S 6 k).toInt ∧ (S 6 k).toInt ≤ 90000000
def pl_y (S : ps_S) (i : Nat) : Int := (pa_sampleAt S (nI i)).toInt
theorem pl_y_b {S : ps_S} {i : Nat} (h : pl_W S) (h32 : 0 ≤ (S 0 32).toInt ∧ (S 0 32).toInt ≤ 90000) (hi : i < 1000) : -90000000 ≤ pl_y S i ∧ pl_y S i ≤ 90000000 := by
  obtain ⟨k0, k1, k2, k3⟩ := pa_kept h32.1
  have e5 : (S 0 32 - cx_min 128 (S 0 32)).toInt = (S 0 32).toInt - (cx_min 128 (S 0 32)).toInt := by rw [i32_sub (by omega) (by omega)]
  have ti := pi_nI (n := i) (by omega)
  have e6 : (S 0 32 - cx_min 128 (S 0 32) + nI i).toInt = (S 0 32).toInt - (cx_min 128 (S 0 32)).toInt + i := by rw [i32_add (by omega) (by omega), e5, ti]
  unfold pl_y pa_sampleAt
  exact h _ (pi_rp (by omega)).2.2
theorem pa_rg_s {S : ps_S} (hW : pl_W S) (h32 : 0 ≤ (S 0 32).toInt ∧ (S 0 32).toInt ≤ 90000) : ∀ (m i : Nat) (lo hi : Int32), i + m < 900 → -100000000 ≤ lo.toInt ∧ lo.toInt ≤ 100000000 → -100000000 ≤ hi.toInt ∧ hi.toInt ≤ 100000000 →
    (pa_rg S (m + 1) i lo hi).toInt = max hi.toInt (mx_f (pl_y S) i m) - min lo.toInt (-(mx_f (fun j => -pl_y S j) i m)) := by
  intro m
  induction m with
  | zero =>
    intro i lo hi hm hl hh
    have hy := pl_y_b hW h32 (i := i) (by omega)
    show ((cx_max hi (pa_sampleAt S (nI i))) - (cx_min lo (pa_sampleAt S (nI i)))).toInt = _
    have e1 := pi_max (x := hi) (y := pa_sampleAt S (nI i))
    have e2 := pi_min (x := lo) (y := pa_sampleAt S (nI i))
    have ey : (pa_sampleAt S (nI i)).toInt = pl_y S i := rfl
    rw [ey] at e1 e2
    rw [i32_sub (by omega) (by omega), e1, e2]
    unfold mx_f
    omega
  | succ m ih =>
    intro i lo hi hm hl hh
    have hy := pl_y_b hW h32 (i := i) (by omega)
    have e1 := pi_max (x := hi) (y := pa_sampleAt S (nI i))
    have e2 := pi_min (x := lo) (y := pa_sampleAt S (nI i))
    have ey : (pa_sampleAt S (nI i)).toInt = pl_y S i := rfl
    rw [ey] at e1 e2
    show (pa_rg S (m + 1) (i + 1) (cx_min lo (pa_sampleAt S (nI i))) (cx_max hi (pa_sampleAt S (nI i)))).toInt = _
    rw [ih (i + 1) _ _ (by omega) (by omega) (by omega), e1, e2]
    have sh : ∀ (y : Nat → Int) (n : Nat), max (y i) (mx_f y (i + 1) n) = mx_f y i (n + 1) := by
      intro y n
      induction n with
      | zero => rfl
      | succ n ihn =>
        show max (y i) (max (mx_f y (i + 1) n) (y (i + 1 + n + 1))) = max (mx_f y i (n + 1)) (y (i + (n + 1) + 1))
        rw [← ihn, show i + 1 + n + 1 = i + (n + 1) + 1 by omega]
        omega
    have s1 := sh (pl_y S) m
    have s2 := sh (fun j => -pl_y S j) m
    try dsimp only at s2
    omega
theorem mx_f_b {y : Nat → Int} {A B : Int} {lo : Nat} (h : ∀ j, j < 1000 → A ≤ y j ∧ y j ≤ B) (n : Nat) (hn : lo + n < 1000) : A ≤ mx_f y lo n ∧ mx_f y lo n ≤ B := by
  obtain ⟨j, a, b, c⟩ := mx_at (y := y) (lo := lo) n
  rw [c]
  exact h j (by omega)
theorem pa_rg_r {S : ps_S} (hW : pl_W S) (h32 : 0 ≤ (S 0 32).toInt ∧ (S 0 32).toInt ≤ 90000) {m i : Nat} (h : i + m < 900) : (pa_rg S (m + 1) i 100000000 (-100000000)).toInt = mx_r (pl_y S) i m := by
  rw [pa_rg_s hW h32 m i _ _ h (by decide) (by decide)]
  have b1 := mx_f_b (y := pl_y S) (lo := i) (fun j hj => pl_y_b hW h32 hj) m (by omega)
  have b2 := mx_f_b (y := fun j => -pl_y S j) (A := -90000000) (B := 90000000) (lo := i) (fun j hj => by have := pl_y_b hW h32 hj; omega) m (by omega)
  rw [show (100000000 : Int32).toInt = 100000000 from rfl, show (-100000000 : Int32).toInt = -100000000 from rfl]
  unfold mx_r
  omega
theorem pa_wn_s {S : ps_S} (hW : pl_W S) (h32 : 0 ≤ (S 0 32).toInt ∧ (S 0 32).toInt ≤ 90000) {W : Nat} (hW1 : 1 ≤ W) (hW2 : W ≤ 200) : ∀ (m i : Nat) (best : Int32), i + m ≤ 200 → mx_b (fun i => mx_r (pl_y S) i (W - 1)) i best.toInt → mx_b (fun i => mx_r (pl_y S) i (W - 1)) (i + m) (pa_wn S W 100000000 (-100000000) m i best).toInt := by
  intro m
  induction m with
  | zero => intro i best _ h; exact h
  | succ m ih =>
    intro i best hm h
    have e := pa_rg_r hW h32 (m := W - 1) (i := i) (by omega)
    rw [show W - 1 + 1 = W by omega] at e
    have h2 := mx_bs h
    try dsimp only at h2
    rw [← e, ← pi_max] at h2
    have := ih (i + 1) _ (by omega) h2
    rw [show i + (m + 1) = i + 1 + m by omega]
    exact this
