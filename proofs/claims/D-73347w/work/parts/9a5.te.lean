/-! READING A LINE, 5: the reader goes on to the next sign -/
def rKd (k : Nat) : Nat := if k = 0 then 9214 else 9209 + k
/-- the reader stands at place p -/
def rc_P (N : dNt) (b : Nat → Int32) (n a0 : Nat) (e8 : Option Nat) (p : Nat) (M : cx_M) (P : dP) (L : dL) : Prop := qd_u L ∧ (a0, (0, 10, 0)) ∈ L ∧ P a0 0 = some (N.2 509) ∧ (N.2 508 = 1 ∧ P a0 8 = e8) ∧ (∀ j, j < n → M 509 j &&& 255 = b j) ∧ M (dc a0) 1 = nI n ∧ M (dc a0) 2 = nI p
/-- the sign read last -/
def rc_T (N : dNt) (b : Nat → Int32) (a0 s : Nat) (t : rT) (M : cx_M) (P : dP) (L : dL) : Prop := M (dc a0) 3 = nI t.2.1 ∧ P a0 6 = some (N.2 (rKd t.1)) ∧
  (t.1 = 2 → (t.2.2 - t.2.1 ≤ 4 → M (dc a0) 5 = 0 ∧ M (dc a0) 4 = nI (rVal b t.2.1 (t.2.2 - t.2.1))) ∧ (¬ t.2.2 - t.2.1 ≤ 4 → M (dc a0) 5 = 1)) ∧
  (t.1 = 1 ∨ t.1 = 3 → P a0 7 = some s ∧ sS M P L s (min 12 (t.2.2 - t.2.1)) (fun i => b (t.2.1 + i)))
def rB0 (b : Nat → Int32) (n p : Nat) : Int32 := if p < n then b p else 0
theorem rB0_in {b : Nat → Int32} {n p : Nat} (h : p < n) : rB0 b n p = b p := by unfold rB0; rw [if_pos h]
theorem rB0_out {b : Nat → Int32} {n p : Nat} (F : Int32 → Prop) (hF : ¬ F 0) (h : ¬ (p < n ∧ F (b p))) : ¬ F (rB0 b n p) := by
  unfold rB0
  by_cases c : p < n
  · rw [if_pos c]; exact fun z => h ⟨c, z⟩
  · rw [if_neg c]; exact hF
section GO
variable {N : dNt} {bc bs : Nat} {M : cx_M} {P : dP} {L : dL} {b : Nat → Int32} {n a0 p : Nat} {Q : cd_Qt} {e8 : Option Nat}
theorem rc_byte {q : Nat} (hn : n ≤ 700) (h : rc_P N b n a0 e8 p M P L) (hy : Q M P L (rB0 b n q) none 0 0 0) (hq : q ≤ n) : rd_byteAt N bc bs M P L a0 (nI q) Q := by
  obtain ⟨h0, h1, h2, h3, h4, h5, h6⟩ := h
  have t1 := pi_nI (n := q) (by omega)
  unfold rd_byteAt rd_byteAt_0
  refine ⟨h1, pq_get ?_⟩
  rw [h5]
  unfold rB0 at hy
  by_cases c : q < n
  · rw [if_neg (nI_ge (by omega) (by omega))]
    refine ⟨h1, pd_let (pd_nn h2 ⟨rfl, h3.1, pq_ld (by omega) (by omega) ?_⟩)⟩
    rw [pn_I (by omega), h4 q c]
    rw [if_pos c] at hy
    exact hy
  · rw [if_pos (nI_le (by omega) (by omega))]
    rw [if_neg c] at hy
    exact hy
theorem rc_letter {x : Int32} (hy : Q M P L (if rb_le x then 1 else 0) none 0 0 0) : rd_isLetter N bc bs M P L x Q := by
  unfold rd_isLetter rd_isLetter_0
  unfold rb_le at hy
  by_cases c1 : x < 97
  · rw [if_pos c1]; rw [if_neg (fun z => z.1 c1)] at hy; exact hy
  · by_cases c2 : 122 < x
    · rw [if_neg c1, if_pos c2]; rw [if_neg (fun z => z.2 c2)] at hy; exact hy
    · rw [if_neg c1, if_neg c2]; rw [if_pos ⟨c1, c2⟩] at hy; exact hy
theorem rc_digit {x : Int32} (hy : Q M P L (if rb_di x then 1 else 0) none 0 0 0) : rd_isDigit N bc bs M P L x Q := by
  unfold rd_isDigit rd_isDigit_0
  unfold rb_di at hy
  by_cases c1 : x < 48
  · rw [if_pos c1]; rw [if_neg (fun z => z.1 c1)] at hy; exact hy
  · by_cases c2 : 57 < x
    · rw [if_neg c1, if_pos c2]; rw [if_neg (fun z => z.2 c2)] at hy; exact hy
    · rw [if_neg c1, if_neg c2]; rw [if_pos ⟨c1, c2⟩] at hy; exact hy
theorem rc_sign {x : Int32} (hy : Q M P L (if rb_si x then 1 else 0) none 0 0 0) : rd_isSign N bc bs M P L x Q := by
  unfold rd_isSign rd_isSign_0
  by_cases c1 : x = 59
  · rw [if_pos c1]; rw [if_pos (Or.inl c1)] at hy; exact hy
  · rw [if_neg c1]
    by_cases c2 : x = 40
    · rw [if_pos c2]; rw [if_pos (Or.inr (Or.inl c2))] at hy; exact hy
    · rw [if_neg c2]
      by_cases c3 : x = 41
      · rw [if_pos c3]; rw [if_pos (Or.inr (Or.inr (Or.inl c3)))] at hy; exact hy
      · rw [if_neg c3]
        by_cases c4 : x = 43
        · rw [if_pos c4]; rw [if_pos (Or.inr (Or.inr (Or.inr (Or.inl c4))))] at hy; exact hy
        · rw [if_neg c4]
          by_cases c5 : x = 45
          · rw [if_pos c5]; rw [if_pos (Or.inr (Or.inr (Or.inr (Or.inr (Or.inl c5)))))] at hy; exact hy
          · rw [if_neg c5]
            by_cases c6 : x = 42
            · rw [if_pos c6]; rw [if_pos (Or.inr (Or.inr (Or.inr (Or.inr (Or.inr (Or.inl c6))))))] at hy; exact hy
            · rw [if_neg c6]
              by_cases c7 : x = 47
              · rw [if_pos c7]; rw [if_pos (Or.inr (Or.inr (Or.inr (Or.inr (Or.inr (Or.inr (Or.inl c7)))))))] at hy; exact hy
              · rw [if_neg c7]
                by_cases c8 : x = 60
                · rw [if_pos c8]; rw [if_pos (Or.inr (Or.inr (Or.inr (Or.inr (Or.inr (Or.inr (Or.inr (Or.inl c8))))))))] at hy; exact hy
                · rw [if_neg c8]
                  by_cases c9 : x = 61
                  · rw [if_pos c9]; rw [if_pos (Or.inr (Or.inr (Or.inr (Or.inr (Or.inr (Or.inr (Or.inr (Or.inr c9))))))))] at hy; exact hy
                  · rw [if_neg c9]
                    rw [if_neg (by intro z; rcases z with z | z | z | z | z | z | z | z | z <;> contradiction)] at hy
                    exact hy
/-- only a place of the reader was changed -/
theorem rc_P.put {k : Nat} {v : Int32} (h : rc_P N b n a0 e8 p M P L) (hk : 3 ≤ k) : rc_P N b n a0 e8 p (cx_up M (dc a0) k v) P L := by
  obtain ⟨h0, h1, h2, h3, h4, h5, h6⟩ := h
  exact ⟨h0, h1, h2, h3, fun j hj => by rw [px_upc (dc_lo (by decide))]; exact h4 j hj, by rw [px_upd, if_neg (by omega)]; exact h5, by rw [px_upd, if_neg (by omega)]; exact h6⟩
theorem rc_P.at {q : Nat} (h : rc_P N b n a0 e8 p M P L) : rc_P N b n a0 e8 q (cx_up M (dc a0) 2 (nI q)) P L := by
  obtain ⟨h0, h1, h2, h3, h4, h5, h6⟩ := h
  exact ⟨h0, h1, h2, h3, fun j hj => by rw [px_upc (dc_lo (by decide))]; exact h4 j hj, by rw [px_upd, if_neg (by decide)]; exact h5, by rw [px_upd, if_pos rfl]⟩
theorem rc_P.ref {k : Nat} {v : Option Nat} (h : rc_P N b n a0 e8 p M P L) (hk : 0 ≠ k ∧ 8 ≠ k) : rc_P N b n a0 e8 p M (dPu P a0 k v) L := by
  obtain ⟨h0, h1, h2, h3, h4⟩ := h
  exact ⟨h0, h1, by rw [dPu_at, if_neg hk.1]; exact h2, ⟨h3.1, by rw [dPu_at, if_neg hk.2]; exact h3.2⟩, h4⟩
theorem rc_P.Y {U : Nat → Prop} {M' : cx_M} {P' : dP} {L' : dL} (h : rc_P N b n a0 e8 p M P L) (hY : qd_J U M P L M' P' L') (hu : qd_u L') (ha : ¬ U a0) : rc_P N b n a0 e8 p M' P' L' := by
  obtain ⟨h0, h1, h2, h3, h4, h5, h6⟩ := h
  obtain ⟨e1, e2⟩ := hY.2.2 _ h1 ha
  exact ⟨hu, hY.mem h1, by rw [e2]; exact h2, ⟨h3.1, by rw [e2]; exact h3.2⟩, fun j hj => by rw [hY.1 509 (by decide)]; exact h4 j hj, by rw [e1]; exact h5, by rw [e1]; exact h6⟩
theorem rc_skip (hn : n ≤ 700) {t : rT} (hx : rNx b n p t) : ∀ (m q f : Nat) (M : cx_M), p ≤ q → q + m = t.2.1 → m < f → rc_P N b n a0 e8 q M P L →
    (∀ M', rc_P N b n a0 e8 t.2.1 M' P L → qd_J (fun y => y = a0) M P L M' P L → rd_go_50 N bc bs Q a0 M' P L 0 0) → rd_go_0 N bc bs Q a0 f M P L 0 0 := by
  have hsn := hx.1.2.1
  intro m
  induction m with
  | zero =>
    intro q f M hpq hq hf h hy
    obtain ⟨f, rfl⟩ : ∃ q, f = q + 1 := ⟨f - 1, by omega⟩
    have eq : q = t.2.1 := by omega
    subst eq
    have key := hy M h qd_J.rf
    show rd_go_0b N bc bs Q a0 (rd_go_0 N bc bs Q a0 f) M P L 0 0
    unfold rd_go_0b
    refine ⟨h.2.1, pq_get ⟨h.2.1, pq_get ?_⟩⟩
    rw [h.2.2.2.2.2.1, h.2.2.2.2.2.2]
    by_cases c : n ≤ t.2.1
    · rw [if_pos (nI_le c (by omega))]; exact key
    · rw [if_neg (nI_ge (by omega) (by omega))]
      have hb := rB0_out (b := b) (n := n) (p := t.2.1) rb_bl (by decide) hx.1.2.2.2
      refine ⟨h.2.1, pq_get ⟨h.2.1, ?_⟩⟩
      rw [h.2.2.2.2.2.2]
      refine rc_byte hn h ?_ hsn
      intro _
      refine pd_add ?_
      rw [if_neg (fun z => hb (Or.inl z))]
      refine ⟨h.2.1, pq_get ⟨h.2.1, ?_⟩⟩
      rw [h.2.2.2.2.2.2]
      refine rc_byte hn h ?_ hsn
      intro _
      refine pd_add ?_
      rw [if_neg (fun z => hb (Or.inr z))]
      exact key
  | succ m ih =>
    intro q f M hpq hq hf h hy
    obtain ⟨f, rfl⟩ : ∃ q, f = q + 1 := ⟨f - 1, by omega⟩
    have hbl := hx.1.2.2.1 q hpq (by omega)
    have key : ∀ k m : Nat, k = 0 → m = 0 → rd_go_37 N bc bs Q a0 (rd_go_0 N bc bs Q a0 f) M P L k m := by
      intro k m e1 e2
      subst e1 e2
      unfold rd_go_37
      refine ⟨h.2.1, pq_get ⟨h.2.1, pq_put ?_⟩⟩
      rw [h.2.2.2.2.2.2, ← nI_succ q]
      refine ih (q + 1) f _ (by omega) (by omega) (by omega) h.at (fun M' g1 g2 => hy M' g1 ?_)
      exact ((qd_J.rf (U := fun y => y = a0)).put (fun _ _ _ => rfl)).tr g2 (fun _ _ z => z) (fun _ _ z => z)
    show rd_go_0b N bc bs Q a0 (rd_go_0 N bc bs Q a0 f) M P L 0 0
    unfold rd_go_0b
    refine ⟨h.2.1, pq_get ⟨h.2.1, pq_get ?_⟩⟩
    rw [h.2.2.2.2.2.1, h.2.2.2.2.2.2, if_neg (nI_ge (by omega) (by omega))]
    refine ⟨h.2.1, pq_get ⟨h.2.1, ?_⟩⟩
    rw [h.2.2.2.2.2.2]
    refine rc_byte hn h ?_ (by omega)
    rw [rB0_in (by omega)]
    intro _
    refine pd_add ?_
    rcases hbl with z | z
    · rw [if_pos z]; exact key _ _ rfl rfl
    · rw [if_neg (by rw [z]; decide)]
      refine ⟨h.2.1, pq_get ⟨h.2.1, ?_⟩⟩
      rw [h.2.2.2.2.2.2]
      refine rc_byte hn h ?_ (by omega)
      rw [rB0_in (by omega)]
      intro _
      refine pd_add ?_
      rw [if_pos z]; exact key _ _ rfl rfl
/-- digits -/
theorem rc_digits (hn : n ≤ 700) {s e : Nat} (hen : e ≤ n) (hE : ¬ (e < n ∧ rb_di (b e))) (hs : ∀ i, s ≤ i → i < e → rb_di (b i)) : ∀ (m q f : Nat) (M : cx_M), q + m = e → m < f → s ≤ q → rc_P N b n a0 e8 q M P L → M (dc a0) 3 = nI s → M (dc a0) 4 = nI (rVal b s (min 4 (q - s))) →
    (∀ M', rc_P N b n a0 e8 e M' P L → M' (dc a0) 3 = nI s → (e - s ≤ 4 → M' (dc a0) 5 = 0 ∧ M' (dc a0) 4 = nI (rVal b s (e - s))) → (¬ e - s ≤ 4 → M' (dc a0) 5 = 1) → qd_J (fun y => y = a0) M P L M' P L → Q M' (dPu P a0 6 (some (N.2 9211))) L 0 none 0 0 0) → rd_go_196 N bc bs Q a0 f M P L 0 0 := by
  intro m
  induction m with
  | zero =>
    intro q f M hq hf hsq h h3 h4 hy
    obtain ⟨f, rfl⟩ : ∃ q, f = q + 1 := ⟨f - 1, by omega⟩
    have eq : q = e := by omega
    subst eq
    have fin : ∀ (z : Int32) (k m : Nat), k = 0 → m = 0 → (z = if q - s ≤ 4 then 0 else 1) → rd_go_278 N bc bs Q a0 M P L k m z := by
      intro z k m e1 e2 ez
      subst e1 e2
      unfold rd_go_278 cq_bl
      rw [if_pos (by rw [ez]; split; exact Or.inl rfl; exact Or.inr rfl)]
      refine ⟨h.2.1, pq_put ⟨h.2.1, pd_put ?_⟩⟩
      refine hy _ (h.put (by decide)) (by rw [px_upd, if_neg (by decide)]; exact h3) (fun c => ⟨by rw [px_upd, if_pos rfl, ez, if_pos c], by rw [px_upd, if_neg (by decide), h4, Nat.min_eq_right c]⟩) (fun c => by rw [px_upd, if_pos rfl, ez, if_neg c]) ((qd_J.rf (U := fun y => y = a0)).put (fun _ _ _ => rfl))
    show rd_go_196b N bc bs Q a0 (rd_go_196 N bc bs Q a0 f) M P L 0 0
    unfold rd_go_196b
    refine ⟨h.2.1, pq_get ⟨h.2.1, ?_⟩⟩
    rw [h.2.2.2.2.2.2]
    refine rc_byte hn h ?_ hen
    intro _
    refine pd_add ?_
    refine rc_digit ?_
    rw [if_neg (rB0_out rb_di (by decide) hE)]
    intro _
    refine pd_add ?_
    rw [if_pos rfl]
    refine ⟨h.2.1, pq_get ⟨h.2.1, pq_get ?_⟩⟩
    rw [h.2.2.2.2.2.2, h3, nI_sub hsq (by omega)]
    have tqs := pi_nI (n := q - s) (by omega)
    have t4 : (4 : Int32).toInt = 4 := rfl
    by_cases c : q - s ≤ 4
    · rw [if_pos (by rw [i32_le]; omega)]
      exact fin 0 _ _ rfl rfl (by rw [if_pos c])
    · rw [if_neg (by rw [i32_le]; omega)]
      exact fin 1 _ _ rfl rfl (by rw [if_neg c])
  | succ m ih =>
    intro q f M hq hf hsq h h3 h4 hy
    obtain ⟨f, rfl⟩ : ∃ q, f = q + 1 := ⟨f - 1, by omega⟩
    have tqs := pi_nI (n := q - s) (by omega)
    have t4 : (4 : Int32).toInt = 4 := rfl
    have go : ∀ (M1 : cx_M) (k m : Nat), k = 0 → m = 0 → rc_P N b n a0 e8 q M1 P L → M1 (dc a0) 3 = nI s → M1 (dc a0) 4 = nI (rVal b s (min 4 (q + 1 - s))) → qd_J (fun y => y = a0) M P L M1 P L → rd_go_246 N bc bs Q a0 (rd_go_196 N bc bs Q a0 f) M1 P L k m := by
      intro M1 k m e1 e2 g1 g2 g3 g4
      subst e1 e2
      unfold rd_go_246
      refine ⟨g1.2.1, pq_get ⟨g1.2.1, pq_put ?_⟩⟩
      rw [g1.2.2.2.2.2.2, ← nI_succ q]
      refine ih (q + 1) f _ (by omega) (by omega) (by omega) g1.at (by rw [px_upd, if_neg (by decide)]; exact g2) (by rw [px_upd, if_neg (by decide)]; exact g3) (fun M' y1 y2 y3 y4 y5 => hy M' y1 y2 y3 y4 ?_)
      exact (g4.put (fun _ _ _ => rfl)).tr y5 (fun _ _ z => z) (fun _ _ z => z)
    show rd_go_196b N bc bs Q a0 (rd_go_196 N bc bs Q a0 f) M P L 0 0
    unfold rd_go_196b
    refine ⟨h.2.1, pq_get ⟨h.2.1, ?_⟩⟩
    rw [h.2.2.2.2.2.2]
    refine rc_byte hn h ?_ (by omega)
    rw [rB0_in (by omega)]
    intro _
    refine pd_add ?_
    refine rc_digit ?_
    rw [if_pos (hs q hsq (by omega))]
    intro _
    refine pd_add ?_
    rw [if_neg (by decide)]
    refine ⟨h.2.1, pq_get ⟨h.2.1, pq_get ?_⟩⟩
    rw [h.2.2.2.2.2.2, h3, nI_sub hsq (by omega)]
    by_cases c : 4 ≤ q - s
    · rw [if_pos (by rw [i32_le]; omega)]
      exact go M _ _ rfl rfl h h3 (by rw [Nat.min_eq_left (by omega), h4, Nat.min_eq_left c]) qd_J.rf
    · rw [if_neg (by rw [i32_le]; omega)]
      refine ⟨h.2.1, pq_get ⟨h.2.1, pq_get ⟨h.2.1, ?_⟩⟩⟩
      rw [h.2.2.2.2.2.2]
      refine rc_byte hn h ?_ (by omega)
      rw [rB0_in (by omega)]
      intro _
      refine pd_add ⟨h.2.1, pq_put ?_⟩
      have hv := rVal_s (b := b) (s := s) (k := q - s) (by omega) (fun i hi => hs (s + i) (by omega) (by omega))
      rw [show s + (q - s) = q by omega] at hv
      rw [h4, Nat.min_eq_right (by omega), hv]
      exact go _ _ _ rfl rfl (h.put (by decide)) (by rw [px_upd, if_neg (by decide)]; exact h3) (by rw [px_upd, if_pos rfl, Nat.min_eq_right (by omega), show q - s + 1 = q + 1 - s by omega]) ((qd_J.rf (U := fun y => y = a0)).put (fun _ _ _ => rfl))
theorem rb_le_t {x : Int32} (h : rb_le x) : rb_t x := by
  obtain ⟨h1, h2⟩ := h
  rw [i32_lt] at h1 h2
  rw [show (97 : Int32).toInt = 97 from rfl] at h1
  rw [show (122 : Int32).toInt = 122 from rfl] at h2
  exact ⟨by omega, by omega⟩
theorem rb_si_t {x : Int32} (h : rb_si x) : rb_t x := by
  rcases h with h | h | h | h | h | h | h | h | h <;> subst h <;> exact ⟨by decide, by decide⟩
/-- letters: the builder fills -/
theorem rc_letters (hn : n ≤ 700) {s e a : Nat} {M0 : cx_M} {P0 : dP} {L0 : dL} (hen : e ≤ n) (hE : ¬ (e < n ∧ rb_le (b e))) (hs : ∀ i, s ≤ i → i < e → rb_le (b i)) (hbc : 5 ≤ bc) (hbs : 60 ≤ bs) (h0 : (a0, (0, 10, 0)) ∈ L0) (ha : ∀ x ∈ L0, x.1 ≠ a) :
    ∀ (m q f k c : Nat) (M : cx_M) (P : dP) (L : dL) (v z : Nat), q + m = e → m < f → s ≤ q → c = min 12 (q - s) → rc_P N b n a0 e8 q M P L → M (dc a0) 3 = nI s → sb_S M P L a v z c (fun i => b (s + i)) → (∀ x ∈ L0, x.1 ≠ v) → c ≤ z → ((z = 9 ∧ k = 2) ∨ (z = 20 ∧ k = 3)) → qd_J (fun y => y = a0) M0 P0 L0 M P L →
    (∀ w M' P' L' k m, k ≤ 5 → m ≤ 50 → rc_P N b n a0 e8 e M' P' L' → M' (dc a0) 3 = nI s → P' a0 7 = some w → P' a0 6 = some (N.2 9210) → sS M' P' L' w (min 12 (e - s)) (fun i => b (s + i)) → qd_J (fun y => y = a0) M0 P0 L0 M' P' L' → (∀ x ∈ L0, x.1 ≠ w) → Q M' P' L' 0 none 0 k m) →
    rd_go_116 N bc bs Q a0 f M P L k (if z = 9 then 13 else 33) a := by
  intro m
  induction m with
  | zero =>
    intro q f k c M P L v z hq hf hsq hc h h3 hS hv hcz hk hY hy
    obtain ⟨f, rfl⟩ : ∃ q, f = q + 1 := ⟨f - 1, by omega⟩
    have eq : q = e := by omega
    subst eq
    have hnn : (if z = 9 then 13 else 33) ≤ 33 := by split <;> omega
    generalize (if z = 9 then 13 else 33) = nn at hnn ⊢
    show rd_go_116b N bc bs Q a0 (rd_go_116 N bc bs Q a0 f) M P L k nn a
    unfold rd_go_116b
    refine ⟨h.2.1, pq_get ⟨h.2.1, ?_⟩⟩
    rw [h.2.2.2.2.2.2]
    refine rc_byte hn h ?_ hen
    intro _
    refine pd_add ?_
    refine rc_letter ?_
    rw [if_neg (rB0_out rb_le (by decide) hE)]
    intro _
    refine pd_add ?_
    rw [if_pos rfl]
    refine ⟨hS.1, ?_⟩
    refine sb_text hS hcz (by omega) (fun i hi => rb_le_t (hs _ (by omega) (by omega))) (by omega) (by omega) (fun w u M' P' q1 q2 q3 q4 => ?_)
    have hY' := hY.tr q4 (U := fun y => y = a0) (fun _ _ z => z) (fun _ _ z => z.elim)
    have hu' : qd_u (L ++ [(w, ((0, 17, 0) : dk))] ++ [(u, ((1, 2, c) : dk))]) := (h.1.snoc q1).snoc q2
    have hP := h.Y q4 hu' (fun z => z)
    have e3 := (q4.2.2 _ h.2.1 (fun z => z)).1
    intro _
    refine pd_add ⟨q4.mem h.2.1, pd_put ⟨q4.mem h.2.1, pd_put ?_⟩⟩
    have haw : w ≠ a0 := fun z => q1 _ h.2.1 z.symm
    refine hy w _ _ _ _ _ (by omega) (by omega) ((hP.ref (by decide)).ref (by decide)) (by rw [e3]; exact h3) (by rw [dPu_at, if_neg (by decide), dPu_at, if_pos rfl]) (by rw [dPu_at, if_pos rfl]) ?_ ((hY'.ref (fun _ _ _ => rfl)).ref (fun _ _ _ => rfl)) (fun x hx => q1 x (hY.mem hx))
    obtain ⟨y1, y2, y3, y4, w2, y5, y6, y7, y8⟩ := q3
    rw [← hc]
    exact ⟨y1, y2, y3, y4, w2, by rw [dPu_ne haw, dPu_ne haw]; exact y5, y6, y7, y8⟩
  | succ m ih =>
    intro q f k c M P L v z hq hf hsq hc h h3 hS hv hcz hk hY hy
    obtain ⟨f, rfl⟩ : ∃ q, f = q + 1 := ⟨f - 1, by omega⟩
    have hl := hs q hsq (by omega)
    have ha0 : a0 ≠ a := fun z => ha _ h0 z
    have hv0 : a0 ≠ v := fun z => hv _ h0 z
    have step : ∀ (M1 : cx_M) (P1 : dP) (L1 : dL) (v1 z1 k1 n1 c1 : Nat), c1 = min 12 (q + 1 - s) → rc_P N b n a0 e8 q M1 P1 L1 → M1 (dc a0) 3 = nI s → sb_S M1 P1 L1 a v1 z1 c1 (fun i => b (s + i)) → (∀ x ∈ L0, x.1 ≠ v1) → c1 ≤ z1 → ((z1 = 9 ∧ k1 = 2) ∨ (z1 = 20 ∧ k1 = 3)) → (n1 = if z1 = 9 then 13 else 33) → qd_J (fun y => y = a0) M0 P0 L0 M1 P1 L1 → rd_go_153 N bc bs Q a0 (rd_go_116 N bc bs Q a0 f) M1 P1 L1 k1 n1 a := by
      intro M1 P1 L1 v1 z1 k1 n1 c1 g1 g2 g3 g4 g5 g6 g7 g8 g9
      unfold rd_go_153
      refine ⟨g2.2.1, pq_get ⟨g2.2.1, pq_put ?_⟩⟩
      rw [g2.2.2.2.2.2.2, ← nI_succ q, g8]
      have hv1 : a0 ≠ v1 := fun z => g5 _ h0 z
      obtain ⟨y1, y2, y3, y4, y5, y6, y7⟩ := g4
      exact ih (q + 1) f k1 c1 _ P1 L1 v1 z1 (by omega) (by omega) (by omega) g1 g2.at (by rw [px_upd, if_neg (by decide)]; exact g3) ⟨y1, y2, y3, y4, by rw [px_upc (dc_ne ha0.symm)]; exact y5, by rw [px_upc (dc_ne ha0.symm)]; exact y6, fun i hi => by rw [px_upc (dc_ne hv1.symm)]; exact y7 i hi⟩ g5 g6 g7 (g9.put (fun _ _ _ => rfl)) hy
    have hnn : (if z = 9 then 13 else 33) ≤ 33 := by split <;> omega
    show rd_go_116b N bc bs Q a0 (rd_go_116 N bc bs Q a0 f) M P L k (if z = 9 then 13 else 33) a
    unfold rd_go_116b
    refine ⟨h.2.1, pq_get ⟨h.2.1, ?_⟩⟩
    rw [h.2.2.2.2.2.2]
    refine rc_byte hn h ?_ (by omega)
    rw [rB0_in (by omega)]
    intro _
    refine pd_add ?_
    refine rc_letter ?_
    rw [if_pos hl]
    intro _
    refine pd_add ?_
    rw [if_neg (by decide)]
    refine ⟨hS.1, ?_⟩
    refine sb_len hS ?_
    intro _
    refine pd_add ?_
    by_cases c12 : 12 ≤ c
    · rw [if_pos (show (12 : Int32) ≤ nI c from nI_le (a := 12) c12 (by omega))]
      exact step M P L v z k _ c (by omega) h h3 hS hv hcz hk rfl hY
    · rw [if_neg (show ¬ (12 : Int32) ≤ nI c from nI_ge (a := c) (b := 12) (by omega) (by omega))]
      refine ⟨h.2.1, pq_get ⟨h.2.1, ?_⟩⟩
      rw [h.2.2.2.2.2.2]
      refine rc_byte hn h ?_ (by omega)
      rw [rB0_in (by omega)]
      intro _
      refine pd_add ⟨hS.1, ?_⟩
      have hbt := rb_le_t hl
      rw [rc_ch3 hbt.1 (by have := hbt.2; omega)]
      have ec : q - s = c := by omega
      refine sb_app (f := fun i => b (s + i)) hS (by omega) (by omega) hcz (fun i hi => rb_le_t (hs _ (by omega) (by omega))) hbt (by show b (s + c) = b q; rw [← ec, show s + (q - s) = q by omega]) (by omega) (by omega) (fun v' z' M' P' L' k' n' q1 q2 q3 q4 q5 q6 => ?_)
      intro _
      refine pd_add ?_
      have hu' : qd_u L' := q6 h.1
      have hP := h.Y q4 hu' (fun z => z.elim ha0 hv0)
      have e3 := (q4.2.2 _ h.2.1 (fun z => z.elim ha0 hv0)).1
      have hv' : ∀ x ∈ L0, x.1 ≠ v' := fun x hx => by
        rcases q5 with z5 | z5
        · rw [z5]; exact hv x hx
        · exact z5 x (hY.mem hx)
      have hY' := hY.tr q4 (U := fun y => y = a0) (fun _ _ z => z) (fun x hx z => z.elim (fun e => absurd e (ha x hx)) (fun e => absurd e (hv x hx)))
      refine step M' P' L' v' z' _ _ (c + 1) (by omega) hP (by rw [e3]; exact h3) q3 hv' q1 ?_ ?_ hY'
      · rcases q2 with ⟨y1, y2, y3⟩ | ⟨y1, y2, y3, y4⟩ <;> rcases hk with ⟨w1, w2⟩ | ⟨w1, w2⟩ <;> omega
      · rcases q2 with ⟨y1, y2, y3⟩ | ⟨y1, y2, y3, y4⟩
        · rw [y1, y3]; rfl
        · rw [y1, y2, y4]; rfl
/-- the text held: the old one, or one that was not there -/
def rc_N (s s' : Nat) (L L' : dL) : Prop := s' = s ∨ ((∀ x ∈ L, x.1 ≠ s') ∧ (s', (0, 17, 0)) ∈ L')
/-- the sorts are told apart -/
def rKD (N : dNt) : Prop := ∀ i j, i < 5 → j < 5 → N.2 (9210 + i) = N.2 (9210 + j) → i = j
theorem rc_go {t : rT} {s0 : Nat} (hn : n ≤ 700) (hN : 1100 ≤ N.1) (hKd : rKD N) (hx : rNx b n p t) (h : rc_P N b n a0 e8 p M P L) (hbc : 5 ≤ bc) (hbs : 60 ≤ bs)
    (hy : ∀ s M' P' L' k m, k ≤ 5 → m ≤ 50 → (t.1 = 0 → k = 0 ∧ m = 0) → rc_P N b n a0 e8 t.2.2 M' P' L' → rc_T N b a0 s t M' P' L' → qd_J (fun y => y = a0) M P L M' P' L' → rc_N s0 s L L' → Q M' P' L' 0 none 0 k m) : rd_go N bc bs M P L a0 Q := by
  have hsn := hx.1.2.1
  have hps := hx.1.1
  unfold rd_go
  refine rc_skip hn hx (t.2.1 - p) p N.1 M (Nat.le_refl _) (by omega) (by omega) h (fun M1 h1 hY1 => ?_)
  obtain ⟨kk, s, e⟩ := t
  dsimp only at hsn hps h1 hy ⊢
  have hx2 := hx.2
  dsimp only at hx2
  -- the place, the text, the flag
  have hP4 : rc_P N b n a0 e8 s (cx_up (cx_up M1 (dc a0) 3 (nI s)) (dc a0) 5 0) (dPu P a0 7 (some (N.2 (1100000 + 0)))) L := ((h1.put (by decide)).put (by decide)).ref (by decide)
  have hY4 : qd_J (fun y => y = a0) M P L (cx_up (cx_up M1 (dc a0) 3 (nI s)) (dc a0) 5 0) (dPu P a0 7 (some (N.2 (1100000 + 0)))) L := ((hY1.put (fun _ _ _ => rfl)).put (fun _ _ _ => rfl)).ref (fun _ _ _ => rfl)
  have h34 : cx_up (cx_up M1 (dc a0) 3 (nI s)) (dc a0) 5 0 (dc a0) 3 = nI s := by rw [px_upd, if_neg (by decide), px_upd, if_pos rfl]
  unfold rd_go_50
  refine ⟨h1.2.1, pq_get ⟨h1.2.1, pq_put ⟨h1.2.1, pd_put ⟨h1.2.1, pq_put ⟨h1.2.1, pq_get ⟨h1.2.1, ?_⟩⟩⟩⟩⟩⟩
  rw [h1.2.2.2.2.2.2]
  generalize cx_up (cx_up M1 (dc a0) 3 (nI s)) (dc a0) 5 0 = M4 at hP4 hY4 h34 ⊢
  generalize dPu P a0 7 (some (N.2 (1100000 + 0))) = P4 at hP4 hY4 ⊢
  rw [hP4.2.2.2.2.2.2]
  refine rc_byte hn hP4 ?_ hsn
  intro _
  refine pd_add ⟨hP4.2.1, pq_get ⟨hP4.2.1, pq_get ?_⟩⟩
  rw [hP4.2.2.2.2.2.2, hP4.2.2.2.2.2.1]
  rcases hx2 with ⟨a1, a2, a3⟩ | ⟨a1, a2, a3, a4⟩ | ⟨a1, a0', a2, a3, a4⟩ | ⟨a1, a2, a3, a4, a5, a6⟩ | ⟨a1, a2, a3, a4, a5, a6⟩
  · subst a2 a3
    rw [if_neg (by rw [a1, i32_lt]; omega)]
    refine ⟨hP4.2.1, pd_put ?_⟩
    rw [show s = e from a1] at hP4 h34
    exact hy s0 _ _ _ _ _ (by omega) (by omega) (fun _ => ⟨rfl, rfl⟩) (hP4.ref (by decide)) ⟨by rw [a1]; exact h34, by rw [dPu_at, if_pos rfl]; rfl, fun z => absurd (show (0 : Nat) = 2 from z) (by decide), fun z => absurd (show (0 : Nat) = 1 ∨ (0 : Nat) = 3 from z) (by decide)⟩ (hY4.ref (fun _ _ _ => rfl)) (Or.inl rfl)
  all_goals have tl : nI s < nI n := by rw [i32_lt, pi_nI (by omega), pi_nI (by omega)]; omega
  all_goals rw [if_pos tl, rB0_in a1]
  · -- a word
    subst a3
    refine rc_letter ?_
    rw [if_pos a2]
    intro _
    refine pd_add ?_
    rw [if_neg (by decide)]
    refine pd_new (by omega) (by omega) (fun a ha => ?_)
    refine sb_init (f := fun i => b (s + i)) mem_new (by rw [px_new]) (by omega) (by omega) (fun v M5 P5 hv hS hY5 => ?_)
    intro _
    refine pd_add ?_
    have hYn : qd_J (fun y => y = a0) M P L (cx_set M4 (dc a) (fun _ => 0)) (dPn P4 a) (L ++ [(a, (0, 18, 0))]) := hY4.new ha
    have haL : ∀ x ∈ L, x.1 ≠ a := ha
    have hYf : qd_J (fun y => y = a0) M P L M5 P5 (L ++ [(a, (0, 18, 0))] ++ [(v, (1, 2, 9))]) := hYn.tr hY5 (fun _ _ z => z) (fun x hx z => absurd z (haL x hx))
    have hPn : rc_P N b n a0 e8 s (cx_set M4 (dc a) (fun _ => 0)) (dPn P4 a) (L ++ [(a, (0, 18, 0))]) := hP4.Y (U := fun _ => False) (qd_J.rf.new ha) (hP4.1.snoc ha) (fun z => z)
    have haa : a0 ≠ a := ha _ hP4.2.1
    have hP5 : rc_P N b n a0 e8 s M5 P5 (L ++ [(a, (0, 18, 0))] ++ [(v, (1, 2, 9))]) := hPn.Y hY5 (hPn.1.snoc hv) haa
    have e3 : M5 (dc a0) 3 = nI s := by rw [(hY5.2.2 _ hPn.2.1 haa).1, px_setc (dc_ne haa)]; exact h34
    have key := rc_letters (bc := bc) (bs := bs) (Q := Q) (M0 := M) (P0 := P) (L0 := L) hn a4.2.1 a4.2.2.2 a4.2.2.1 hbc hbs h.2.1 haL (e - s) s N.1 2 0 M5 P5 _ v 9 (by have := a4.1; omega) (by have := a4.2.1; omega) (Nat.le_refl _) (by rw [Nat.sub_self]; rfl) hP5 e3 hS (fun x hx => hv x (mem_old hx)) (by omega) (Or.inl ⟨rfl, rfl⟩) hYf (fun w M' P' L' k m g1 g2 g3 g4 g5 g6 g7 g8 g9 => hy w M' P' L' k m g1 g2 (fun z => absurd z (by decide)) g3 ⟨g4, g6, fun z => absurd (show (1 : Nat) = 2 from z) (by decide), fun _ => ⟨g5, g7⟩⟩ g8 (Or.inr ⟨g9, g7.1⟩))
    exact key
  · -- a number
    subst a3
    refine rc_letter ?_
    rw [if_neg a0']
    intro _
    refine pd_add ?_
    rw [if_pos rfl]
    refine rc_digit ?_
    rw [if_pos a2]
    intro _
    refine pd_add ?_
    rw [if_neg (by decide)]
    refine ⟨hP4.2.1, pq_put ?_⟩
    refine rc_digits hn a4.2.1 a4.2.2.2 a4.2.2.1 (e - s) s N.1 _ (by have := a4.1; omega) (by have := a4.2.1; omega) (Nat.le_refl _) (hP4.put (by decide)) (by rw [px_upd, if_neg (by decide)]; exact h34) (by rw [px_upd, if_pos rfl, Nat.sub_self]; rfl) (fun M' g1 g2 g3 g4 g5 => ?_)
    refine hy s0 M' _ L 0 0 (by omega) (by omega) (fun _ => ⟨rfl, rfl⟩) (g1.ref (by decide)) ⟨g2, by rw [dPu_at, if_pos rfl]; rfl, fun _ => ⟨g3, g4⟩, fun z => absurd (show (2 : Nat) = 1 ∨ (2 : Nat) = 3 from z) (by decide)⟩ ?_ (Or.inl rfl)
    exact (((hY4.put (fun _ _ _ => rfl)).tr g5 (fun _ _ z => z) (fun _ _ z => z))).ref (fun _ _ _ => rfl)
  · -- a mark
    subst a5 a6
    refine rc_letter ?_
    rw [if_neg a2]
    intro _
    refine pd_add ?_
    rw [if_pos rfl]
    refine rc_digit ?_
    rw [if_neg a3]
    intro _
    refine pd_add ?_
    rw [if_pos rfl]
    refine rc_sign ?_
    rw [if_pos a4]
    intro _
    refine pd_add ?_
    rw [if_neg (by decide)]
    unfold rd_go_308
    refine ⟨hP4.2.1, pd_put ⟨hP4.2.1, pd_let ?_⟩⟩
    rw [dPu_at, if_pos rfl, if_pos rfl]
    have hbt := rb_si_t a4
    rw [rc_ch3 hbt.1 (by have := hbt.2; omega)]
    refine st_one (f := fun i => b (s + i)) hbt rfl (by omega) (by omega) (fun w u M' P' q1 q2 q3 q4 => ?_)
    intro _
    have h10 := q4.mem hP4.2.1
    refine pd_add ⟨h10, pd_put ?_⟩
    unfold rd_go_330
    refine ⟨h10, pq_get ⟨h10, pq_put ?_⟩⟩
    have hu' : qd_u (L ++ [(w, ((0, 17, 0) : dk))] ++ [(u, ((1, 2, 1) : dk))]) := (hP4.1.snoc q1).snoc q2
    have hP5 := (hP4.ref (k := 6) (v := some (N.2 9212)) (by decide)).Y q4 hu' (fun z => z)
    obtain ⟨e1, e2⟩ := q4.2.2 _ hP4.2.1 (fun z => z)
    have haw : w ≠ a0 := fun z => q1 _ hP4.2.1 z.symm
    rw [hP5.2.2.2.2.2.2, ← nI_succ s]
    refine hy w _ _ _ _ _ (by omega) (by omega) (fun z => absurd z (by decide)) ((hP5.ref (k := 7) (by decide)).at) ⟨by rw [px_upd, if_neg (by decide), e1]; exact h34, ?_, fun z => absurd (show (3 : Nat) = 2 from z) (by decide), fun _ => ⟨by rw [dPu_at, if_pos rfl], ?_⟩⟩ ?_ (Or.inr ⟨q1, mem_old mem_new⟩)
    · rw [dPu_at, if_neg (by decide), e2, dPu_at, if_pos rfl]; rfl
    · obtain ⟨y1, y2, y3, y4, w2, y5, y6, y7, y8⟩ := q3
      have hu0 : w2 ≠ a0 := fun z => by
        have : ((1, 2, 1) : dk) = (0, 10, 0) := hu' _ y7 _ h10 z
        exact absurd this (by decide)
      rw [show min 12 (s + 1 - s) = 1 by omega]
      refine ⟨y1, by rw [px_upc (dc_ne haw)]; exact y2, by rw [px_upc (dc_ne haw)]; exact y3, by rw [px_upc (dc_ne haw)]; exact y4, w2, by rw [dPu_ne haw]; exact y5, y6, y7, fun i hi => by rw [px_upc (dc_ne hu0)]; exact y8 i hi⟩
    · exact (((hY4.ref (fun _ _ _ => rfl)).tr q4 (U := fun y => y = a0) (fun _ _ z => z) (fun _ _ z => z.elim)).ref (fun _ _ _ => rfl)).put (fun _ _ _ => rfl)
  · -- none of these
    subst a5 a6
    refine rc_letter ?_
    rw [if_neg a2]
    intro _
    refine pd_add ?_
    rw [if_pos rfl]
    refine rc_digit ?_
    rw [if_neg a3]
    intro _
    refine pd_add ?_
    rw [if_pos rfl]
    refine rc_sign ?_
    rw [if_neg a4]
    intro _
    refine pd_add ?_
    rw [if_pos rfl]
    unfold rd_go_308
    refine ⟨hP4.2.1, pd_put ⟨hP4.2.1, pd_let ?_⟩⟩
    rw [dPu_at, if_pos rfl, if_neg (fun z => absurd (hKd 3 2 (by decide) (by decide) (Option.some.inj z)) (by decide))]
    unfold rd_go_330
    refine ⟨hP4.2.1, pq_get ⟨hP4.2.1, pq_put ?_⟩⟩
    rw [hP4.2.2.2.2.2.2, ← nI_succ s]
    exact hy s0 _ _ L _ _ (by omega) (by omega) (fun z => absurd z (by decide)) ((hP4.ref (k := 6) (by decide)).at) ⟨by rw [px_upd, if_neg (by decide)]; exact h34, by rw [dPu_at, if_pos rfl]; rfl, fun z => absurd (show (4 : Nat) = 2 from z) (by decide), fun z => absurd (show (4 : Nat) = 1 ∨ (4 : Nat) = 3 from z) (by decide)⟩ ((hY4.ref (fun _ _ _ => rfl)).put (fun _ _ _ => rfl)) (Or.inl rfl)
end GO
