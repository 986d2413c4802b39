/-! READING A LINE, 6: the reader's questions about the sign it stands at -/
abbrev rc_A (N : dNt) (b : Nat → Int32) (n a0 : Nat) (e8 : Option Nat) (s : Nat) (t : rT) (M : cx_M) (P : dP) (L : dL) : Prop := rc_P N b n a0 e8 t.2.2 M P L ∧ rc_T N b a0 s t M P L
theorem rd_len : ∀ c, c < 26 → rdSn c < 12 := by decide +kernel
/-- a sign of letters, and a mark, are two things -/
theorem rTok_k {b : Nat → Int32} {n : Nat} {t : rT} (hT : rTok b n t) : (t.1 = 1 → t.2.1 < t.2.2 ∧ t.2.2 ≤ n ∧ ∀ i, t.2.1 ≤ i → i < t.2.2 → rb_le (b i)) ∧ (t.1 = 3 → t.2.2 = t.2.1 + 1 ∧ t.2.1 < n ∧ rb_si (b t.2.1)) ∧ (t.1 ≠ 0 → t.2.1 < t.2.2) ∧ t.1 ≤ 4 ∧ t.2.1 ≤ t.2.2 ∧ t.2.2 ≤ n := by
  obtain ⟨p, hx⟩ := hT
  have hle := hx.le
  refine ⟨fun e => ?_, fun e => ?_, hle.2.2.2.1, hle.2.2.2.2, hle.2.1, hle.2.2.1⟩
  · refine ⟨hle.2.2.2.1 (by omega), hle.2.2.1, ?_⟩
    rcases hx.2 with ⟨-, a, -⟩ | ⟨-, -, a, d⟩ | ⟨-, -, -, a, -⟩ | ⟨-, -, -, -, a, -⟩ | ⟨-, -, -, -, a, -⟩
    · omega
    · exact d.2.2.1
    · omega
    · omega
    · omega
  · rcases hx.2 with ⟨-, a, -⟩ | ⟨-, -, a, -⟩ | ⟨-, -, -, a, -⟩ | ⟨d, -, -, g, a, e2⟩ | ⟨-, -, -, -, a, -⟩
    · omega
    · omega
    · omega
    · exact ⟨e2, d, g⟩
    · omega
theorem rIs_word {b : Nat → Int32} {n : Nat} {t : rT} {w : List Int32} (hT : rTok b n t) (hw : 2 ≤ w.length) : ((t.1 = 1 ∨ t.1 = 3) ∧ rW b t w) ↔ (t.1 = 1 ∧ rW b t w) := by
  refine ⟨fun ⟨h1, h2⟩ => ⟨?_, h2⟩, fun ⟨h1, h2⟩ => ⟨Or.inl h1, h2⟩⟩
  rcases h1 with h1 | h1
  · exact h1
  · have := ((rTok_k hT).2.1 h1).1
    have := h2.1
    omega
theorem rIs_mark {b : Nat → Int32} {n : Nat} {t : rT} {c : Int32} (hT : rTok b n t) (hc : ¬ rb_le c) : ((t.1 = 1 ∨ t.1 = 3) ∧ rW b t [c]) ↔ (t.1 = 3 ∧ b t.2.1 = c) := by
  refine ⟨fun ⟨h1, h2⟩ => ?_, fun ⟨h1, h2⟩ => ⟨Or.inr h1, ?_, fun j hj => ?_⟩⟩
  · have e := h2.2 0 (show 0 < 1 by decide)
    rw [Nat.add_zero] at e
    rcases h1 with h1 | h1
    · obtain ⟨k1, k2, k3⟩ := (rTok_k hT).1 h1
      have := k3 t.2.1 (Nat.le_refl _) k1
      rw [e] at this
      exact absurd this hc
    · exact ⟨h1, e⟩
  · have := ((rTok_k hT).2.1 h1).1
    show t.2.2 - t.2.1 = 1
    omega
  · have : j = 0 := by
      have : j < 1 := hj
      omega
    subst this
    rw [Nat.add_zero]
    exact h2
section IS
variable {N : dNt} {bc bs : Nat} {M : cx_M} {P : dP} {L : dL} {b : Nat → Int32} {n a0 s : Nat} {t : rT} {Q : cd_Qt} {e8 : Option Nat}
theorem rKD.ne {i j : Nat} (h : rKD N) (hi : i < 5) (hj : j < 5) (e : i ≠ j) : ¬ (some (N.2 (9210 + i)) : Option Nat) = some (N.2 (9210 + j)) := fun z => e (h i j hi hj (Option.some.inj z))
theorem rKd_eq {k : Nat} (h : k ≤ 4) : rKd k = 9210 + (if k = 0 then 4 else k - 1) := by
  unfold rKd
  by_cases c : k = 0
  · rw [if_pos c, if_pos c]
  · rw [if_neg c, if_neg c]; omega
/-- the sort that is held: is it this one? -/
theorem rKd_if {k i : Nat} {A B : Prop} (hD : rKD N) (hk : k ≤ 4) (hi : i < 5) (hA : k = (if i = 4 then 0 else i + 1) → A) (hB : ¬ k = (if i = 4 then 0 else i + 1) → B) : if (some (N.2 (rKd k)) : Option Nat) = some (N.2 (9210 + i)) then A else B := by
  rw [rKd_eq hk]
  by_cases c : k = (if i = 4 then 0 else i + 1)
  · rw [if_pos (by rw [c]; split <;> simp_all)]
    exact hA c
  · rw [if_neg (hD.ne (by split <;> omega) hi (by split <;> split at c <;> omega))]
    exact hB c
theorem rc_is {c1 : Nat} (hD : rKD N) (hN : 1100 ≤ N.1) (h : rc_A N b n a0 e8 s t M P L) (hT : rTok b n t) (hn : n ≤ 700) (hc : c1 < 26)
    (hy : Q M P L (if (t.1 = 1 ∨ t.1 = 3) ∧ rW b t (rdS.getD c1 []) then 1 else 0) none 0 0 0) : rd_is N bc bs M P L a0 c1 Q := by
  obtain ⟨k1, k3, k0, k4, kle, ken⟩ := rTok_k hT
  have h12 := rd_len c1 hc
  have hm : rd_is_20 N bc bs Q a0 c1 M P L 0 0 ∨ ¬ (t.1 = 1 ∨ t.1 = 3) := by
    by_cases e : t.1 = 1 ∨ t.1 = 3
    · left
      obtain ⟨e7, eS⟩ := h.2.2.2.2 e
      obtain ⟨y1, y2, y3, y4, w, y5, y6, y7, y8⟩ := eS
      unfold rd_is_20
      refine ⟨h.1.2.1, pd_let (pd_nn e7 ⟨y1, ?_⟩)⟩
      have hiff : (min 12 (t.2.2 - t.2.1) = rdSn c1 ∧ ∀ i, i < min 12 (t.2.2 - t.2.1) → b (t.2.1 + i) = rdSf c1 i) ↔ rW b t (rdS.getD c1 []) := by
        refine ⟨fun ⟨g1, g2⟩ => ⟨?_, fun j hj => g2 j ?_⟩, fun ⟨g1, g2⟩ => ⟨?_, fun j hj => g2 j ?_⟩⟩
        · show t.2.2 - t.2.1 = rdSn c1; omega
        · have : j < rdSn c1 := hj
          omega
        · have : t.2.2 - t.2.1 = rdSn c1 := g1
          omega
        · have : t.2.2 - t.2.1 = rdSn c1 := g1
          show j < rdSn c1
          omega
      refine st_eq (f := fun i => b (t.2.1 + i)) ⟨y1, y2, w, y5, y7, y8⟩ (by omega) hc (by omega) (fun z => ?_) (fun z => ?_)
      · intro _
        refine pd_add ?_
        rw [if_neg (by decide)]
        rw [if_pos ⟨e, hiff.mp z⟩] at hy
        exact hy
      · intro _
        refine pd_add ?_
        rw [if_pos rfl]
        rw [if_neg (fun q => z (hiff.mpr q.2))] at hy
        exact hy
    · exact Or.inr e
  unfold rd_is rd_is_0
  refine ⟨h.1.2.1, pd_let ?_⟩
  rw [h.2.2.1]
  refine rKd_if (i := 0) hD k4 (by decide) (fun e => hm.resolve_right (fun z => z (Or.inl e))) (fun e1 => ⟨h.1.2.1, pd_let ?_⟩)
  refine rKd_if (i := 2) hD k4 (by decide) (fun e => hm.resolve_right (fun z => z (Or.inr e))) (fun e3 => ?_)
  rw [if_neg (fun q => q.1.elim e1 e3)] at hy
  exact hy
theorem rc_isW {c1 : Nat} (hD : rKD N) (hN : 1100 ≤ N.1) (h : rc_A N b n a0 e8 s t M P L) (hT : rTok b n t) (hn : n ≤ 700) (hc : c1 < 26) (hl : 2 ≤ (rdS.getD c1 []).length)
    (hy : Q M P L (if t.1 = 1 ∧ rW b t (rdS.getD c1 []) then 1 else 0) none 0 0 0) : rd_is N bc bs M P L a0 c1 Q := by
  refine rc_is hD hN h hT hn hc ?_
  by_cases c : t.1 = 1 ∧ rW b t (rdS.getD c1 [])
  · rw [if_pos ((rIs_word hT hl).mpr c)]; rw [if_pos c] at hy; exact hy
  · rw [if_neg (fun z => c ((rIs_word hT hl).mp z))]; rw [if_neg c] at hy; exact hy
theorem rc_isM {c1 : Nat} {c : Int32} (hD : rKD N) (hN : 1100 ≤ N.1) (h : rc_A N b n a0 e8 s t M P L) (hT : rTok b n t) (hn : n ≤ 700) (hc : c1 < 26) (hl : rdS.getD c1 [] = [c]) (hcl : ¬ rb_le c)
    (hy : Q M P L (if t.1 = 3 ∧ b t.2.1 = c then 1 else 0) none 0 0 0) : rd_is N bc bs M P L a0 c1 Q := by
  refine rc_is hD hN h hT hn hc ?_
  rw [hl]
  by_cases q : t.1 = 3 ∧ b t.2.1 = c
  · rw [if_pos ((rIs_mark hT hcl).mpr q)]; rw [if_pos q] at hy; exact hy
  · rw [if_neg (fun z => q ((rIs_mark hT hcl).mp z))]; rw [if_neg q] at hy; exact hy
/-- a fault is thrown -/
theorem rc_fault2 {κ p : Nat} {v : Nat} (h : rc_P N b n a0 e8 p M P L) (h3 : M (dc a0) 3 = nI v) (hbc : 1 ≤ bc) (hbs : 8 ≤ bs) (hy : ∀ M' P' L', qd_u L' → qd_J (fun _ => False) M P L M' P' L' → Q M' P' L' (nI v) none (10 + κ) 1 8) : rd_check N bc bs M P L a0 0 (nI κ) Q := by
  unfold rd_check
  rw [if_pos rfl]
  refine ⟨κ, rfl, h.2.1, pd_new (by omega) (by omega) (fun a ha => pq_get (fun u v => pq_put (pq_put ?_)))⟩
  have ha0 : a0 ≠ a := ha _ h.2.1
  rw [px_setc (dc_ne ha0), h3]
  have ok : ∀ x ∈ L, x.1 = a → False := fun x hx e => ha x hx e
  exact hy _ _ _ (h.1.snoc ha) ((((((qd_J.rf.new ha).put ok).put ok).ref ok).ref ok).ref ok)
theorem rc_fault {κ : Nat} (h : rc_A N b n a0 e8 s t M P L) (hbc : 1 ≤ bc) (hbs : 8 ≤ bs) (hy : ∀ M' P' L', qd_u L' → qd_J (fun _ => False) M P L M' P' L' → Q M' P' L' (nI t.2.1) none (10 + κ) 1 8) : rd_check N bc bs M P L a0 0 (nI κ) Q := rc_fault2 h.1 h.2.1 hbc hbs hy
theorem rc_fine {κ : Int32} (hy : Q M P L 0 none 0 0 0) : rd_check N bc bs M P L a0 1 κ Q := by
  unfold rd_check
  rw [if_neg (by decide)]
  exact hy
/-- on to the next sign: what is made for it -/
theorem rc_next {t' : rT} (hn : n ≤ 700) (hN : 1100 ≤ N.1) (hD : rKD N) (hx : rNx b n t.2.2 t') (h : rc_A N b n a0 e8 s t M P L) (hbc : 5 ≤ bc) (hbs : 60 ≤ bs)
    (hy : ∀ s' M' P' L' k m, k ≤ 5 → m ≤ 50 → rc_A N b n a0 e8 s' t' M' P' L' → qd_J (fun y => y = a0 ∨ y = s) M P L M' P' L' → rc_N s s' L L' → Q M' P' L' 0 none 0 k m) : rd_go N bc bs M P L a0 Q :=
  rc_go (s0 := s) hn hN hD hx h.1 hbc hbs (fun s' M' P' L' k m g1 g2 _ g3 g4 g5 g6 => hy s' M' P' L' k m g1 g2 ⟨g3, g4⟩ (g5.up (fun _ _ z => Or.inl z)) g6)
/-- a mark that must be there -/
theorem rc_need {t' : rT} {c1 : Nat} {c : Int32} (hn : n ≤ 700) (hN : 1100 ≤ N.1) (hD : rKD N) (h : rc_A N b n a0 e8 s t M P L) (hT : rTok b n t) (hx : rNx b n t.2.2 t') (hbc : 5 ≤ bc) (hbs : 60 ≤ bs) (hc : c1 < 26) (hl : rdS.getD c1 [] = [c]) (hcl : ¬ rb_le c)
    (hy : (t.1 = 3 ∧ b t.2.1 = c) → ∀ s' M' P' L' k m, k ≤ 5 → m ≤ 50 → rc_A N b n a0 e8 s' t' M' P' L' → qd_J (fun y => y = a0 ∨ y = s) M P L M' P' L' → rc_N s s' L L' → Q M' P' L' 0 none 0 k m)
    (he : ¬ (t.1 = 3 ∧ b t.2.1 = c) → ∀ M' P' L', qd_u L' → qd_J (fun _ => False) M P L M' P' L' → Q M' P' L' (nI t.2.1) none (10 + 1) 1 8) : rd_need N bc bs M P L a0 c1 Q := by
  unfold rd_need rd_need_0
  refine ⟨h.1.2.1, ?_⟩
  refine rc_isM hD hN h hT hn hc hl hcl ?_
  intro _
  refine pd_add ⟨h.1.2.1, ?_⟩
  by_cases q : t.1 = 3 ∧ b t.2.1 = c
  · rw [if_pos q]
    refine rc_fine ?_
    refine ⟨fun z => absurd rfl z, fun _ => pd_add ⟨h.1.2.1, ?_⟩⟩
    refine rc_next hn hN hD hx h (by omega) (by omega) (fun s' M' P' L' k m g1 g2 g3 g4 g5 => ?_)
    intro _
    refine pd_add ?_
    exact hy q s' M' P' L' _ _ (by omega) (by omega) g3 g4 g5
  · rw [if_neg q]
    refine rc_fault (κ := 1) h (by omega) (by omega) (fun M' P' L' g1 g2 => ?_)
    exact ⟨fun _ => he q M' P' L' g1 g2, fun z => absurd z (by decide)⟩
/-- a number that must be there -/
theorem rc_number {t' : rT} {lo hi : Nat} (hn : n ≤ 700) (hN : 1100 ≤ N.1) (hD : rKD N) (h : rc_A N b n a0 e8 s t M P L) (hT : rTok b n t) (hx : rNx b n t.2.2 t') (hbc : 5 ≤ bc) (hbs : 60 ≤ bs) (hlo : lo < 100000) (hhi : hi < 100000)
    (hy : rNum b t lo hi → ∀ s' M' P' L' k m, k ≤ 5 → m ≤ 50 → rc_A N b n a0 e8 s' t' M' P' L' → qd_J (fun y => y = a0 ∨ y = s) M P L M' P' L' → rc_N s s' L L' → Q M' P' L' (nI (rVal b t.2.1 (t.2.2 - t.2.1))) none 0 k m)
    (he : ¬ rNum b t lo hi → ∀ M' P' L', qd_u L' → qd_J (fun _ => False) M P L M' P' L' → Q M' P' L' (nI t.2.1) none (10 + (if t.1 = 2 then 2 else 1)) 1 8) : rd_number N bc bs M P L a0 (nI lo) (nI hi) Q := by
  obtain ⟨-, -, -, k4, -, -⟩ := rTok_k hT
  have tlo := pi_nI (n := lo) (by omega)
  have thi := pi_nI (n := hi) (by omega)
  unfold rd_number rd_number_0
  refine ⟨h.1.2.1, pd_let ?_⟩
  rw [h.2.2.1]
  refine rKd_if (i := 1) hD k4 (by decide) (fun e => ?_) (fun e => ?_)
  · have e : t.1 = 2 := e
    have bad : ∀ k m : Nat, k = 0 → m = 0 → ¬ rNum b t lo hi → rd_number_48 N bc bs Q a0 M P L k m := by
      intro k m e1 e2 hq
      subst e1 e2
      unfold rd_number_48 rd_number_49
      refine ⟨h.1.2.1, rc_fault (κ := 2) h (by omega) (by omega) (fun M' P' L' g1 g2 => ⟨fun _ => ?_, fun z => absurd z (by decide)⟩)⟩
      have := he hq M' P' L' g1 g2
      rw [if_pos e] at this
      exact this
    unfold rd_number_16
    refine ⟨h.1.2.1, rc_fine ⟨fun z => absurd rfl z, fun _ => pd_add ⟨h.1.2.1, pq_get ?_⟩⟩⟩
    obtain ⟨q4, q5⟩ := h.2.2.2.1 e
    by_cases c4 : t.2.2 - t.2.1 ≤ 4
    · obtain ⟨y5, y4⟩ := q4 c4
      have hv := rTok_num hT e c4
      have tv := pi_nI (n := rVal b t.2.1 (t.2.2 - t.2.1)) (by omega)
      rw [y5, if_pos rfl]
      refine ⟨h.1.2.1, pq_get ?_⟩
      rw [y4]
      by_cases c1 : rVal b t.2.1 (t.2.2 - t.2.1) < lo
      · rw [if_pos (by rw [i32_lt]; omega)]
        exact bad _ _ rfl rfl (fun z => by have := z.2.2.1; omega)
      · rw [if_neg (by rw [i32_lt]; omega)]
        refine ⟨h.1.2.1, pq_get ?_⟩
        rw [y4]
        by_cases c2 : hi < rVal b t.2.1 (t.2.2 - t.2.1)
        · rw [if_pos (by rw [i32_lt]; omega)]
          exact bad _ _ rfl rfl (fun z => by have := z.2.2.2; omega)
        · rw [if_neg (by rw [i32_lt]; omega)]
          have hq : rNum b t lo hi := ⟨e, c4, by omega, by omega⟩
          unfold rd_number_49
          refine ⟨h.1.2.1, rc_fine ⟨fun z => absurd rfl z, fun _ => pd_add ⟨h.1.2.1, pq_get ⟨h.1.2.1, ?_⟩⟩⟩⟩
          rw [y4]
          refine rc_next hn hN hD hx h (by omega) (by omega) (fun s' M' P' L' k m g1 g2 g3 g4 g5 => ?_)
          intro _
          refine pd_add ?_
          exact hy hq s' M' P' L' _ _ (by omega) (by omega) g3 g4 g5
    · rw [q5 c4, if_neg (by decide)]
      exact bad _ _ rfl rfl (fun z => c4 z.2.1)
  · have e : ¬ t.1 = 2 := e
    unfold rd_number_16
    refine ⟨h.1.2.1, rc_fault (κ := 1) h (by omega) (by omega) (fun M' P' L' g1 g2 => ⟨fun _ => ?_, fun z => absurd z (by decide)⟩)⟩
    have := he (fun z => e z.1) M' P' L' g1 g2
    rw [if_neg e] at this
    exact this
/-- a choice by number: all branches -/
theorem lsw_all {x : Int32} {D : Prop} : ∀ (Bs : List (Int × Prop)), (∀ p ∈ Bs, p.2) → D → cd_lsw x Bs D
  | [], _, hD => hD
  | p :: r, hB, hD => by
    unfold cd_lsw
    by_cases c : p.1 = x.toInt
    · rw [if_pos c]; exact hB p (List.mem_cons_self ..)
    · rw [if_neg c]; exact lsw_all r (fun q hq => hB q (List.mem_cons_of_mem _ hq)) hD
theorem rH_congr {f g : Nat → Int32} : ∀ k, (∀ i, i < k → f i = g i) → rH f k = rH g k
  | 0, _ => rfl
  | k + 1, h => by
    unfold rH
    rw [rH_congr k (fun i hi => h i (by omega)), h k (by omega)]
/-- the text's number and whether it is a word, when the sign is made of letters -/
theorem rc_eqW {c1 : Nat} (hN : 1100 ≤ N.1) (hT : rTok b n t) (hn : n ≤ 700) (hc : c1 < 26) (h : (s, (0, 17, 0)) ∈ L ∧ M (dc s) 1 = 0 ∧ ∃ w, P s 0 = some w ∧ (w, (1, 2, min 12 (t.2.2 - t.2.1))) ∈ L ∧ ∀ i, i < min 12 (t.2.2 - t.2.1) → M (dc w) i = b (t.2.1 + i))
    (hy : Q M P L (if rW b t (rdS.getD c1 []) then 1 else 0) none 0 0 0) : jS_equalsC N bc bs M P L s c1 Q := by
  obtain ⟨k1, k3, k0, k4, kle, ken⟩ := rTok_k hT
  have h12 := rd_len c1 hc
  have hiff : (min 12 (t.2.2 - t.2.1) = rdSn c1 ∧ ∀ i, i < min 12 (t.2.2 - t.2.1) → b (t.2.1 + i) = rdSf c1 i) ↔ rW b t (rdS.getD c1 []) := by
    refine ⟨fun ⟨g1, g2⟩ => ⟨?_, fun j hj => g2 j ?_⟩, fun ⟨g1, g2⟩ => ⟨?_, fun j hj => g2 j ?_⟩⟩
    · show t.2.2 - t.2.1 = rdSn c1; omega
    · have : j < rdSn c1 := hj
      omega
    · have : t.2.2 - t.2.1 = rdSn c1 := g1
      omega
    · have : t.2.2 - t.2.1 = rdSn c1 := g1
      show j < rdSn c1
      omega
  refine st_eq (f := fun i => b (t.2.1 + i)) h (by omega) hc (by omega) (fun z => ?_) (fun z => ?_)
  · rw [if_pos (hiff.mp z)] at hy; exact hy
  · rw [if_neg (fun q => z (hiff.mpr q))] at hy; exact hy
theorem rH_word {c1 : Nat} (hT : rTok b n t) (hc : c1 < 26) (h : rW b t (rdS.getD c1 [])) : rH (fun i => b (t.2.1 + i)) (min 12 (t.2.2 - t.2.1)) = rH (rdSf c1) (rdSn c1) := by
  have h12 := rd_len c1 hc
  have e : t.2.2 - t.2.1 = rdSn c1 := h.1
  rw [show min 12 (t.2.2 - t.2.1) = rdSn c1 by omega]
  exact rH_congr _ (fun i hi => h.2 i hi)
end IS
