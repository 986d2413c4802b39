/-! TRAILING ZEROS, NEXT BITS -/
def pz_74 (x0 x1 : Int32) : Int32 := x1 + cx_ushr x0 1
def pz_62 (x0 x1 : Int32) : Int32 := if x0 ≤ 4 then pz_74 x0 x1 else pz_74 (cx_ushr x0 2) (x1 + 2)
def pz_49 (x0 x1 : Int32) : Int32 := if x0 ≤ 16 then pz_62 x0 x1 else pz_62 (cx_ushr x0 4) (x1 + 4)
def pz_34 (x0 x1 : Int32) : Int32 := if x0 ≤ 256 then pz_49 x0 x1 else pz_49 (cx_ushr x0 8) (x1 + 8)
def pz (v1 : Int32) : Int32 := if 0 < v1 then (if v1 ≤ 65536 then pz_34 v1 1 else pz_34 (cx_ushr v1 16) ((1 : Int32) + 16)) else v1 &&& 32
theorem pz_2 : ∀ t, t < 32 → pz (nI (2 ^ t - 1)) = nI t := by decide +kernel
theorem pz_s {N bc bs k n : Nat} {Q : cd_Qt} {M : cx_M} {P : dP} {L : dL} {x : Int32} (h : Q M P L (pz ((x ^^^ (-1)) &&& (x - 1))) none 0 k n) : jI_numberOfTrailingZerosD_0 N bc bs Q M P L k n x := by
  have s62 : ∀ x0 x1, Q M P L (pz_62 x0 x1) none 0 k n → jI_numberOfTrailingZerosD_62 N bc bs Q M P L k n x0 x1 := by
    intro x0 x1 h
    unfold pz_62 at h
    unfold jI_numberOfTrailingZerosD_62
    by_cases c : x0 ≤ 4
    · rw [if_pos c] at h ⊢; exact h
    · rw [if_neg c] at h ⊢; exact h
  have s49 : ∀ x0 x1, Q M P L (pz_49 x0 x1) none 0 k n → jI_numberOfTrailingZerosD_49 N bc bs Q M P L k n x0 x1 := by
    intro x0 x1 h
    unfold pz_49 at h
    unfold jI_numberOfTrailingZerosD_49
    by_cases c : x0 ≤ 16
    · rw [if_pos c] at h ⊢; exact s62 _ _ h
    · rw [if_neg c] at h ⊢; exact s62 _ _ h
  have s34 : ∀ x0 x1, Q M P L (pz_34 x0 x1) none 0 k n → jI_numberOfTrailingZerosD_34 N bc bs Q M P L k n x0 x1 := by
    intro x0 x1 h
    unfold pz_34 at h
    unfold jI_numberOfTrailingZerosD_34
    by_cases c : x0 ≤ 256
    · rw [if_pos c] at h ⊢; exact s49 _ _ h
    · rw [if_neg c] at h ⊢; exact s49 _ _ h
  unfold jI_numberOfTrailingZerosD_0
  show if 0 < (x ^^^ (-1)) &&& (x - 1) then _ else _
  generalize (x ^^^ (-1)) &&& (x - 1) = v at h ⊢
  unfold pz at h
  by_cases c : 0 < v
  · rw [if_pos c] at h ⊢
    by_cases c2 : v ≤ 65536
    · rw [if_pos c2] at h ⊢; exact s34 _ _ h
    · rw [if_neg c2] at h ⊢; exact s34 _ _ h
  · rw [if_neg c] at h ⊢; exact h
/-- the lowest bit that is set -/
def pz_lo (n t : Nat) : Prop := n.testBit t = true ∧ ∀ j, j < t → n.testBit j = false
theorem pz_nat {n t : Nat} (h : pz_lo n t) : n = 2 ^ (t + 1) * (n / 2 ^ (t + 1)) + 2 ^ t := by
  have e : n % 2 ^ (t + 1) = 2 ^ t := by
    apply Nat.eq_of_testBit_eq
    intro j
    rw [Nat.testBit_mod_two_pow, Nat.testBit_two_pow]
    by_cases c : j < t
    · rw [h.2 j c]
      simp
      omega
    · by_cases c2 : j = t
      · rw [c2, h.1]
        simp
      · have a : ¬ j < t + 1 := by omega
        have b : ¬ t = j := by omega
        simp [a, b]
  have := Nat.div_add_mod n (2 ^ (t + 1))
  omega
theorem pz_mask {x : Int32} {t : Nat} (ht : t < 32) (h : pz_lo x.toBitVec.toNat t) : (x ^^^ (-1)) &&& (x - 1) = nI (2 ^ t - 1) := by
  have hn := pz_nat h
  have hlt : x.toBitVec.toNat < 2 ^ 32 := x.toBitVec.isLt
  have p0 : 0 < 2 ^ t := Nat.pow_pos (by decide)
  have p1 : 2 ^ t < 2 ^ (t + 1) := Nat.pow_lt_pow_right (by decide) (by omega)
  have e1 : (x - 1).toBitVec.toNat = x.toBitVec.toNat - 1 := by
    rw [Int32.toBitVec_sub, BitVec.toNat_sub]
    have : (1 : Int32).toBitVec.toNat = 1 := rfl
    rw [this]
    omega
  have e2 : x.toBitVec.toNat - 1 = 2 ^ (t + 1) * (x.toBitVec.toNat / 2 ^ (t + 1)) + (2 ^ t - 1) := by omega
  have p32 : 2 ^ t ≤ 2 ^ 31 := Nat.pow_le_pow_right (by decide) (by omega)
  have er : (nI (2 ^ t - 1)).toBitVec.toNat = 2 ^ t - 1 := by
    show (BitVec.ofNat 32 _).toNat = _
    rw [BitVec.toNat_ofNat]
    apply Nat.mod_eq_of_lt
    omega
  apply Int32.toBitVec_inj.mp
  apply BitVec.eq_of_toNat_eq
  apply Nat.eq_of_testBit_eq
  intro j
  rw [er, Int32.toBitVec_and, BitVec.toNat_and, Nat.testBit_and, Int32.toBitVec_xor, BitVec.toNat_xor, Nat.testBit_xor, e1, e2, Nat.testBit_two_pow_mul_add _ (by omega), Nat.testBit_two_pow_sub_one]
  have em : (-1 : Int32).toBitVec.toNat = 2 ^ 32 - 1 := rfl
  rw [em, Nat.testBit_two_pow_sub_one]
  by_cases c : j < t
  · rw [h.2 j c, if_pos (by omega)]
    simp [c]
    omega
  · by_cases c2 : j = t
    · rw [c2, h.1]
      simp
    · rw [if_neg (by omega)]
      have e3 : x.toBitVec.toNat.testBit j = (x.toBitVec.toNat / 2 ^ (t + 1)).testBit (j - (t + 1)) := by
        conv => lhs; rw [hn, Nat.testBit_two_pow_mul_add _ p1, if_neg (by omega)]
      rw [e3]
      by_cases c3 : j < 32
      · simp [c, c3]
      · have e4 : x.toBitVec.toNat.testBit j = false := Nat.testBit_lt_two_pow (Nat.lt_of_lt_of_le hlt (Nat.pow_le_pow_right (by decide) (by omega)))
        rw [← e3, e4]
        simp [c]
theorem qd_ntz32 {N bc bs t : Nat} {Q : cd_Qt} {M : cx_M} {P : dP} {L : dL} {x : Int32} (ht : t < 32) (h : pz_lo x.toBitVec.toNat t) (hy : Q M P L (nI t) none 0 0 0) : jI_numberOfTrailingZerosD N bc bs M P L x Q := by
  unfold jI_numberOfTrailingZerosD
  apply pz_s
  rw [pz_mask ht h, pz_2 t ht]
  exact hy
theorem pz_l2i (x : Int64) (j : Nat) (hj : j < 32) : (Int64.toInt32 x).toBitVec.toNat.testBit j = x.toBitVec.toNat.testBit j := by
  have e : (Int64.toInt32 x).toBitVec = x.toBitVec.signExtend 32 := rfl
  rw [e, BitVec.testBit_toNat, BitVec.testBit_toNat, BitVec.getLsbD_signExtend, if_pos (by omega)]
  simp [hj]
theorem pz_ushr (x : Int64) (j : Nat) : (cx_ushr64 x 32).toBitVec.toNat.testBit j = x.toBitVec.toNat.testBit (32 + j) := by
  have e : (cx_ushr64 x 32).toBitVec = x.toBitVec >>> 32 := rfl
  rw [e, BitVec.toNat_ushiftRight, Nat.testBit_shiftRight]
theorem pz_0 {x : Int32} (h : ∀ j, j < 32 → x.toBitVec.toNat.testBit j = false) : x = 0 := by
  apply Int32.toBitVec_inj.mp
  apply BitVec.eq_of_toNat_eq
  apply Nat.eq_of_testBit_eq
  intro j
  have e0 : (0 : Int32).toBitVec.toNat = 0 := rfl
  rw [e0, Nat.zero_testBit]
  by_cases c : j < 32
  · exact h j c
  · exact Nat.testBit_lt_two_pow (Nat.lt_of_lt_of_le x.toBitVec.isLt (Nat.pow_le_pow_right (by decide) (by omega)))
theorem qd_ntz64 {N bc bs t : Nat} {Q : cd_Qt} {M : cx_M} {P : dP} {L : dL} {x : Int64} (ht : t < 64) (h1 : pw_b x t = true) (h2 : ∀ j, j < t → pw_b x j = false) (hy : Q M P L (nI t) none 0 0 0) : jLo_numberOfTrailingZerosD N bc bs M P L x Q := by
  unfold jLo_numberOfTrailingZerosD jLo_numberOfTrailingZerosD_0
  show if Int64.toInt32 x = 0 then _ else _
  by_cases c : t < 32
  · have hlo : pz_lo (Int64.toInt32 x).toBitVec.toNat t := ⟨by rw [pz_l2i x t c]; exact h1, fun j hj => by rw [pz_l2i x j (by omega)]; exact h2 j hj⟩
    rw [if_neg]
    · exact qd_ntz32 c hlo (fun _ => hy)
    · intro z
      have := hlo.1
      rw [z] at this
      have e0 : (0 : Int32).toBitVec.toNat = 0 := rfl
      rw [e0, Nat.zero_testBit] at this
      exact absurd this (by decide)
  · have hz : Int64.toInt32 x = 0 := pz_0 (fun j hj => by rw [pz_l2i x j hj]; exact h2 j (by omega))
    have hlo : pz_lo (Int64.toInt32 (cx_ushr64 x 32)).toBitVec.toNat (t - 32) := by
      refine ⟨?_, fun j hj => ?_⟩
      · rw [pz_l2i _ _ (by omega), pz_ushr, show 32 + (t - 32) = t by omega]
        exact h1
      · rw [pz_l2i _ _ (by omega), pz_ushr]
        exact h2 _ (by omega)
    rw [if_pos hz]
    refine qd_ntz32 (by omega) hlo (fun _ => ?_)
    have e : (32 : Int32) + nI (t - 32) = nI t := by
      rw [i32_eq, i32_add (by rw [pi_nI (by omega), show (32 : Int32).toInt = 32 from rfl]; omega) (by rw [pi_nI (by omega), show (32 : Int32).toInt = 32 from rfl]; omega), pi_nI (by omega), pi_nI (by omega), show (32 : Int32).toInt = 32 from rfl]
      omega
    show Q M P L ((32 : Int32) + nI (t - 32)) none 0 0 0
    rw [e]
    exact hy
set_option maxRecDepth 100000 in
theorem pw_sh3 : ∀ x, x < 128 → ∀ j, j < 64 → pw_b (cx_shl64 (-1) (nI x)) j = decide (x % 64 ≤ j) := by decide +kernel
theorem pw_wi2 : ∀ x, x < 129 → (nI x) >>> (6 &&& 31 : Int32) = nI (x / 64) := by decide +kernel
theorem pw_not (v : Int64) (j : Nat) (hj : j < 64) : pw_b (v ^^^ (-1)) j = !pw_b v j := by
  unfold pw_b
  rw [Int64.toBitVec_xor, BitVec.toNat_xor, Nat.testBit_xor]
  have em : (-1 : Int64).toBitVec.toNat = 2 ^ 64 - 1 := rfl
  rw [em, Nat.testBit_two_pow_sub_one]
  simp [hj]
/-- the first bit that is set, or none is -/
theorem pw_first (v : Int64) : (∃ t, t < 64 ∧ pw_b v t = true ∧ ∀ j, j < t → pw_b v j = false) ∨ v = 0 := by
  by_cases c : ∃ t, t < 64 ∧ pw_b v t = true
  · left
    obtain ⟨t, h1, h2⟩ := c
    induction t using Nat.strongRecOn with
    | ind t ih =>
      by_cases c2 : ∃ j, j < t ∧ pw_b v j = true
      · obtain ⟨j, j1, j2⟩ := c2
        exact ih j j1 (by omega) j2
      · exact ⟨t, h1, h2, fun j hj => by
          cases e : pw_b v j with
          | false => rfl
          | true => exact absurd ⟨j, hj, e⟩ c2⟩
  · right
    apply pw_ext
    intro j hj
    rw [pw_0]
    cases e : pw_b v j with
    | false => rfl
    | true => exact absurd ⟨j, hj, e⟩ c
theorem lg_cmp0 {v : Int64} : lg_cmp v 0 = 0 ↔ v = 0 := by
  constructor
  · intro h
    by_cases c : v = 0
    · exact c
    · exfalso
      revert h
      unfold lg_cmp
      split
      · decide
      · first | decide | (rw [if_neg c]; decide)
  · intro h
    rw [h]
    decide
theorem nI_64 {u t : Nat} (hu : u ≤ 2) (ht : t < 64) : nI u * 64 + nI t = nI (64 * u + t) := by
  have e64 : (64 : Int32).toInt = 64 := rfl
  have tu := pi_nI (n := u) (by omega)
  have e1 : (nI u * 64).toInt = u * 64 := by rw [pi_mul (by rw [e64, tu]; omega) (by rw [e64, tu]; omega), e64, tu]
  rw [i32_eq, i32_add (by rw [e1, pi_nI (by omega)]; omega) (by rw [e1, pi_nI (by omega)]; omega), e1, pi_nI (by omega), pi_nI (by omega)]
  omega
theorem qd_nextSet {N bc bs x : Nat} {M : cx_M} {P : dP} {L : dL} {a b : Nat} {f : Nat → Int32} {Q : cd_Qt} (hN : 5 ≤ N) (h : qd_B M P L a b f) (hx : x ≤ 128)
    (hy : ∀ q, x ≤ q → q < 128 → (∀ j, x ≤ j → j < q → f j = 0) → f q ≠ 0 → Q M P L (nI q) none 0 0 0) (hn : (∀ j, x ≤ j → j < 128 → f j = 0) → Q M P L (-1) none 0 0 0) : jBd_nextSetBitD N bc bs M P L a (nI x) Q := by
  obtain ⟨hab, ha, hb, hP, ⟨w, hw, e1, hz⟩, hf, h01⟩ := h
  have loop : ∀ (m u n : Nat) (v : Int64), u + m = w → 0 < m → m < n → x < 64 * (u + 1) → (∀ j, j < 64 → pw_b v j = decide (x ≤ 64 * u + j ∧ f (64 * u + j) ≠ 0)) → (∀ j, x ≤ j → j < 64 * u → f j = 0) → jBd_nextSetBitD_63 N bc bs Q a n M P L 0 0 (nI u) v := by
    intro m
    induction m with
    | zero => intro u n v _ h0; exact absurd h0 (by omega)
    | succ m ih =>
      intro u n v hu _ hn2 hu2 hv hpre
      obtain ⟨n, rfl⟩ : ∃ q, n = q + 1 := ⟨n - 1, by omega⟩
      show jBd_nextSetBitD_63b N bc bs Q a (jBd_nextSetBitD_63 N bc bs Q a n) M P L 0 0 (nI u) v
      unfold jBd_nextSetBitD_63b
      rcases pw_first v with ⟨t, t1, t2, t3⟩ | e0
      · rw [if_neg (fun z => by rw [lg_cmp0.mp z, pw_0] at t2; exact absurd t2 (by decide))]
        have q1 := hv t t1
        rw [t2] at q1
        have q2 := of_decide_eq_true q1.symm
        refine qd_ntz64 t1 t2 t3 (fun _ => ?_)
        show Q M P L (nI u * 64 + nI t) none 0 0 0
        rw [nI_64 (by omega) t1]
        refine hy _ q2.1 (by omega) (fun j j1 j2 => ?_) q2.2
        by_cases c : j < 64 * u
        · exact hpre j j1 c
        · have := hv (j - 64 * u) (by omega)
          rw [t3 (j - 64 * u) (by omega), show 64 * u + (j - 64 * u) = j by omega] at this
          have n1 := of_decide_eq_false this.symm
          by_cases c2 : f j = 0
          · exact c2
          · exact absurd ⟨j1, c2⟩ n1
      · rw [if_pos (lg_cmp0.mpr e0)]
        have hpre2 : ∀ j, x ≤ j → j < 64 * (u + 1) → f j = 0 := by
          intro j j1 j2
          by_cases c : j < 64 * u
          · exact hpre j j1 c
          · have := hv (j - 64 * u) (by omega)
            rw [e0, pw_0, show 64 * u + (j - 64 * u) = j by omega] at this
            have n1 := of_decide_eq_false this.symm
            by_cases c2 : f j = 0
            · exact c2
            · exact absurd ⟨j1, c2⟩ n1
        show (a, (0, 21, 0)) ∈ L ∧ if nI u + 1 = M (dc a) 1 then _ else _
        refine ⟨ha, ?_⟩
        rw [e1, ← nI_succ]
        by_cases c : u + 1 = w
        · rw [if_pos (by rw [c])]
          refine hn (fun j j1 j2 => ?_)
          by_cases c2 : j < 64 * (u + 1)
          · exact hpre2 j j1 c2
          · rw [← hf j j2]
            exact hz j (by omega) j2
        · rw [if_neg (fun z => c (pw_inj (by omega) (by omega) z))]
          refine ⟨ha, pd_nn hP ⟨2, hb, pd_ldw (by omega) (by omega) ?_⟩⟩
          refine ih (u + 1) n _ (by omega) (by omega) (by omega) (by omega) (fun j hj => ?_) hpre2
          rw [pw_w _ _ _ hj, hf _ (by omega)]
          have c3 : x ≤ 64 * (u + 1) + j := by omega
          simp [c3]
  unfold jBd_nextSetBitD jBd_nextSetBitD_0
  rw [if_pos (nI_pos' (by omega))]
  refine ⟨ha, ?_⟩
  show 0 = 0 → 0 = 0 → _
  intro _ _
  refine ⟨ha, ?_⟩
  show if nI x >>> (6 &&& 31) < M (dc a) 1 then _ else Q M P L (-1) none 0 0 0
  rw [pw_wi2 x (by omega), e1]
  by_cases c : x / 64 < w
  · rw [if_pos (nI_lt c (by omega))]
    refine ⟨ha, pd_nn hP ⟨2, hb, pd_ldw (by omega) (by omega) ?_⟩⟩
    show jBd_nextSetBitD_63 N bc bs Q a N M P L 0 0 (nI (x / 64)) (bt_w (M (dc b)) (x / 64) &&& cx_shl64 (-1) (nI x))
    refine loop (w - x / 64) (x / 64) N _ (by omega) (by omega) (by omega) (by omega) (fun j hj => ?_) (fun j j1 j2 => absurd j1 (by omega))
    rw [pw_and, pw_w _ _ _ hj, pw_sh3 x (by omega) j hj, hf _ (by omega)]
    by_cases c3 : x % 64 ≤ j
    · have c4 : x ≤ 64 * (x / 64) + j := by omega
      simp [c3, c4]
    · have c4 : ¬ x ≤ 64 * (x / 64) + j := by omega
      simp [c3, c4]
  · rw [if_neg (nI_nlt (by omega) (by omega))]
    exact hn (fun j j1 j2 => by rw [← hf j j2]; exact hz j (by omega) j2)
theorem qd_nextClear {N bc bs x : Nat} {M : cx_M} {P : dP} {L : dL} {a b : Nat} {f : Nat → Int32} {Q : cd_Qt} (hN : 5 ≤ N) (h : qd_B M P L a b f) (hx : x ≤ 128)
    (hy : ∀ q, x ≤ q → q ≤ 128 → (∀ j, x ≤ j → j < q → f j ≠ 0) → (q < 128 → f q = 0) → Q M P L (nI q) none 0 0 0) : jBd_nextClearBitD N bc bs M P L a (nI x) Q := by
  obtain ⟨hab, ha, hb, hP, ⟨w, hw, e1, hz⟩, hf, h01⟩ := h
  have loop : ∀ (m u n : Nat) (v : Int64), u + m = w → 0 < m → m < n → x < 64 * (u + 1) → (∀ j, j < 64 → pw_b v j = decide (x ≤ 64 * u + j ∧ f (64 * u + j) = 0)) → (∀ j, x ≤ j → j < 64 * u → f j ≠ 0) → jBd_nextClearBitD_67 N bc bs Q a n M P L 0 0 (nI u) v := by
    intro m
    induction m with
    | zero => intro u n v _ h0; exact absurd h0 (by omega)
    | succ m ih =>
      intro u n v hu _ hn2 hu2 hv hpre
      obtain ⟨n, rfl⟩ : ∃ q, n = q + 1 := ⟨n - 1, by omega⟩
      show jBd_nextClearBitD_67b N bc bs Q a (jBd_nextClearBitD_67 N bc bs Q a n) M P L 0 0 (nI u) v
      unfold jBd_nextClearBitD_67b
      rcases pw_first v with ⟨t, t1, t2, t3⟩ | e0
      · rw [if_neg (fun z => by rw [lg_cmp0.mp z, pw_0] at t2; exact absurd t2 (by decide))]
        have q1 := hv t t1
        rw [t2] at q1
        have q2 := of_decide_eq_true q1.symm
        refine qd_ntz64 t1 t2 t3 (fun _ => ?_)
        show Q M P L (nI u * 64 + nI t) none 0 0 0
        rw [nI_64 (by omega) t1]
        refine hy _ q2.1 (by omega) (fun j j1 j2 => ?_) (fun _ => q2.2)
        by_cases c : j < 64 * u
        · exact hpre j j1 c
        · have := hv (j - 64 * u) (by omega)
          rw [t3 (j - 64 * u) (by omega), show 64 * u + (j - 64 * u) = j by omega] at this
          have n1 := of_decide_eq_false this.symm
          exact fun c2 => n1 ⟨j1, c2⟩
      · rw [if_pos (lg_cmp0.mpr e0)]
        have hpre2 : ∀ j, x ≤ j → j < 64 * (u + 1) → f j ≠ 0 := by
          intro j j1 j2
          by_cases c : j < 64 * u
          · exact hpre j j1 c
          · have := hv (j - 64 * u) (by omega)
            rw [e0, pw_0, show 64 * u + (j - 64 * u) = j by omega] at this
            have n1 := of_decide_eq_false this.symm
            exact fun c2 => n1 ⟨j1, c2⟩
        show (a, (0, 21, 0)) ∈ L ∧ if nI u + 1 = M (dc a) 1 then _ else _
        refine ⟨ha, ?_⟩
        rw [e1, ← nI_succ]
        by_cases c : u + 1 = w
        · rw [if_pos (by rw [c])]
          refine ⟨ha, ?_⟩
          show Q M P L (M (dc a) 1 * 64) none 0 0 0
          have e0 := nI_64 (u := w) (t := 0) hw (by omega)
          rw [show nI 0 = (0 : Int32) from rfl, pi_add0] at e0
          rw [e1, e0]
          refine hy _ (by omega) (by omega) (fun j j1 j2 => hpre2 j j1 (by omega)) (fun h128 => ?_)
          rw [← hf _ h128]
          exact hz _ (by omega) h128
        · rw [if_neg (fun z => c (pw_inj (by omega) (by omega) z))]
          refine ⟨ha, pd_nn hP ⟨2, hb, pd_ldw (by omega) (by omega) ?_⟩⟩
          show jBd_nextClearBitD_67 N bc bs Q a n M P L 0 0 (nI (u + 1)) (bt_w (M (dc b)) (u + 1) ^^^ (-1))
          refine ih (u + 1) n _ (by omega) (by omega) (by omega) (by omega) (fun j hj => ?_) hpre2
          rw [pw_not _ _ hj, pw_w _ _ _ hj, hf _ (by omega)]
          have c3 : x ≤ 64 * (u + 1) + j := by omega
          simp [c3]
  unfold jBd_nextClearBitD jBd_nextClearBitD_0
  rw [if_pos (nI_pos' (by omega))]
  refine ⟨ha, ?_⟩
  show 0 = 0 → 0 = 0 → _
  intro _ _
  refine ⟨ha, ?_⟩
  show if nI x >>> (6 &&& 31) < M (dc a) 1 then _ else Q M P L (nI x) none 0 0 0
  rw [pw_wi2 x (by omega), e1]
  by_cases c : x / 64 < w
  · rw [if_pos (nI_lt c (by omega))]
    refine ⟨ha, pd_nn hP ⟨2, hb, pd_ldw (by omega) (by omega) ?_⟩⟩
    show jBd_nextClearBitD_67 N bc bs Q a N M P L 0 0 (nI (x / 64)) ((bt_w (M (dc b)) (x / 64) ^^^ (-1)) &&& cx_shl64 (-1) (nI x))
    refine loop (w - x / 64) (x / 64) N _ (by omega) (by omega) (by omega) (by omega) (fun j hj => ?_) (fun j j1 j2 => absurd j1 (by omega))
    rw [pw_and, pw_not _ _ hj, pw_w _ _ _ hj, pw_sh3 x (by omega) j hj, hf _ (by omega)]
    by_cases c3 : x % 64 ≤ j
    · have c4 : x ≤ 64 * (x / 64) + j := by omega
      simp [c3, c4]
    · have c4 : ¬ x ≤ 64 * (x / 64) + j := by omega
      simp [c3, c4]
  · rw [if_neg (nI_nlt (by omega) (by omega))]
    exact hy x (Nat.le_refl _) hx (fun j j1 j2 => absurd j1 (by omega)) (fun h128 => by rw [← hf x h128]; exact hz x (by omega) h128)
