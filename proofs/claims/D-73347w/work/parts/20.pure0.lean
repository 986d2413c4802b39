/-! PLAIN LAWS: what the reference's functions compute -/
theorem cx_up_cc {M : cx_M} {c k : Nat} {v : Int32} : cx_up M c k v c = upd (M c) k v := by unfold cx_up cx_set; rw [if_pos rfl]
theorem cx_up_ne {M : cx_M} {c k d : Nat} {v : Int32} (h : d ≠ c) : cx_up M c k v d = M d := by unfold cx_up cx_set; rw [if_neg h]
theorem tw_spotNow_eq {N : Nat} {M : cx_M} (h : ¬ M 3 0 = 0) : tw_spotNow N M = some (M, M 8 14 / M 3 0, 0) := by
  simp only [tw_spotNow, tw_spotNow_0, cx_get, cx_nz, if_neg h]
/-- an array's place in range -/
theorem cx_st_in {M : cx_M} {c n : Nat} {i v : Int32} {f : cx_M → Option cx_R} {j : Nat} (hi : i = nI j) (hj : j < n) (hn : n < 2 ^ 31) : cx_st M c n i v f = f (cx_up M c j v) := by
  subst hi
  unfold cx_st
  rw [if_neg (vp_in_nI hj hn), nI_clamp (by omega)]
theorem cx_ld_in {M : cx_M} {c n : Nat} {i : Int32} {f : Int32 → Option cx_R} {j : Nat} (hi : i = nI j) (hj : j < n) (hn : n < 2 ^ 31) : cx_ld M c n i f = f (M c j) := by
  subst hi
  unfold cx_ld
  rw [if_neg (vp_in_nI hj hn), nI_clamp (by omega)]
/-- the row with its slots from k on emptied -/
def rw_empty (r : Nat → Int32) (k : Nat) : Nat → Int32 := fun q => if (153 + k ≤ q ∧ q < 217) ∨ (217 + k ≤ q ∧ q < 281) then -1 else r q
theorem tw_emptySlots_loop {N : Nat} : ∀ (j k n : Nat) (M : cx_M), j + k = 64 → j < n → tw_emptySlots_2 N n M (nI k) = some (cx_set M 8 (rw_empty (M 8) k), 0, 0) := by
  intro j
  induction j with
  | zero =>
    intro k n M hk hn
    obtain ⟨m, rfl⟩ : ∃ m, n = m + 1 := ⟨n - 1, by omega⟩
    have hk : k = 64 := by omega
    subst hk
    show tw_emptySlots_2b N (tw_emptySlots_2 N m) M (nI 64) = _
    unfold tw_emptySlots_2b
    rw [if_pos (by decide +kernel)]
    congr 2
    funext c
    unfold cx_set
    split
    · next h =>
      subst h
      funext q
      unfold rw_empty
      rw [if_neg (by omega)]
    · rfl
  | succ j ih =>
    intro k n M hk hn
    obtain ⟨m, rfl⟩ : ∃ m, n = m + 1 := ⟨n - 1, by omega⟩
    show tw_emptySlots_2b N (tw_emptySlots_2 N m) M (nI k) = _
    unfold tw_emptySlots_2b
    rw [if_neg (show ¬ (64 : Int32) ≤ nI k from fun h => absurd ((nI_leI (a := 64) (b := k) (by omega) (by omega)).mp h) (by omega))]
    rw [cx_st_in (i := (153 : Int32) + nI k) (n := 665) (j := 153 + k) (nI_add 153 k) (by omega) (by decide), cx_st_in (i := (217 : Int32) + nI k) (n := 665) (j := 217 + k) (nI_add 217 k) (by omega) (by decide)]
    unfold cx_let
    dsimp only
    rw [nI_1, ih (k + 1) m _ (by omega) (by omega)]
    congr 2
    funext c
    unfold cx_set
    split
    · next h =>
      subst h
      funext q
      rw [cx_up_cc, cx_up_cc]
      unfold rw_empty upd
      by_cases h1 : q = 153 + k
      · subst h1
        simp
        intro h
        omega
      · by_cases h2 : q = 217 + k
        · subst h2
          simp
          intro h
          omega
        · have e : ((153 + (k + 1) ≤ q ∧ q < 217) ∨ (217 + (k + 1) ≤ q ∧ q < 281)) ↔ ((153 + k ≤ q ∧ q < 217) ∨ (217 + k ≤ q ∧ q < 281)) := by omega
          simp only [e, if_neg h1, if_neg h2]
    · next h => rw [cx_up_ne h, cx_up_ne h]
