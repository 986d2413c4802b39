/-! READING A LINE, 4: texts compared, numbered; the program goes on to the next sign -/
/-- a text's number -/
def rH (f : Nat → Int32) : Nat → Int32
  | 0 => 0
  | k + 1 => (31 : Int32) * rH f k + (f k &&& 255)
theorem rd_wd : ∀ w, w < 26 → rdSn w < 20 := by decide +kernel
theorem cq_sw0 {x : Int32} {lo : Int} {p D : Prop} {r : List Prop} (h : x.toInt = lo) (hp : p) : cq_sw x lo (p :: r) D := by
  unfold cq_sw
  rw [if_neg (by rw [h, List.length_cons]; omega), h, Int.sub_self]
  exact hp
section TX2
variable {N : dNt} {bc bs : Nat} {M : cx_M} {P : dP} {L : dL} {s m : Nat} {f : Nat → Int32} {Q : cd_Qt}
theorem st_eq_loop {c1 v : Nat} (h2 : (v, (1, 2, m)) ∈ L) (h7 : ∀ i, i < m → M (dc v) i = f i) (hm : m = rdSn c1) (hm20 : m < 20) : ∀ (d j g : Nat), j + d = m → d < g →
    ((∀ i, j ≤ i → i < m → f i = rdSf c1 i) → Q M P L 1 none 0 0 0) → ((∃ i, j ≤ i ∧ i < m ∧ ¬ f i = rdSf c1 i) → Q M P L 0 none 0 0 0) → jL_equalsC_9 N bc bs Q c1 g M P L 0 0 v (nI j) := by
  intro d
  induction d with
  | zero =>
    intro j g hj hg hy hn
    obtain ⟨g, rfl⟩ : ∃ q, g = q + 1 := ⟨g - 1, by omega⟩
    show jL_equalsC_9b N bc bs Q c1 (jL_equalsC_9 N bc bs Q c1 g) M P L 0 0 v (nI j)
    unfold jL_equalsC_9b
    refine ⟨m, h2, ?_⟩
    rw [if_pos (nI_le (by omega) (by omega))]
    exact hy (fun i h1 h2 => absurd h1 (by omega))
  | succ d ih =>
    intro j g hj hg hy hn
    obtain ⟨g, rfl⟩ : ∃ q, g = q + 1 := ⟨g - 1, by omega⟩
    have tj := pi_nI (n := j) (by omega)
    show jL_equalsC_9b N bc bs Q c1 (jL_equalsC_9 N bc bs Q c1 g) M P L 0 0 v (nI j)
    unfold jL_equalsC_9b
    refine ⟨m, h2, ?_⟩
    rw [if_neg (nI_ge (by omega) (by omega))]
    refine ⟨m, h2, pq_ld (by omega) (by omega) ?_⟩
    rw [pn_I (by omega), h7 j (by omega)]
    unfold cq_chk
    rw [if_neg (vp_in_nI (by omega) (by omega)), nI_clamp (by omega)]
    dsimp only
    by_cases c : f j = rdSf c1 j
    · rw [if_pos c]
      refine pq_let ?_
      rw [← nI_succ j]
      refine ih (j + 1) g (by omega) (by omega) (fun q => hy (fun i h1 h2 => ?_)) (fun ⟨i, h1, h2, h3⟩ => hn ⟨i, by omega, h2, h3⟩)
      by_cases e : i = j
      · rw [e]; exact c
      · exact q i (by omega) h2
    · rw [if_neg c]
      exact hn ⟨j, Nat.le_refl _, by omega, c⟩
/-- is the text this word? -/
theorem st_eq {c1 : Nat} (h : (s, (0, 17, 0)) ∈ L ∧ M (dc s) 1 = 0 ∧ ∃ w, P s 0 = some w ∧ (w, (1, 2, m)) ∈ L ∧ ∀ i, i < m → M (dc w) i = f i) (hm : m < 1000) (hc : c1 < 26) (hN : 100 ≤ N.1)
    (hy : (m = rdSn c1 ∧ ∀ i, i < m → f i = rdSf c1 i) → Q M P L 1 none 0 0 0) (hn : ¬ (m = rdSn c1 ∧ ∀ i, i < m → f i = rdSf c1 i) → Q M P L 0 none 0 0 0) : jS_equalsC N bc bs M P L s c1 Q := by
  obtain ⟨h1, h2, w, h3, h4, h5⟩ := h
  have h20 := rd_wd c1 hc
  unfold jS_equalsC jS_equalsC_0
  refine ⟨h1, h1, pq_get ?_⟩
  rw [h2, if_pos rfl]
  unfold jS_equalsC_36
  refine ⟨h1, pd_let ?_⟩
  unfold jL_equalsC jL_equalsC_0
  refine pd_nn h3 ⟨m, h4, ?_⟩
  by_cases e : m = rdSn c1
  · rw [if_pos (by rw [e])]
    refine st_eq_loop (f := f) h4 h5 e (by omega) m 0 N.1 (by omega) (by omega) (fun q => ?_) (fun q => ?_)
    · intro _
      refine pd_add ?_
      rw [if_neg (by decide)]
      exact hy ⟨e, fun i hi => q i (Nat.zero_le i) hi⟩
    · intro _
      refine pd_add ?_
      rw [if_pos rfl]
      obtain ⟨i, -, g2, g3⟩ := q
      exact hn (fun z => g3 (z.2 i g2))
  · rw [if_neg (fun z => e (nI_inj (by omega) (by omega) z))]
    intro _
    refine pd_add ?_
    rw [if_pos rfl]
    exact hn (fun z => e z.1)
theorem st_hash_loop {N0 v : Nat} (h2 : (v, (1, 2, m)) ∈ L) (h7 : ∀ i, i < m → M (dc v) i = f i) (hm : m < 1000) : ∀ (d j g : Nat), j + d = m → d < g →
    Q M P L (rH f m) none 0 0 0 → jX_signedHashCode_8 N0 bc bs Q g M P L 0 0 (rH f j) (some v) (nI m) (nI j) := by
  intro d
  induction d with
  | zero =>
    intro j g hj hg hy
    obtain ⟨g, rfl⟩ : ∃ q, g = q + 1 := ⟨g - 1, by omega⟩
    show jX_signedHashCode_8b N0 bc bs Q (jX_signedHashCode_8 N0 bc bs Q g) M P L 0 0 (rH f j) (some v) (nI m) (nI j)
    unfold jX_signedHashCode_8b
    rw [if_pos (nI_le (by omega) (by omega)), show j = m by omega]
    exact hy
  | succ d ih =>
    intro j g hj hg hy
    obtain ⟨g, rfl⟩ : ∃ q, g = q + 1 := ⟨g - 1, by omega⟩
    have tj := pi_nI (n := j) (by omega)
    show jX_signedHashCode_8b N0 bc bs Q (jX_signedHashCode_8 N0 bc bs Q g) M P L 0 0 (rH f j) (some v) (nI m) (nI j)
    unfold jX_signedHashCode_8b
    rw [if_neg (nI_ge (by omega) (by omega))]
    refine pd_nn rfl ⟨m, h2, pq_ld (by omega) (by omega) (pq_let (pq_let ?_))⟩
    rw [pn_I (by omega), h7 j (by omega), ← nI_succ j]
    exact ih (j + 1) g (by omega) (by omega) hy
/-- a text's number is asked for the first time -/
theorem st_hash {N0 : Nat} (h : sS M P L s m f) (hm : 1 ≤ m ∧ m < 1000) (hN : 1100 ≤ N0) (hy : ∀ M', (∀ c, c ≠ dc s → M' c = M c) → M' (dc s) 1 = 0 → Q M' P L (rH f m) none 0 0 0) : jS_hashCode N0 bc bs M P L s Q := by
  obtain ⟨h1, h2, h3, h4, w, h5, h6, h7, h8⟩ := h
  have tm := pi_nI (n := m) (by omega)
  unfold jS_hashCode jS_hashCode_0
  refine ⟨h1, pq_get ?_⟩
  rw [h3, if_pos rfl]
  refine ⟨h1, pq_get ?_⟩
  rw [h4, if_pos rfl]
  refine ⟨h1, ?_⟩
  unfold jS_isLatin1 jS_isLatin1_0
  refine ⟨h1, pq_get ?_⟩
  rw [h2, if_pos rfl]
  intro _
  refine pd_add ?_
  rw [if_neg (by decide)]
  refine ⟨h1, pd_let ?_⟩
  have fin : ∀ k n : Nat, k = 0 → n = 0 → jS_hashCode_40 N0 bc bs Q s M P L k n (rH f m) := by
    intro k n e1 e2
    subst e1 e2
    unfold jS_hashCode_40
    by_cases z : rH f m = 0
    · rw [if_pos z]
      exact ⟨h1, pq_put (hy _ (fun c hc => px_upc hc) (by rw [px_upd, if_neg (by decide)]; exact h2))⟩
    · rw [if_neg z]
      exact ⟨h1, pq_put (hy _ (fun c hc => px_upc hc) (by rw [px_upd, if_neg (by decide)]; exact h2))⟩
  unfold jL_hashCode jL_hashCode_0
  refine pd_nn h5 ⟨m, h7, ?_⟩
  unfold cd_lsw
  rw [if_neg (by show ¬ (0 : Int) = (nI m).toInt; omega)]
  unfold cd_lsw
  by_cases e1 : m = 1
  · subst e1
    rw [if_pos (by show (1 : Int) = (nI 1).toInt; omega)]
    refine ⟨1, h7, pq_ld (by decide) (by decide) ?_⟩
    rw [show pn (0 : Int32) = 0 from rfl, h8 0 (by omega)]
    intro _
    refine pd_add ?_
    have := fin 0 0 rfl rfl
    rw [show rH f 1 = f 0 &&& 255 by unfold rH; unfold rH; rw [show (31 : Int32) * 0 = 0 by decide, Int32.zero_add]] at this
    exact this
  · rw [if_neg (by show ¬ (1 : Int) = (nI m).toInt; omega)]
    unfold cd_lsw
    refine ⟨m, h7, ?_⟩
    unfold jX_vectorizedHashCode jX_vectorizedHashCode_0
    refine cq_sw0 (by decide) ⟨m, h7, ?_⟩
    unfold jX_signedHashCode jX_signedHashCode_0
    refine pq_let ?_
    rw [show (0 : Int32) + nI m = nI m from Int32.zero_add _]
    show jX_signedHashCode_8 N0 _ _ _ N0 M P L 0 0 (rH f 0) (some w) (nI m) (nI 0)
    refine st_hash_loop (f := f) h7 h8 (by omega) m 0 N0 (by omega) (by omega) ?_
    intro _
    refine pd_add ?_
    intro _
    refine pd_add ?_
    intro _
    refine pd_add ?_
    exact fin _ _ rfl rfl
/-- a text's first letter -/
theorem st_first (h : sS M P L s m f) (hm : 1 ≤ m ∧ m < 1000) (hf : rb_t (f 0)) (hy : Q M P L (f 0) none 0 0 0) : jS_charAt N bc bs M P L s 0 Q := by
  obtain ⟨h1, h2, h3, h4, w, h5, h6, h7, h8⟩ := h
  have tm := pi_nI (n := m) (by omega)
  have hf2 : (f 0).toInt ≤ 255 := by have := hf.2; omega
  unfold jS_charAt jS_charAt_0 jS_isLatin1 jS_isLatin1_0
  refine ⟨h1, h1, pq_get ?_⟩
  rw [h2, if_pos rfl]
  intro _
  refine pd_add ?_
  rw [if_neg (by decide)]
  refine ⟨h1, pd_let ?_⟩
  unfold jL_charAt jL_charAt_0
  refine pd_nn h5 ⟨m, h7, ?_⟩
  have e1 : jSt_checkIndex N.1 M 0 (nI m) = some (M, 0, 0) := by
    unfold jSt_checkIndex jSt_checkIndex_0
    rw [px_cal (M := M) (v := 0) (x := 0) (by unfold jPc_checkIndex jPc_checkIndex_0; rw [if_neg (by decide), if_pos (by rw [i32_lt, pi_0]; omega)])]
  rw [pq_cal e1]
  refine ⟨m, h7, pq_ld (by decide) (by rw [pi_0]; omega) ?_⟩
  rw [show pn (0 : Int32) = 0 from rfl, h8 0 (by omega), rc_ch hf.1 hf2]
  unfold cq_cr
  rw [if_pos (rc_ch3 hf.1 hf2)]
  intro _
  refine pd_add ?_
  rw [if_pos (rc_ch3 hf.1 hf2)]
  exact hy
end TX2
