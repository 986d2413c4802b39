/-! READING A LINE, 3: the program's texts: built, copied, compared, their numbers -/
/-- what was there stands as it was, but for some; L' is L and more -/
def qd_J (U : Nat → Prop) (M : cx_M) (P : dP) (L : dL) (M' : cx_M) (P' : dP) (L' : dL) : Prop :=
  (∀ c, c < 10000000 → M' c = M c) ∧ (∃ L2, L' = L ++ L2 ∧ ∀ y ∈ L2, ∀ x ∈ L, x.1 ≠ y.1) ∧ ∀ x ∈ L, ¬ U x.1 → M' (dc x.1) = M (dc x.1) ∧ P' x.1 = P x.1
theorem qd_J.rf {U : Nat → Prop} {M : cx_M} {P : dP} {L : dL} : qd_J U M P L M P L := ⟨fun _ _ => rfl, ⟨[], (List.append_nil L).symm, fun y hy => absurd hy (by simp)⟩, fun _ _ _ => ⟨rfl, rfl⟩⟩
theorem qd_J.mem {U : Nat → Prop} {M M' : cx_M} {P P' : dP} {L L' : dL} (h : qd_J U M P L M' P' L') {x : Nat × dk} (hx : x ∈ L) : x ∈ L' := by
  obtain ⟨L2, e, -⟩ := h.2.1
  rw [e]
  exact List.mem_append_left _ hx
theorem qd_J.tr {U U1 U2 : Nat → Prop} {M M1 M2 : cx_M} {P P1 P2 : dP} {L L1 L2 : dL} (h : qd_J U1 M P L M1 P1 L1) (h2 : qd_J U2 M1 P1 L1 M2 P2 L2) (k1 : ∀ x ∈ L, U1 x.1 → U x.1) (k2 : ∀ x ∈ L, U2 x.1 → U x.1) : qd_J U M P L M2 P2 L2 := by
  refine ⟨fun c hc => (h2.1 c hc).trans (h.1 c hc), ?_, fun x hx hu => ?_⟩
  · obtain ⟨A, e, hA⟩ := h.2.1
    obtain ⟨B, e2, hB⟩ := h2.2.1
    refine ⟨A ++ B, by rw [e2, e, List.append_assoc], fun y hy x hx => ?_⟩
    rcases List.mem_append.mp hy with z | z
    · exact hA y z x hx
    · exact hB y z x (h.mem hx)
  · obtain ⟨a1, a2⟩ := h.2.2 x hx (fun z => hu (k1 x hx z))
    obtain ⟨b1, b2⟩ := h2.2.2 x (h.mem hx) (fun z => hu (k2 x hx z))
    exact ⟨b1.trans a1, b2.trans a2⟩
theorem qd_J.up {U U' : Nat → Prop} {M M' : cx_M} {P P' : dP} {L L' : dL} (h : qd_J U M P L M' P' L') (k : ∀ x ∈ L, U x.1 → U' x.1) : qd_J U' M P L M' P' L' := ⟨h.1, h.2.1, fun x hx hu => h.2.2 x hx (fun z => hu (k x hx z))⟩
theorem qd_J.set {U : Nat → Prop} {M M' : cx_M} {P P' : dP} {L L' : dL} {a : Nat} {f : Nat → Int32} (h : qd_J U M P L M' P' L') (ha : ∀ x ∈ L, x.1 = a → U a) : qd_J U M P L (cx_set M' (dc a) f) P' L' :=
  ⟨fun c hc => by rw [px_setc (dc_lo hc)]; exact h.1 c hc, h.2.1, fun x hx hu => ⟨by rw [px_setc (dc_ne (fun e => hu (by rw [e]; exact ha x hx e)))]; exact (h.2.2 x hx hu).1, (h.2.2 x hx hu).2⟩⟩
theorem qd_J.put {U : Nat → Prop} {M M' : cx_M} {P P' : dP} {L L' : dL} {a k : Nat} {v : Int32} (h : qd_J U M P L M' P' L') (ha : ∀ x ∈ L, x.1 = a → U a) : qd_J U M P L (cx_up M' (dc a) k v) P' L' := h.set ha
theorem qd_J.ref {U : Nat → Prop} {M M' : cx_M} {P P' : dP} {L L' : dL} {a k : Nat} {v : Option Nat} (h : qd_J U M P L M' P' L') (ha : ∀ x ∈ L, x.1 = a → U a) : qd_J U M P L M' (dPu P' a k v) L' :=
  ⟨h.1, h.2.1, fun x hx hu => ⟨(h.2.2 x hx hu).1, by rw [dPu_ne (fun e => hu (by rw [e]; exact ha x hx e))]; exact (h.2.2 x hx hu).2⟩⟩
theorem qd_J.new {U : Nat → Prop} {M M' : cx_M} {P P' : dP} {L L' : dL} {a : Nat} {f : Nat → Int32} {kd : dk} (h : qd_J U M P L M' P' L') (ha : ∀ x ∈ L', x.1 ≠ a) : qd_J U M P L (cx_set M' (dc a) f) (dPn P' a) (L' ++ [(a, kd)]) := by
  have hL : ∀ x ∈ L, x.1 ≠ a := fun x hx => ha x (h.mem hx)
  refine ⟨fun c hc => by rw [px_setc (dc_lo hc)]; exact h.1 c hc, ?_, fun x hx hu => ⟨by rw [px_setc (dc_ne (hL x hx))]; exact (h.2.2 x hx hu).1, by rw [dPn_ne (hL x hx)]; exact (h.2.2 x hx hu).2⟩⟩
  obtain ⟨L2, e, h2⟩ := h.2.1
  refine ⟨L2 ++ [(a, kd)], by rw [e, List.append_assoc], fun y hy x hx => ?_⟩
  rcases List.mem_append.mp hy with z | z
  · exact h2 y z x hx
  · rw [List.mem_singleton.mp z]; exact hL x hx
theorem mem_new {L : dL} {x : Nat × dk} : x ∈ L ++ [x] := List.mem_append_right _ (List.mem_singleton.mpr rfl)
theorem mem_old {L : dL} {x y : Nat × dk} (h : x ∈ L) : x ∈ L ++ [y] := List.mem_append_left _ h
theorem px_new {M : cx_M} {a k : Nat} {f : Nat → Int32} : cx_set M (dc a) f (dc a) k = f k := by rw [px_sets]
theorem px_upd {M : cx_M} {a k j : Nat} {v : Int32} : cx_up M (dc a) k v (dc a) j = if j = k then v else M (dc a) j := by
  rw [px_up]
  by_cases h : j = k
  · rw [if_pos ⟨rfl, h⟩, if_pos h]
  · rw [if_neg (fun z => h z.2), if_neg h]
theorem pq_st {M : cx_M} {c n : Nat} {i v : Int32} {f : cx_M → Prop} (h0 : 0 ≤ i.toInt) (h1 : i.toInt < n) (h : f (cx_up M c (pn i) v)) : cq_st M c n i v f := by
  unfold cq_st
  rw [if_neg]
  · exact h
  · rintro (z | z)
    · rw [i32_lt, pi_0] at z; omega
    · have : i.toNatClampNeg = i.toInt.toNat := rfl
      omega
/-- bytes of a text: below 128 -/
def rb_t (x : Int32) : Prop := 0 ≤ x.toInt ∧ x.toInt ≤ 127
theorem rb_fit : ∀ k, k < 128 → fits .byte (.int (nI k)) = true ∧ cx_nb (cx_byte (nI k)) = nI k := by decide +kernel
theorem rb_t.fit {x : Int32} (h : rb_t x) : fits .byte (.int x) = true ∧ cx_nb (cx_byte x) = x := by
  rw [rc_nI h.1]
  exact rb_fit _ (by have := h.2; omega)
/-- a builder of texts, so many letters in it -/
def sb_S (M : cx_M) (P : dP) (L : dL) (a v z c : Nat) (f : Nat → Int32) : Prop := (a, (0, 18, 0)) ∈ L ∧ (v, (1, 2, z)) ∈ L ∧ a ≠ v ∧ P a 0 = some v ∧ M (dc a) 1 = 0 ∧ M (dc a) 3 = nI c ∧ ∀ i, i < c → M (dc v) i = f i
/-- a text, not numbered yet -/
def sS (M : cx_M) (P : dP) (L : dL) (s m : Nat) (f : Nat → Int32) : Prop := (s, (0, 17, 0)) ∈ L ∧ M (dc s) 1 = 0 ∧ M (dc s) 2 = 0 ∧ M (dc s) 3 = 0 ∧ ∃ w, P s 0 = some w ∧ s ≠ w ∧ (w, (1, 2, m)) ∈ L ∧ ∀ i, i < m → M (dc w) i = f i
section TX
variable {bc bs : Nat} {M : cx_M} {P : dP} {L : dL} {a v z c : Nat} {f : Nat → Int32} {Q : cd_Qt}
theorem sb_init {N : Nat} (ha : (a, (0, 18, 0)) ∈ L) (h3 : M (dc a) 3 = 0) (hb : 1 ≤ bc) (hs : 9 ≤ bs)
    (hy : ∀ v M' P', (∀ x ∈ L, x.1 ≠ v) → sb_S M' P' (L ++ [(v, (1, 2, 9))]) a v 9 0 f → qd_J (fun y => y = a) M P L M' P' (L ++ [(v, (1, 2, 9))]) → Q M' P' (L ++ [(v, (1, 2, 9))]) 0 none 0 1 9) : jB_init_2 N bc bs M P L a 9 Q := by
  unfold jB_init_2 jB_init_2_0 jA_init jA_init_0
  refine pd_newa (by decide) (by decide) ?_
  show cd_new (bc - 0) (bs - 0) 0 0 9 (1, 2, 9) M P L _
  refine pd_new (by omega) (by omega) (fun v hv => ⟨mem_old ha, pd_put ⟨mem_old ha, pq_put ?_⟩⟩)
  intro _
  refine pd_add ?_
  have hav : a ≠ v := hv _ ha
  refine hy v _ _ hv ⟨mem_old ha, mem_new, hav, by rw [dPu_at, if_pos rfl], by rw [px_upd, if_pos rfl], by rw [px_upd, if_neg (by decide), px_setc (dc_ne hav)]; exact h3, fun i hi => absurd hi (by omega)⟩ ?_
  exact (((qd_J.rf (U := fun y => y = a)).new hv).ref (fun _ _ _ => rfl)).put (fun _ _ _ => rfl)
theorem sb_ensure {N : Nat} (h : sb_S M P L a v z c f) (hz : z = 9 ∨ z = 20) (hc : c < 12) (hcz : c ≤ z) (hf : ∀ i, i < c → rb_t (f i)) (hb : 1 ≤ bc) (hs : 20 ≤ bs)
    (hy : ∀ v' z' M' P' L' k n, c + 1 ≤ z' → ((z' = z ∧ k = 0 ∧ n = 0) ∨ (z = 9 ∧ z' = 20 ∧ k = 1 ∧ n = 20)) → sb_S M' P' L' a v' z' c f → qd_J (fun y => y = a) M P L M' P' L' → (v' = v ∨ ∀ y ∈ L, y.1 ≠ v') → (qd_u L → qd_u L') → Q M' P' L' 0 none 0 k n) : jA_ensureCapacityInternal N bc bs M P L a (nI c + 1) Q := by
  obtain ⟨h1, h2, h3, h4, h5, h6, h7⟩ := id h
  have tz := pi_nI (n := z) (by omega)
  unfold jA_ensureCapacityInternal jA_ensureCapacityInternal_0
  refine ⟨h1, pd_let (pd_nn h4 ⟨z, h2, h1, pq_get (pq_let ?_)⟩)⟩
  rw [h5, i32_shr0, ← nI_succ]
  have tc := pi_nI (n := c + 1) (by omega)
  by_cases c1 : c + 1 ≤ z
  · rw [if_pos (by rw [i32_le, i32_sub (by omega) (by omega), pi_0]; omega)]
    exact hy v z M P L 0 0 c1 (Or.inl ⟨rfl, rfl, rfl⟩) h qd_J.rf (Or.inl rfl) (fun z => z)
  · have ez : z = 9 := by omega
    have ec : c = 9 := by omega
    subst ez ec
    rw [if_neg (by decide)]
    refine ⟨h1, pd_let ⟨h1, ?_⟩⟩
    unfold jA_newCapacity jA_newCapacity_0
    refine ⟨h1, pd_let (pd_nn h4 ⟨9, h2, pq_let ⟨h1, pq_get (pq_let (pq_let ⟨h1, pq_get ?_⟩))⟩⟩)⟩
    rw [h5]
    unfold jX_newLength jX_newLength_0
    refine pq_let ?_
    have e1 : nI 9 + cx_max (nI (9 + 1) <<< ((0 : Int32) &&& 31) - nI 9) (nI 9 + ((2 : Int32) <<< ((0 : Int32) &&& 31))) = 20 := by decide +kernel
    rw [e1, if_neg (by decide), if_neg (by decide)]
    intro _
    refine pd_add ?_
    rw [if_neg (by decide)]
    refine ⟨h1, pq_get ?_⟩
    rw [h5, show (20 : Int32) >>> ((0 : Int32) &&& 31) = 20 by decide]
    intro _
    refine pd_add ⟨h1, pq_get ?_⟩
    rw [h5, show (20 : Int32) <<< ((0 : Int32) &&& 31) = 20 by decide]
    unfold jR_copyOf jR_copyOf_0
    refine pd_nn h4 ⟨9, h2, ?_⟩
    rw [if_neg (by decide)]
    refine pd_newa (by decide) (by decide) ?_
    show cd_new (bc - (0 + 0 + 0)) (bs - (0 + 0 + 0)) 0 0 20 (1, 2, 20) M P L _
    refine pd_new (by omega) (by omega) (fun w hw => ⟨9, mem_old h2, 9, 20, mem_old h2, mem_new, ?_⟩)
    have haw : a ≠ w := hw _ h1
    have hvw : v ≠ w := hw _ h2
    have emin : cx_min (nI 9) 20 = nI 9 := by decide
    rw [emin]
    have e9 : (nI 9).toNatClampNeg = 9 := rfl
    have e0 : (0 : Int32).toNatClampNeg = 0 := rfl
    unfold cd_cpyB
    rw [e9, e0]
    refine ⟨by decide, by decide, by decide, by omega, by omega, fun i hi => ?_, ?_⟩
    · rw [px_setc (dc_ne hvw), Nat.zero_add, h7 i hi]
      exact (hf i hi).fit.1
    · intro _
      refine pd_add ⟨mem_old h1, pd_put ?_⟩
      refine hy w 20 _ _ _ _ _ (by omega) (Or.inr ⟨rfl, rfl, rfl, rfl⟩) ⟨mem_old h1, mem_new, haw, by rw [dPu_at, if_pos rfl], ?_, ?_, fun i hi => ?_⟩ ?_ (Or.inr hw) (fun z => z.snoc hw)
      · unfold cx_cpm; rw [px_setc (dc_ne haw), px_setc (dc_ne haw)]; exact h5
      · unfold cx_cpm; rw [px_setc (dc_ne haw), px_setc (dc_ne haw)]; exact h6
      · unfold cx_cpm
        rw [px_sets]
        unfold va_cpy
        rw [if_pos (by omega), px_setc (dc_ne hvw), Nat.zero_add, Nat.sub_zero]
        exact h7 i hi
      · unfold cx_cpm
        exact (((qd_J.rf (U := fun y => y = a)).new hw).set (fun x hx e => absurd e (hw x hx))).ref (fun _ _ _ => rfl)
theorem sb_app {N : Nat} {x : Int32} (h : sb_S M P L a v z c f) (hz : z = 9 ∨ z = 20) (hc : c < 12) (hcz : c ≤ z) (hf : ∀ i, i < c → rb_t (f i)) (hx : rb_t x) (hfx : f c = x) (hb : 1 ≤ bc) (hs : 20 ≤ bs)
    (hy : ∀ v' z' M' P' L' k n, c + 1 ≤ z' → ((z' = z ∧ k = 0 ∧ n = 0) ∨ (z = 9 ∧ z' = 20 ∧ k = 1 ∧ n = 20)) → sb_S M' P' L' a v' z' (c + 1) f → qd_J (fun y => y = a ∨ y = v) M P L M' P' L' → (v' = v ∨ ∀ y ∈ L, y.1 ≠ v') → (qd_u L → qd_u L') → Q M' P' L' 0 (some a) 0 k n) : jB_append_3 N bc bs M P L a x Q := by
  unfold jB_append_3 jB_append_3_0 jA_append_3 jA_append_3_0
  refine ⟨h.1, h.1, pq_get ⟨h.1, ?_⟩⟩
  rw [h.2.2.2.2.2.1]
  refine sb_ensure h hz hc hcz hf (by omega) (by omega) (fun v' z' M' P' L' k n q1 q2 q3 q4 q5 q6 => ?_)
  obtain ⟨h1, h2, h3, h4, h5, h6, h7⟩ := q3
  intro _
  refine pd_add ⟨h1, ?_⟩
  unfold jA_isLatin1 jA_isLatin1_0
  refine ⟨h1, pq_get ?_⟩
  rw [h5, if_pos rfl]
  intro _
  refine pd_add ?_
  rw [if_neg (by decide)]
  unfold jL_canEncode jL_canEncode_0
  rw [if_neg (show ¬ (255 : Int32) < x by rw [i32_lt, show (255 : Int32).toInt = 255 from rfl]; have := hx.2; omega)]
  intro _
  refine pd_add ?_
  rw [if_neg (by decide)]
  have tc := pi_nI (n := c) (by omega)
  refine ⟨h1, pd_let ⟨h1, pq_get ⟨h1, pq_put (pd_nn h4 ⟨z', h2, ?_⟩)⟩⟩⟩
  rw [h6, hx.fit.2]
  refine pq_st (by omega) (by omega) ?_
  rw [pn_I (by omega)]
  intro _
  refine pd_add ?_
  refine hy v' z' _ _ _ _ _ q1 (by omega) ⟨h1, h2, h3, h4, ?_, ?_, fun i hi => ?_⟩ ?_ q5 q6
  · rw [px_upc (dc_ne h3), px_upd, if_neg (by decide)]; exact h5
  · rw [px_upc (dc_ne h3), px_upd, if_pos rfl, ← nI_succ]
  · rw [px_upd]
    by_cases e : i = c
    · rw [if_pos e, e, hfx]
    · rw [if_neg e, px_upc (dc_ne h3.symm)]; exact h7 i (by omega)
  · refine ((q4.up (fun x _ e => Or.inl e)).put (fun _ _ _ => Or.inl rfl)).put (fun y hy e => ?_)
    rcases q5 with z5 | z5
    · exact Or.inr z5
    · exact absurd e (z5 y hy)
theorem sb_len {N : Nat} (h : sb_S M P L a v z c f) (hy : Q M P L (nI c) none 0 0 0) : jB_length N bc bs M P L a Q := by
  unfold jB_length jB_length_0 jA_length jA_length_0
  refine ⟨h.1, h.1, pq_get ?_⟩
  rw [h.2.2.2.2.2.1]
  intro _
  exact pd_add hy
theorem sb_copy {N : Nat} (h2 : (v, (1, 2, z)) ∈ L) (h7 : ∀ i, i < c → M (dc v) i = f i) (hc : c ≤ z) (hz : z ≤ 1000) (hf : ∀ i, i < c → rb_t (f i)) (hb : 1 ≤ bc) (hs : c ≤ bs)
    (hy : ∀ w M' P', (∀ x ∈ L, x.1 ≠ w) → (∀ i, i < c → M' (dc w) i = f i) → qd_J (fun _ => False) M P L M' P' (L ++ [(w, (1, 2, c))]) → Q M' P' (L ++ [(w, (1, 2, c))]) 0 (some w) 0 1 c) : jR_copyOfRange N bc bs M P L (some v) 0 (nI c) Q := by
  have tc := pi_nI (n := c) (by omega)
  have tz := pi_nI (n := z) (by omega)
  unfold jR_copyOfRange jR_copyOfRange_0
  rw [if_pos rfl]
  refine pd_nn rfl ⟨z, h2, ?_⟩
  by_cases e : c = z
  · subst e
    rw [if_pos rfl]
    refine ⟨c, h2, fun i hi => by rw [h7 i hi]; exact (hf i hi).fit.1, by omega, by omega, fun w hw => ⟨c, mem_new, ?_⟩⟩
    have key := hy w (cx_set M (dc w) (M (dc v))) (dPn P w) hw (fun i hi => by rw [px_new]; exact h7 i hi) (qd_J.rf.new hw)
    rw [Nat.zero_add, Nat.zero_add]
    exact key
  · rw [if_neg (fun q => e (nI_inj (by omega) (by omega) q))]
    unfold jR_copyOfRange_10 jR_copyOfRangeByte jR_copyOfRangeByte_0 jR_checkLength jR_checkLength_0
    rw [if_pos (by rw [i32_le, pi_0]; omega)]
    intro _
    refine pd_add (pq_let ?_)
    rw [show nI c - 0 = nI c by rw [show (0 : Int32) = nI 0 from rfl, nI_sub (by omega) (by omega), Nat.sub_zero]]
    refine pd_newa (by rw [i32_lt, pi_0]; omega) (by rw [nI_clamp (by omega)]; omega) ?_
    rw [nI_clamp (by omega)]
    refine pd_new (by omega) (by omega) (fun w hw => pd_nn rfl ⟨z, mem_old h2, z, c, mem_old h2, mem_new, ?_⟩)
    have hvw : v ≠ w := hw _ h2
    have emin : cx_min (nI z - 0) (nI c) = nI c := by
      rw [show nI z - 0 = nI z by rw [show (0 : Int32) = nI 0 from rfl, nI_sub (by omega) (by omega), Nat.sub_zero], i32_eq, pi_min]
      omega
    rw [emin]
    unfold cd_cpyB
    rw [nI_clamp (by omega), show (0 : Int32).toNatClampNeg = 0 from rfl]
    refine ⟨by decide, by decide, by rw [i32_lt, pi_0]; omega, by omega, by omega, fun i hi => ?_, ?_⟩
    · rw [px_setc (dc_ne hvw), Nat.zero_add, h7 i hi]; exact (hf i hi).fit.1
    · intro _
      refine pd_add ?_
      have key := hy w (cx_cpm (cx_set M (dc w) (fun _ => 0)) (dc v) (dc w) 0 0 c) (dPn P w) hw (fun i hi => by
        unfold cx_cpm
        rw [px_sets]
        unfold va_cpy
        rw [if_pos (by omega), px_setc (dc_ne hvw), Nat.zero_add, Nat.sub_zero]
        exact h7 i hi) (by
        unfold cx_cpm
        exact (qd_J.rf.new hw).set (fun x hx e => absurd e (hw x hx)))
      simpa using key
theorem sb_text {N : Nat} (h : sb_S M P L a v z c f) (hc : c ≤ z) (hz : z ≤ 1000) (hf : ∀ i, i < c → rb_t (f i)) (hb : 2 ≤ bc) (hs : 4 + c ≤ bs)
    (hy : ∀ s w M' P', (∀ x ∈ L, x.1 ≠ s) → (∀ x ∈ L ++ [(s, ((0, 17, 0) : dk))], x.1 ≠ w) → sS M' P' (L ++ [(s, (0, 17, 0))] ++ [(w, (1, 2, c))]) s c f → qd_J (fun _ => False) M P L M' P' (L ++ [(s, (0, 17, 0))] ++ [(w, (1, 2, c))]) → Q M' P' (L ++ [(s, (0, 17, 0))] ++ [(w, (1, 2, c))]) 0 (some s) 0 2 (4 + c)) : jB_toString N bc bs M P L a Q := by
  obtain ⟨h1, h2, h3, h4, h5, h6, h7⟩ := id h
  unfold jB_toString jB_toString_0
  refine pd_new (by omega) (by omega) (fun s hs1 => ?_)
  have has : a ≠ s := hs1 _ h1
  have hvs : v ≠ s := hs1 _ h2
  have m1 : cx_set M (dc s) (fun _ => 0) (dc a) 1 = 0 := by rw [px_setc (dc_ne has)]; exact h5
  have m3 : cx_set M (dc s) (fun _ => 0) (dc a) 3 = nI c := by rw [px_setc (dc_ne has)]; exact h6
  unfold jS_init jS_init_0 jS_init_2 jS_init_2_0 jA_getValue jA_getValue_0
  refine pd_nn rfl ⟨mem_old h1, mem_old h1, pd_let ?_⟩
  rw [show dPn P s a 0 = some v by rw [dPn_ne has]; exact h4]
  intro _
  refine pd_add ⟨mem_old h1, ?_⟩
  unfold jB_length jB_length_0 jA_length jA_length_0
  refine ⟨mem_old h1, mem_old h1, pq_get ?_⟩
  rw [m3]
  intro _
  refine pd_add ?_
  intro _
  refine pd_add ⟨mem_old h1, ?_⟩
  unfold jA_isLatin1 jA_isLatin1_0
  refine ⟨mem_old h1, pq_get ?_⟩
  rw [m1, if_pos rfl]
  intro _
  refine pd_add ?_
  rw [if_neg (by decide)]
  refine ⟨mem_new, pq_put ?_⟩
  refine sb_copy (f := f) (z := z) (mem_old h2) (fun i hi => by rw [px_upc (dc_ne hvs), px_setc (dc_ne hvs)]; exact h7 i hi) hc hz hf (by omega) (by omega) (fun w M' P' q1 q2 q3 => ?_)
  intro _
  have hsw : s ≠ w := q1 _ mem_new
  have es : M' (dc s) = cx_up (cx_set M (dc s) (fun _ => 0)) (dc s) 1 0 (dc s) := (q3.2.2 (s, (0, 17, 0)) mem_new (fun z => z)).1
  refine pd_add ⟨mem_old mem_new, pd_put ?_⟩
  intro _
  refine pd_add ?_
  intro _
  refine pd_add ?_
  have key := hy s w M' (dPu P' s 0 (some w)) hs1 q1 ⟨mem_old mem_new, by rw [es, px_upd, if_pos rfl], by rw [es, px_upd, if_neg (by decide), px_new], by rw [es, px_upd, if_neg (by decide), px_new], w, by rw [dPu_at, if_pos rfl], hsw, mem_new, q2⟩ (by
    have b1 : qd_J (fun _ => False) M P L (cx_up (cx_set M (dc s) (fun _ => 0)) (dc s) 1 0) (dPn P s) (L ++ [(s, (0, 17, 0))]) := (qd_J.rf.new hs1).put (fun x hx e => absurd e (hs1 x hx))
    exact (b1.tr q3 (fun _ _ z => z) (fun _ _ z => z)).ref (fun x hx e => absurd e (hs1 x hx)))
  have e1 : 0 + 1 + (0 + 0 + 0 + 0 + 1) = 2 := rfl
  simpa [Nat.add_assoc, Nat.add_comm] using key
/-- a text of one letter -/
theorem st_one {N : Nat} {x : Int32} (hx : rb_t x) (hfx : f 0 = x) (hb : 2 ≤ bc) (hs : 5 ≤ bs)
    (hy : ∀ s w M' P', (∀ x ∈ L, x.1 ≠ s) → (∀ x ∈ L ++ [(s, ((0, 17, 0) : dk))], x.1 ≠ w) → sS M' P' (L ++ [(s, (0, 17, 0))] ++ [(w, (1, 2, 1))]) s 1 f → qd_J (fun _ => False) M P L M' P' (L ++ [(s, (0, 17, 0))] ++ [(w, (1, 2, 1))]) → Q M' P' (L ++ [(s, (0, 17, 0))] ++ [(w, (1, 2, 1))]) 0 (some s) 0 2 5) : jS_valueOf N bc bs M P L x Q := by
  unfold jS_valueOf jS_valueOf_0 jL_canEncode jL_canEncode_0
  rw [if_neg (show ¬ (255 : Int32) < x by rw [i32_lt, show (255 : Int32).toInt = 255 from rfl]; have := hx.2; omega)]
  intro _
  refine pd_add ?_
  rw [if_neg (by decide)]
  refine pd_new (by omega) (by omega) (fun s hs1 => ?_)
  unfold jL_toBytes jL_toBytes_0
  refine pd_newa (by decide) (by decide) ?_
  show cd_new (bc - (0 + 0 + 1)) (bs - (0 + 0 + 4)) 0 0 1 (1, 2, 1) _ _ _ _
  refine pd_new (by omega) (by omega) (fun w hw => ⟨1, mem_new, ?_⟩)
  rw [hx.fit.2]
  refine pq_st (by decide) (by decide) ?_
  intro _
  refine pd_add ?_
  unfold jS_init_3 jS_init_3_0
  have hsw : s ≠ w := hw _ mem_new
  refine ⟨mem_old mem_new, pd_put ?_⟩
  unfold cd_br
  rw [if_pos (by decide)]
  refine ⟨mem_old mem_new, pq_put ?_⟩
  intro _
  refine pd_add ?_
  have e0 : pn (0 : Int32) = 0 := rfl
  rw [e0]
  refine hy s w _ _ hs1 hw ⟨mem_old mem_new, by rw [px_upd, if_pos rfl], ?_, ?_, w, by rw [dPu_at, if_pos rfl], hsw, mem_new, fun i hi => ?_⟩ ?_
  · rw [px_upd, if_neg (by decide), px_upc (dc_ne hsw), px_setc (dc_ne hsw), px_new]
  · rw [px_upd, if_neg (by decide), px_upc (dc_ne hsw), px_setc (dc_ne hsw), px_new]
  · rw [px_upc (dc_ne hsw.symm), px_upd, show i = 0 by omega, if_pos rfl, hfx]
  · exact ((((qd_J.rf.new hs1).new hw).put (fun x hx e => absurd e (hw x (mem_old hx)))).ref (fun x hx e => absurd e (hs1 x hx))).put (fun x hx e => absurd e (hs1 x hx))
end TX
