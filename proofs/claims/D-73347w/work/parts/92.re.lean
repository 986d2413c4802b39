/-! ARRAY DEQUES: addLast, grow -/
theorem dPs_at {P : dP} {a : Nat} {f : Nat → Option Nat} : dPs P a f a = f := by unfold dPs; rw [if_pos rfl]
theorem dPs_ne {P : dP} {a b : Nat} {f : Nat → Option Nat} (h : b ≠ a) : dPs P a f b = P b := by unfold dPs; rw [if_neg h]
theorem pd_cpyR {ic : Nat → Nat} {L : dL} {P : dP} {a0 z0 a1 z1 sp dp n : Nat} {F : dP → Prop} (h0 : sp + n ≤ z0) (h1 : dp + n ≤ z1) (hz : z0 ≤ 10000 ∧ z1 ≤ 10000) (hc : ∃ ci, ci < 26 ∧ ∀ i, i < n → ∀ y, P a0 (sp + i) = some y → dCi ic L ci y) (h : F (dPs P a1 (va_cpy (P a0) (P a1) sp dp n))) : cd_cpyR ic L P a0 z0 a1 z1 (nI sp) (nI dp) (nI n) F := by
  unfold cd_cpyR
  have t1 := pi_nI (n := sp) (by omega)
  have t2 := pi_nI (n := dp) (by omega)
  have t3 := pi_nI (n := n) (by omega)
  rw [nI_clamp (by omega), nI_clamp (by omega), nI_clamp (by omega)]
  exact ⟨by rw [i32_lt, t1, pi_0]; omega, by rw [i32_lt, t2, pi_0]; omega, by rw [i32_lt, t3, pi_0]; omega, h0, h1, hc, h⟩
theorem nI_shr1 : ∀ z, z < 300 → nI z >>> (1 &&& 31 : Int32) = nI (z / 2) := by decide +kernel
/-- how many places a full array of z gets -/
def qd_g (z : Nat) : Nat := if 64 ≤ z then z + z / 2 else z + (z + 2)
theorem qd_grow {N : dNt} {bc bs : Nat} {M : cx_M} {P : dP} {L : dL} {a b z h : Nat} {us : List Nat} {Q : cd_Qt} (h1 : (a, (0, 19, 0)) ∈ L) (h2 : (b, (3, 4, z)) ∈ L) (h3 : P a 0 = some b) (hz : 2 ≤ z ∧ z ≤ 200) (hh : h < z) (hl : us.length = z) (h7 : M (dc a) 1 = nI h) (h8 : M (dc a) 2 = nI h)
    (h9 : ∀ i v, us[i]? = some v → v < 128 ∧ P b (qd_w z (h + i)) = some (dia N.2 (v + 128))) (hab : a ≠ b) (hN : 2100 ≤ N.1) (hb : 1 ≤ bc) (hs : qd_g z ≤ bs)
    (hy : ∀ M' P' b', (∀ x ∈ L, x.1 ≠ b') → qd_D (dia N.2) M' P' (L ++ [(b', (3, 4, qd_g z))]) a b' (qd_g z) (h + (qd_g z - z)) us → (∀ c, c ≠ dc a → c ≠ dc b' → M' c = M c) → (∀ y, y ≠ a → y ≠ b' → P' y = P y) → Q M' P' (L ++ [(b', (3, 4, qd_g z))]) 0 none 0 1 (qd_g z)) :
    jAd_grow N bc bs M P L a 1 Q := by
  have hg : z < qd_g z ∧ qd_g z ≤ 400 := by unfold qd_g; split <;> omega
  have full : ∀ i, i < z → ∃ v, v < 128 ∧ P b i = some (dia N.2 (v + 128)) := by
    intro i hi
    have key : ∀ j, j < z → qd_w z (h + j) = i → ∃ v, v < 128 ∧ P b i = some (dia N.2 (v + 128)) := by
      intro j hj e
      obtain ⟨g1, g2⟩ := h9 j us[j] (List.getElem?_eq_getElem (by omega))
      rw [e] at g2
      exact ⟨_, g1, g2⟩
    by_cases c : h ≤ i
    · exact key (i - h) (by omega) (by unfold qd_w; rw [if_pos (by omega)]; omega)
    · exact key (i + z - h) (by omega) (by unfold qd_w; rw [if_neg (by omega)]; omega)
  have tz := pi_nI (n := z) (by omega)
  unfold jAd_grow jAd_grow_0
  refine ⟨h1, pd_let (pd_nn h3 ⟨z, h2, pq_let ?_⟩)⟩
  have g21 : ∀ j : Nat, 1 ≤ j → z + j = qd_g z → jAd_grow_21 N bc bs Q a M P L 0 0 1 (nI z) (nI j) := by
    intro j hj hjg
    unfold jAd_grow_21
    rw [if_neg (show ¬ nI j < 1 by rw [i32_lt, pi_nI (by omega), i32_1]; omega)]
    refine pq_let ?_
    have e1 : nI z + nI j = nI (qd_g z) := by
      rw [i32_eq, i32_add (by rw [tz, pi_nI (by omega)]; omega) (by rw [tz, pi_nI (by omega)]; omega), tz, pi_nI (by omega), pi_nI (by omega)]
      omega
    have tg := pi_nI (n := qd_g z) (by omega)
    rw [e1, if_pos (by rw [i32_le, i32_sub (by rw [tg, show (2147483639 : Int32).toInt = 2147483639 from rfl]; omega) (by rw [tg, show (2147483639 : Int32).toInt = 2147483639 from rfl]; omega), tg, pi_0, show (2147483639 : Int32).toInt = 2147483639 from rfl]; omega)]
    unfold jAd_grow_49
    refine ⟨h1, pd_let (pd_nn h3 ?_)⟩
    unfold jR_copyOf_2 jR_copyOf_2_0
    refine ⟨z, h2, ?_⟩
    unfold jR_copyOf_3 jR_copyOf_3_0
    refine pd_newa (by rw [i32_lt, tg, pi_0]; omega) (by rw [nI_clamp (by omega)]; omega) ?_
    rw [nI_clamp (by omega)]
    refine pd_new (by omega) (by omega) (fun b' hb' => ?_)
    have hm {y : Nat × dk} (hy : y ∈ L) : y ∈ L ++ [(b', ((3, 4, qd_g z) : dk))] := List.mem_append_left _ hy
    have hbm : (b', ((3, 4, qd_g z) : dk)) ∈ L ++ [(b', ((3, 4, qd_g z) : dk))] := List.mem_append_right _ (List.mem_singleton.mpr rfl)
    have hbb : b ≠ b' := hb' _ h2
    have hab' : a ≠ b' := hb' _ h1
    unfold jR_copyOf_3_24
    refine ⟨z, hm h2, z, qd_g z, hm h2, hbm, ?_⟩
    have emin : cx_min (nI z) (nI (qd_g z)) = nI z := by
      rw [i32_eq, pi_min, tz, tg]
      omega
    rw [emin]
    have dci : ∀ v : Nat, v < 128 → dCi (dia N.2) (L ++ [(b', (3, 4, qd_g z))]) 16 (dia N.2 (v + 128)) := fun v hv => Or.inr ⟨rfl, v + 128, by omega, rfl⟩
    refine pd_cpyR (sp := 0) (dp := 0) (n := z) (by omega) (by omega) (by omega) ⟨16, by decide, fun i hi y hy => ?_⟩ ?_
    · rw [dPn_ne hbb, Nat.zero_add] at hy
      obtain ⟨v, hv, e⟩ := full i hi
      rw [e] at hy
      rw [← Option.some.inj hy]
      exact dci v hv
    intro _
    refine pd_add ?_
    intro _
    refine pd_add ⟨hm h1, pd_put ⟨hm h1, pq_get ⟨hm h1, pq_get ?_⟩⟩⟩
    have eM : ∀ c, c ≠ dc b' → cx_set M (dc b') (fun _ => 0) c = M c := fun c hc => px_setc hc
    have ePn : ∀ y, y ≠ a → y ≠ b' → dPu (dPs (dPn P b') b' (va_cpy (dPn P b' b) (dPn P b' b') 0 0 z)) a 0 (some b') y = P y := fun y y1 y2 => by rw [dPu_ne y1, dPs_ne y2, dPn_ne y2]
    have ePa : dPu (dPs (dPn P b') b' (va_cpy (dPn P b' b) (dPn P b' b') 0 0 z)) a 0 (some b') a 0 = some b' := by rw [dPu_at, if_pos rfl]
    have ePb : ∀ i, i < z → dPu (dPs (dPn P b') b' (va_cpy (dPn P b' b) (dPn P b' b') 0 0 z)) a 0 (some b') b' i = P b i := fun i hi => by
      rw [dPu_ne hab'.symm, dPs_at, dPn_ne hbb]
      show (if 0 ≤ i ∧ i < 0 + z then P b (0 + (i - 0)) else _) = _
      rw [if_pos (by omega), Nat.zero_add, Nat.sub_zero]
    generalize cx_set M (dc b') (fun _ => 0) = M1 at eM ⊢
    generalize dPu (dPs (dPn P b') b' (va_cpy (dPn P b' b) (dPn P b' b') 0 0 z)) a 0 (some b') = P1 at ePn ePa ePb ⊢
    have m1 : M1 (dc a) 1 = nI h := by rw [eM _ (dc_ne hab')]; exact h7
    have m2 : M1 (dc a) 2 = nI h := by rw [eM _ (dc_ne hab')]; exact h8
    rw [m1, m2, if_neg (show ¬ nI h < nI h by rw [i32_lt]; omega)]
    refine ⟨hm h1, pq_get ⟨hm h1, pq_get ?_⟩⟩
    rw [m1, m2, if_pos rfl]
    refine ⟨hm h1, pq_get (pd_nn rfl ⟨qd_g z, hbm, ?_⟩)⟩
    rw [m1]
    refine pd_ldR (by omega) (by omega) ?_
    obtain ⟨v0, -, e0⟩ := full h hh
    refine pd_if1 (a := dia N.2 (v0 + 128)) (by rw [ePb h hh, e0]) ?_
    unfold jAd_grow_96
    refine pq_let ⟨hm h1, pq_get ⟨hm h1, pq_get ⟨hm h1, pq_get (pd_nn rfl ⟨qd_g z, qd_g z, hbm, hbm, ?_⟩)⟩⟩⟩
    have e2 : nI (qd_g z) - nI z = nI (qd_g z - z) := by
      rw [i32_eq, i32_sub (by omega) (by omega), tg, tz, pi_nI (by omega)]
      omega
    have th := pi_nI (n := h) (by omega)
    have e3 : nI h + nI (qd_g z - z) = nI (h + (qd_g z - z)) := by
      rw [i32_eq, i32_add (by rw [th, pi_nI (by omega)]; omega) (by rw [th, pi_nI (by omega)]; omega), th, pi_nI (by omega), pi_nI (by omega)]
      omega
    have e4 : nI z - nI h = nI (z - h) := by
      rw [i32_eq, i32_sub (by omega) (by omega), th, tz, pi_nI (by omega)]
      omega
    rw [m1, e2, e3, e4]
    refine pd_cpyR (by omega) (by omega) (by omega) ⟨16, by decide, fun i hi y hy => ?_⟩ ⟨hm h1, pq_get ⟨hm h1, pq_get (pq_let ⟨hm h1, pq_put ?_⟩)⟩⟩
    · rw [ePb _ (by omega)] at hy
      obtain ⟨v, hv, e⟩ := full (h + i) (by omega)
      rw [e] at hy
      rw [← Option.some.inj hy]
      exact dci v hv
    rw [m1, e3]
    have eQn : ∀ y, y ≠ a → y ≠ b' → dPs P1 b' (va_cpy (P1 b') (P1 b') h (h + (qd_g z - z)) (z - h)) y = P y := fun y y1 y2 => by rw [dPs_ne y2, ePn y y1 y2]
    have eQa : dPs P1 b' (va_cpy (P1 b') (P1 b') h (h + (qd_g z - z)) (z - h)) a 0 = some b' := by rw [dPs_ne hab', ePa]
    have eQb : ∀ i, dPs P1 b' (va_cpy (P1 b') (P1 b') h (h + (qd_g z - z)) (z - h)) b' i = if h + (qd_g z - z) ≤ i ∧ i < h + (qd_g z - z) + (z - h) then P1 b' (h + (i - (h + (qd_g z - z)))) else P1 b' i := fun i => by rw [dPs_at]; rfl
    generalize dPs P1 b' (va_cpy (P1 b') (P1 b') h (h + (qd_g z - z)) (z - h)) = P2 at eQn eQa eQb ⊢
    have fM : ∀ c, c ≠ dc a → c ≠ dc b' → cx_up M1 (dc a) 1 (nI (h + (qd_g z - z))) c = M c := fun c c1 c2 => by rw [px_upc c1, eM c c2]
    have f1 : cx_up M1 (dc a) 1 (nI (h + (qd_g z - z))) (dc a) 1 = nI (h + (qd_g z - z)) := by rw [px_up, if_pos ⟨rfl, rfl⟩]
    have f2 : cx_up M1 (dc a) 1 (nI (h + (qd_g z - z))) (dc a) 2 = nI h := by rw [px_up, if_neg (fun z => absurd z.2 (by decide)), m2]
    generalize cx_up M1 (dc a) 1 (nI (h + (qd_g z - z))) = M2 at fM f1 f2 ⊢
    have loop : ∀ (m i f : Nat) (P' : dP), i + m = h + (qd_g z - z) → h ≤ i → m < f → (∀ y, y ≠ b' → P' y = P2 y) → (∀ i, i < h ∨ h + (qd_g z - z) ≤ i → P' b' i = P2 b' i) → jAd_grow_145 N bc bs Q a f M2 P' (L ++ [(b', (3, 4, qd_g z))]) 1 (qd_g z) b' (nI i) (nI (h + (qd_g z - z))) := by
      intro m
      induction m with
      | zero =>
        intro i f P' hi hhi hf hP hPb
        obtain ⟨f, rfl⟩ : ∃ q, f = q + 1 := ⟨f - 1, by omega⟩
        show jAd_grow_145b N bc bs Q a (jAd_grow_145 N bc bs Q a f) M2 P' (L ++ [(b', (3, 4, qd_g z))]) 1 (qd_g z) b' (nI i) (nI (h + (qd_g z - z)))
        unfold jAd_grow_145b
        rw [if_pos (nI_le (by omega) (by omega))]
        refine hy M2 P' b' hb' ⟨hm h1, hbm, by rw [hP a hab']; exact eQa, by omega, by omega, by omega, f1, ?_, fun i v hv => ?_⟩ fM (fun y y1 y2 => by rw [hP y y2, eQn y y1 y2])
        · rw [f2, hl]
          refine congrArg nI ?_
          unfold qd_w
          rw [if_neg (by omega)]
          omega
        · have hi2 : i < z := by
            rcases Nat.lt_or_ge i us.length with q | q
            · omega
            · rw [List.getElem?_eq_none q] at hv
              exact absurd hv (by simp)
          obtain ⟨g1, g2⟩ := h9 i v hv
          refine ⟨g1, ?_⟩
          rw [← g2]
          unfold qd_w
          by_cases c : h + i < z
          · rw [if_pos (by omega), if_pos c, hPb _ (Or.inr (by omega)), eQb, if_pos (by omega), ePb _ (by omega), show h + (h + (qd_g z - z) + i - (h + (qd_g z - z))) = h + i by omega]
          · rw [if_neg (by omega), if_neg c, hPb _ (Or.inl (by omega)), eQb, if_neg (by omega), ePb _ (by omega), show h + (qd_g z - z) + i - qd_g z = h + i - z by omega]
      | succ m ih =>
        intro i f P' hi hhi hf hP hPb
        obtain ⟨f, rfl⟩ : ∃ q, f = q + 1 := ⟨f - 1, by omega⟩
        show jAd_grow_145b N bc bs Q a (jAd_grow_145 N bc bs Q a f) M2 P' (L ++ [(b', (3, 4, qd_g z))]) 1 (qd_g z) b' (nI i) (nI (h + (qd_g z - z)))
        unfold jAd_grow_145b
        rw [if_neg (nI_ge (by omega) (by omega))]
        refine ⟨qd_g z, hbm, cd_ais0, pd_stR (by omega) (by omega) (pq_let ?_)⟩
        rw [← nI_succ]
        refine ih (i + 1) f _ (by omega) (by omega) (by omega) (fun y hy => by rw [dPu_ne hy]; exact hP y hy) (fun q hq => ?_)
        rw [dPu_at, if_neg (by omega)]
        exact hPb q hq
    simp only [Nat.zero_add]
    exact loop (qd_g z - z) h N.1 P2 rfl (Nat.le_refl _) (by omega) (fun _ _ => rfl) (fun _ _ => rfl)
  by_cases c : 64 ≤ z
  · rw [if_pos (show (64 : Int32) ≤ nI z from nI_le (a := 64) (by omega) (by omega)), nI_shr1 z (by omega)]
    exact g21 (z / 2) (by omega) (by unfold qd_g; rw [if_pos c])
  · rw [if_neg (show ¬ (64 : Int32) ≤ nI z by rw [i32_le, tz, show (64 : Int32).toInt = 64 from rfl]; omega)]
    have e2 : nI z + 2 = nI (z + 2) := by
      rw [i32_eq, i32_add (by rw [tz, show (2 : Int32).toInt = 2 from rfl]; omega) (by rw [tz, show (2 : Int32).toInt = 2 from rfl]; omega), tz, show (2 : Int32).toInt = 2 from rfl, pi_nI (by omega)]
      omega
    rw [e2]
    exact g21 (z + 2) (by omega) (by unfold qd_g; rw [if_neg c])
theorem qd_push {N : dNt} {bc bs : Nat} {M : cx_M} {P : dP} {L : dL} {a b z h v : Nat} {vs : List Nat} {Q : cd_Qt} (hD : qd_D (dia N.2) M P L a b z h vs) (hv : v < 128) (hvs : vs.length ≤ 130) (hab : a ≠ b) (hN : 2100 ≤ N.1) (hb : 1 ≤ bc) (hs : 400 ≤ bs)
    (hy : ∀ M' P' L' b' z' h' k n, qd_D (dia N.2) M' P' L' a b' z' h' (vs ++ [v]) → z ≤ z' → k ≤ z' - z → n ≤ 4 * (z' - z) → (b' = b ∧ L' = L ∨ (∀ x ∈ L, x.1 ≠ b') ∧ L' = L ++ [(b', (3, 4, z'))]) → (∀ c, c ≠ dc a → c ≠ dc b' → M' c = M c) → (∀ y, y ≠ a → y ≠ b → y ≠ b' → P' y = P y) → Q M' P' L' 0 none 0 k n) :
    jAd_addLast N bc bs M P L a (some (dia N.2 (v + 128))) Q := by
  obtain ⟨h1, h2, h3, h4, h5, h6, h7, h8, h9⟩ := hD
  have hlt := qd_w_lt (z := z) (x := h + vs.length) (by omega)
  have hl : (vs ++ [v]).length = vs.length + 1 := by rw [List.length_append]; rfl
  unfold jAd_addLast jAd_addLast_0
  refine pd_if1 rfl ⟨h1, pd_let ⟨h1, pq_get (pd_nn h3 ⟨z, h2, fun x hx => ⟨16, by decide, by rw [← Option.some.inj hx]; exact Or.inr ⟨rfl, v + 128, by omega, rfl⟩⟩, ?_⟩)⟩⟩
  rw [h8]
  refine pd_stR hlt (by omega) ⟨h1, pq_get ⟨h1, pq_get ⟨z, h2, ?_⟩⟩⟩
  rw [h8]
  refine qd_inc hlt h4.2 ?_
  intro _
  refine pd_add ⟨h1, pq_put ?_⟩
  rw [h7]
  have hw : qd_w z (qd_w z (h + vs.length) + 1) = qd_w z (h + (vs.length + 1)) := by
    unfold qd_w
    split <;> split <;> split <;> omega
  have ent : ∀ i x, (vs ++ [v])[i]? = some x → x < 128 ∧ dPu P b (qd_w z (h + vs.length)) (some (dia N.2 (v + 128))) b (qd_w z (h + i)) = some (dia N.2 (x + 128)) := by
    intro i x hx
    rw [dPu_at]
    by_cases c : i < vs.length
    · rw [List.getElem?_append_left c] at hx
      rw [if_neg (fun e => by have := qd_w_inj h5 (by omega) (by omega) e; omega)]
      exact h9 i x hx
    · have ei : i = vs.length := by
        rcases Nat.lt_or_ge i (vs ++ [v]).length with q | q
        · omega
        · rw [List.getElem?_eq_none q] at hx
          exact absurd hx (by simp)
      subst ei
      rw [List.getElem?_append_right (Nat.le_refl _), Nat.sub_self] at hx
      have ev : v = x := Option.some.inj hx
      rw [if_pos rfl, ← ev]
      exact ⟨hv, rfl⟩
  rw [hw]
  have f1 : ∀ y, cx_up M (dc a) 2 y (dc a) 1 = nI h := fun y => by rw [px_up, if_neg (fun z => absurd z.2 (by decide))]; exact h7
  have f2 : ∀ y, cx_up M (dc a) 2 y (dc a) 2 = y := fun y => by rw [px_up, if_pos ⟨rfl, rfl⟩]
  have hlt1 := qd_w_lt (z := z) (x := h + (vs.length + 1)) (by omega)
  by_cases c : vs.length + 1 = z
  · have ew : qd_w z (h + (vs.length + 1)) = h := by
      unfold qd_w
      rw [if_neg (by omega)]
      omega
    rw [ew, if_pos rfl]
    refine ⟨h1, ?_⟩
    have hgz : qd_g z ≤ 400 := by unfold qd_g; split <;> omega
    refine qd_grow (us := vs ++ [v]) h1 h2 (by rw [dPu_ne hab]; exact h3) (by omega) h5 (by omega) (f1 _) (f2 _) ent hab hN (by omega) (by omega) (fun M' P' b' hb' hD' hM' hP' => ?_)
    intro _
    refine pd_add ?_
    have hq : z < qd_g z ∧ qd_g z ≤ 4 * (qd_g z - z) := by unfold qd_g; split <;> omega
    exact hy M' P' _ b' (qd_g z) _ _ _ hD' (by omega) (by omega) (by omega) (Or.inr ⟨hb', rfl⟩) (fun c c1 c2 => by rw [hM' c c1 c2, px_upc c1]) (fun y y1 y2 y3 => by rw [hP' y y1 y3, dPu_ne y2])
  · rw [if_neg]
    · refine hy _ _ L b z h 0 0 ⟨h1, h2, by rw [dPu_ne hab]; exact h3, h4, h5, by omega, f1 _, ?_, ent⟩ (Nat.le_refl _) (by omega) (by omega) (Or.inl ⟨rfl, rfl⟩) (fun c c1 _ => px_upc c1) (fun y _ y2 _ => dPu_ne y2)
      rw [f2, hl]
    · intro e
      have := pw_inj (by omega) (by omega) e
      revert this
      unfold qd_w
      split <;> omega
