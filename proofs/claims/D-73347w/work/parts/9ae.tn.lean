/-! READING A LINE, 14: a list grows; what a line has told so far -/
/-- a list of numbers, as objects -/
def al_S (N : dNt) (M : cx_M) (P : dP) (L : dL) (a d z : Nat) (ws : List Nat) : Prop := (a, (0, 20, 0)) ∈ L ∧ P a 1 = some d ∧ (d, (3, 4, z)) ∈ L ∧ M (dc a) 2 = nI ws.length ∧ (ws.length ≤ z ∧ 1 ≤ z ∧ z ≤ 24) ∧ ∀ i v, ws[i]? = some v → ∃ x, P d i = some x ∧ dBx (dia N.2) L P x (nI v)
theorem dBx.Ci {ic : Nat → Nat} {L : dL} {P : dP} {x : Nat} {v : Int32} (h : dBx ic L P x v) : dCi ic L 16 x := by
  rcases h with h | ⟨j, h1, h2, -⟩
  · exact Or.inl h.1
  · exact Or.inr ⟨rfl, j, h1, h2⟩
theorem dBx.fr {ic : Nat → Nat} {L L' : dL} {P P' : dP} {x : Nat} {v : Int32} (h : dBx ic L P x v) (hL : ∀ c, (c, ((0, 16, 0) : dk)) ∈ L → (c, ((0, 16, 0) : dk)) ∈ L' ∧ P' c = P c) : dBx ic L' P' x v := by
  rcases h with ⟨h1, h2⟩ | h
  · obtain ⟨g1, g2⟩ := hL x h1
    exact Or.inl ⟨g1, by rw [g2]; exact h2⟩
  · exact Or.inr h
theorem dk03 {c z : Nat} : ((0, c, 0) : dk) ≠ (3, 4, z) := fun e => absurd (show (0 : Nat) = 3 from congrArg Prod.fst e) (by decide)
section AL
variable {N : dNt} {bc bs : Nat} {M : cx_M} {P : dP} {L : dL} {a d z : Nat} {ws : List Nat} {Q : cd_Qt}
theorem al_size (h : al_S N M P L a d z ws) (hy : Q M P L (nI ws.length) none 0 0 0) : jAl_size N bc bs M P L a Q := by
  unfold jAl_size jAl_size_0
  refine ⟨h.1, pq_get ?_⟩
  rw [h.2.2.2.1]
  exact hy
theorem al_add {x v : Nat} (h : al_S N M P L a d z ws) (hc : ws.length < 16) (hu : qd_u L) (hx : dBx (dia N.2) L P x (nI v)) (hb : 1 ≤ bc) (hs : 24 ≤ bs)
    (hy : ∀ d' z' M' P' L' k m, k ≤ 1 → m ≤ 24 → al_S N M' P' L' a d' z' (ws ++ [v]) → qd_u L' → qd_J (fun y => y = a ∨ y = d) M P L M' P' L' → (d' = d ∨ ∀ y ∈ L, y.1 ≠ d') → Q M' P' L' 1 none 0 k m) : jAl_add N bc bs M P L a (some x) Q := by
  obtain ⟨h1, h2, h3, h4, ⟨h5, h6, h7⟩, h8⟩ := h
  have had : a ≠ d := fun e => dk03 (show ((0, 20, 0) : dk) = (3, 4, z) from hu _ h1 _ h3 e)
  have tz := pi_nI (n := z) (by omega)
  have tc := pi_nI (n := ws.length) (by omega)
  have hlen : (ws ++ [v]).length = ws.length + 1 := by rw [List.length_append]; rfl
  -- the last step, in an array with room
  have fin : ∀ (d' z' : Nat) (M1 : cx_M) (P1 : dP) (L1 : dL) (k m : Nat) (Q1 : cd_Qt), k ≤ 1 → m ≤ 24 → qd_u L1 → qd_J (fun y => y = a ∨ y = d) M P L M1 P1 L1 → (a, ((0, 20, 0) : dk)) ∈ L1 → P1 a 1 = some d' → (d', ((3, 4, z') : dk)) ∈ L1 → ws.length < z' → z' ≤ 24 → (∀ i v, ws[i]? = some v → ∃ x, P1 d' i = some x ∧ dBx (dia N.2) L1 P1 x (nI v)) → (d' = d ∨ ∀ y ∈ L, y.1 ≠ d') → dBx (dia N.2) L1 P1 x (nI v) →
      (∀ M' P' L', al_S N M' P' L' a d' z' (ws ++ [v]) → qd_u L' → qd_J (fun y => y = a ∨ y = d) M P L M' P' L' → Q1 M' P' L' 0 none 0 k m) → jAl_add_2_11 N bc bs Q1 a M1 P1 L1 k m (some x) (some d') (nI ws.length) := by
    intro d' z' M1 P1 L1 k m Q1 hk hm hu1 hY ha1 hP1 hd1 hz1 hz2 hw1 hdd hx1 hq
    unfold jAl_add_2_11
    have hxd : dCi (dia N.2) L1 16 x := hx1.Ci
    refine pd_nn rfl ⟨z', hd1, fun y hy => ⟨16, by decide, by rw [← Option.some.inj hy]; exact hxd⟩, ?_⟩
    refine pd_stR hz1 (by omega) ⟨ha1, pq_put ?_⟩
    rw [← nI_succ]
    have hne : ∀ c kd, (c, kd) ∈ L1 → kd ≠ (3, 4, z') → dPu P1 d' ws.length (some x) c = P1 c := fun c kd hc hk => dPu_ne (fun e => hk (hu1 _ hc _ hd1 e))
    have hbx2 : ∀ {y w}, dBx (dia N.2) L1 P1 y w → dBx (dia N.2) L1 (dPu P1 d' ws.length (some x)) y w := fun q => q.fr (fun c hc => ⟨hc, hne c _ hc dk03⟩)
    refine hq _ _ L1 ⟨ha1, ?_, hd1, by rw [px_upd, if_pos rfl, hlen], ⟨by omega, by omega, hz2⟩, fun i w hw => ?_⟩ hu1 ?_
    · rw [hne a _ ha1 dk03]; exact hP1
    · by_cases e : i = ws.length
      · subst e
        rw [List.getElem?_append_right (Nat.le_refl _), Nat.sub_self] at hw
        have hw : v = w := Option.some.inj hw
        exact ⟨x, by rw [dPu_at, if_pos rfl], by rw [← hw]; exact hbx2 hx1⟩
      · have hi : i < ws.length := by
          have := (List.getElem?_eq_some_iff.mp hw).1
          omega
        rw [List.getElem?_append_left hi] at hw
        obtain ⟨y, g1, g2⟩ := hw1 i w hw
        exact ⟨y, by rw [dPu_at, if_neg e]; exact g1, hbx2 g2⟩
    · refine (hY.put (fun _ _ _ => Or.inl rfl)).ref (fun y hy e => ?_)
      rcases hdd with q | q
      · exact Or.inr q
      · exact absurd e (q y hy)
  unfold jAl_add jAl_add_0
  refine ⟨h1, pq_get ⟨h1, pq_put ⟨h1, pd_let ⟨h1, pq_get ⟨h1, ?_⟩⟩⟩⟩⟩
  have e2 : cx_up M (dc a) 0 (M (dc a) 0 + 1) (dc a) 2 = nI ws.length := by rw [px_upd, if_neg (by decide)]; exact h4
  have hY0 : qd_J (fun y => y = a ∨ y = d) M P L (cx_up M (dc a) 0 (M (dc a) 0 + 1)) P L := (qd_J.rf (U := fun y => y = a ∨ y = d)).put (fun _ _ _ => Or.inl rfl)
  rw [e2, h2]
  generalize cx_up M (dc a) 0 (M (dc a) 0 + 1) = M1 at e2 hY0 ⊢
  unfold jAl_add_2 jAl_add_2_0
  refine pd_nn rfl ⟨z, h3, ?_⟩
  by_cases cz : ws.length = z
  · rw [if_pos (by rw [cz])]
    refine ⟨h1, ?_⟩
    unfold jAl_grow jAl_grow_0
    refine ⟨h1, pq_get ⟨h1, ?_⟩⟩
    rw [e2]
    unfold jAl_grow_2 jAl_grow_2_0
    refine ⟨h1, pd_let ?_⟩
    rw [h2]
    refine pd_nn rfl ⟨z, h3, pq_let ?_⟩
    rw [if_pos (by rw [i32_lt, pi_0]; omega)]
    unfold jAl_grow_2_20 jX_newLength jX_newLength_0
    refine pq_let ?_
    have hz16 : z < 16 := by omega
    have e3 : nI z + cx_max (nI ws.length + 1 - nI z) (nI z >>> (1 &&& 31 : Int32)) = nI (z + max 1 (z / 2)) := by
      rw [cz]
      exact (by decide +kernel : ∀ z, z < 16 → 1 ≤ z → nI z + cx_max (nI z + 1 - nI z) (nI z >>> (1 &&& 31 : Int32)) = nI (z + max 1 (z / 2))) z hz16 h6
    rw [e3]
    have hg : z + max 1 (z / 2) ≤ 24 := by omega
    have hg2 : z < z + max 1 (z / 2) := by omega
    generalize z + max 1 (z / 2) = g at hg hg2 ⊢
    have tg := pi_nI (n := g) (by omega)
    rw [if_neg (by rw [i32_le, pi_0]; omega), if_neg (by rw [i32_lt, show (2147483639 : Int32).toInt = 2147483639 from rfl]; omega)]
    intro _
    refine pd_add ⟨h1, pd_let ?_⟩
    rw [h2]
    refine pd_nn rfl ?_
    unfold jR_copyOf_2 jR_copyOf_2_0
    refine ⟨z, h3, ?_⟩
    unfold jR_copyOf_3 jR_copyOf_3_0
    refine pd_newa (by rw [i32_lt, pi_0]; omega) (by rw [nI_clamp (by omega)]; omega) ?_
    rw [nI_clamp (by omega)]
    refine pd_new (by omega) (by omega) (fun d' hd' => ?_)
    unfold jR_copyOf_3_24
    refine ⟨z, mem_old h3, z, g, mem_old h3, mem_new, ?_⟩
    have hdd : d ≠ d' := hd' _ h3
    have had' : a ≠ d' := hd' _ h1
    have emin : cx_min (nI z) (nI g) = nI z := by rw [i32_eq, pi_min, tz, tg]; omega
    rw [emin]
    refine pd_cpyR (sp := 0) (dp := 0) (n := z) (by omega) (by omega) (by omega) ⟨16, by decide, fun i hi y hy => ?_⟩ ?_
    · rw [dPn_ne hdd, Nat.zero_add] at hy
      obtain ⟨y', g1, g2⟩ := h8 i ws[i] (List.getElem?_eq_getElem (by omega))
      rw [g1] at hy
      rw [← Option.some.inj hy]
      rcases g2.Ci with q | q
      · exact Or.inl (mem_old q)
      · exact Or.inr q
    · intro _
      refine pd_add ?_
      intro _
      refine pd_add ⟨mem_old h1, pd_put ?_⟩
      intro _
      refine pd_add ?_
      intro _
      refine pd_add ?_
      have hP4 : ∀ c, c ≠ d' → c ≠ a → dPu (dPs (dPn P d') d' (va_cpy (dPn P d' d) (dPn P d' d') 0 0 z)) a 1 (some d') c = P c := fun c q1 q2 => by rw [dPu_ne q2, dPs_ne q1, dPn_ne q1]
      have hbx2 : ∀ {y w}, dBx (dia N.2) L P y w → dBx (dia N.2) (L ++ [(d', (3, 4, g))]) (dPu (dPs (dPn P d') d' (va_cpy (dPn P d' d) (dPn P d' d') 0 0 z)) a 1 (some d')) y w := fun q => q.fr (fun c hc => ⟨mem_old hc, hP4 c (hd' _ hc) (fun e => absurd (show ((0, 16, 0) : dk) = (0, 20, 0) from hu _ hc _ h1 e) (by decide))⟩)
      have hYg : qd_J (fun y => y = a ∨ y = d) M P L (cx_set M1 (dc d') (fun _ => 0)) (dPu (dPs (dPn P d') d' (va_cpy (dPn P d' d) (dPn P d' d') 0 0 z)) a 1 (some d')) (L ++ [(d', (3, 4, g))]) := by
        have b1 := hY0.new (kd := (3, 4, g)) (f := fun _ => 0) hd'
        refine ⟨b1.1, b1.2.1, fun y hy hn => ⟨(b1.2.2 y hy hn).1, ?_⟩⟩
        exact hP4 _ (hd' y hy) (fun e => hn (Or.inl e))
      refine fin d' g _ _ _ _ _ _ (by omega) (by omega) (hu.snoc hd') hYg (mem_old h1) (by rw [dPu_at, if_pos rfl]) mem_new (by omega) hg (fun i w hw => ?_) (Or.inr hd') (hbx2 hx) (fun M' P' L' q1 q2 q3 => ?_)
      · obtain ⟨y, g1, g2⟩ := h8 i w hw
        have hi := (List.getElem?_eq_some_iff.mp hw).1
        refine ⟨y, ?_, hbx2 g2⟩
        rw [dPu_ne had'.symm, dPs_at]
        unfold va_cpy
        rw [if_pos (by omega), dPn_ne hdd, Nat.zero_add, Nat.sub_zero]
        exact g1
      · intro _
        refine pd_add ?_
        exact hy d' g M' P' L' _ _ (by omega) (by omega) q1 q2 q3 (Or.inr hd')
  · rw [if_neg (fun e => cz (nI_inj (by omega) (by omega) e))]
    refine fin d z M1 P L _ _ _ (by omega) (by omega) hu hY0 h1 h2 h3 (by omega) h7 h8 (Or.inl rfl) hx (fun M' P' L' q1 q2 q3 => ?_)
    intro _
    refine pd_add ?_
    exact hy d z M' P' L' _ _ (by omega) (by omega) q1 q2 q3 (Or.inl rfl)
end AL
