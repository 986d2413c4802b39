/-! BOXES, LINKED LISTS -/
theorem pd_let {v : Option Nat} {F : Option Nat → Prop} (h : F v) : cd_let v F := h
theorem pd_put {P : dP} {a k : Nat} {v : Option Nat} {F : dP → Prop} (h : F (dPu P a k v)) : cd_put P a k v F := h
theorem pd_putn {P : dP} {a k : Nat} {x : Int32} {F : dP → Prop} (h : F (dPu P a k (cd_num x))) : cd_putn P a k x F := h
theorem qd_u.ne {L : dL} (h : qd_u L) {a b : Nat} {k k' : dk} (ha : (a, k) ∈ L) (hb : (b, k') ∈ L) (hk : k ≠ k') : a ≠ b := by
  intro e
  subst e
  exact hk (h _ ha _ hb rfl)
theorem dBx_fr {ic : Nat → Nat} {L L' : dL} {P P' : dP} {b : Nat} {v : Int32} (h : dBx ic L P b v) (hL : ∀ x ∈ L, x ∈ L') (hP : ∀ x, (x, (0, 16, 0)) ∈ L → P' x = P x) : dBx ic L' P' b v := by
  rcases h with ⟨h1, h2⟩ | h
  · exact Or.inl ⟨hL _ h1, by rw [hP b h1]; exact h2⟩
  · exact Or.inr h
theorem dBx_m {ic : Nat → Nat} {L : dL} {P : dP} {b : Nat} {v : Int32} (h : dBx ic L P b v) : dBm ic L b := by
  rcases h with ⟨h1, h2⟩ | ⟨j, h1, h2, h3⟩
  · exact Or.inl h1
  · exact Or.inr ⟨j, h1, h2⟩
theorem qd_valueOf {N : dNt} {bc bs : Nat} {M : cx_M} {P : dP} {L : dL} {x : Int32} {Q : cd_Qt} (hx : 0 ≤ x.toInt) (hu : qd_u L) (hb : 1 ≤ bc) (hs : 1 ≤ bs)
    (hy : ∀ a M' P' L' k n, k ≤ 1 → n ≤ 1 → qd_u L' → qd_X M P L M' P' L' → dBx (dia N.2) L' P' a x → Q M' P' L' 0 (some a) 0 k n) : jI_valueOf N bc bs M P L x Q := by
  unfold jI_valueOf jI_valueOf_0
  have t128 : (-128 : Int32).toInt = -128 := rfl
  rw [if_neg (show ¬ x < -128 by rw [i32_lt, t128]; omega)]
  by_cases c : 127 < x
  · rw [if_pos c]
    unfold jI_valueOf_23
    refine pd_new (by omega) (by omega) (fun a ha => ?_)
    unfold jI_init jI_init_0
    show 0 = 0 → _
    intro _
    refine pd_add ⟨List.mem_append_right _ (List.mem_singleton.mpr rfl), pd_putn ?_⟩
    intro _
    have eq : nI x.toBitVec.toNat = x := by
      apply Int32.toBitVec_inj.mp
      show BitVec.ofNat 32 x.toBitVec.toNat = x.toBitVec
      simp
    have hX : qd_X M P L (cx_set M (dc a) (fun _ => 0)) (dPu (dPn P a) a 0 (cd_num x)) (L ++ [(a, (0, 16, 0))]) := (qd_X.out (S := fun z => z = a) (fun z e => by rw [e]; exact ha) (fun c hc => px_setc (hc a rfl)) (fun x hx => by rw [dPu_ne hx, dPn_ne hx])).snoc ha
    refine hy a _ _ _ 1 1 (by omega) (by omega) (hu.snoc ha) hX (Or.inl ⟨List.mem_append_right _ (List.mem_singleton.mpr rfl), ?_⟩)
    rw [dPu_at, if_pos rfl]
    exact eq.symm
  · rw [if_neg c]
    have t127 : (127 : Int32).toInt = 127 := rfl
    have tt : (128 : Int32).toInt = 128 := rfl
    rw [i32_lt, t127] at c
    have e : (x + 128).toInt = x.toInt + 128 := by rw [i32_add (by omega) (by omega), tt]
    refine pq_ix (n := 256) (by omega) (by omega) ?_
    refine hy _ M P L 0 0 (by omega) (by omega) hu qd_X.rf (Or.inr ⟨pn (x + 128), by rw [pn_def]; omega, rfl, ?_⟩)
    show x = nI (pn (x + 128)) - 128
    rw [← pn_nI (x := x + 128) (by omega), i32_eq, i32_sub (by omega) (by omega), e, tt]
    omega
theorem qd_intValue {N : dNt} {bc bs : Nat} {M : cx_M} {P : dP} {L : dL} {a : Nat} {v : Int32} {Q : cd_Qt} (h : dBx (dia N.2) L P a v) (hy : Q M P L v none 0 0 0) : jI_intValue N bc bs M P L a Q := ⟨v, h, hy⟩
/-- a linked list: its nodes nd, their values v -/
def qd_L (ic : Nat → Nat) (M : cx_M) (P : dP) (L : dL) (a0 n : Nat) (nd : Nat → Nat) (v : Nat → Int32) : Prop :=
  (a0, (0, 22, 0)) ∈ L ∧ M (dc a0) 1 = nI n ∧ P a0 2 = (if n = 0 then none else some (nd 0)) ∧ P a0 3 = (if n = 0 then none else some (nd (n - 1))) ∧
  (∀ i j, i < n → j < n → nd i = nd j → i = j) ∧
  ∀ i, i < n → (nd i, (0, 24, 0)) ∈ L ∧ P (nd i) 1 = (if i + 1 < n then some (nd (i + 1)) else none) ∧ P (nd i) 2 = (if i = 0 then none else some (nd (i - 1))) ∧ ∃ b, P (nd i) 0 = some b ∧ dBx ic L P b (v i)
theorem qd_L.X {ic : Nat → Nat} {M M' : cx_M} {P P' : dP} {L L' : dL} {a0 n : Nat} {nd : Nat → Nat} {v : Nat → Int32} (h : qd_L ic M P L a0 n nd v) (hX : qd_X M P L M' P' L') : qd_L ic M' P' L' a0 n nd v := by
  obtain ⟨h1, h2, h3, h4, h5, h6⟩ := h
  have p (x : Nat) (kd : dk) (hx : (x, kd) ∈ L) : P' x = P x := (hX.2.2 _ hx).2
  refine ⟨hX.mem h1, by rw [(hX.2.2 _ h1).1]; exact h2, by rw [p a0 _ h1]; exact h3, by rw [p a0 _ h1]; exact h4, h5, fun i hi => ?_⟩
  obtain ⟨g1, g2, g3, b, g4, g5⟩ := h6 i hi
  exact ⟨hX.mem g1, by rw [p _ _ g1]; exact g2, by rw [p _ _ g1]; exact g3, b, by rw [p _ _ g1]; exact g4, dBx_fr g5 (fun x hx => hX.mem hx) (fun x hx => p x _ hx)⟩
/-- what changes at a0 and at addresses not in L -/
def qd_Y (a0 : Nat) (M : cx_M) (P : dP) (L : dL) (M' : cx_M) (P' : dP) (L' : dL) : Prop :=
  (∀ c, c < 10000000 → M' c = M c) ∧ (∃ L2, L' = L ++ L2 ∧ ∀ y ∈ L2, ∀ x ∈ L, x.1 ≠ y.1) ∧ (∀ x ∈ L, x.1 ≠ a0 → x.2 ≠ (0, 24, 0) → M' (dc x.1) = M (dc x.1) ∧ P' x.1 = P x.1)
theorem qd_addLast {N : dNt} {bc bs : Nat} {M : cx_M} {P : dP} {L : dL} {a0 n b : Nat} {nd : Nat → Nat} {v : Nat → Int32} {x : Int32} {Q : cd_Qt} (h : qd_L (dia N.2) M P L a0 n nd v) (hu : qd_u L) (hbx : dBx (dia N.2) L P b x) (hb : 1 ≤ bc) (hs : 3 ≤ bs)
    (hy : ∀ a M' P', (∀ x ∈ L, x.1 ≠ a) → qd_Y a0 M P L M' P' (L ++ [(a, (0, 24, 0))]) → qd_L (dia N.2) M' P' (L ++ [(a, (0, 24, 0))]) a0 (n + 1) (fun i => if i = n then a else nd i) (fun i => if i = n then x else v i) → Q M' P' (L ++ [(a, (0, 24, 0))]) 0 none 0 1 3) :
    jLl_addLast N bc bs M P L a0 (some b) Q := by
  obtain ⟨h1, h2, h3, h4, h5, h6⟩ := h
  unfold jLl_addLast jLl_addLast_0
  refine ⟨h1, ?_⟩
  unfold jLl_linkLast jLl_linkLast_0
  refine ⟨h1, ?_⟩
  refine pd_let (pd_new (by omega) (by omega) (fun a ha => ?_))
  have hm {y : Nat × dk} (hy : y ∈ L) : y ∈ L ++ [(a, ((0, 24, 0) : dk))] := List.mem_append_left _ hy
  have ham : (a, ((0, 24, 0) : dk)) ∈ L ++ [(a, ((0, 24, 0) : dk))] := List.mem_append_right _ (List.mem_singleton.mpr rfl)
  have ha0 : a0 ≠ a := ha _ h1
  have hnd : ∀ i, i < n → nd i ≠ a := fun i hi => ha _ (h6 i hi).1
  have hnd0 : ∀ i, i < n → nd i ≠ a0 := fun i hi => hu.ne (h6 i hi).1 h1 (by decide)
  unfold jLn_init jLn_init_0
  refine ⟨ham, pd_put ⟨ham, pd_put ⟨ham, pd_put ?_⟩⟩⟩
  intro _
  refine pd_add ⟨hm h1, pd_put ?_⟩
  have fin : ∀ P2 : dP, P2 a0 3 = some a → P2 a0 2 = (if n = 0 then some a else P a0 2) → P2 a 0 = some b → P2 a 1 = none → P2 a 2 = P a0 3 → (∀ i, i < n → P2 (nd i) 0 = P (nd i) 0 ∧ P2 (nd i) 2 = P (nd i) 2 ∧ P2 (nd i) 1 = if i + 1 = n then some a else P (nd i) 1) → (∀ y, y ≠ a0 → y ≠ a → (∀ i, i < n → y ≠ nd i) → P2 y = P y) →
      jLl_linkLast_38 N (bc - 0) (bs - 0) (fun M1 P2 L3 v4 r5 e9 k6 n7 => e9 = 0 → cd_add 0 k6 0 n7 fun k8 n9 => Q M1 P2 L3 0 none 0 k8 n9) a0 (cx_set M (dc a) (fun _ => 0)) P2 (L ++ [(a, (0, 24, 0))]) 1 3 := by
    intro P2 q3 q2 qa0 qa1 qa2 qn qo
    unfold jLl_linkLast_38
    refine ⟨hm h1, pq_get ⟨hm h1, pq_put ⟨hm h1, pq_get ⟨hm h1, pq_put ?_⟩⟩⟩⟩
    intro _
    have e1 : cx_set M (dc a) (fun _ => 0) (dc a0) 1 = nI n := by rw [px_setc (dc_ne ha0)]; exact h2
    refine hy a _ _ ha ⟨fun c hc => ?_, ⟨_, rfl, fun y hy x hx => by rw [List.mem_singleton.mp hy]; exact ha x hx⟩, fun y hy hne hk => ⟨?_, ?_⟩⟩ ⟨hm h1, ?_, ?_, ?_, ?_, ?_⟩
    · rw [px_upc (dc_lo hc), px_upc (dc_lo hc), px_setc (dc_lo hc)]
    · rw [px_upc (dc_ne hne), px_upc (dc_ne hne), px_setc (dc_ne (ha y hy))]
    · exact qo y.1 hne (ha y hy) (fun i hi e => hk (hu y hy _ (h6 i hi).1 e))
    · rw [px_up, if_neg (fun z => absurd z.2 (by decide)), px_up, if_pos ⟨rfl, rfl⟩, e1, ← nI_succ]
    · try dsimp only
      rw [q2, if_neg (show ¬ n + 1 = 0 by omega)]
      by_cases c : n = 0
      · rw [if_pos c, if_pos (by omega)]
      · rw [if_neg c, if_neg (by omega), h3, if_neg c]
    · try dsimp only
      rw [q3, if_neg (by omega), Nat.add_sub_cancel, if_pos rfl]
    · intro i j hi hj e
      try dsimp only at e
      by_cases ci : i = n
      · by_cases cj : j = n
        · omega
        · rw [if_pos ci, if_neg cj] at e
          exact absurd e.symm (hnd j (by omega))
      · by_cases cj : j = n
        · rw [if_neg ci, if_pos cj] at e
          exact absurd e (hnd i (by omega))
        · rw [if_neg ci, if_neg cj] at e
          exact h5 i j (by omega) (by omega) e
    · intro i hi
      try dsimp only
      have bxP : ∀ y, (y, (0, 16, 0)) ∈ L → P2 y = P y := fun y hy => qo y (hu.ne hy h1 (by decide)) (ha _ hy) (fun j hj => hu.ne hy (h6 j hj).1 (by decide))
      by_cases ci : i = n
      · rw [if_pos ci, if_pos ci, ci]
        refine ⟨ham, by rw [if_neg (by omega)]; exact qa1, ?_, b, qa0, dBx_fr hbx (fun y hy => hm hy) bxP⟩
        rw [qa2, h4]
        by_cases c : n = 0
        · rw [if_pos c, if_pos c]
        · rw [if_neg c, if_neg c, if_neg (by omega)]
      · have hi2 : i < n := by omega
        obtain ⟨g1, g2, g3, b2, g4, g5⟩ := h6 i hi2
        obtain ⟨r0, r2, r1⟩ := qn i hi2
        rw [if_neg ci, if_neg ci]
        refine ⟨hm g1, ?_, ?_, b2, by rw [r0]; exact g4, dBx_fr g5 (fun y hy => hm hy) bxP⟩
        · rw [r1, if_pos (show i + 1 < n + 1 by omega)]
          by_cases c : i + 1 = n
          · rw [if_pos c, if_pos c]
          · rw [if_neg c, if_neg c, g2, if_pos (by omega)]
        · rw [r2, g3]
          by_cases c : i = 0
          · rw [if_pos c, if_pos c]
          · rw [if_neg c, if_neg c, if_neg (by omega)]
  have e3 : ∀ k, dPn P a a k = none := fun k => by unfold dPn; rw [if_pos rfl]
  have eo : ∀ y, y ≠ a0 → y ≠ a → dPu (dPu (dPu (dPu (dPn P a) a 0 (some b)) a 1 none) a 2 (P a0 3)) a0 3 (some a) y = P y := fun y y0 y1 => by rw [dPu_ne y0, dPu_ne y1, dPu_ne y1, dPu_ne y1, dPn_ne y1]
  have ea0 : ∀ k, dPu (dPu (dPu (dPu (dPn P a) a 0 (some b)) a 1 none) a 2 (P a0 3)) a0 3 (some a) a0 k = if k = 3 then some a else P a0 k := fun k => by
    rw [dPu_at]
    by_cases c : k = 3
    · rw [if_pos c, if_pos c]
    · rw [if_neg c, if_neg c, dPu_ne ha0, dPu_ne ha0, dPu_ne ha0, dPn_ne ha0]
  have ea : ∀ k, dPu (dPu (dPu (dPu (dPn P a) a 0 (some b)) a 1 none) a 2 (P a0 3)) a0 3 (some a) a k = if k = 2 then P a0 3 else if k = 1 then none else if k = 0 then some b else none := fun k => by
    rw [dPu_ne ha0.symm, dPu_at, dPu_at, dPu_at, e3]
  generalize dPu (dPu (dPu (dPu (dPn P a) a 0 (some b)) a 1 none) a 2 (P a0 3)) a0 3 (some a) = P1 at eo ea0 ea ⊢
  by_cases c : n = 0
  · refine pd_if0 (by rw [h4, if_pos c]) ⟨hm h1, pd_put ?_⟩
    refine fin (dPu P1 a0 2 (some a)) ?_ ?_ ?_ ?_ ?_ ?_ ?_
    · rw [dPu_at, if_neg (by decide), ea0, if_pos rfl]
    · rw [dPu_at, if_pos rfl, if_pos c]
    · rw [dPu_ne ha0.symm, ea]; rfl
    · rw [dPu_ne ha0.symm, ea]; rfl
    · rw [dPu_ne ha0.symm, ea]; rfl
    · intro i hi; omega
    · intro y y0 y1 y2
      rw [dPu_ne y0, eo y y0 y1]
  · have hl : n - 1 < n := by omega
    refine pd_if1 (a := nd (n - 1)) (by rw [h4, if_neg c]) ⟨hm (h6 _ hl).1, pd_put ?_⟩
    refine fin (dPu P1 (nd (n - 1)) 1 (some a)) ?_ ?_ ?_ ?_ ?_ ?_ ?_
    · rw [dPu_ne (hnd0 _ hl).symm, ea0, if_pos rfl]
    · rw [dPu_ne (hnd0 _ hl).symm, ea0, if_neg (by decide), if_neg c]
    · rw [dPu_ne (hnd _ hl).symm, ea]; rfl
    · rw [dPu_ne (hnd _ hl).symm, ea]; rfl
    · rw [dPu_ne (hnd _ hl).symm, ea]; rfl
    · intro i hi
      by_cases ci : i = n - 1
      · subst ci
        rw [dPu_at, dPu_at, dPu_at, if_neg (by decide), if_neg (by decide), if_pos rfl, if_pos (by omega), eo _ (hnd0 _ hl) (hnd _ hl)]
        exact ⟨rfl, rfl, rfl⟩
      · have hne : nd i ≠ nd (n - 1) := fun e => ci (h5 i (n - 1) hi hl e)
        rw [dPu_ne hne, eo _ (hnd0 _ hi) (hnd _ hi), if_neg (by omega)]
        exact ⟨rfl, rfl, rfl⟩
    · intro y y0 y1 y2
      rw [dPu_ne (y2 _ hl), eo y y0 y1]
