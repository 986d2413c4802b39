/-! LINKED LISTS: get, iterators, unlink -/
theorem qd_node {N : dNt} {bc bs : Nat} {M : cx_M} {P : dP} {L : dL} {a0 n i : Nat} {nd : Nat → Nat} {v : Nat → Int32} {Q : cd_Qt} (h : qd_L (dia N.2) M P L a0 n nd v) (hN : n < N.1) (hn : n ≤ 1000) (hi : i < n) (hy : Q M P L 0 (some (nd i)) 0 0 0) : jLl_node N bc bs M P L a0 (nI i) Q := by
  obtain ⟨h1, h2, h3, h4, h5, h6⟩ := h
  have f17 : ∀ (m j f : Nat), j + m = i → m < f → jLl_node_17 N bc bs Q a0 f M P L 0 0 (nI i) (some (nd j)) (nI j) := by
    intro m
    induction m with
    | zero =>
      intro j f hj hf
      obtain ⟨f, rfl⟩ : ∃ q, f = q + 1 := ⟨f - 1, by omega⟩
      show jLl_node_17b N bc bs Q a0 (jLl_node_17 N bc bs Q a0 f) M P L 0 0 (nI i) (some (nd j)) (nI j)
      unfold jLl_node_17b
      rw [if_pos (nI_le (by omega) (by omega)), show j = i by omega]
      exact hy
    | succ m ih =>
      intro j f hj hf
      obtain ⟨f, rfl⟩ : ∃ q, f = q + 1 := ⟨f - 1, by omega⟩
      obtain ⟨g1, g2, -⟩ := h6 j (by omega)
      show jLl_node_17b N bc bs Q a0 (jLl_node_17 N bc bs Q a0 f) M P L 0 0 (nI i) (some (nd j)) (nI j)
      unfold jLl_node_17b
      rw [if_neg (nI_ge (by omega) (by omega))]
      refine pd_nn rfl ⟨g1, ?_⟩
      show jLl_node_17 N bc bs Q a0 f M P L 0 0 (nI i) (P (nd j) 1) (nI j + 1)
      rw [g2, if_pos (by omega), ← nI_succ]
      exact ih (j + 1) f (by omega) (by omega)
  have f47 : ∀ (m j f : Nat), i + m = j → j < n → m < f → jLl_node_47 N bc bs Q a0 f M P L 0 0 (nI i) (some (nd j)) (nI j) := by
    intro m
    induction m with
    | zero =>
      intro j f hj hjn hf
      obtain ⟨f, rfl⟩ : ∃ q, f = q + 1 := ⟨f - 1, by omega⟩
      show jLl_node_47b N bc bs Q a0 (jLl_node_47 N bc bs Q a0 f) M P L 0 0 (nI i) (some (nd j)) (nI j)
      unfold jLl_node_47b
      rw [if_pos (nI_le (by omega) (by omega)), show j = i by omega]
      exact hy
    | succ m ih =>
      intro j f hj hjn hf
      obtain ⟨f, rfl⟩ : ∃ q, f = q + 1 := ⟨f - 1, by omega⟩
      obtain ⟨g1, -, g3, -⟩ := h6 j (by omega)
      show jLl_node_47b N bc bs Q a0 (jLl_node_47 N bc bs Q a0 f) M P L 0 0 (nI i) (some (nd j)) (nI j)
      unfold jLl_node_47b
      rw [if_neg (nI_ge (by omega) (by omega))]
      refine pd_nn rfl ⟨g1, ?_⟩
      show jLl_node_47 N bc bs Q a0 f M P L 0 0 (nI i) (P (nd j) 2) (nI j - 1)
      have e : nI j - 1 = nI (j - 1) := by
        obtain ⟨q, rfl⟩ : ∃ q, j = q + 1 := ⟨j - 1, by omega⟩
        rw [nI_pr1 (by omega), Nat.add_sub_cancel]
      rw [g3, if_neg (by omega), e]
      exact ih (j - 1) f (by omega) (by omega) (by omega)
  unfold jLl_node jLl_node_0
  show (a0, (0, 22, 0)) ∈ L ∧ (if M (dc a0) 1 >>> (1 &&& 31) ≤ nI i then _ else _)
  refine ⟨h1, ?_⟩
  by_cases c : M (dc a0) 1 >>> (1 &&& 31) ≤ nI i
  · rw [if_pos c]
    refine ⟨h1, h1, ?_⟩
    show jLl_node_47 N bc bs Q a0 N.1 M P L 0 0 (nI i) (P a0 3) (M (dc a0) 1 - 1)
    have e : nI n - 1 = nI (n - 1) := by
      obtain ⟨q, rfl⟩ : ∃ q, n = q + 1 := ⟨n - 1, by omega⟩
      rw [nI_pr1 (by omega), Nat.add_sub_cancel]
    rw [h4, if_neg (by omega), h2, e]
    exact f47 (n - 1 - i) (n - 1) N.1 (by omega) (by omega) (by omega)
  · rw [if_neg c]
    refine ⟨h1, ?_⟩
    show jLl_node_17 N bc bs Q a0 N.1 M P L 0 0 (nI i) (P a0 2) 0
    rw [h3, if_neg (by omega)]
    exact f17 i 0 N.1 (by omega) (by omega)
theorem qd_lget {N : dNt} {bc bs : Nat} {M : cx_M} {P : dP} {L : dL} {a0 n i : Nat} {nd : Nat → Nat} {v : Nat → Int32} {Q : cd_Qt} (h : qd_L (dia N.2) M P L a0 n nd v) (hN : n < N.1) (hn : n ≤ 1000) (hi : i < n) (hy : ∀ b, dBx (dia N.2) L P b (v i) → Q M P L 0 (some b) 0 0 0) : jLl_get N bc bs M P L a0 (nI i) Q := by
  have h' := h
  obtain ⟨h1, h2, h3, h4, h5, h6⟩ := h
  obtain ⟨g1, g2, g3, b, g4, g5⟩ := h6 i hi
  unfold jLl_get jLl_get_0
  refine ⟨h1, ?_⟩
  unfold jLl_checkElementIndex jLl_checkElementIndex_0
  refine ⟨h1, ?_⟩
  unfold jLl_isElementIndex jLl_isElementIndex_0
  have ti := pi_nI (n := i) (by omega)
  rw [if_neg (show ¬ nI i < 0 by rw [i32_lt, ti, pi_0]; omega)]
  refine ⟨h1, pq_get ?_⟩
  rw [h2, if_neg (nI_ge hi (by omega))]
  intro _
  refine pd_add ?_
  rw [if_neg (by decide)]
  intro _
  refine pd_add ⟨h1, ?_⟩
  refine qd_node h' hN hn hi ?_
  intro _
  refine pd_add (pd_nn rfl ⟨g1, ?_⟩)
  show Q M P L 0 (P (nd i) 0) 0 0 0
  rw [g4]
  exact hy b g5
/-- an iterator it of the list a0: next is node i -/
def qd_I (M : cx_M) (P : dP) (L : dL) (it a0 i n : Nat) (nd : Nat → Nat) : Prop :=
  (it, (0, 23, 0)) ∈ L ∧ P it 4 = some a0 ∧ P it 1 = (if i < n then some (nd i) else none) ∧ M (dc it) 2 = nI i ∧ M (dc it) 3 = M (dc a0) 0
theorem qd_iterator {N : dNt} {bc bs : Nat} {M : cx_M} {P : dP} {L : dL} {a0 n : Nat} {nd : Nat → Nat} {v : Nat → Int32} {Q : cd_Qt} (h : qd_L (dia N.2) M P L a0 n nd v) (hN : n < N.1) (hn : n ≤ 1000) (hb : 1 ≤ bc) (hs : 5 ≤ bs)
    (hy : ∀ it M' P', (∀ x ∈ L, x.1 ≠ it) → qd_X M P L M' P' (L ++ [(it, (0, 23, 0))]) → qd_L (dia N.2) M' P' (L ++ [(it, (0, 23, 0))]) a0 n nd v → qd_I M' P' (L ++ [(it, (0, 23, 0))]) it a0 0 n nd → Q M' P' (L ++ [(it, (0, 23, 0))]) 0 (some it) 0 1 5) : jAsl_iterator N bc bs M P L a0 Q := by
  have h' := h
  obtain ⟨h1, h2, h3, h4, h5, h6⟩ := h
  unfold jAsl_iterator jAsl_iterator_0
  refine ⟨h1, ?_⟩
  unfold jAbl_listIterator jAbl_listIterator_0
  refine ⟨h1, ?_⟩
  unfold jLl_listIterator jLl_listIterator_0
  refine ⟨h1, ?_⟩
  unfold jLl_checkPositionIndex jLl_checkPositionIndex_0
  refine ⟨h1, ?_⟩
  unfold jLl_isPositionIndex jLl_isPositionIndex_0
  have tn := pi_nI (n := n) (by omega)
  rw [if_neg (by decide)]
  refine ⟨h1, pq_get ?_⟩
  rw [h2, if_neg (show ¬ nI n < 0 by rw [i32_lt, tn, pi_0]; omega)]
  intro _
  refine pd_add ?_
  rw [if_neg (by decide)]
  intro _
  refine pd_add ?_
  refine pd_new (by omega) (by omega) (fun it hit => ?_)
  have hm {y : Nat × dk} (hy : y ∈ L) : y ∈ L ++ [(it, ((0, 23, 0) : dk))] := List.mem_append_left _ hy
  have him : (it, ((0, 23, 0) : dk)) ∈ L ++ [(it, ((0, 23, 0) : dk))] := List.mem_append_right _ (List.mem_singleton.mpr rfl)
  have hia : a0 ≠ it := hit _ h1
  unfold jLi_init jLi_init_0
  refine ⟨him, pd_put ⟨him, pd_let ?_⟩⟩
  refine pd_nn (a := a0) (by show dPu (dPn P it) it 4 (some a0) it 4 = some a0; rw [dPu_at, if_pos rfl]) ⟨hm h1, pq_get ⟨him, pq_put (pd_nn rfl ⟨hm h1, pq_get ?_⟩)⟩⟩
  have c1 : ∀ c, c ≠ dc it → cx_up (cx_set M (dc it) (fun _ => 0)) (dc it) 3 (cx_set M (dc it) (fun _ => 0) (dc a0) 0) c = M c := fun c hc => by rw [px_upc hc, px_setc hc]
  have c3 : cx_up (cx_set M (dc it) (fun _ => 0)) (dc it) 3 (cx_set M (dc it) (fun _ => 0) (dc a0) 0) (dc it) 3 = M (dc a0) 0 := by rw [px_up, if_pos ⟨rfl, rfl⟩, px_setc (dc_ne hia)]
  have p1 : ∀ y, y ≠ it → dPu (dPn P it) it 4 (some a0) y = P y := fun y hy => by rw [dPu_ne hy, dPn_ne hy]
  have p4 : dPu (dPn P it) it 4 (some a0) it 4 = some a0 := by rw [dPu_at, if_pos rfl]
  generalize cx_up (cx_set M (dc it) (fun _ => 0)) (dc it) 3 (cx_set M (dc it) (fun _ => 0) (dc a0) 0) = M1 at c1 c3 ⊢
  generalize dPu (dPn P it) it 4 (some a0) = P1 at p1 p4 ⊢
  have hX1 : qd_X M P L M1 P1 (L ++ [(it, (0, 23, 0))]) := (qd_X.out (S := fun z => z = it) (fun z e => by rw [e]; exact hit) (fun c hc => c1 c (hc it rfl)) (fun x hx => p1 x hx)).snoc hit
  have hL1 := h'.X hX1
  rw [c1 (dc a0) (dc_ne hia), h2]
  have fin : ∀ r, r = (if 0 < n then some (nd 0) else none) → Q (cx_up M1 (dc it) 2 0) (dPu P1 it 1 r) (L ++ [(it, (0, 23, 0))]) 0 (some it) 0 1 5 := by
    intro r hr
    have hX : qd_X M P L (cx_up M1 (dc it) 2 0) (dPu P1 it 1 r) (L ++ [(it, (0, 23, 0))]) := (qd_X.out (S := fun z => z = it) (fun z e => by rw [e]; exact hit) (fun c hc => by rw [px_upc (hc it rfl)]; exact c1 c (hc it rfl)) (fun x hx => by rw [dPu_ne hx]; exact p1 x hx)).snoc hit
    refine hy it _ _ hit hX (h'.X hX) ⟨him, ?_, ?_, ?_, ?_⟩
    · rw [dPu_at, if_neg (by decide), p4]
    · rw [dPu_at, if_pos rfl, hr]
    · rw [px_up, if_pos ⟨rfl, rfl⟩]; rfl
    · rw [px_up, if_neg (fun z => absurd z.2 (by decide)), c3, px_upc (dc_ne hia), c1 _ (dc_ne hia)]
  by_cases c : n = 0
  · rw [if_pos (by rw [c]; rfl)]
    refine ⟨him, pd_put ⟨him, pq_put ?_⟩⟩
    intro _ _ _
    exact fin none (by rw [if_neg (by omega)])
  · rw [if_neg (fun z => c (pw_inj (a := n) (b := 0) (by omega) (by omega) z.symm))]
    refine ⟨hm h1, ?_⟩
    refine qd_node (i := 0) hL1 hN hn (by omega) ?_
    intro _
    refine pd_add ⟨him, pd_put ⟨him, pq_put ?_⟩⟩
    intro _ _ _
    exact fin (some (nd 0)) (by rw [if_pos (by omega)])
theorem qd_hasNext {N : dNt} {bc bs : Nat} {M : cx_M} {P : dP} {L : dL} {it a0 n i : Nat} {nd : Nat → Nat} {v : Nat → Int32} {Q : cd_Qt} (h : qd_L (dia N.2) M P L a0 n nd v) (hI : qd_I M P L it a0 i n nd) (hn : n ≤ 1000) (hi : i ≤ n)
    (hy : Q M P L (if i < n then 1 else 0) none 0 0 0) : jLi_hasNext N bc bs M P L it Q := by
  obtain ⟨i1, i2, i3, i4, i5⟩ := hI
  unfold jLi_hasNext jLi_hasNext_0
  refine ⟨i1, pq_get ⟨i1, pd_nn i2 ⟨h.1, pq_get ?_⟩⟩⟩
  rw [h.2.1, i4]
  by_cases c : i < n
  · rw [if_pos c] at hy
    rw [if_neg (nI_ge c (by omega))]
    exact hy
  · rw [if_neg c] at hy
    rw [if_pos (nI_le (by omega) (by omega))]
    exact hy
theorem qd_next {N : dNt} {bc bs : Nat} {M : cx_M} {P : dP} {L : dL} {it a0 n i : Nat} {nd : Nat → Nat} {v : Nat → Int32} {Q : cd_Qt} (h : qd_L (dia N.2) M P L a0 n nd v) (hI : qd_I M P L it a0 i n nd) (hu : qd_u L) (hn : n ≤ 1000) (hi : i < n)
    (hy : ∀ b M' P', (∀ c, c ≠ dc it → M' c = M c) → (∀ y, y ≠ it → P' y = P y) → qd_L (dia N.2) M' P' L a0 n nd v → qd_I M' P' L it a0 (i + 1) n nd → P' it 0 = some (nd i) → dBx (dia N.2) L P' b (v i) → Q M' P' L 0 (some b) 0 0 0) : jLi_next N bc bs M P L it Q := by
  have h' := h
  have hI' := hI
  obtain ⟨i1, i2, i3, i4, i5⟩ := hI
  obtain ⟨h1, h2, h3, h4, h5, h6⟩ := h
  obtain ⟨g1, g2, g3, b, g4, g5⟩ := h6 i hi
  have hia : a0 ≠ it := hu.ne h1 i1 (by decide)
  have hni : ∀ j, j < n → nd j ≠ it := fun j hj => hu.ne (h6 j hj).1 i1 (by decide)
  rw [if_pos hi] at i3
  unfold jLi_next jLi_next_0
  refine ⟨i1, ?_⟩
  unfold jLi_checkForComodification jLi_checkForComodification_0
  refine ⟨i1, pd_nn i2 ⟨h1, pq_get ⟨i1, pq_get ?_⟩⟩⟩
  rw [if_pos i5.symm]
  intro _
  refine pd_add ⟨i1, ?_⟩
  refine qd_hasNext h' hI' hn (by omega) ?_
  rw [if_pos hi]
  intro _
  refine pd_add ?_
  rw [if_neg (by decide)]
  refine ⟨i1, pd_let ⟨i1, pd_put ⟨i1, pd_let ?_⟩⟩⟩
  refine pd_nn (a := nd i) (by show dPu P it 0 (P it 1) it 1 = _; rw [dPu_at, if_neg (by decide)]; exact i3) ⟨g1, pd_let ⟨i1, pd_put ⟨i1, pq_get ⟨i1, pq_put ⟨i1, pd_let ?_⟩⟩⟩⟩⟩
  refine pd_nn (a := nd i) (by show dPu (dPu P it 0 (P it 1)) it 1 (dPu P it 0 (P it 1) (nd i) 1) it 0 = _; rw [dPu_at, if_neg (by decide), dPu_at, if_pos rfl]; exact i3) ⟨g1, ?_⟩
  have eP : ∀ y, y ≠ it → dPu (dPu P it 0 (P it 1)) it 1 (dPu P it 0 (P it 1) (nd i) 1) y = P y := fun y hy => by rw [dPu_ne hy, dPu_ne hy]
  have eM : ∀ c, c ≠ dc it → cx_up M (dc it) 2 (M (dc it) 2 + 1) c = M c := fun c hc => px_upc hc
  have e1 : dPu (dPu P it 0 (P it 1)) it 1 (dPu P it 0 (P it 1) (nd i) 1) it 1 = if i + 1 < n then some (nd (i + 1)) else none := by
    rw [dPu_at, if_pos rfl, dPu_ne (hni i hi)]
    exact g2
  have e0 : dPu (dPu P it 0 (P it 1)) it 1 (dPu P it 0 (P it 1) (nd i) 1) it 0 = some (nd i) := by
    rw [dPu_at, if_neg (by decide), dPu_at, if_pos rfl]
    exact i3
  have e4 : dPu (dPu P it 0 (P it 1)) it 1 (dPu P it 0 (P it 1) (nd i) 1) it 4 = some a0 := by
    rw [dPu_at, if_neg (by decide), dPu_at, if_neg (by decide)]
    exact i2
  show Q (cx_up M (dc it) 2 (M (dc it) 2 + 1)) (dPu (dPu P it 0 (P it 1)) it 1 (dPu P it 0 (P it 1) (nd i) 1)) L 0 (dPu (dPu P it 0 (P it 1)) it 1 (dPu P it 0 (P it 1) (nd i) 1) (nd i) 0) 0 0 0
  generalize dPu (dPu P it 0 (P it 1)) it 1 (dPu P it 0 (P it 1) (nd i) 1) = P1 at eP e1 e0 e4 ⊢
  rw [eP _ (hni i hi), g4]
  have bx : ∀ x, (x, (0, 16, 0)) ∈ L → P1 x = P x := fun x hx => eP x (hu.ne hx i1 (by decide))
  refine hy b _ P1 eM eP ⟨h1, by rw [eM _ (dc_ne hia)]; exact h2, by rw [eP _ hia]; exact h3, by rw [eP _ hia]; exact h4, h5, fun j hj => ?_⟩ ⟨i1, e4, e1, by rw [px_up, if_pos ⟨rfl, rfl⟩, i4, ← nI_succ], by rw [px_up, if_neg (fun z => absurd z.2 (by decide)), eM _ (dc_ne hia)]; exact i5⟩ e0 (dBx_fr g5 (fun _ hx => hx) bx)
  obtain ⟨k1, k2, k3, b2, k4, k5⟩ := h6 j hj
  exact ⟨k1, by rw [eP _ (hni j hj)]; exact k2, by rw [eP _ (hni j hj)]; exact k3, b2, by rw [eP _ (hni j hj)]; exact k4, dBx_fr k5 (fun _ hx => hx) bx⟩
def qd_del (k : Nat) {α : Type} (f : Nat → α) : Nat → α := fun j => if j < k then f j else f (j + 1)
theorem qd_unlink {N : dNt} {bc bs : Nat} {M : cx_M} {P : dP} {L : dL} {a0 n k : Nat} {nd : Nat → Nat} {v : Nat → Int32} {Q : cd_Qt} (h : qd_L (dia N.2) M P L a0 n nd v) (hu : qd_u L) (hn : n ≤ 1000) (hk : k < n)
    (hy : ∀ M' P', (∀ c, c ≠ dc a0 → M' c = M c) → M' (dc a0) 0 = M (dc a0) 0 + 1 → (∀ y, y ≠ a0 → (∀ i, i < n → y ≠ nd i) → P' y = P y) → qd_L (dia N.2) M' P' L a0 (n - 1) (qd_del k nd) (qd_del k v) → Q M' P' L 0 (P (nd k) 0) 0 0 0) : jLl_unlink N bc bs M P L a0 (some (nd k)) Q := by
  obtain ⟨h1, h2, h3, h4, h5, h6⟩ := h
  have hnd0 : ∀ i, i < n → nd i ≠ a0 := fun i hi => hu.ne (h6 i hi).1 h1 (by decide)
  have inj : ∀ i j, i < n → j < n → i ≠ j → nd i ≠ nd j := fun i j hi hj ne e => ne (h5 i j hi hj e)
  obtain ⟨g1, g2, g3, b, g4, g5⟩ := h6 k hk
  have en : nI n - 1 = nI (n - 1) := by
    obtain ⟨q, rfl⟩ : ∃ q, n = q + 1 := ⟨n - 1, by omega⟩
    rw [nI_pr1 (by omega), Nat.add_sub_cancel]
  have fin : ∀ P3 : dP, P3 a0 2 = (if n - 1 = 0 then none else some (qd_del k nd 0)) → P3 a0 3 = (if n - 1 = 0 then none else some (qd_del k nd (n - 1 - 1))) →
      (∀ i, i < n → i ≠ k → P3 (nd i) 0 = P (nd i) 0 ∧ P3 (nd i) 1 = (if i + 1 = k then P (nd k) 1 else P (nd i) 1) ∧ P3 (nd i) 2 = (if i = k + 1 then P (nd k) 2 else P (nd i) 2)) → (∀ y, y ≠ a0 → (∀ i, i < n → y ≠ nd i) → P3 y = P y) →
      Q (cx_up (cx_up M (dc a0) 1 (M (dc a0) 1 - 1)) (dc a0) 0 (cx_up M (dc a0) 1 (M (dc a0) 1 - 1) (dc a0) 0 + 1)) P3 L 0 (P (nd k) 0) 0 0 0 := by
    intro P3 q2 q3 qn qo
    refine hy _ P3 (fun c hc => by rw [px_upc hc, px_upc hc]) ?_ qo ⟨h1, ?_, q2, q3, fun i j hi hj e => ?_, fun i hi => ?_⟩
    · rw [px_up, if_pos ⟨rfl, rfl⟩, px_up, if_neg (fun z => absurd z.2 (by decide))]
    · rw [px_up, if_neg (fun z => absurd z.2 (by decide)), px_up, if_pos ⟨rfl, rfl⟩, h2, en]
    · unfold qd_del at e
      by_cases ci : i < k
      · by_cases cj : j < k
        · rw [if_pos ci, if_pos cj] at e
          exact h5 i j (by omega) (by omega) e
        · rw [if_pos ci, if_neg cj] at e
          have := h5 i (j + 1) (by omega) (by omega) e
          omega
      · by_cases cj : j < k
        · rw [if_neg ci, if_pos cj] at e
          have := h5 (i + 1) j (by omega) (by omega) e
          omega
        · rw [if_neg ci, if_neg cj] at e
          have := h5 (i + 1) (j + 1) (by omega) (by omega) e
          omega
    · have bxP : ∀ y, (y, (0, 16, 0)) ∈ L → P3 y = P y := fun y hy => qo y (hu.ne hy h1 (by decide)) (fun j hj => hu.ne hy (h6 j hj).1 (by decide))
      unfold qd_del
      by_cases ci : i < k
      · rw [if_pos ci, if_pos ci]
        obtain ⟨k1, k2, k3, b2, k4, k5⟩ := h6 i (by omega)
        obtain ⟨r0, r1, r2⟩ := qn i (by omega) (by omega)
        refine ⟨k1, ?_, ?_, b2, by rw [r0]; exact k4, dBx_fr k5 (fun _ hx => hx) bxP⟩
        · rw [r1]
          by_cases c : i + 1 = k
          · rw [if_pos c, g2, if_neg (show ¬ i + 1 < k by omega)]
            by_cases c2 : k + 1 < n
            · rw [if_pos c2, if_pos (by omega), show i + 1 + 1 = k + 1 by omega]
            · rw [if_neg c2, if_neg (by omega)]
          · rw [if_neg c, k2, if_pos (by omega), if_pos (by omega), if_pos (by omega)]
        · rw [r2, if_neg (by omega), k3]
          by_cases c : i = 0
          · rw [if_pos c, if_pos c]
          · rw [if_neg c, if_neg c, if_pos (by omega)]
      · rw [if_neg ci, if_neg ci]
        obtain ⟨k1, k2, k3, b2, k4, k5⟩ := h6 (i + 1) (by omega)
        obtain ⟨r0, r1, r2⟩ := qn (i + 1) (by omega) (by omega)
        refine ⟨k1, ?_, ?_, b2, by rw [r0]; exact k4, dBx_fr k5 (fun _ hx => hx) bxP⟩
        · rw [r1, if_neg (by omega), k2, if_neg (show ¬ i + 1 < k by omega)]
          by_cases c : i + 1 + 1 < n
          · rw [if_pos c, if_pos (by omega)]
          · rw [if_neg c, if_neg (by omega)]
        · rw [r2]
          by_cases c : i + 1 = k + 1
          · rw [if_pos c, g3]
            by_cases c2 : k = 0
            · rw [if_pos c2, if_pos (by omega)]
            · rw [if_neg c2, if_neg (by omega), if_pos (show i - 1 < k by omega), show i - 1 = k - 1 by omega]
          · rw [if_neg c, k3, if_neg (by omega), if_neg (by omega), if_neg (show ¬ i - 1 < k by omega), show i + 1 - 1 = i - 1 + 1 by omega]
  have last : ∀ P2 : dP, (∀ j, j < 3 → j ≠ 0 → True) → Q (cx_up (cx_up M (dc a0) 1 (M (dc a0) 1 - 1)) (dc a0) 0 (cx_up M (dc a0) 1 (M (dc a0) 1 - 1) (dc a0) 0 + 1)) (dPu P2 (nd k) 0 none) L 0 (P (nd k) 0) 0 0 0 → jLl_unlink_64 N bc bs Q a0 M P2 L 0 0 (nd k) (P (nd k) 0) := by
    intro P2 _ q
    exact ⟨g1, pd_put ⟨h1, pq_get ⟨h1, pq_put ⟨h1, pq_get ⟨h1, pq_put q⟩⟩⟩⟩⟩
  unfold jLl_unlink jLl_unlink_0
  refine pd_nn rfl ⟨g1, pd_let ⟨g1, pd_let ⟨g1, pd_let ?_⟩⟩⟩
  have bef : ∀ (P1 : dP) (pv : Option Nat), pv = P (nd k) 2 → (∀ y j, y ≠ a0 → y ≠ nd k → P1 y j = if k ≠ 0 ∧ y = nd (k - 1) ∧ j = 1 then P (nd k) 1 else P y j) → P1 a0 2 = (if k = 0 then P (nd k) 1 else P a0 2) → P1 a0 3 = P a0 3 →
      jLl_unlink_40 N bc bs Q a0 M P1 L 0 0 (nd k) (P (nd k) 0) (P (nd k) 1) pv := by
    intro P1 pv hpv hP1 ha2 ha3
    unfold jLl_unlink_40
    by_cases cl : k + 1 < n
    · have hk1 : nd (k + 1) ≠ nd k := inj _ _ cl hk (by omega)
      refine pd_if1 (a := nd (k + 1)) (by rw [g2, if_pos cl]) ⟨(h6 _ cl).1, pd_put ⟨g1, pd_put ?_⟩⟩
      refine last _ (fun _ _ _ => trivial) (fin _ ?_ ?_ ?_ ?_)
      · rw [dPu_ne (hnd0 k hk).symm, dPu_ne (hnd0 k hk).symm, dPu_ne (hnd0 _ cl).symm, ha2, if_neg (show ¬ n - 1 = 0 by omega)]
        unfold qd_del
        by_cases c0 : k = 0
        · rw [if_pos c0, g2, if_pos cl, if_neg (by omega), c0]
        · rw [if_neg c0, h3, if_neg (by omega), if_pos (by omega)]
      · rw [dPu_ne (hnd0 k hk).symm, dPu_ne (hnd0 k hk).symm, dPu_ne (hnd0 _ cl).symm, ha3, h4, if_neg (by omega), if_neg (by omega)]
        unfold qd_del
        rw [if_neg (by omega), show n - 1 - 1 + 1 = n - 1 by omega]
      · intro i hi hik
        have hne := inj i k hi hk hik
        rw [dPu_ne hne, dPu_ne hne]
        by_cases ci : i = k + 1
        · subst ci
          rw [dPu_at, dPu_at, dPu_at, if_neg (by decide), if_neg (by decide), if_pos rfl, if_pos rfl, hP1 _ _ (hnd0 _ hi) hne, hP1 _ _ (hnd0 _ hi) hne, if_neg (fun z => absurd z.2.2 (by decide)), if_neg (fun z => inj (k + 1) (k - 1) hi (by omega) (by omega) z.2.1), if_neg (by omega), hpv]
          exact ⟨rfl, rfl, rfl⟩
        · have hne1 := inj i (k + 1) hi cl ci
          rw [dPu_ne hne1, if_neg ci, hP1 _ _ (hnd0 _ hi) hne, hP1 _ _ (hnd0 _ hi) hne, hP1 _ _ (hnd0 _ hi) hne, if_neg (fun z => absurd z.2.2 (by decide)), if_neg (show ¬ (k ≠ 0 ∧ nd i = nd (k - 1) ∧ 2 = 1) from fun z => absurd z.2.2 (by decide))]
          refine ⟨rfl, ?_, rfl⟩
          by_cases c : i + 1 = k
          · rw [if_pos c, if_pos ⟨by omega, by rw [show k - 1 = i by omega], rfl⟩]
          · rw [if_neg c, if_neg (fun z => by have := h5 i (k - 1) hi (by omega) z.2.1; omega)]
      · intro y y0 yn
        funext j
        rw [dPu_ne (yn k hk), dPu_ne (yn k hk), dPu_ne (yn _ cl), hP1 y j y0 (yn k hk), if_neg (fun z => yn (k - 1) (by omega) z.2.1)]
    · refine pd_if0 (by rw [g2, if_neg cl]) ⟨h1, pd_put ?_⟩
      refine last _ (fun _ _ _ => trivial) (fin _ ?_ ?_ ?_ ?_)
      · rw [dPu_ne (hnd0 k hk).symm, dPu_at, if_neg (by decide), ha2]
        unfold qd_del
        by_cases c0 : k = 0
        · rw [if_pos c0, g2, if_neg cl, if_pos (by omega)]
        · rw [if_neg c0, h3, if_neg (by omega), if_neg (by omega), if_pos (by omega)]
      · rw [dPu_ne (hnd0 k hk).symm, dPu_at, if_pos rfl, hpv, g3]
        unfold qd_del
        by_cases c0 : k = 0
        · rw [if_pos c0, if_pos (by omega)]
        · rw [if_neg c0, if_neg (by omega), if_pos (by omega), show n - 1 - 1 = k - 1 by omega]
      · intro i hi hik
        have hne := inj i k hi hk hik
        rw [dPu_ne hne, dPu_ne (hnd0 _ hi), hP1 _ _ (hnd0 _ hi) hne, hP1 _ _ (hnd0 _ hi) hne, hP1 _ _ (hnd0 _ hi) hne, if_neg (fun z => absurd z.2.2 (by decide)), if_neg (show ¬ (k ≠ 0 ∧ nd i = nd (k - 1) ∧ 2 = 1) from fun z => absurd z.2.2 (by decide)), if_neg (show ¬ i = k + 1 by omega)]
        refine ⟨rfl, ?_, rfl⟩
        by_cases c : i + 1 = k
        · rw [if_pos c, if_pos ⟨by omega, by rw [show k - 1 = i by omega], rfl⟩]
        · rw [if_neg c, if_neg (fun z => by have := h5 i (k - 1) hi (by omega) z.2.1; omega)]
      · intro y y0 yn
        funext j
        rw [dPu_ne (yn k hk), dPu_ne y0, hP1 y j y0 (yn k hk), if_neg (fun z => yn (k - 1) (by omega) z.2.1)]
  by_cases c0 : k = 0
  · refine pd_if0 (by rw [g3, if_pos c0]) ⟨h1, pd_put ?_⟩
    refine bef (dPu P a0 2 (P (nd k) 1)) none (by rw [g3, if_pos c0]) (fun y j y0 _ => by rw [dPu_ne y0, if_neg (fun z => z.1 c0)]) (by rw [dPu_at, if_pos rfl, if_pos c0]) (by rw [dPu_at, if_neg (by decide)])
  · have hp : k - 1 < n := by omega
    have hpk := inj (k - 1) k hp hk (by omega)
    refine pd_if1 (a := nd (k - 1)) (by rw [g3, if_neg c0]) ⟨(h6 _ hp).1, pd_put ⟨g1, pd_put ?_⟩⟩
    refine bef (dPu (dPu P (nd (k - 1)) 1 (P (nd k) 1)) (nd k) 2 none) (some (nd (k - 1))) (by rw [g3, if_neg c0]) (fun y j y0 yk => ?_) ?_ ?_
    · rw [dPu_ne yk]
      by_cases cy : y = nd (k - 1)
      · rw [cy, dPu_at]
        by_cases cj : j = 1
        · rw [if_pos cj, if_pos ⟨c0, rfl, cj⟩]
        · rw [if_neg cj, if_neg (fun z => cj z.2.2)]
      · rw [dPu_ne cy, if_neg (fun z => cy z.2.1)]
    · rw [dPu_ne (hnd0 k hk).symm, dPu_ne (hnd0 _ hp).symm, if_neg c0]
    · rw [dPu_ne (hnd0 k hk).symm, dPu_ne (hnd0 _ hp).symm]
theorem qd_remove {N : dNt} {bc bs : Nat} {M : cx_M} {P : dP} {L : dL} {it a0 n i : Nat} {nd : Nat → Nat} {v : Nat → Int32} {Q : cd_Qt} (h : qd_L (dia N.2) M P L a0 n nd v) (hI : qd_I M P L it a0 (i + 1) n nd) (h0 : P it 0 = some (nd i)) (hu : qd_u L) (hn : n ≤ 1000) (hi : i < n)
    (hy : ∀ M' P', (∀ c, c ≠ dc it → c ≠ dc a0 → M' c = M c) → (∀ y, y ≠ it → y ≠ a0 → (∀ j, j < n → y ≠ nd j) → P' y = P y) → qd_L (dia N.2) M' P' L a0 (n - 1) (qd_del i nd) (qd_del i v) → qd_I M' P' L it a0 i (n - 1) (qd_del i nd) → Q M' P' L 0 none 0 0 0) : jLi_remove N bc bs M P L it Q := by
  obtain ⟨i1, i2, i3, i4, i5⟩ := hI
  have h' := h
  obtain ⟨h1, h2, h3, h4, h5, h6⟩ := h
  obtain ⟨g1, g2, -⟩ := h6 i hi
  have hia : it ≠ a0 := hu.ne i1 h1 (by decide)
  have hin : ∀ j, j < n → it ≠ nd j := fun j hj => hu.ne i1 (h6 j hj).1 (by decide)
  unfold jLi_remove jLi_remove_0
  refine ⟨i1, ?_⟩
  unfold jLi_checkForComodification jLi_checkForComodification_0
  refine ⟨i1, pd_nn i2 ⟨h1, pq_get ⟨i1, pq_get ?_⟩⟩⟩
  rw [if_pos i5.symm]
  intro _
  refine pd_add ⟨i1, pd_let (pd_if1 h0 ⟨i1, pd_let (pd_nn h0 ⟨g1, pd_let ⟨i1, pd_let ⟨i1, pd_let (pd_nn i2 ⟨h1, ?_⟩)⟩⟩⟩)⟩)⟩
  show jLl_unlink N _ _ M P L a0 (P it 0) _
  rw [h0]
  refine qd_unlink h' hu hn hi (fun M1 P1 F1 e0 G1 hL1 => ?_)
  have p1 : P1 it = P it := G1 it hia hin
  intro _
  refine pd_add ⟨i1, pd_let ⟨i1, pd_let ?_⟩⟩
  rw [p1, i3, h0]
  have hne : (if i + 1 < n then some (nd (i + 1)) else none) ≠ some (nd i) := by
    by_cases c : i + 1 < n
    · rw [if_pos c]
      intro z
      have := h5 (i + 1) i c hi (Option.some.inj z)
      omega
    · rw [if_neg c]
      exact fun z => absurd z (by simp)
  rw [if_neg hne]
  refine ⟨i1, pq_get ⟨i1, pq_put ?_⟩⟩
  unfold jLi_remove_68
  refine ⟨i1, pd_put ⟨i1, pq_get ⟨i1, pq_put ?_⟩⟩⟩
  have F1' := F1 (dc it) (dc_ne hia)
  have eM : ∀ c, c ≠ dc it → cx_up (cx_up M1 (dc it) 2 (M1 (dc it) 2 - 1)) (dc it) 3 (cx_up M1 (dc it) 2 (M1 (dc it) 2 - 1) (dc it) 3 + 1) c = M1 c := fun c hc => by rw [px_upc hc, px_upc hc]
  have eP : ∀ y, y ≠ it → dPu P1 it 0 none y = P1 y := fun y hy => dPu_ne hy
  refine hy _ _ (fun c c1 c2 => by rw [eM c c1, F1 c c2]) (fun y y0 y1 y2 => by rw [eP y y0, G1 y y1 y2]) ?_ ⟨i1, ?_, ?_, ?_, ?_⟩
  · obtain ⟨k1, k2, k3, k4, k5, k6⟩ := hL1
    have kn : ∀ j, j < n - 1 → qd_del i nd j ≠ it := fun j hj => hu.ne (k6 j hj).1 i1 (by decide)
    refine ⟨k1, by rw [eM _ (dc_ne hia.symm)]; exact k2, by rw [eP _ hia.symm]; exact k3, by rw [eP _ hia.symm]; exact k4, k5, fun j hj => ?_⟩
    obtain ⟨m1, m2, m3, b, m4, m5⟩ := k6 j hj
    exact ⟨m1, by rw [eP _ (kn j hj)]; exact m2, by rw [eP _ (kn j hj)]; exact m3, b, by rw [eP _ (kn j hj)]; exact m4, dBx_fr m5 (fun _ hx => hx) (fun x hx => eP x (hu.ne hx i1 (by decide)))⟩
  · rw [dPu_at, if_neg (by decide), p1]
    exact i2
  · rw [dPu_at, if_neg (by decide), p1, i3]
    unfold qd_del
    by_cases c : i + 1 < n
    · rw [if_pos c, if_pos (by omega), if_neg (by omega)]
    · rw [if_neg c, if_neg (by omega)]
  · rw [px_up, if_neg (fun z => absurd z.2 (by decide)), px_up, if_pos ⟨rfl, rfl⟩, F1', i4, nI_pr1 (by omega)]
  · rw [eM _ (dc_ne hia.symm), e0, px_up, if_pos ⟨rfl, rfl⟩, px_up, if_neg (fun z => absurd z.2 (by decide)), F1', i5]
