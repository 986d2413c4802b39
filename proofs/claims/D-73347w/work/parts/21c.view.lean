/-! ints as integers -/
theorem i32_sub {a b : Int32} (h1 : -2147483648 ≤ a.toInt - b.toInt) (h2 : a.toInt - b.toInt < 2147483648) : (a - b).toInt = a.toInt - b.toInt := by
  rw [Int32.toInt_sub, Int.bmod_eq_of_le (by omega) (by omega)]
theorem i32_add {a b : Int32} (h1 : -2147483648 ≤ a.toInt + b.toInt) (h2 : a.toInt + b.toInt < 2147483648) : (a + b).toInt = a.toInt + b.toInt := by
  rw [Int32.toInt_add, Int.bmod_eq_of_le (by omega) (by omega)]
theorem i32_lt {a b : Int32} : a < b ↔ a.toInt < b.toInt := Int32.lt_iff_toInt_lt
theorem i32_le {a b : Int32} : a ≤ b ↔ a.toInt ≤ b.toInt := Int32.le_iff_toInt_le
theorem i32_nat (a : Int32) : a.toNatClampNeg = a.toInt.toNat := rfl
theorem i32_rng (a : Int32) : -2147483648 ≤ a.toInt ∧ a.toInt < 2147483648 := ⟨Int32.le_toInt a, Int32.toInt_lt a⟩
theorem i32_eq {a b : Int32} : a = b ↔ a.toInt = b.toInt := ⟨fun h => by rw [h], Int32.toInt_inj.mp⟩
theorem i32_0 : (0 : Int32).toInt = 0 := rfl
theorem i32_1 : (1 : Int32).toInt = 1 := rfl
/-! THE BASE WORLD SEEN AS DYNAMIC CELLS -/
def vG0 (D : va_G) (dA : Nat → ClassId) (A : Nat → Prop) (Z : State → Prop) : cx_G := (D, dA, fun _ => [], A, Z)
def vLL (adr : Nat → Nat) (Lx L : dL) : dL := vS.map (fun x => (adr x.1, x.2)) ++ (Lx ++ L)
def vIx (adr : Nat → Nat) (a : Nat) : Option Nat := (vS.find? (fun x => adr x.1 == a)).map (fun x => x.1)
def vXx (Lx : dL) (a : Nat) : Bool := Lx.any (fun x => x.1 == a)
def zP (adr : Nat → Nat) (M : cx_M) (Lx : dL) (Px P : dP) : dP := fun a => match vIx adr a with
  | some c => vP adr M c
  | none => if vXx Lx a = true then Px a else P a
def zM (adr : Nat → Nat) (Lx : dL) (Mx M : cx_M) : cx_M := fun c => if c < 10000000 then M c else match vIx adr (c - 10000000) with
  | some d => vM M d
  | none => if vXx Lx (c - 10000000) = true then Mx c else M c
section VZ
variable {D : va_G} {dA : Nat → ClassId} {A : Nat → Prop} {Z : State → Prop} {adr : Nat → Nat} {Lx L : dL} {Px P : dP} {Mx M : cx_M}
theorem vLL_S {i : Nat} {x : Nat × dk} (h : vS[i]? = some x) : (vLL adr Lx L)[i]? = some (adr x.1, x.2) := by
  unfold vLL
  rw [List.getElem?_append_left (by rw [List.length_map]; exact (List.getElem?_eq_some_iff.mp h).1), List.getElem?_map, h]
  rfl
theorem vLL_X {i : Nat} {x : Nat × dk} (h : (Lx ++ L)[i]? = some x) : (vLL adr Lx L)[vS.length + i]? = some x := by
  unfold vLL
  rw [List.getElem?_append_right (by simp), List.length_map, Nat.add_sub_cancel_left, h]
theorem vLL_mS {x : Nat × dk} (h : x ∈ vS) : (adr x.1, x.2) ∈ vLL adr Lx L := by
  unfold vLL
  exact List.mem_append_left _ (List.mem_map.mpr ⟨x, h, rfl⟩)
theorem vLL_mX {x : Nat × dk} (h : x ∈ Lx) : x ∈ vLL adr Lx L := List.mem_append_right _ (List.mem_append_left _ h)
theorem vLL_mL {x : Nat × dk} (h : x ∈ L) : x ∈ vLL adr Lx L := List.mem_append_right _ (List.mem_append_right _ h)
theorem vIx_of (hn : dN (vLL adr Lx L)) {x : Nat × dk} (hx : x ∈ vS) : vIx adr (adr x.1) = some x.1 := by
  unfold vIx
  cases hf : vS.find? (fun y => adr y.1 == adr x.1) with
  | none =>
    have := List.find?_eq_none.mp hf x hx
    simp at this
  | some y =>
    have h1 := List.mem_of_find?_eq_some hf
    have h2 : adr y.1 = adr x.1 := by
      have := List.find?_some hf
      simpa using this
    obtain ⟨i, hi⟩ := List.mem_iff_getElem?.mp h1
    obtain ⟨j, hj⟩ := List.mem_iff_getElem?.mp hx
    have e := hn i j _ _ (vLL_S hi) (vLL_S hj) h2
    subst e
    rw [hi] at hj
    cases hj
    rfl
theorem vIx_no (hn : dN (vLL adr Lx L)) {x : Nat × dk} (hx : x ∈ Lx ++ L) : vIx adr x.1 = none := by
  unfold vIx
  cases hf : vS.find? (fun y => adr y.1 == x.1) with
  | none => rfl
  | some y =>
    have h1 := List.mem_of_find?_eq_some hf
    have h2 : adr y.1 = x.1 := by
      have := List.find?_some hf
      simpa using this
    obtain ⟨i, hi⟩ := List.mem_iff_getElem?.mp h1
    obtain ⟨j, hj⟩ := List.mem_iff_getElem?.mp hx
    have e := hn i _ _ _ (vLL_S hi) (vLL_X hj) h2
    have := (List.getElem?_eq_some_iff.mp hi).1
    omega
theorem vXx_of {x : Nat × dk} (hx : x ∈ Lx) : vXx Lx x.1 = true := List.any_eq_true.mpr ⟨x, hx, by simp⟩
theorem vXx_no (hn : dN (vLL adr Lx L)) {x : Nat × dk} (hx : x ∈ L) : vXx Lx x.1 = false := by
  cases h : vXx Lx x.1 with
  | false => rfl
  | true =>
    obtain ⟨y, hy, e⟩ := List.any_eq_true.mp h
    have e : y.1 = x.1 := by simpa using e
    obtain ⟨i, hi⟩ := List.mem_iff_getElem?.mp hy
    obtain ⟨j, hj⟩ := List.mem_iff_getElem?.mp hx
    have hl := (List.getElem?_eq_some_iff.mp hi).1
    have hi' : (Lx ++ L)[i]? = some y := by rw [List.getElem?_append_left hl]; exact hi
    have hj' : (Lx ++ L)[Lx.length + j]? = some x := by rw [List.getElem?_append_right (by omega), Nat.add_sub_cancel_left]; exact hj
    have := hn _ _ _ _ (vLL_X hi') (vLL_X hj') e
    omega
theorem zP_S (hn : dN (vLL adr Lx L)) {x : Nat × dk} (hx : x ∈ vS) : zP adr M Lx Px P (adr x.1) = vP adr M x.1 := by
  unfold zP
  rw [vIx_of hn hx]
theorem zP_X (hn : dN (vLL adr Lx L)) {x : Nat × dk} (hx : x ∈ Lx) : zP adr M Lx Px P x.1 = Px x.1 := by
  unfold zP
  rw [vIx_no hn (List.mem_append_left _ hx)]
  exact if_pos (vXx_of hx)
theorem zP_L (hn : dN (vLL adr Lx L)) {x : Nat × dk} (hx : x ∈ L) : zP adr M Lx Px P x.1 = P x.1 := by
  unfold zP
  rw [vIx_no hn (List.mem_append_right _ hx)]
  show (if vXx Lx x.1 = true then _ else _) = _
  rw [vXx_no hn hx]
  rfl
theorem dc_sub (a : Nat) : ¬ dc a < 10000000 ∧ dc a - 10000000 = a := by unfold dc; omega
theorem zM_S (hn : dN (vLL adr Lx L)) {x : Nat × dk} (hx : x ∈ vS) : zM adr Lx Mx M (dc (adr x.1)) = vM M x.1 := by
  unfold zM
  rw [if_neg (dc_sub _).1, (dc_sub _).2, vIx_of hn hx]
theorem zM_X (hn : dN (vLL adr Lx L)) {x : Nat × dk} (hx : x ∈ Lx) : zM adr Lx Mx M (dc x.1) = Mx (dc x.1) := by
  unfold zM
  rw [if_neg (dc_sub _).1, (dc_sub _).2, vIx_no hn (List.mem_append_left _ hx)]
  exact if_pos (vXx_of hx)
theorem zM_L (hn : dN (vLL adr Lx L)) {x : Nat × dk} (hx : x ∈ L) : zM adr Lx Mx M (dc x.1) = M (dc x.1) := by
  unfold zM
  rw [if_neg (dc_sub _).1, (dc_sub _).2, vIx_no hn (List.mem_append_right _ hx)]
  show (if vXx Lx x.1 = true then _ else _) = _
  rw [vXx_no hn hx]
  rfl
/-- the same cells -/
theorem z_eq (PP : dP) (MM : cx_M) (hPS : ∀ x ∈ vS, PP (adr x.1) = vP adr M x.1) (hPX : ∀ x ∈ Lx, PP x.1 = Px x.1) (hPL : ∀ x ∈ L, PP x.1 = P x.1) (hMS : ∀ x ∈ vS, MM (dc (adr x.1)) = vM M x.1) (hMX : ∀ x ∈ Lx, MM (dc x.1) = Mx (dc x.1)) (hML : ∀ x ∈ L, MM (dc x.1) = M (dc x.1)) :
    (dG (vwG D dA A Z adr Lx Px Mx) L P).2.2.1 M = (dG (vG0 D dA A Z) (vLL adr Lx L) PP).2.2.1 MM := by
  show (vS.map _ ++ dW dA Lx Px Mx) ++ dW dA L P M = [] ++ dW dA (vLL adr Lx L) PP MM
  unfold vLL dW
  rw [List.nil_append, List.map_append, List.map_append, List.map_map, List.append_assoc]
  congr 1
  · apply List.map_congr_left
    intro x hx
    show (adr x.1, dE dA x.2 (vM M x.1) (vP adr M x.1)) = (adr x.1, dE dA x.2 (MM (dc (adr x.1))) (PP (adr x.1)))
    rw [hPS x hx, hMS x hx]
  · congr 1
    · apply List.map_congr_left
      intro x hx
      rw [hPX x hx, hMX x hx]
    · apply List.map_congr_left
      intro x hx
      rw [hPL x hx, hML x hx]
theorem z_eq0 (hn : dN (vLL adr Lx L)) : (dG (vwG D dA A Z adr Lx Px Mx) L P).2.2.1 M = (dG (vG0 D dA A Z) (vLL adr Lx L) (zP adr M Lx Px P)).2.2.1 (zM adr Lx Mx M) :=
  z_eq _ _ (fun _ hx => zP_S hn hx) (fun _ hx => zP_X hn hx) (fun _ hx => zP_L hn hx) (fun _ hx => zM_S hn hx) (fun _ hx => zM_X hn hx) (fun _ hx => zM_L hn hx)
theorem vw_dN {H : Heap} (hw : cx_w (dG (vwG D dA A Z adr Lx Px Mx) L P) M H) : dN (vLL adr Lx L) := by
  have key : ∀ (i : Nat) (x : Nat × dk), (vLL adr Lx L)[i]? = some x → ∃ q, ((dG (vwG D dA A Z adr Lx Px Mx) L P).2.2.1 M)[i]? = some (x.1, q) := by
    intro i x h
    have e : ((dG (vwG D dA A Z adr Lx Px Mx) L P).2.2.1 M).map Prod.fst = (vLL adr Lx L).map Prod.fst := by
      show ((vS.map _ ++ dW dA Lx Px Mx) ++ dW dA L P M).map _ = _
      unfold vLL dW
      simp [List.map_append, List.map_map, Function.comp_def]
    have h2 := congrArg (fun l => l[i]?) e
    simp only [List.getElem?_map, h] at h2
    cases hq : ((dG (vwG D dA A Z adr Lx Px Mx) L P).2.2.1 M)[i]? with
    | none => rw [hq] at h2; cases h2
    | some q =>
      rw [hq] at h2
      obtain ⟨q1, q2⟩ := q
      have : q1 = x.1 := by simpa using h2
      exact ⟨q2, by rw [this]⟩
  intro i j x y hi hj e
  obtain ⟨p, hp⟩ := key i x hi
  obtain ⟨q, hq⟩ := key j y hj
  exact hw.2.1 i j _ _ hp hq e
end VZ
theorem cx_w_same {g g' : cx_G} {M M' : cx_M} {H : Heap} (hg : vSame g g') (he : g.2.2.1 M = g'.2.2.1 M') (h : cx_w g M H) : cx_w g' M' H := by
  obtain ⟨e1, e2, e3, e4⟩ := hg
  unfold cx_w at h ⊢
  rw [← e1, ← e3, ← he]
  exact h
section VR
variable {l : Launch} {X : cx_X} {S : cx_S} {cc : ByteArray} {pc : Nat} {lv : List (Nat × Value)} {st : List Value} {k n : Nat} {Q : State → Prop}
theorem cq_same {g g' : cx_G} {M M' : cx_M} (hg : vSame g g') (he : g.2.2.1 M = g'.2.2.1 M') (K : cq_V l g' X S cc pc lv st M' k n Q) : cq_V l g X S cc pc lv st M k n Q := cq_view hg (fun _ h => cx_w_same hg he h) K
variable {D : va_G} {dA : Nat → ClassId} {A : Nat → Prop} {Z : State → Prop} {adr : Nat → Nat} {Lx L : dL} {Px P : dP} {Mx M : cx_M}
theorem cq_ndv (K : dN (vLL adr Lx L) → cq_V l (dG (vwG D dA A Z adr Lx Px Mx) L P) X S cc pc lv st M k n Q) : cq_V l (dG (vwG D dA A Z adr Lx Px Mx) L P) X S cc pc lv st M k n Q :=
  fun hk H locs ls hw hS hl => K (vw_dN hw) hk H locs ls hw hS hl
end VR
theorem vw_same {D : va_G} {dA : Nat → ClassId} {A : Nat → Prop} {Z : State → Prop} {adr : Nat → Nat} {Lx L L' : dL} {Px P P' : dP} {Mx : cx_M} : vSame (dG (vwG D dA A Z adr Lx Px Mx) L P) (dG (vG0 D dA A Z) L' P') := ⟨rfl, rfl, rfl, rfl⟩
theorem vw_same' {D : va_G} {dA : Nat → ClassId} {A : Nat → Prop} {Z : State → Prop} {adr : Nat → Nat} {Lx L L' : dL} {Px P P' : dP} {Mx : cx_M} : vSame (dG (vG0 D dA A Z) L' P') (dG (vwG D dA A Z adr Lx Px Mx) L P) := ⟨rfl, rfl, rfl, rfl⟩
/-! what ArrayList's methods compute -/
section PL
variable {N : dNt} {M : cx_M} {P : dP} {L : dL} {Q : cd_Qt} {a0 a2 z : Nat} {i : Int32}
theorem pCk {bc bs : Nat} {x0 x1 : Int32} (h0 : ¬ x0 < 0) (h1 : x0 < x1) (h : Q M P L x0 none 0 0 0) : jOb_checkIndex N bc bs M P L x0 x1 Q := by
  unfold jOb_checkIndex jOb_checkIndex_0 jPd_checkIndexD jPd_checkIndexD_0
  rw [if_neg h0, if_pos h1]
  intro _
  exact h
theorem pSize (h0 : (a0, (0, 20, 0)) ∈ L) (h : Q M P L (M (dc a0) 2) none 0 0 0) : jAl_size N 0 0 M P L a0 Q := ⟨h0, h⟩
theorem pGet (h0 : (a0, (0, 20, 0)) ∈ L) (he : P a0 1 = some a2) (h1 : (a2, (3, 4, z)) ∈ L) (hi : ¬ i < 0) (hn : i < M (dc a0) 2) (hz : i.toNatClampNeg < z) (h : Q M P L 0 (P a2 i.toNatClampNeg) 0 0 0) : jAl_get N 0 0 M P L a0 i Q := by
  unfold jAl_get jAl_get_0
  refine ⟨h0, ?_⟩
  show jOb_checkIndex _ _ _ _ _ _ i (M (dc a0) 2) _
  refine pCk hi hn ?_
  intro _
  refine ⟨h0, ?_⟩
  unfold jAl_elementData jAl_elementData_0
  refine ⟨h0, ?_⟩
  show cd_nn (P a0 1) _
  rw [he]
  refine ⟨z, h1, ?_⟩
  unfold cd_ldR
  rw [if_neg (fun q => q.elim hi (by omega))]
  intro _
  exact h
theorem pAdd {j : Nat} (h0 : (a0, (0, 20, 0)) ∈ L) (he : P a0 1 = some a2) (h1 : (a2, (3, 4, z)) ∈ L) (hj : (j, (0, 12, 0)) ∈ L) (hs : ¬ M (dc a0) 2 < 0) (hz : (M (dc a0) 2).toNatClampNeg < z) (hz2 : z < 2 ^ 31)
    (h : Q (cx_up (cx_up M (dc a0) 0 (M (dc a0) 0 + 1)) (dc a0) 2 (M (dc a0) 2 + 1)) (dPu P a2 (M (dc a0) 2).toNatClampNeg (some j)) L 1 none 0 0 0) : jAl_add N 0 0 M P L a0 (some j) Q := by
  unfold jAl_add jAl_add_0
  refine ⟨h0, h0, h0, h0, h0, ?_⟩
  have e2 : (cx_up M (dc a0) 0 (M (dc a0) 0 + 1)) (dc a0) 2 = M (dc a0) 2 := by
    rw [cx_up_cc]
    exact pk_un (by decide)
  show jAl_add_2 _ _ _ (cx_up M (dc a0) 0 (M (dc a0) 0 + 1)) _ _ _ _ (P a0 1) ((cx_up M (dc a0) 0 (M (dc a0) 0 + 1)) (dc a0) 2) _
  rw [e2, he]
  unfold jAl_add_2 jAl_add_2_0
  refine ⟨z, h1, ?_⟩
  rw [if_neg (fun q => by
    rw [q, nI_clamp hz2] at hz
    omega)]
  unfold jAl_add_2_11
  refine ⟨z, h1, fun x hx => by cases hx; exact ⟨12, by decide, Or.inl hj⟩, ?_⟩
  unfold cd_stR
  rw [if_neg (fun q => q.elim hs (by omega))]
  refine ⟨h0, ?_⟩
  intro _
  exact h
theorem pRem (h0 : (a0, (0, 20, 0)) ∈ L) (he : P a0 1 = some a2) (h1 : (a2, (3, 4, z)) ∈ L) (hi : ¬ i < 0) (hn : i < M (dc a0) 2) (hz : (M (dc a0) 2).toNatClampNeg ≤ z) (hst : ∀ q y, q < (M (dc a0) 2).toNatClampNeg → P a2 q = some y → (y, (0, 12, 0)) ∈ L)
    (h : ∀ P', (∀ b, b ≠ a2 → P' b = P b) → (∀ q, P' a2 q = if q < i.toNatClampNeg then P a2 q else if q + 1 < (M (dc a0) 2).toNatClampNeg then P a2 (q + 1) else if q + 1 = (M (dc a0) 2).toNatClampNeg then none else P a2 q) → Q (cx_up (cx_up M (dc a0) 0 (M (dc a0) 0 + 1)) (dc a0) 2 (M (dc a0) 2 - 1)) P' L 0 (P a2 i.toNatClampNeg) 0 0 0) : jAl_remove N 0 0 M P L a0 i Q := by
  have hi0 : 0 ≤ i.toInt := by rw [i32_lt, i32_0] at hi; omega
  have hn1 : i.toInt < (M (dc a0) 2).toInt := i32_lt.mp hn
  have hr := i32_rng (M (dc a0) 2)
  have ei := i32_nat i
  have es := i32_nat (M (dc a0) 2)
  have e1 : (M (dc a0) 2 - 1).toInt = (M (dc a0) 2).toInt - 1 := by rw [i32_sub, i32_1] <;> rw [i32_1] <;> omega
  have e1n := i32_nat (M (dc a0) 2 - 1)
  unfold jAl_remove jAl_remove_0
  refine ⟨h0, ?_⟩
  show jOb_checkIndex _ _ _ _ _ _ i (M (dc a0) 2) _
  refine pCk hi hn ?_
  intro _
  refine ⟨h0, ?_⟩
  show cd_nn (P a0 1) _
  rw [he]
  refine ⟨z, h1, ?_⟩
  unfold cd_ldR
  rw [if_neg (fun q => q.elim hi (by omega))]
  refine ⟨h0, ?_⟩
  unfold jAl_fastRemove jAl_fastRemove_0
  refine ⟨h0, h0, h0, ?_⟩
  have e2 : (cx_up M (dc a0) 0 (M (dc a0) 0 + 1)) (dc a0) 2 = M (dc a0) 2 := by
    rw [cx_up_cc]
    exact pk_un (by decide)
  show if (cx_up M (dc a0) 0 (M (dc a0) 0 + 1)) (dc a0) 2 - 1 ≤ i then jAl_fastRemove_34 _ _ _ _ _ _ (cx_up M (dc a0) 0 (M (dc a0) 0 + 1)) _ _ _ _ ((cx_up M (dc a0) 0 (M (dc a0) 0 + 1)) (dc a0) 2 - 1) else ∃ z5 z6, (a2, (3, 4, z5)) ∈ L ∧ (a2, (3, 4, z6)) ∈ L ∧ cd_cpyR _ L P a2 z5 a2 z6 (i + 1) i ((cx_up M (dc a0) 0 (M (dc a0) 0 + 1)) (dc a0) 2 - 1 - i) fun P7 => jAl_fastRemove_34 _ _ _ _ _ _ (cx_up M (dc a0) 0 (M (dc a0) 0 + 1)) P7 _ _ _ ((cx_up M (dc a0) 0 (M (dc a0) 0 + 1)) (dc a0) 2 - 1)
  rw [e2]
  have fin : ∀ P7 : dP, (∀ P', P' = dPu P7 a2 (M (dc a0) 2 - 1).toNatClampNeg none → Q (cx_up (cx_up M (dc a0) 0 (M (dc a0) 0 + 1)) (dc a0) 2 (M (dc a0) 2 - 1)) P' L 0 (P a2 i.toNatClampNeg) 0 0 0) →
      jAl_fastRemove_34 N (0 - (0 + 0)) (0 - (0 + 0)) (fun M15 P16 L17 _ _ e9 k20 n21 => e9 = 0 → cd_add (0 + 0) k20 (0 + 0) n21 fun k22 n23 => Q M15 P16 L17 0 (P a2 i.toNatClampNeg) 0 k22 n23) a0 a2 (cx_up M (dc a0) 0 (M (dc a0) 0 + 1)) P7 L 0 0 (M (dc a0) 2 - 1) := by
    intro P7 hq
    unfold jAl_fastRemove_34
    refine ⟨h0, z, h1, (fun x hx => by cases hx), ?_⟩
    unfold cd_stR
    rw [if_neg (by
      rw [i32_lt, i32_0, e1n]
      omega)]
    intro _
    exact hq _ rfl
  split
  · next c =>
    have c := i32_le.mp c
    refine fin P (fun P' e => ?_)
    subst e
    refine h _ (fun b hb => by unfold dPu; rw [if_neg hb]) (fun q => ?_)
    unfold dPu
    rw [if_pos rfl]
    unfold va_up
    by_cases c1 : q < i.toNatClampNeg
    · rw [if_pos c1, if_neg (show ¬ q = (M (dc a0) 2 - 1).toNatClampNeg by omega)]
    · rw [if_neg c1, if_neg (show ¬ q + 1 < (M (dc a0) 2).toNatClampNeg by omega)]
      by_cases c2 : q + 1 = (M (dc a0) 2).toNatClampNeg
      · rw [if_pos c2, if_pos (show q = (M (dc a0) 2 - 1).toNatClampNeg by omega)]
      · rw [if_neg c2, if_neg (show ¬ q = (M (dc a0) 2 - 1).toNatClampNeg by omega)]
  · next c =>
    have c : ¬ (M (dc a0) 2 - 1).toInt ≤ i.toInt := fun q => c (i32_le.mpr q)
    have f1 : (i + 1).toInt = i.toInt + 1 := by rw [i32_add, i32_1] <;> rw [i32_1] <;> omega
    have f2 : (M (dc a0) 2 - 1 - i).toInt = (M (dc a0) 2).toInt - 1 - i.toInt := by rw [i32_sub, e1] <;> rw [e1] <;> omega
    have f1n := i32_nat (i + 1)
    have f2n := i32_nat (M (dc a0) 2 - 1 - i)
    refine ⟨z, z, h1, h1, ?_, hi, ?_, by omega, by omega, ⟨12, by decide, fun q hq y hy => Or.inl (hst _ y (by omega) hy)⟩, ?_⟩
    · rw [i32_lt, i32_0]; omega
    · rw [i32_lt, i32_0]; omega
    · refine fin _ (fun P' e => ?_)
      subst e
      refine h _ (fun b hb => by unfold dPu dPs; rw [if_neg hb, if_neg hb]) (fun q => ?_)
      unfold dPu dPs
      rw [if_pos rfl, if_pos rfl]
      unfold va_up va_cpy
      by_cases c1 : q < i.toNatClampNeg
      · rw [if_pos c1, if_neg (show ¬ q = (M (dc a0) 2 - 1).toNatClampNeg by omega), if_neg (show ¬ (i.toNatClampNeg ≤ q ∧ q < i.toNatClampNeg + (M (dc a0) 2 - 1 - i).toNatClampNeg) by omega)]
      · rw [if_neg c1]
        by_cases c3 : q + 1 < (M (dc a0) 2).toNatClampNeg
        · rw [if_pos c3, if_neg (show ¬ q = (M (dc a0) 2 - 1).toNatClampNeg by omega), if_pos (show i.toNatClampNeg ≤ q ∧ q < i.toNatClampNeg + (M (dc a0) 2 - 1 - i).toNatClampNeg by omega)]
          congr 1
          omega
        · rw [if_neg c3]
          by_cases c2 : q + 1 = (M (dc a0) 2).toNatClampNeg
          · rw [if_pos c2, if_pos (show q = (M (dc a0) 2 - 1).toNatClampNeg by omega)]
          · rw [if_neg c2, if_neg (show ¬ q = (M (dc a0) 2 - 1).toNatClampNeg by omega), if_neg (show ¬ (i.toNatClampNeg ≤ q ∧ q < i.toNatClampNeg + (M (dc a0) 2 - 1 - i).toNatClampNeg) by omega)]
end PL
