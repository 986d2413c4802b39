/-! BETWEEN THE STATIC VIEW AND THE DYNAMIC ONE (with the tape at rest, or without any cell at rest) -/
theorem apart_nd {α : Type} {l : List (Nat × α)} (h : (l.map Prod.fst).Nodup) : ∀ (i j : Nat) (p q : Nat × α), l[i]? = some p → l[j]? = some q → p.1 = q.1 → i = j := by
  intro i j p q hp hq e
  have key : ∀ (i j : Nat) (p q : Nat × α), l[i]? = some p → l[j]? = some q → p.1 = q.1 → ¬ i < j := by
    intro i j p q hp hq e hlt
    have hj : j < (l.map Prod.fst).length := by rw [List.length_map]; exact (List.getElem?_eq_some_iff.mp hq).1
    have := List.pairwise_iff_getElem.mp h i j (Nat.lt_trans hlt hj) hj hlt
    have e1 : (l.map Prod.fst)[i]? = some p.1 := by rw [List.getElem?_map, hp]; rfl
    have e2 : (l.map Prod.fst)[j]? = some q.1 := by rw [List.getElem?_map, hq]; rfl
    rw [List.getElem?_eq_getElem (Nat.lt_trans hlt hj)] at e1
    rw [List.getElem?_eq_getElem hj] at e2
    exact this (by rw [Option.some.inj e1, Option.some.inj e2, e])
  have h1 := key i j p q hp hq e
  have h2 := key j i q p hq hp e.symm
  omega
theorem nd_apart {α : Type} {l : List (Nat × α)} (h : ∀ (i j : Nat) (p q : Nat × α), l[i]? = some p → l[j]? = some q → p.1 = q.1 → i = j) : (l.map Prod.fst).Nodup := by
  refine List.pairwise_iff_getElem.mpr (fun i j hi hj hlt => ?_)
  intro e
  rw [List.length_map] at hi hj
  have := h i j l[i] l[j] (List.getElem?_eq_getElem hi) (List.getElem?_eq_getElem hj) (by simpa using e)
  omega
/-- the world with the tape at rest, all else is dynamic -/
def vT (D : va_G) (dA : Nat → ClassId) (A : Nat → Prop) (Z : State → Prop) (ta : Nat) : cx_G := (D, dA, fun M => [(ta, dE dA (1, 2, 700) (M 509) (fun _ => none))], A, Z)
def vSn : List (Nat × dk) := vS.filter (fun x => !(x.1 == 509))
def vLT (adr : Nat → Nat) (Lx L : dL) : dL := vSn.map (fun x => (adr x.1, x.2)) ++ (Lx ++ L)
theorem vS5 : vS.filter (fun x => x.1 == 509) = [(509, (1, 2, 700))] := by decide +kernel
theorem vS_perm : ([(509, (1, 2, 700))] ++ vSn).Perm vS := by
  rw [← vS5]
  exact List.filter_append_perm _ _
section VY
variable {D : va_G} {dA : Nat → ClassId} {A : Nat → Prop} {Z : State → Prop} {adr : Nat → Nat} {Lx L : dL} {Px P : dP} {Mx M : cx_M} {ta : Nat}
theorem vT_AI (L : dL) (P : dP) : cx_AI (dG (vT D dA A Z ta) L P) 509 700 ta 2 .byte := vu_AI (by decide) ⟨rfl, 0, fun M => ⟨rfl, fun f => by show [_] = [_]; rw [cx_set_cc]; rfl⟩⟩
theorem vT_dB (hA : ∀ U : State, cx_K (vG0 D dA A Z) U → ∀ q, U.heap.size ≤ q → A q) : dB (vT D dA A Z ta) := ⟨⟨1, fun M => rfl⟩, fun M c f hc => by show [_] = [_]; rw [cx_set_ne (by omega)], hA⟩
theorem vG0_dB (hA : ∀ U : State, cx_K (vG0 D dA A Z) U → ∀ q, U.heap.size ≤ q → A q) : dB (vG0 D dA A Z) := ⟨⟨0, fun M => rfl⟩, fun M c f hc => rfl, hA⟩
theorem vLT_nd (hn : dN (vLL adr Lx L)) : ((adr 509) :: (vLT adr Lx L).map Prod.fst).Nodup := by
  have h1 : ((vLL adr Lx L).map Prod.fst).Nodup := nd_apart hn
  refine (List.Perm.nodup_iff ?_).mpr h1
  unfold vLT vLL
  rw [List.map_append, List.map_append (l₁ := vS.map _), List.map_map, List.map_map]
  have h2 := (vS_perm.map (fun x => adr x.1)).append_right ((Lx ++ L).map Prod.fst)
  exact h2
theorem w_toT {H : Heap} (hw : cx_w (dG (vwG D dA A Z adr Lx Px Mx) L P) M H) : cx_w (dG (vT D dA A Z (adr 509)) (vLT adr Lx L) (zP adr M Lx Px P)) (zM adr Lx Mx M) H := by
  have hn := vw_dN hw
  refine cx_w_view (g := dG (vwG D dA A Z adr Lx Px Mx) L P) ⟨rfl, rfl, rfl, rfl⟩ (fun q hq => ?_) (apart_nd ?_) hw
  · rw [z_eq0 hn]
    show q ∈ [] ++ dW dA (vLL adr Lx L) (zP adr M Lx Px P) (zM adr Lx Mx M)
    rw [List.nil_append]
    rcases List.mem_append.mp hq with h | h
    · have h : q = (adr 509, dE dA (1, 2, 700) (zM adr Lx Mx M 509) (fun _ => none)) := List.mem_singleton.mp h
      subst h
      refine List.mem_map.mpr ⟨(adr 509, (1, 2, 700)), vLL_mS (x := (509, (1, 2, 700))) (vS_of (by decide +kernel)), ?_⟩
      show (adr 509, dE dA (1, 2, 700) (zM adr Lx Mx M (dc (adr 509))) (zP adr M Lx Px P (adr 509))) = _
      have e1 : zM adr Lx Mx M (dc (adr 509)) = M 509 := zM_S (x := (509, (1, 2, 700))) hn (vS_of (by decide +kernel))
      rw [e1]
      rfl
    · obtain ⟨x, hx, rfl⟩ := List.mem_map.mp h
      refine List.mem_map.mpr ⟨x, ?_, rfl⟩
      rcases List.mem_append.mp hx with h1 | h1
      · obtain ⟨y, hy, rfl⟩ := List.mem_map.mp h1
        exact vLL_mS (List.mem_filter.mp hy).1
      · exact List.mem_append_right _ h1
  · have := vLT_nd hn
    have e : ((dG (vT D dA A Z (adr 509)) (vLT adr Lx L) (zP adr M Lx Px P)).2.2.1 (zM adr Lx Mx M)).map Prod.fst = (adr 509) :: (vLT adr Lx L).map Prod.fst := by
      show ([_] ++ dW dA (vLT adr Lx L) _ _).map Prod.fst = _
      unfold dW
      simp [List.map_append, List.map_map, Function.comp_def]
    rw [e]
    exact this
end VY
/-- the static view of dynamic cells (tp: the tape is at rest at ta) -/
def vFrom (dA : Nat → ClassId) (tp : Bool) (ta : Nat) (L1 : dL) (P1 : dP) (M1 : cx_M) (adr : Nat → Nat) (Lx : dL) (Px : dP) (Mx : cx_M) (L : dL) (P : dP) (M : cx_M) : Prop :=
  dN (vLL adr Lx L) ∧ (∀ x ∈ vS, ((adr x.1, x.2) ∈ L1 ∧ ∃ p : Nat → Option Nat, (∀ k, (2 < x.2.1 → k < x.2.2.2) → p k = P1 (adr x.1) k) ∧ dE dA x.2 (M1 (dc (adr x.1))) p = dE dA x.2 (vM M x.1) (vP adr M x.1)) ∨ (tp = true ∧ x.1 = 509 ∧ adr 509 = ta ∧ M1 509 = M 509)) ∧
  (∀ x ∈ Lx, x ∈ L1 ∧ Px x.1 = P1 x.1 ∧ Mx (dc x.1) = M1 (dc x.1)) ∧ (∀ x ∈ L, x ∈ L1 ∧ P x.1 = P1 x.1 ∧ M (dc x.1) = M1 (dc x.1))
section VY2
variable {D : va_G} {dA : Nat → ClassId} {A : Nat → Prop} {Z : State → Prop} {adr : Nat → Nat} {Lx L L1 : dL} {Px P P1 : dP} {Mx M M1 : cx_M} {ta : Nat}
theorem w_ar {cA : ClassId} {n : Nat} {f g : Nat → Value} (h : ∀ k, k < n → f k = g k) : arrV cA n f = arrV cA n g := by
  unfold arrV
  rw [show (fun j : Fin n => f j.val) = fun j => g j.val from funext (fun j => h j.val j.isLt)]
/-- what an array of references holds behind its end does not matter -/
theorem w_at {cl : List vw_C} {a : Nat} {kd : dk} {f : Nat → Int32} {p p' : Nat → Option Nat} {H : Heap} (h : ∀ k, (2 < kd.1 → k < kd.2.2) → p' k = p k) (w : va_at D cl (a, dE dA kd f p) H) : va_at D cl (a, dE dA kd f p') H := by
  obtain ⟨k0, t, n⟩ := kd
  match k0, h, w with
  | 0, h, w => rw [show p' = p from funext (fun k => h k (fun z => absurd (show 2 < 0 from z) (by decide)))]; exact w
  | 1, h, w => rw [show p' = p from funext (fun k => h k (fun z => absurd (show 2 < 1 from z) (by decide)))]; exact w
  | 2, h, w => rw [show p' = p from funext (fun k => h k (fun z => absurd (show 2 < 2 from z) (by decide)))]; exact w
  | k1 + 3, h, w =>
    have w : H[a]? = some (arrV (dA t) n (fun j => va_rf (p j))) := w
    show H[a]? = some (arrV (dA t) n (fun j => va_rf (p' j)))
    have e : arrV (dA t) n (fun j => va_rf (p' j)) = arrV (dA t) n (fun j => va_rf (p j)) := w_ar (fun k hk => congrArg va_rf (h k (fun _ => hk)))
    rw [e]
    exact w
theorem w_sub {tp : Bool} (h : vFrom dA tp ta L1 P1 M1 adr Lx Px Mx L P M) : ∀ q ∈ (dG (vwG D dA A Z adr Lx Px Mx) L P).2.2.1 M, (∃ q' ∈ dW dA L1 P1 M1, q'.1 = q.1 ∧ ∀ (cl : List vw_C) (H : Heap), va_at D cl q' H → va_at D cl q H) ∨ (tp = true ∧ q = (ta, dE dA (1, 2, 700) (M1 509) (fun _ => none))) := by
  obtain ⟨hn, h1, h2, h3⟩ := h
  intro q hq
  have hq : q ∈ (vS.map (fun x => (adr x.1, dE dA x.2 (vM M x.1) (vP adr M x.1))) ++ dW dA Lx Px Mx) ++ dW dA L P M := hq
  rcases List.mem_append.mp hq with hq | hq
  · rcases List.mem_append.mp hq with hq | hq
    · obtain ⟨x, hx, rfl⟩ := List.mem_map.mp hq
      rcases h1 x hx with ⟨c1, p, cp, c2⟩ | ⟨c1, c2, c3, c4⟩
      · refine Or.inl ⟨_, List.mem_map.mpr ⟨(adr x.1, x.2), c1, rfl⟩, rfl, fun cl H w => ?_⟩
        show va_at D cl (adr x.1, dE dA x.2 (vM M x.1) (vP adr M x.1)) H
        rw [← c2]
        exact w_at cp w
      · refine Or.inr ⟨c1, ?_⟩
        obtain ⟨i, hi⟩ := List.mem_iff_getElem?.mp hx
        obtain ⟨j, hj⟩ := List.mem_iff_getElem?.mp (show ((509, (1, 2, 700)) : Nat × dk) ∈ vS from vS_of (by decide +kernel))
        have := vS_inj hi hj c2
        subst this
        rw [hi] at hj
        cases hj
        show (adr 509, dE dA (1, 2, 700) (M 509) _) = _
        rw [c3, c4]
        rfl
    · obtain ⟨x, hx, rfl⟩ := List.mem_map.mp hq
      obtain ⟨c1, c2, c3⟩ := h2 x hx
      exact Or.inl ⟨_, List.mem_map.mpr ⟨x, c1, by rw [← c2, ← c3]⟩, rfl, fun _ _ w => w⟩
  · obtain ⟨x, hx, rfl⟩ := List.mem_map.mp hq
    obtain ⟨c1, c2, c3⟩ := h3 x hx
    exact Or.inl ⟨_, List.mem_map.mpr ⟨x, c1, by rw [← c2, ← c3]⟩, rfl, fun _ _ w => w⟩
theorem cx_w_view2 {g g' : cx_G} {M M' : cx_M} {H : Heap} (hg : vSame g g') (hsub : ∀ q ∈ g'.2.2.1 M', ∃ q' ∈ g.2.2.1 M, q'.1 = q.1 ∧ ∀ (cl : List vw_C) (H : Heap), va_at g.1 cl q' H → va_at g.1 cl q H) (hd : ∀ (i j : Nat) (p q : Nat × va_E), (g'.2.2.1 M')[i]? = some p → (g'.2.2.1 M')[j]? = some q → p.1 = q.1 → i = j) (h : cx_w g M H) : cx_w g' M' H := by
  obtain ⟨e1, e2, e3, e4⟩ := hg
  obtain ⟨h1, h2⟩ := h
  refine ⟨fun k q hq => ?_, hd, fun k q hq => ?_⟩
  · obtain ⟨q', hm, -, hw⟩ := hsub q (List.mem_of_getElem? hq)
    obtain ⟨j, hj⟩ := List.mem_iff_getElem?.mp hm
    rw [← e1]
    exact hw _ _ (h1 j q' hj)
  · obtain ⟨q', hm, he, -⟩ := hsub q (List.mem_of_getElem? hq)
    obtain ⟨j, hj⟩ := List.mem_iff_getElem?.mp hm
    rw [← e3, ← he]
    exact h2.2 j q' hj
theorem w_nd (hn : dN (vLL adr Lx L)) : (((dG (vwG D dA A Z adr Lx Px Mx) L P).2.2.1 M).map Prod.fst).Nodup := by
  have h1 : ((vLL adr Lx L).map Prod.fst).Nodup := nd_apart hn
  have e : ((dG (vwG D dA A Z adr Lx Px Mx) L P).2.2.1 M).map Prod.fst = (vLL adr Lx L).map Prod.fst := by
    show ((vS.map _ ++ dW dA Lx Px Mx) ++ dW dA L P M).map _ = _
    unfold vLL dW
    simp [List.map_append, List.map_map, Function.comp_def]
  rw [e]
  exact h1
variable {l : Launch} {X : cx_X} {S : cx_S} {cc : ByteArray} {pc : Nat} {lv : List (Nat × Value)} {st : List Value} {k n : Nat} {Q : State → Prop}
theorem cq_toT (K : dN (vLL adr Lx L) → cq_V l (dG (vT D dA A Z (adr 509)) (vLT adr Lx L) (zP adr M Lx Px P)) X S cc pc lv st (zM adr Lx Mx M) k n Q) : cq_V l (dG (vwG D dA A Z adr Lx Px Mx) L P) X S cc pc lv st M k n Q :=
  cq_ndv (fun hn => cq_view (g' := dG (vT D dA A Z (adr 509)) (vLT adr Lx L) (zP adr M Lx Px P)) ⟨rfl, rfl, rfl, rfl⟩ (fun _ hw => w_toT hw) (K hn))
theorem cq_toS (h : vFrom dA true ta L1 P1 M1 adr Lx Px Mx L P M) (K : cq_V l (dG (vwG D dA A Z adr Lx Px Mx) L P) X S cc pc lv st M k n Q) : cq_V l (dG (vT D dA A Z ta) L1 P1) X S cc pc lv st M1 k n Q := by
  refine cq_view (g' := dG (vwG D dA A Z adr Lx Px Mx) L P) ⟨rfl, rfl, rfl, rfl⟩ (fun H hw => cx_w_view2 (g := dG (vT D dA A Z ta) L1 P1) ⟨rfl, rfl, rfl, rfl⟩ (fun q hq => ?_) (apart_nd (w_nd h.1)) hw) K
  rcases w_sub (A := A) (Z := Z) (D := D) h q hq with ⟨q', c, d⟩ | ⟨-, c⟩
  · exact ⟨q', List.mem_append_right _ c, d⟩
  · exact ⟨q, List.mem_append_left _ (List.mem_singleton.mpr c), rfl, fun _ _ w => w⟩
theorem cq_toS0 (h : vFrom dA false ta L1 P1 M1 adr Lx Px Mx L P M) (K : cq_V l (dG (vwG D dA A Z adr Lx Px Mx) L P) X S cc pc lv st M k n Q) : cq_V l (dG (vG0 D dA A Z) L1 P1) X S cc pc lv st M1 k n Q := by
  refine cq_view (g' := dG (vwG D dA A Z adr Lx Px Mx) L P) ⟨rfl, rfl, rfl, rfl⟩ (fun H hw => cx_w_view2 (g := dG (vG0 D dA A Z) L1 P1) ⟨rfl, rfl, rfl, rfl⟩ (fun q hq => ?_) (apart_nd (w_nd h.1)) hw) K
  rcases w_sub (A := A) (Z := Z) (D := D) h q hq with ⟨q', c, d⟩ | ⟨c, -⟩
  · exact ⟨q', List.mem_append_right _ c, d⟩
  · cases c
end VY2
