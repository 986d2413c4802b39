/-! RULES, WORDS AND FUNCTION OBJECTS AMONG THE CONSTANT CELLS -/
def pT (adr : Nat → Nat) (Lx : dL) (Px : dP) : Nat → Nat → List Int32 → Prop
  | 0, _, _ => False
  | h + 1, a, s =>
    (∃ v : Nat, v < 2 ^ 31 ∧ s = [nI v] ∧ (a, (0, 13, 0)) ∈ Lx ∧ Px a 0 = some v) ∨
    (∃ e : Nat, e < 4 ∧ s = [-1 - nI e] ∧ (a, (0, 11, 0)) ∈ Lx ∧ Px a 0 = some (adr (9200 + e))) ∨
    (∃ (b : Nat) (s1 : List Int32), s = s1 ++ [-28] ∧ (a, (0, 9, 0)) ∈ Lx ∧ Px a 0 = some b ∧ pT adr Lx Px h b s1) ∨
    (∃ (c : Int32) (b1 b2 : Nat) (s1 s2 : List Int32), c ∈ sx_acts ∧ s = s1 ++ s2 ++ [sx_act c] ∧ (a, (0, 3, 0)) ∈ Lx ∧ nI ((Px a 0).getD 0) = c ∧ Px a 1 = some b1 ∧ Px a 2 = some b2 ∧ pT adr Lx Px h b1 s1 ∧ pT adr Lx Px h b2 s2)
section VT
variable {D : va_G} {dA : Nat → ClassId} {A : Nat → Prop} {Z : State → Prop} {adr : Nat → Nat} {Lx L : dL} {Px P : dP} {Mx : cx_M} {N : cx_N}
theorem nI_nn {v : Nat} (h : v < 2 ^ 31) : (0 : Int32) ≤ nI v := by
  rw [i32_le, i32_0]
  have := nI_clamp h
  have h2 := i32_nat (nI v)
  rcases Int.lt_or_le (nI v).toInt 0 with q | q
  · have h3 : v = 0 := by omega
    subst h3
    exact absurd q (by decide)
  · exact q
theorem pT_eT : ∀ {h a : Nat} {s : List Int32}, pT adr Lx Px h a s → eT (dG (vwG D dA A Z adr Lx Px Mx) L P) adr h a s
  | 0, _, _, q => q.elim
  | h + 1, a, s, q => by
    rcases q with ⟨v, q1, q2, q3, q4⟩ | ⟨e, q1, q2, q3, q4⟩ | ⟨b, s1, q1, q2, q3, q4⟩ | ⟨c, b1, b2, s1, s2, q0, q1, q2, q3, q4, q5, q6, q7⟩
    · refine Or.inl ⟨nI v, nI_nn q1, q2, vu_Rc (vw_XRc q3 dCl_X14), vu_FR ?_⟩
      have := vw_XN (D := D) (dA := dA) (A := A) (Z := Z) (adr := adr) (Mx := Mx) (Px := Px) (k := 0) (f := ("CircuitCells$Told", "n", "I", true)) q3 dCl_X14 (by decide) rfl (by decide)
      rw [q4] at this
      exact this
    · refine Or.inr (Or.inl ⟨e, q1, q2, vu_Rc (vw_XRc q3 dCl_X15), vu_FR ?_⟩)
      have := vw_XR (D := D) (dA := dA) (A := A) (Z := Z) (adr := adr) (Mx := Mx) (Px := Px) (k := 0) (f := ("CircuitCells$Seen", "value", "LCircuitCells$Value;", true)) q3 dCl_X15 (by decide) rfl (by decide)
      rw [q4] at this
      exact this
    · refine Or.inr (Or.inr (Or.inl ⟨b, s1, q1, vu_Rc (vw_XRc q2 dCl_X17), vu_FR ?_, pT_eT q4⟩))
      have := vw_XR (D := D) (dA := dA) (A := A) (Z := Z) (adr := adr) (Mx := Mx) (Px := Px) (k := 0) (f := ("CircuitCells$Not", "part", "LCircuitCells$Expr;", true)) q2 dCl_X17 (by decide) rfl (by decide)
      rw [q3] at this
      exact this
    · refine Or.inr (Or.inr (Or.inr ⟨c, b1, b2, s1, s2, q0, q1, vu_Rc (vw_XRc q2 dCl_X16), vu_FR ?_, vu_FR ?_, vu_FR ?_, pT_eT q6, pT_eT q7⟩))
      · have := vw_XN (D := D) (dA := dA) (A := A) (Z := Z) (adr := adr) (Mx := Mx) (Px := Px) (k := 0) (f := ("CircuitCells$Both", "act", "C", true)) q2 dCl_X16 (by decide) rfl (by decide)
        rw [q3] at this
        exact this
      · have := vw_XR (D := D) (dA := dA) (A := A) (Z := Z) (adr := adr) (Mx := Mx) (Px := Px) (k := 1) (f := ("CircuitCells$Both", "left", "LCircuitCells$Expr;", true)) q2 dCl_X16 (by decide) rfl (by decide)
        rw [q4] at this
        exact this
      · have := vw_XR (D := D) (dA := dA) (A := A) (Z := Z) (adr := adr) (Mx := Mx) (Px := Px) (k := 2) (f := ("CircuitCells$Both", "right", "LCircuitCells$Expr;", true)) q2 dCl_X16 (by decide) rfl (by decide)
        rw [q5] at this
        exact this
theorem vF_ex {g : cx_G} (H : exH g adr) (hr : ∀ e, e < 2 → cEx_is N e → ∃ s, eT g adr 899 (adr (8020 + e)) s ∧ ∀ view, N.2.1 e view = sx_ev view s) : cLs_Hex g adr N := by
  intro e he l X S cc pc lv st M k n Q F index h d hml hfr hlo hcat hk hn K
  unfold cEx_by at h
  split at h
  · exact h.elim
  · next q =>
    obtain ⟨s, ht, hev⟩ := hr e he q
    have h : F M (N.2.1 e (M 8011)) := h
    refine ex_row (h := 899) (ex_met H 899) ht d hml hfr (by omega) (by omega) ⟨hk, hn⟩ ?_
    rw [← hev]
    exact K _ _ h
theorem vF_f (h1 : ∀ j, j < 3 → (adr (9050 + j), (0, 6, 0)) ∈ Lx ∧ Px (adr (9050 + j)) 0 = some (adr (9100 + j))) (h2 : ∀ j, j < 6 → (adr (9060 + j), (0, 8, 0)) ∈ Lx ∧ Px (adr (9060 + j)) 0 = some (adr (9110 + j))) : cLs_Hf (dG (vwG D dA A Z adr Lx Px Mx) L P) adr := by
  refine ⟨fun j hj => ⟨vu_FR ?_, vu_Rc (vw_XRc (h1 j hj).1 dCl_X8)⟩, fun j hj => ⟨vu_FR ?_, vu_Rc (vw_XRc (h2 j hj).1 dCl_X9)⟩⟩
  · have := vw_XR (D := D) (dA := dA) (A := A) (Z := Z) (adr := adr) (Mx := Mx) (Px := Px) (k := 0) (f := ("CircuitCells$Filling", "fill", "LCircuitCells$Fill;", true)) (h1 j hj).1 dCl_X8 (by decide) rfl (by decide)
    rw [(h1 j hj).2] at this
    exact this
  · have := vw_XR (D := D) (dA := dA) (A := A) (Z := Z) (adr := adr) (Mx := Mx) (Px := Px) (k := 0) (f := ("CircuitCells$Looking", "look", "LCircuitCells$Look;", true)) (h2 j hj).1 dCl_X9 (by decide) rfl (by decide)
    rw [(h2 j hj).2] at this
    exact this
theorem vF_C {a t b : Nat} (h : (a, (3, t, 1)) ∈ Lx) (hp : Px a = fun _ => some b) : lm_C (dG (vwG D dA A Z adr Lx Px Mx) L P) a (dA t) b := by
  intro M
  obtain ⟨i, hi⟩ := List.mem_iff_getElem?.mp h
  have := vw_getX (D := D) (dA := dA) (A := A) (Z := Z) (adr := adr) (Mx := Mx) (Px := Px) (M := M) hi
  refine ⟨vS.length + i, vu_app ?_⟩
  rw [this]
  show some (a, (Sum.inl (dA t, 1, Sum.inr (Sum.inr (Sum.inr (Sum.inr (Px a))))) : va_E)) = _
  rw [hp]
end VT
section VW2
variable {D : va_G} {dA : Nat → ClassId} {A : Nat → Prop} {Z : State → Prop} {adr : Nat → Nat} {Lx L : dL} {Px P : dP} {Mx : cx_M} {N : cx_N}
variable {l : Launch} {X : cx_X} {S : cx_S} {cc : ByteArray} {pc : Nat} {lv : List (Nat × Value)} {st : List Value} {M : cx_M} {k n index a : Nat} {Q : State → Prop}
theorem dBx_LL {v : Int32} (hn : dN (vLL adr Lx L)) (h : dBx (dia adr) Lx Px a v) : dBx (dia adr) (vLL adr Lx L) (zP adr M Lx Px P) a v := by
  rcases h with ⟨h1, h2⟩ | h
  · refine Or.inl ⟨vLL_mX h1, ?_⟩
    have := congrFun (zP_X (M := M) (Px := Px) (P := P) hn h1) 0
    rw [this]
    exact h2
  · exact Or.inr h
theorem xl_empty {m : Int32} {f : Nat → Option Nat} (hI : dI (vG0 D dA A Z) adr) (hl : vXl Lx Px Mx a m f)
    (d : decode cc pc = .ok (.invokevirtual index, 3)) (hml : Cond.methodLink S.2.1 index ⟨"java/util/ArrayList", "isEmpty", "()Z"⟩ ∈ lw_all) (hfr : 8 ≤ S.2.2.2.1.frames) (hlo : 200 ≤ S.2.2.2.1.locals) (hcat : (st.map fun v => v.category).sum ≤ 6) (hk : k ≤ S.2.2.2.1.cells) (hn : n ≤ S.2.2.2.1.slots)
    (K : cq_V l (dG (vwG D dA A Z adr Lx Px Mx) L P) X S cc (pc + 3) lv (.int (if m = 0 then 1 else 0) :: st) M k n Q) : cq_V l (dG (vwG D dA A Z adr Lx Px Mx) L P) X S cc pc lv (.ref a :: st) M k n Q := by
  obtain ⟨h1, h2, -⟩ := hl
  refine cq_ndv (fun hn' => ?_)
  refine cq_same vw_same (z_eq0 hn') ?_
  have hz : zM adr Lx Mx M (dc a) 2 = m := by rw [(congrFun (zM_X hn' h1) 2), h2]
  refine cd_cV (F := fun M1 P1 L1 x1 _ _ k1 n1 => (dG (vwG D dA A Z adr Lx Px Mx) L P).2.2.1 M = (dG (vG0 D dA A Z) L1 P1).2.2.1 M1 ∧ x1 = (if m = 0 then 1 else 0) ∧ k1 = 0 ∧ n1 = 0) [] st (jAl_isEmpty_m (N := (0, adr)) (bc := 0) (bs := 0) hI _ _ _ a ?_) (dG_Rc hI.1.1 (vLL_mX h1) dCl_J2) d (gdw_isEmpty hml) hgdw_isEmpty ⟨Nat.le_trans (by decide) hfr, Nat.le_trans (by decide) hlo⟩ ⟨hk, hn⟩ rfl (Nat.le_trans hcat (by decide)) (fun M1 P1 L1 x1 r1 k1 n1 _ h => ?_)
  · unfold jAl_isEmpty jAl_isEmpty_0
    refine ⟨vLL_mX h1, ?_⟩
    unfold cq_get
    dsimp only
    rw [hz]
    by_cases c : m = 0
    · rw [if_pos c, if_pos c]
      exact ⟨z_eq0 hn', rfl, rfl, rfl⟩
    · rw [if_neg c, if_neg c]
      exact ⟨z_eq0 hn', rfl, rfl, rfl⟩
  · obtain ⟨e, rfl, rfl, rfl⟩ := h
    exact cq_same vw_same' e.symm K
theorem xl_cast {v : Int32} (hI : dI (vG0 D dA A Z) adr) (hm : dBx (dia adr) Lx Px a v) (hq : Cond.classLink S.2.1 index "java/lang/Integer" ∈ lw_all) (d : decode cc pc = .ok (.checkcast index, 3))
    (K : cq_V l (dG (vwG D dA A Z adr Lx Px Mx) L P) X S cc (pc + 3) lv (.ref a :: st) M k n Q) : cq_V l (dG (vwG D dA A Z adr Lx Px Mx) L P) X S cc pc lv (.ref a :: st) M k n Q := by
  refine cq_ndv (fun hn' => ?_)
  refine cq_same vw_same (z_eq0 hn') ?_
  have hb : dBm (dia adr) (vLL adr Lx L) a := by
    rcases hm with ⟨h1, -⟩ | ⟨j, h1, h2, -⟩
    · exact Or.inl (vLL_mX h1)
    · exact Or.inr ⟨j, h1, h2⟩
  refine cq_cast (dI_RO hI.1.1 hI.2.1 dCl_J17 hb) hq d ?_
  exact cq_same vw_same' (z_eq0 hn').symm K
theorem xl_int {v : Int32} (hI : dI (vG0 D dA A Z) adr) (hm : dBx (dia adr) Lx Px a v)
    (d : decode cc pc = .ok (.invokevirtual index, 3)) (hml : Cond.methodLink S.2.1 index ⟨"java/lang/Integer", "intValue", "()I"⟩ ∈ lw_all) (hfr : 8 ≤ S.2.2.2.1.frames) (hlo : 200 ≤ S.2.2.2.1.locals) (hcat : (st.map fun v => v.category).sum ≤ 6) (hk : k ≤ S.2.2.2.1.cells) (hn : n ≤ S.2.2.2.1.slots)
    (K : cq_V l (dG (vwG D dA A Z adr Lx Px Mx) L P) X S cc (pc + 3) lv (.int v :: st) M k n Q) : cq_V l (dG (vwG D dA A Z adr Lx Px Mx) L P) X S cc pc lv (.ref a :: st) M k n Q := by
  refine cq_ndv (fun hn' => ?_)
  refine cq_same vw_same (z_eq0 hn') ?_
  have hb : dBm (dia adr) (vLL adr Lx L) a := by
    rcases hm with ⟨h1, -⟩ | ⟨j, h1, h2, -⟩
    · exact Or.inl (vLL_mX h1)
    · exact Or.inr ⟨j, h1, h2⟩
  refine cd_cVO (F := fun M1 P1 L1 x1 _ _ k1 n1 => (dG (vwG D dA A Z adr Lx Px Mx) L P).2.2.1 M = (dG (vG0 D dA A Z) L1 P1).2.2.1 M1 ∧ x1 = v ∧ k1 = 0 ∧ n1 = 0) [] st (jI_intValue_m (N := (0, adr)) (bc := 0) (bs := 0) hI _ _ _ a ⟨v, dBx_LL hn' hm, z_eq0 hn', rfl, rfl, rfl⟩) (dI_RO hI.1.1 hI.2.1 dCl_J17 hb) d (gdw_intValue hml) hgdw_intValue ⟨Nat.le_trans (by decide) hfr, Nat.le_trans (by decide) hlo⟩ ⟨hk, hn⟩ rfl (Nat.le_trans hcat (by decide)) (fun M1 P1 L1 x1 r1 k1 n1 _ h => ?_)
  obtain ⟨e, rfl, rfl, rfl⟩ := h
  exact cq_same vw_same' e.symm K
end VW2
section VW3
variable {D : va_G} {dA : Nat → ClassId} {A : Nat → Prop} {Z : State → Prop} {adr : Nat → Nat} {Lx L : dL} {Px P : dP} {Mx : cx_M} {N : cx_N}
theorem vF_octet {fw : Nat → Option Nat} (hI : dI (vG0 D dA A Z) adr) (HL : cLn_H (dG (vwG D dA A Z adr Lx Px Mx) L P) adr) (hl : vXl Lx Px Mx (adr 8001) (cLn_n N) fw) (hw : ∀ j, j < (cLn_n N).toNatClampNeg → ∃ a, fw j = some a ∧ dBx (dia adr) Lx Px a (cLn_w N j)) : cWd_H (dG (vwG D dA A Z adr Lx Px Mx) L P) adr N := by
  intro l M i rs h
  refine cx_met (by decide +kernel) rfl rfl (lv := [(0, .ref (adr 8000)), (1, .int i)]) rfl (cx_le rfl) (fun X => ?_)
  refine cx_sub (lv' := [(0, .ref (adr 8000)), (1, .int i)]) [0, 1] rfl ?_
  have tail : ∀ v : Int32, some ((M, cx_rem (v + i) 256, 0) : cx_R) = some rs → cx_V l (dG (vwG D dA A Z adr Lx Px Mx) L P) X sX2_octet cX2_octet 37 [(0, .ref (adr 8000)), (1, .int i)] [.int v] M 0 0 rs := by
    intro v h
    refine cx_iload_n 1 dX2_octet_37 rfl ?_
    refine cx_iadd dX2_octet_38 ?_
    refine cx_sipush 256 dX2_octet_39 cx_sp_256 ?_
    refine cx_iremC cx_ne_256 dX2_octet_42 ?_
    exact cx_iret h rfl rfl (cx_le rfl) (cx_le rfl) dX2_octet_43
  refine cx_aload_n 0 dX2_octet_0 rfl ?_
  refine cx_getR (cLn_R70 HL) q580 dX2_octet_1 ?_
  refine xl_empty (Q := cx_fin _ X sX2_octet rs) hI hl dX2_octet_4 q1263 (by decide) (by decide) (cx_le rfl) (by decide) (by decide) ?_
  unfold cLn_octet at h
  by_cases e0 : cLn_n N = 0
  · rw [if_pos e0] at h ⊢
    refine cq_if_eq 15 (A := False) (B := True) (by rw [if_neg (by decide)]; trivial) dX2_octet_7 rfl (fun q => q.elim) (fun _ => ?_)
    refine cq_bipush 85 dX2_octet_10 cx_bp_85 ?_
    refine cq_goto 37 dX2_octet_12 rfl ?_
    exact tail 85 h
  · rw [if_neg e0] at h ⊢
    refine cq_if_eq 15 (A := True) (B := False) (by rw [if_pos rfl]; trivial) dX2_octet_7 rfl (fun _ => ?_) (fun q => q.elim)
    refine cq_aload_n 0 dX2_octet_15 rfl ?_
    refine cq_getR (cLn_R70 HL) q580 dX2_octet_16 ?_
    refine cq_iload_n 1 dX2_octet_19 rfl ?_
    refine cq_aload_n 0 dX2_octet_20 rfl ?_
    refine cq_getR (cLn_R70 HL) q580 dX2_octet_21 ?_
    refine xl_size hI hl dX2_octet_24 q1267 (by decide) (by decide) (cx_le rfl) (by decide) (by decide) ?_
    refine cq_iremC e0 dX2_octet_27 ?_
    unfold cx_chk at h
    split at h
    · cases h
    · next q =>
      have q1 : ¬ cx_rem i (cLn_n N) < 0 := fun z => q (Or.inl z)
      have q2 : (cx_rem i (cLn_n N)).toNatClampNeg < (cLn_n N).toNatClampNeg := by omega
      have q3 : cx_rem i (cLn_n N) < cLn_n N := by
        have h1 := i32_nat (cx_rem i (cLn_n N))
        have h2 := i32_nat (cLn_n N)
        rw [i32_lt, i32_0] at q1
        rw [i32_lt]
        omega
      obtain ⟨a, ha, hx⟩ := hw _ q2
      refine xl_get hI hl q1 q3 ha dX2_octet_28 q1271 (by decide) (by decide) (cx_le rfl) (by decide) (by decide) ?_
      refine xl_cast hI hx q1272 dX2_octet_31 ?_
      refine xl_int hI hx dX2_octet_34 q1273 (by decide) (by decide) (cx_le rfl) (by decide) (by decide) ?_
      exact tail _ h
end VW3
