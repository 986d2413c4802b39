/-! LISTS OF THE BASE WORLD -/
def vLo (lo la : Nat) : Prop := (lo = 602 ∧ la = 650) ∨ (lo = 702 ∧ la = 750)
section VL
variable {adr : Nat → Nat} {M : cx_M} {lo la : Nat}
theorem vLo_o (h : vLo lo la) : (lo, ((0, 20, 0) : dk)) ∈ vS := by rcases h with ⟨rfl, rfl⟩ | ⟨rfl, rfl⟩ <;> exact vS_of (by decide +kernel)
theorem vLo_a (h : vLo lo la) : (la, ((3, 4, 40) : dk)) ∈ vS := by rcases h with ⟨rfl, rfl⟩ | ⟨rfl, rfl⟩ <;> exact vS_of (by decide +kernel)
theorem vLo_n (h : vLo lo la) : vM M lo = fun k => if k = 0 then M lo 101 else if k = 2 then M lo 100 else 0 := by rcases h with ⟨rfl, rfl⟩ | ⟨rfl, rfl⟩ <;> rfl
theorem vLo_e (h : vLo lo la) : vP adr M lo 1 = some (adr la) := by rcases h with ⟨rfl, rfl⟩ | ⟨rfl, rfl⟩ <;> rfl
theorem vLo_p (h : vLo lo la) (k : Nat) : vP adr M la k = if k < (M lo 100).toNatClampNeg then some (adr (M lo k).toNatClampNeg) else none := by
  rcases h with ⟨rfl, rfl⟩ | ⟨rfl, rfl⟩ <;> (unfold vP vPk; rw [if_pos (by decide)]; rfl)
theorem vLo_lt (h : vLo lo la) : lo < 9999999 ∧ la ≠ lo := by rcases h with ⟨rfl, rfl⟩ | ⟨rfl, rfl⟩ <;> decide
theorem vLo_oth (h : vLo lo la) {f : Nat → Int32} {c : Nat} (hc : c ≠ la) : vP adr (cx_set M lo f) c = vP adr M c := by
  funext k
  by_cases e : c = lo
  · subst e
    have h0 : vnull c k = false := by rcases h with ⟨rfl, rfl⟩ | ⟨rfl, rfl⟩ <;> (unfold vnull; simp)
    have h1 : ¬ (c = 650 ∨ c = 750) := by rcases h with ⟨rfl, rfl⟩ | ⟨rfl, rfl⟩ <;> decide
    unfold vP vPk
    rw [if_neg h1, if_neg h1, h0]
    rfl
  · unfold vP
    have : vdep c ≠ lo := by
      unfold vdep
      rcases h with ⟨rfl, rfl⟩ | ⟨rfl, rfl⟩
      · rw [if_neg hc]
        split
        · decide
        · exact e
      · split
        · decide
        · exact e
    rw [cx_set_ne this]
theorem vLo_othM {f : Nat → Int32} {c : Nat} (hc : c ≠ lo) : vM (cx_set M lo f) c = vM M c := by
  unfold vM
  rw [cx_set_ne hc]
end VL
section VQ
variable {D : va_G} {dA : Nat → ClassId} {A : Nat → Prop} {Z : State → Prop} {adr : Nat → Nat} {Lx L : dL} {Px P : dP} {Mx M : cx_M} {lo la : Nat}
theorem vS_ne (hn : dN (vLL adr Lx L)) {x y : Nat × dk} (hx : x ∈ vS) (hy : y ∈ vS) (h : x.1 ≠ y.1) : adr x.1 ≠ adr y.1 := fun e => by
  have h1 := vIx_of hn hx
  rw [e, vIx_of hn hy] at h1
  exact h (Option.some.inj h1).symm
theorem vSX_ne (hn : dN (vLL adr Lx L)) {x y : Nat × dk} (hx : x ∈ vS) (hy : y ∈ Lx ++ L) : adr x.1 ≠ y.1 := fun e => by
  have h1 := vIx_of hn hx
  rw [e, vIx_no hn hy] at h1
  cases h1
theorem z_upd (hn : dN (vLL adr Lx L)) (hv : vLo lo la) {f : Nat → Int32} {MM' : cx_M} {PP' : dP} (hM : ∀ c, c ≠ dc (adr lo) → MM' c = zM adr Lx Mx M c) (hMl : MM' (dc (adr lo)) = vM (cx_set M lo f) lo) (hP : ∀ b, b ≠ adr la → PP' b = zP adr M Lx Px P b) (hPl : PP' (adr la) = vP adr (cx_set M lo f) la) :
    (dG (vwG D dA A Z adr Lx Px Mx) L P).2.2.1 (cx_set M lo f) = (dG (vG0 D dA A Z) (vLL adr Lx L) PP').2.2.1 MM' := by
  refine z_eq _ _ (fun x hx => ?_) (fun x hx => ?_) (fun x hx => ?_) (fun x hx => ?_) (fun x hx => ?_) (fun x hx => ?_)
  · by_cases e : x.1 = la
    · rw [e]; exact hPl
    · rw [hP _ (vS_ne hn hx (vLo_a hv) e), zP_S hn hx, vLo_oth hv e]
  · rw [hP _ (fun q => vSX_ne hn (vLo_a hv) (List.mem_append_left _ hx) q.symm), zP_X hn hx]
  · rw [hP _ (fun q => vSX_ne hn (vLo_a hv) (List.mem_append_right _ hx) q.symm), zP_L hn hx]
  · by_cases e : x.1 = lo
    · rw [e]; exact hMl
    · rw [hM _ (fun q => vS_ne hn hx (vLo_o hv) e (dc_inj q)), zM_S hn hx, vLo_othM e]
  · rw [hM _ (fun q => vSX_ne hn (vLo_o hv) (List.mem_append_left _ hx) (dc_inj q).symm), zM_X hn hx]
  · rw [hM _ (fun q => vSX_ne hn (vLo_o hv) (List.mem_append_right _ hx) (dc_inj q).symm), zM_L hn hx, cx_set_ne (by have := dc_ge x.1; have := (vLo_lt hv).1; omega)]
theorem zP_lo (hn : dN (vLL adr Lx L)) (hv : vLo lo la) : zP adr M Lx Px P (adr lo) 1 = some (adr la) := (congrFun (zP_S (M := M) (Px := Px) (P := P) hn (vLo_o hv)) 1).trans (vLo_e hv)
theorem zP_la (hn : dN (vLL adr Lx L)) (hv : vLo lo la) (k : Nat) : zP adr M Lx Px P (adr la) k = if k < (M lo 100).toNatClampNeg then some (adr (M lo k).toNatClampNeg) else none := (congrFun (zP_S (M := M) (Px := Px) (P := P) hn (vLo_a hv)) k).trans (vLo_p hv k)
theorem zM_lo (hn : dN (vLL adr Lx L)) (hv : vLo lo la) : zM adr Lx Mx M (dc (adr lo)) = fun k => if k = 0 then M lo 101 else if k = 2 then M lo 100 else 0 := (zM_S (M := M) (Mx := Mx) hn (vLo_o hv)).trans (vLo_n hv)
end VQ
/-- a constant list among the constant cells -/
def vXl (Lx : dL) (Px : dP) (Mx : cx_M) (a : Nat) (n : Int32) (f : Nat → Option Nat) : Prop := (a, (0, 20, 0)) ∈ Lx ∧ Mx (dc a) 2 = n ∧ ∃ d z, Px a 1 = some d ∧ (d, (3, 4, z)) ∈ Lx ∧ n.toNatClampNeg ≤ z ∧ ∀ j, j < n.toNatClampNeg → Px d j = f j
section VX
variable {D : va_G} {dA : Nat → ClassId} {A : Nat → Prop} {Z : State → Prop} {adr : Nat → Nat} {Lx L : dL} {Px P : dP} {Mx : cx_M} {N : cx_N}
theorem xl_get {l : Launch} {X : cx_X} {S : cx_S} {cc : ByteArray} {pc : Nat} {lv : List (Nat × Value)} {st : List Value} {M : cx_M} {k n index a r : Nat} {Q : State → Prop} {m i : Int32} {f : Nat → Option Nat} (hI : dI (vG0 D dA A Z) adr) (hl : vXl Lx Px Mx a m f) (hi : ¬ i < 0) (hm : i < m) (hf : f i.toNatClampNeg = some r)
    (d : decode cc pc = .ok (.invokevirtual index, 3)) (hml : Cond.methodLink S.2.1 index ⟨"java/util/ArrayList", "get", "(I)Ljava/lang/Object;"⟩ ∈ lw_all) (hfr : 8 ≤ S.2.2.2.1.frames) (hlo : 200 ≤ S.2.2.2.1.locals) (hcat : (st.map fun v => v.category).sum ≤ 6) (hk : k ≤ S.2.2.2.1.cells) (hn : n ≤ S.2.2.2.1.slots)
    (K : cq_V l (dG (vwG D dA A Z adr Lx Px Mx) L P) X S cc (pc + 3) lv (.ref r :: st) M k n Q) : cq_V l (dG (vwG D dA A Z adr Lx Px Mx) L P) X S cc pc lv (.int i :: .ref a :: st) M k n Q := by
  obtain ⟨h1, h2, d2, z, h3, h4, h5, h6⟩ := hl
  have hi0 : 0 ≤ i.toInt := by rw [i32_lt, i32_0] at hi; omega
  have hm0 : i.toInt < m.toInt := i32_lt.mp hm
  have ei := i32_nat i
  have em := i32_nat m
  refine cq_ndv (fun hn' => ?_)
  refine cq_same vw_same (z_eq0 hn') ?_
  refine cd_cV (F := fun M1 P1 L1 _ r1 _ k1 n1 => (dG (vwG D dA A Z adr Lx Px Mx) L P).2.2.1 M = (dG (vG0 D dA A Z) L1 P1).2.2.1 M1 ∧ r1 = some r ∧ k1 = 0 ∧ n1 = 0) [.int i] st (jAl_get_m (N := (0, adr)) (bc := 0) (bs := 0) hI _ _ _ a i (pGet (a2 := d2) (z := z) (vLL_mX h1) ?_ (vLL_mX h4) hi ?_ ?_ ⟨z_eq0 hn', ?_, rfl, rfl⟩)) (dG_Rc hI.1.1 (vLL_mX h1) dCl_J2) d (gdw_get hml) hgdw_get ⟨Nat.le_trans (by decide) hfr, Nat.le_trans (by decide) hlo⟩ ⟨hk, hn⟩ rfl (Nat.le_trans hcat (by decide)) (fun M1 P1 L1 x1 r1 k1 n1 _ h => ?_)
  · exact (congrFun (zP_X hn' h1) 1).trans h3
  · rw [(congrFun (zM_X hn' h1) 2), h2]
    exact hm
  · omega
  · exact (congrFun (zP_X hn' h4) _).trans ((h6 _ (by omega)).trans hf)
  · obtain ⟨e, rfl, rfl, rfl⟩ := h
    exact cq_same vw_same' e.symm K
theorem xl_size {l : Launch} {X : cx_X} {S : cx_S} {cc : ByteArray} {pc : Nat} {lv : List (Nat × Value)} {st : List Value} {M : cx_M} {k n index a : Nat} {Q : State → Prop} {m : Int32} {f : Nat → Option Nat} (hI : dI (vG0 D dA A Z) adr) (hl : vXl Lx Px Mx a m f)
    (d : decode cc pc = .ok (.invokevirtual index, 3)) (hml : Cond.methodLink S.2.1 index ⟨"java/util/ArrayList", "size", "()I"⟩ ∈ lw_all) (hfr : 8 ≤ S.2.2.2.1.frames) (hlo : 200 ≤ S.2.2.2.1.locals) (hcat : (st.map fun v => v.category).sum ≤ 6) (hk : k ≤ S.2.2.2.1.cells) (hn : n ≤ S.2.2.2.1.slots)
    (K : cq_V l (dG (vwG D dA A Z adr Lx Px Mx) L P) X S cc (pc + 3) lv (.int m :: st) M k n Q) : cq_V l (dG (vwG D dA A Z adr Lx Px Mx) L P) X S cc pc lv (.ref a :: st) M k n Q := by
  obtain ⟨h1, h2, -⟩ := hl
  refine cq_ndv (fun hn' => ?_)
  refine cq_same vw_same (z_eq0 hn') ?_
  refine cd_cV (F := fun M1 P1 L1 x1 _ _ k1 n1 => (dG (vwG D dA A Z adr Lx Px Mx) L P).2.2.1 M = (dG (vG0 D dA A Z) L1 P1).2.2.1 M1 ∧ x1 = m ∧ k1 = 0 ∧ n1 = 0) [] st (jAl_size_m (N := (0, adr)) (bc := 0) (bs := 0) hI _ _ _ a (pSize (vLL_mX h1) ⟨z_eq0 hn', ?_, rfl, rfl⟩)) (dG_Rc hI.1.1 (vLL_mX h1) dCl_J2) d (gdw_size hml) hgdw_size ⟨Nat.le_trans (by decide) hfr, Nat.le_trans (by decide) hlo⟩ ⟨hk, hn⟩ rfl (Nat.le_trans hcat (by decide)) (fun M1 P1 L1 x1 r1 k1 n1 _ h => ?_)
  · rw [(congrFun (zM_X hn' h1) 2), h2]
  · obtain ⟨e, rfl, rfl, rfl⟩ := h
    exact cq_same vw_same' e.symm K
theorem vF_fills (hI : dI (vG0 D dA A Z) adr) (hl : vXl Lx Px Mx (adr 9040) 3 (fun j => some (adr (9050 + j)))) : cLs_Hfills (dG (vwG D dA A Z adr Lx Px Mx) L P) adr N := by
  intro l X S cc pc lv st M k n Q F index i h d hml hfr hlo hcat hk hn K
  unfold cq_ix at h
  split at h
  · exact h.elim
  · next q =>
    have q1 : ¬ i < 0 := fun z => q (Or.inl z)
    have q2 : i.toNatClampNeg < 3 := by omega
    have q3 : i < 3 := by
      have := i32_nat i
      rw [i32_lt, i32_0] at q1
      rw [i32_lt]
      show i.toInt < 3
      omega
    exact xl_get hI hl q1 q3 rfl d hml (Nat.le_trans (by decide) hfr) (Nat.le_trans (by decide) hlo) hcat hk hn (K _ q2 h)
theorem vF_looks (hI : dI (vG0 D dA A Z) adr) (hl : vXl Lx Px Mx (adr 9041) 6 (fun j => some (adr (9060 + j)))) : cLs_Hlooks (dG (vwG D dA A Z adr Lx Px Mx) L P) adr N := by
  intro l X S cc pc lv st M k n Q F index i h d hml hfr hlo hcat hk hn K
  unfold cq_ix at h
  split at h
  · exact h.elim
  · next q =>
    have q1 : ¬ i < 0 := fun z => q (Or.inl z)
    have q2 : i.toNatClampNeg < 6 := by omega
    have q3 : i < 6 := by
      have := i32_nat i
      rw [i32_lt, i32_0] at q1
      rw [i32_lt]
      show i.toInt < 6
      omega
    exact xl_get hI hl q1 q3 rfl d hml (Nat.le_trans (by decide) hfr) (Nat.le_trans (by decide) hlo) hcat hk hn (K _ q2 h)
theorem vF_size {f : Nat → Option Nat} (hI : dI (vG0 D dA A Z) adr) (hl : vXl Lx Px Mx (adr 8001) (cLn_n N) f) : cLs_Hsize (dG (vwG D dA A Z adr Lx Px Mx) L P) adr N := by
  intro l X S cc pc lv st M k n Q F index h d hml hfr hlo hcat hk hn K
  exact xl_size hI hl d hml (Nat.le_trans (by decide) hfr) (Nat.le_trans (by decide) hlo) hcat hk hn (K _ h)
theorem cBk_lo {g : cx_G} {b : Nat} (hb : cBk_H g adr b) : ∃ la, vLo (b + 2) la := by
  rcases cBk_b hb with rfl | rfl
  · exact ⟨650, Or.inl ⟨rfl, rfl⟩⟩
  · exact ⟨750, Or.inr ⟨rfl, rfl⟩⟩
theorem vF_ahead (hI : dI (vG0 D dA A Z) adr) : cLs_Hahead (dG (vwG D dA A Z adr Lx Px Mx) L P) adr N := by
  intro b hb l X S cc pc lv st M k n Q F index i h d hml hfr hlo hcat hk hn K
  obtain ⟨la, hv⟩ := cBk_lo hb
  generalize b + 2 = lo at hv h ⊢
  unfold cq_ahd at h
  split at h
  · exact h.elim
  · next q =>
    split at h
    · next hj =>
      have q1 : ¬ i < 0 := fun z => q (Or.inl z)
      have hi0 : 0 ≤ i.toInt := by rw [i32_lt, i32_0] at q1; omega
      have ei := i32_nat i
      have em := i32_nat (M lo 100)
      have q2 : i.toNatClampNeg < (M lo 100).toNatClampNeg := by omega
      refine cq_ndv (fun hn' => ?_)
      refine cq_same vw_same (z_eq0 hn') ?_
      refine cd_cV (F := fun M1 P1 L1 _ r1 _ k1 n1 => (dG (vwG D dA A Z adr Lx Px Mx) L P).2.2.1 M = (dG (vG0 D dA A Z) L1 P1).2.2.1 M1 ∧ r1 = some (adr (M lo i.toNatClampNeg).toNatClampNeg) ∧ k1 = 0 ∧ n1 = 0) [.int i] st (jAl_get_m (N := (0, adr)) (bc := 0) (bs := 0) hI _ _ _ (adr lo) i (pGet (a2 := adr la) (z := 40) (vLL_mS (vLo_o hv)) (zP_lo hn' hv) (vLL_mS (vLo_a hv)) q1 ?_ (by omega) ⟨z_eq0 hn', ?_, rfl, rfl⟩)) (dG_Rc hI.1.1 (vLL_mS (vLo_o hv)) dCl_J2) d (gdw_get hml) hgdw_get ⟨Nat.le_trans (by decide) hfr, Nat.le_trans (by decide) hlo⟩ ⟨hk, hn⟩ rfl (Nat.le_trans hcat (by decide)) (fun M1 P1 L1 x1 r1 k1 n1 _ h9 => ?_)
      · rw [zM_lo hn' hv]
        show i < M lo 100
        rw [i32_lt]
        omega
      · rw [zP_la hn' hv, if_pos q2]
      · obtain ⟨e, rfl, rfl, rfl⟩ := h9
        exact cq_same vw_same' e.symm (K _ (vU_cSt_H (vH_st hj)) h)
    · exact h.elim
theorem vF_add (hI : dI (vG0 D dA A Z) adr) : cLs_Hadd (dG (vwG D dA A Z adr Lx Px Mx) L P) adr N := by
  intro b hb j hj l X S cc pc lv st M k n Q F index h d hml hfr hlo hcat hk hn K
  obtain ⟨la, hv⟩ := cBk_lo hb
  generalize b + 2 = lo at hv h ⊢
  unfold cq_aadd at h
  split at h
  · exact h.elim
  · next q =>
    have hjs := cSt_b hj
    have hjl := vSt_lt hjs
    have q1 : ¬ M lo 100 < 0 := fun z => q (Or.inl z)
    have hi0 : 0 ≤ (M lo 100).toInt := by rw [i32_lt, i32_0] at q1; omega
    have em := i32_nat (M lo 100)
    have q2 : (M lo 100).toNatClampNeg < 40 := by omega
    have e1 : (M lo 100 + 1).toInt = (M lo 100).toInt + 1 := by rw [i32_add, i32_1] <;> rw [i32_1] <;> omega
    have e1n := i32_nat (M lo 100 + 1)
    refine cq_ndv (fun hn' => ?_)
    have z2 : zM adr Lx Mx M (dc (adr lo)) 2 = M lo 100 := by rw [zM_lo hn' hv]; rfl
    have z0 : zM adr Lx Mx M (dc (adr lo)) 0 = M lo 101 := by rw [zM_lo hn' hv]; rfl
    refine cq_same vw_same (z_eq0 hn') ?_
    refine cd_cV (F := fun M1 P1 L1 x1 _ _ k1 n1 => (dG (vwG D dA A Z adr Lx Px Mx) L P).2.2.1 (cx_set M lo (fun q => if q = 100 then M lo 100 + 1 else if q = 101 then M lo 101 + 1 else if q = (M lo 100).toNatClampNeg then nI j else M lo q)) = (dG (vG0 D dA A Z) L1 P1).2.2.1 M1 ∧ x1 = 1 ∧ k1 = 0 ∧ n1 = 0) [.ref (adr j)] st (jAl_add_m (N := (0, adr)) (bc := 0) (bs := 0) hI _ _ _ (adr lo) (some (adr j)) (pAdd (a2 := adr la) (z := 40) (vLL_mS (vLo_o hv)) (zP_lo hn' hv) (vLL_mS (vLo_a hv)) (vLL_mS (vS_st hjs (List.Mem.head _))) (by rw [z2]; exact q1) (by rw [z2]; exact q2) (by decide) ⟨z_upd hn' hv (fun c hc => ?_) ?_ (fun b hb => ?_) ?_, rfl, rfl, rfl⟩)) (dG_Rc hI.1.1 (vLL_mS (vLo_o hv)) dCl_J2) d (gdw_add hml) hgdw_add ⟨Nat.le_trans (by decide) hfr, Nat.le_trans (by decide) hlo⟩ ⟨hk, hn⟩ rfl (Nat.le_trans hcat (by decide)) (fun M1 P1 L1 x1 r1 k1 n1 _ h9 => ?_)
    · rw [cx_up_ne hc, cx_up_ne hc]
    · rw [cx_up_cc, cx_up_cc, z2, z0, zM_lo hn' hv, vLo_n hv, cx_set_cc]
      funext q
      unfold upd
      by_cases c2 : q = 2
      · subst c2; rfl
      · by_cases c0 : q = 0
        · subst c0; rfl
        · simp [c2, c0]
    · unfold dPu
      rw [if_neg hb]
    · funext q
      unfold dPu
      rw [if_pos rfl, z2, vLo_p hv, cx_set_cc]
      unfold va_up
      rw [zP_la hn' hv]
      show _ = if q < (M lo 100 + 1).toNatClampNeg then some (adr (if q = 100 then M lo 100 + 1 else if q = 101 then M lo 101 + 1 else if q = (M lo 100).toNatClampNeg then nI j else M lo q).toNatClampNeg) else none
      by_cases c1 : q = (M lo 100).toNatClampNeg
      · rw [if_pos c1, if_pos (by omega), if_neg (by omega), if_neg (by omega), if_pos c1, nI_clamp (by omega)]
      · rw [if_neg c1]
        by_cases c2 : q < (M lo 100).toNatClampNeg
        · rw [if_pos c2, if_pos (by omega), if_neg (by omega), if_neg (by omega), if_neg c1]
        · rw [if_neg c2, if_neg (by omega)]
    · obtain ⟨e, rfl, rfl, rfl⟩ := h9
      exact cq_same vw_same' e.symm (K _ h)
theorem vF_remove (hI : dI (vG0 D dA A Z) adr) : cLs_Hremove (dG (vwG D dA A Z adr Lx Px Mx) L P) adr N := by
  intro b hb l X S cc pc lv st M k n Q F index i h d hml hfr hlo hcat hk hn K
  obtain ⟨la, hv⟩ := cBk_lo hb
  generalize b + 2 = lo at hv h ⊢
  unfold cq_arem at h
  split at h
  · exact h.elim
  · next hall =>
    have hall : cx_alls (M lo) = true := by simpa using hall
    unfold cx_alls at hall
    have hall := fun q (hq : q < (M lo 100).toNatClampNeg) => of_decide_eq_true ((List.all_eq_true.mp hall) q (List.mem_range.mpr hq))
    unfold cq_ahd at h
    split at h
    · exact h.elim
    · next q =>
      split at h
      · next hj =>
        have q1 : ¬ i < 0 := fun z => q (Or.inl z)
        have hi0 : 0 ≤ i.toInt := by rw [i32_lt, i32_0] at q1; omega
        have ei := i32_nat i
        have em := i32_nat (M lo 100)
        have q2 : i.toNatClampNeg < (M lo 100).toNatClampNeg := by omega
        have q3 : (M lo 100).toNatClampNeg ≤ 40 := by omega
        have e1 : (M lo 100 - 1).toInt = (M lo 100).toInt - 1 := by rw [i32_sub, i32_1] <;> rw [i32_1] <;> omega
        have e1n := i32_nat (M lo 100 - 1)
        refine cq_ndv (fun hn' => ?_)
        have z2 : zM adr Lx Mx M (dc (adr lo)) 2 = M lo 100 := by rw [zM_lo hn' hv]; rfl
        have z0 : zM adr Lx Mx M (dc (adr lo)) 0 = M lo 101 := by rw [zM_lo hn' hv]; rfl
        refine cq_same vw_same (z_eq0 hn') ?_
        refine cd_cV (F := fun M1 P1 L1 _ r1 _ k1 n1 => (dG (vwG D dA A Z adr Lx Px Mx) L P).2.2.1 (cx_set M lo (fun q => if q = 100 then M lo 100 - 1 else if q = 101 then M lo 101 + 1 else if q < i.toNatClampNeg then M lo q else M lo (q + 1))) = (dG (vG0 D dA A Z) L1 P1).2.2.1 M1 ∧ r1 = some (adr (M lo i.toNatClampNeg).toNatClampNeg) ∧ k1 = 0 ∧ n1 = 0) [.int i] st (jAl_remove_m (N := (0, adr)) (bc := 0) (bs := 0) hI _ _ _ (adr lo) i (pRem (a2 := adr la) (z := 40) (vLL_mS (vLo_o hv)) (zP_lo hn' hv) (vLL_mS (vLo_a hv)) q1 ?_ (by rw [z2]; exact q3) (fun q y hq hy => ?_) (fun P' hP1 hP2 => ⟨z_upd hn' hv (fun c hc => ?_) ?_ hP1 ?_, ?_, rfl, rfl⟩))) (dG_Rc hI.1.1 (vLL_mS (vLo_o hv)) dCl_J2) d (gdw_remove hml) hgdw_remove ⟨Nat.le_trans (by decide) hfr, Nat.le_trans (by decide) hlo⟩ ⟨hk, hn⟩ rfl (Nat.le_trans hcat (by decide)) (fun M1 P1 L1 x1 r1 k1 n1 _ h9 => ?_)
        · rw [z2, i32_lt]
          omega
        · rw [z2] at hq
          rw [zP_la hn' hv, if_pos hq] at hy
          cases hy
          exact vLL_mS (vS_st (hall q hq) (List.Mem.head _))
        · rw [cx_up_ne hc, cx_up_ne hc]
        · rw [cx_up_cc, cx_up_cc, z2, z0, zM_lo hn' hv, vLo_n hv, cx_set_cc]
          funext q
          unfold upd
          by_cases c2 : q = 2
          · subst c2; rfl
          · by_cases c0 : q = 0
            · subst c0; rfl
            · simp [c2, c0]
        · funext q
          rw [hP2, z2, zP_la hn' hv, zP_la hn' hv, vLo_p hv, cx_set_cc]
          show _ = if q < (M lo 100 - 1).toNatClampNeg then some (adr (if q = 100 then M lo 100 - 1 else if q = 101 then M lo 101 + 1 else if q < i.toNatClampNeg then M lo q else M lo (q + 1)).toNatClampNeg) else none
          by_cases c1 : q < i.toNatClampNeg
          · rw [if_pos c1, if_pos (by omega), if_pos (by omega), if_neg (by omega), if_neg (by omega), if_pos c1]
          · rw [if_neg c1]
            by_cases c2 : q + 1 < (M lo 100).toNatClampNeg
            · rw [if_pos c2, if_pos c2, if_pos (by omega), if_neg (by omega), if_neg (by omega), if_neg c1]
            · rw [if_neg c2]
              by_cases c3 : q + 1 = (M lo 100).toNatClampNeg
              · rw [if_pos c3, if_neg (by omega)]
              · rw [if_neg c3, if_neg (by omega), if_neg (by omega)]
        · rw [zP_la hn' hv, if_pos q2]
        · obtain ⟨e, rfl, rfl, rfl⟩ := h9
          exact cq_same vw_same' e.symm (K _ _ (vU_cSt_H (vH_st hj)) h)
      · exact h.elim
end VX
