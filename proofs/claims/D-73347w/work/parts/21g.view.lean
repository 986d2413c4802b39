/-! THE CLASS'S FACTS HOLD IN THE BASE WORLD -/
/-- the constant cells: lists of what to fill with and to look at, the line's words and rules -/
def vX (adr : Nat → Nat) (Lx : dL) (Px : dP) (Mx : cx_M) (ev : Nat → (Nat → Int32) → Int32) : Prop :=
  vXl Lx Px Mx (adr 9040) 3 (fun j => some (adr (9050 + j))) ∧ vXl Lx Px Mx (adr 9041) 6 (fun j => some (adr (9060 + j))) ∧
  (∃ fw, vXl Lx Px Mx (adr 8001) (ev 2 (fun _ => 0)) fw ∧ ∀ j, j < (ev 2 (fun _ => 0)).toNatClampNeg → ∃ a, fw j = some a ∧ dBx (dia adr) Lx Px a (ev (3 + j) (fun _ => 0))) ∧
  (∀ j, j < 3 → (adr (9050 + j), (0, 6, 0)) ∈ Lx ∧ Px (adr (9050 + j)) 0 = some (adr (9100 + j))) ∧ (∀ j, j < 6 → (adr (9060 + j), (0, 8, 0)) ∈ Lx ∧ Px (adr (9060 + j)) 0 = some (adr (9110 + j))) ∧
  ((adr 9102, (3, 22, 1)) ∈ Lx ∧ Px (adr 9102) = fun _ => some (adr 500)) ∧ ((adr 9110, (3, 23, 1)) ∈ Lx ∧ Px (adr 9110) = fun _ => some (adr 500)) ∧
  ∀ e, e < 2 → ¬ ev 2 (fun _ => nI (e + 1)) = 0 → ∃ s, pT adr Lx Px 899 (adr (8020 + e)) s ∧ ∀ view, ev e view = sx_ev view s
section VB
variable {D : va_G} {dA : Nat → ClassId} {A : Nat → Prop} {Z : State → Prop} {adr : Nat → Nat} {Lx L : dL} {Px P : dP} {Mx : cx_M} {f : Nat} {ev : Nat → (Nat → Int32) → Int32}
theorem vH_cp0 (hI : dI (vG0 D dA A Z) adr) (hE : cEn_H (vG0 D dA A Z) adr) (hK : lmK_H (vG0 D dA A Z) adr) (hX : vX adr Lx Px Mx ev) : cCp_H (dG (vwG D dA A Z adr Lx Px Mx) L P) adr (vN0 f ev) := by
  obtain ⟨x1, x2, ⟨fw, x3, x4⟩, x5, x6, ⟨x7, x8⟩, ⟨x9, x10⟩, x11⟩ := hX
  have c1 : cLn_H (dG (vwG D dA A Z adr Lx Px Mx) L P) adr := vU_cLn_H vH_cLn_H
  have c2 : cCc_H (dG (vwG D dA A Z adr Lx Px Mx) L P) adr := vU_cCc_H vH_cCc_H
  have c3 : cVw_H (dG (vwG D dA A Z adr Lx Px Mx) L P) adr := vU_cVw_H vH_cVw_H
  refine ⟨c1, vU_cCo_H vH_cCo_H, c3, hE, vF_ex (N := vN0 f ev) ⟨cVw_R00 c3, cVw_A00 c3, hE.1⟩ (fun e he q => ?_), vF_fi ⟨c1, c2⟩ hK (vF_C x7 x8), vF_octet (N := vN0 f ev) hI c1 x3 x4, c2, vU_cBk_H vH_bk600, vU_cBk_H vH_bk700, fun b hb => vU_cSt_H (vH_st hb), vF_fills hI x1, vF_looks hI x2, vF_size (N := vN0 f ev) hI x3, vF_ahead hI, vF_remove hI, vF_add hI, ?_, ?_, vF_f x5 x6⟩
  · obtain ⟨s, h1, h2⟩ := x11 e he q
    exact ⟨s, pT_eT h1, h2⟩
  · intro kL hkL b hb l X S cc pc lv st M k n Q F index count h
    exact h.elim
  · intro kW hkW b hb l X S cc pc lv st M k n Q F index count x h
    exact h.elim
theorem vH_cp (hI : dI (vG0 D dA A Z) adr) (hE : cEn_H (vG0 D dA A Z) adr) (hK : lmK_H (vG0 D dA A Z) adr) (hX : vX adr Lx Px Mx ev) : cCp_H (dG (vwG D dA A Z adr Lx Px Mx) L P) adr (vN f ev) := by
  have c := vH_cp0 (L := L) (P := P) (f := f) hI hE hK hX
  obtain ⟨b1, b2, b3, b4, b5, b6, b7, b8, b9, b10, b11, b12, b13, b14, b15, b16, b17, -, -, b18⟩ := c
  have c := vH_cp0 (L := L) (P := P) (f := f) hI hE hK hX
  exact ⟨b1, b2, b3, b4, b5, b6, b7, b8, b9, b10, b11, b12, b13, b14, b15, b16, b17, vF_at c b8 hK (vF_C hX.2.2.2.2.2.2.1.1 hX.2.2.2.2.2.2.1.2), vF_is c hK, b18⟩
theorem vH_twd (hs : tw_Hs (vG0 D dA A Z) adr) (hj : cJ_H (vG0 D dA A Z)) : tw_H (dG (vwG D dA A Z adr Lx Px Mx) L P) adr := vU_tw_H (vH_tw hs hj)
end VB
