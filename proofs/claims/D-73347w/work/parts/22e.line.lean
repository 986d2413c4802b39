/-! THE LAW: line -/
theorem glX0_7 : GoodIn lw_all (wsV RX0 7 RX1 yX1_line (wsW_ yX1_line cX1_line 3 (some .int) [(30, 49, 52, 150)])) := lw_VW q1355 q1356 q1357 q116 q1358
theorem hglX0_7 : yX1_line.cls = RX1 ∧ yX1_line.cls ≠ "java/lang/invoke/MethodHandle" ∧ yX1_line.cls ≠ "java/lang/invoke/VarHandle" ∧ (parseMethodDescriptor yX1_line.desc).map (fun d => d.parameters.length) = some 1 := by decide +kernel
abbrev slX0_line (bc bs : Nat) : cx_S := (4, RX0, cx_rI, { frames := 324, cells := bc, slots := bs, locals := 32089 }, some .int, false)
def dLw_line (N : dNt) (bc bs : Nat) (M : cx_M) (P : dP) (L : dL) (a0 o : Nat) (x1 : Int32) (Q : cd_Qt) : Prop := (a0, (0, 1, 0)) ∈ L ∧ dCc_lineD N bc bs M P L a0 x1 (lw_end 2 o Q)
set_option maxRecDepth 100000 in
theorem dLw_line_m {l : Launch} {g : cx_G} {N : dNt} {bc bs : Nat} {Q : cd_Qt} (H : dR l g N.2) (M : cx_M) (P : dP) (L : dL) (a0 o : Nat) (x1 : Int32) (h : dLw_line N bc bs M P L a0 o x1 Q) : cd_MetH l g yX0_line cX0_line [(0, 9, 12, 13)] (slX0_line bc bs) cd_rI [.ref a0, .int x1, .ref o] M P L Q := by
  obtain ⟨hm0, h⟩ := h
  refine cd_metH (by decide +kernel) rfl rfl q1353 (lv := [(0, .ref a0), (1, .int x1), (2, .ref o)]) rfl (cx_le rfl) (fun X hX => ?_)
  refine cq_aload_n 2 dX0_line_0 rfl ?_
  refine cq_iconst 0 dX0_line_1 cx_ic_0 ?_
  refine cq_aload_n 0 dX0_line_2 rfl ?_
  refine cq_iload_n 1 dX0_line_3 rfl ?_
  refine cd_xVLh (hh := [(30, 49, 52, 150)]) [.int x1] [.int 0, .ref o] (dCc_lineD_m H (N := N) (bc := bc) (bs := bs) M P L a0 x1 h) (dG_Rc H.1.1.1 hm0 dCl_X1) dX0_line_4 glX0_7 hglX0_7 ⟨cx_le rfl, cx_le rfl⟩ ⟨Nat.le_of_eq (Nat.zero_add _), Nat.le_of_eq (Nat.zero_add _)⟩ rfl (cx_le rfl) (fun M1 P1 L1 v r k n hk2 h => ?_) (fun M1 P1 L1 v e k n q hk2 he h => ?_)
  · refine cq_i2l dX0_line_7 ?_
    obtain ⟨hm, h⟩ := h
    refine cq_nd H.1.1.1 (fun hn => cq_stW h (dG_LI H.1.1.1 hn hm) dX0_line_8 (fun M2 h => ?_))
    refine cq_goto 15 dX0_line_9 rfl ?_
    refine cq_iconst 0 dX0_line_15 cx_ic_0 ?_
    exact cd_toX (cd_iret (by rw [Nat.zero_add, Nat.zero_add]; exact hk2) (by rw [Nat.zero_add, Nat.zero_add]; exact h) rfl dX0_line_16)
  · match e, he, h with
    | 1, _, h => exact absurd h.1 (by decide)
    | 2, _, h =>
      refine ⟨12, ⟨[], [], _, "java/lang/IllegalArgumentException", hX, (fun z hz => nomatch hz), by decide +kernel, by decide, q1354, q202, rfl⟩, ?_⟩
      refine cq_astore_n [(3, .ref q), (0, .ref a0), (1, .int x1), (2, .ref o)] dX0_line_12 (cx_lt rfl) rfl ?_
      refine cq_iconst 1 dX0_line_13 cx_ic_1 ?_
      exact cd_toX (cd_iret (by rw [Nat.zero_add, Nat.zero_add]; exact hk2) (by rw [Nat.zero_add, Nat.zero_add]; exact h.2) rfl dX0_line_14)
    | e + 3, _, h => exact h.elim
theorem glL_79 : GoodIn lw_all (va_wsS RX0 79 yX0_line (wsW_ yX0_line cX0_line 4 (some .int) [(0, 9, 12, 13)])) := lw_SW q1351 q1352 q115 q1353
theorem hglL_79 : yX0_line.cls ≠ "java/lang/invoke/MethodHandle" ∧ yX0_line.cls ≠ "java/lang/invoke/VarHandle" ∧ (parseMethodDescriptor yX0_line.desc).map (fun d => d.parameters.length) = some 3 := by decide +kernel
def lawF_1 (f : Nat) (adr : Nat → Nat) (Lx : dL) (Px : dP) (Mx : cx_M) (M : cx_M) (P : dP) (L : dL) (k n o : Nat) (x1 : Int32) (R1 : cx_M → dP → dL → Int32 → Nat → Nat → Prop) : Prop :=
  dLw_line (f, adr) (1200128 - k) (5501098 - n) (zM adr Lx Mx M) (zP adr M Lx Px P) (vLT adr Lx L) (adr 500) o x1 (fun M1 P1 L1 v1 _ e k1 n1 => e = 0 ∧ R1 M1 P1 L1 v1 (k + k1) (n + n1))
set_option maxRecDepth 100000 in
theorem lawC_1 {l : Launch} {D : va_G} {dA : Nat → ClassId} {A : Nat → Prop} {Z : State → Prop} {adr : Nat → Nat} {Lx L : dL} {Px P : dP} {Mx M : cx_M} {X : cx_X} {Q : State → Prop} {b m o i f : Nat} {xs : Nat → Int32} {k n : Nat} {R1 : cx_M → dP → dL → Int32 → Nat → Nat → Prop} (HT : dR l (vT D dA A Z (adr 509)) adr) (HS : lwS (vG0 D dA A Z) b m xs) (hi : i + 6 ≤ m) (hm : m ≤ 384) (hk : k ≤ 1200128 ∧ n ≤ 5501098) (h : dN (vLL adr Lx L) → lawF_1 f adr Lx Px Mx M P L k n o (xs (i + 1)) R1)
    (K : ∀ M1 P1 L1 v1 k n, (k ≤ 1200128 ∧ n ≤ 5501098) → R1 M1 P1 L1 v1 k n → cq_V l (dG (vT D dA A Z (adr 509)) L1 P1) X sLw cL_law 256 (lwV b o i adr) [.int v1] M1 k n Q) : cq_V l (dG (vwG D dA A Z adr Lx Px Mx) L P) X sLw cL_law 245 (lwV b o i adr) [] M k n Q := by
  refine cq_aload_n 1 dL_law_245 rfl ?_
  refine cq_aload_n 0 dL_law_246 rfl ?_
  refine cq_iload 4 dL_law_247 rfl ?_
  refine cq_iconst 1 dL_law_249 cx_ic_1 ?_
  refine cq_iadd dL_law_250 ?_
  refine cq_elX (i := i) (c := 1) HS (nI_add i 1) (by omega) hm dL_law_251 ?_
  refine cq_aload_n 3 dL_law_252 rfl ?_
  refine cq_toT (fun hn => ?_)
  have h := h hn
  unfold lawF_1 at h
  refine cd_xSN [.ref (adr 500), .int (xs (i + 1)), .ref o] [] (dLw_line_m (N := (f, adr)) (bc := 1200128 - k) (bs := 5501098 - n) HT _ _ _ (adr 500) o (xs (i + 1)) h) dL_law_253 glL_79 hglL_79 ⟨cx_le rfl, cx_le rfl⟩ (cd_bud hk) rfl (cx_le rfl) (fun _ _ _ _ _ _ _ h => h.1) (fun M1 P1 L1 v1 r1 k1 n1 hk1 h => ?_)
  exact K _ _ _ _ _ _ (cd_bk hk hk1) h.2
