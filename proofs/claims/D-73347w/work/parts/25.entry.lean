/-! THE LAW'S ENTRY, AND THE WHOLE OUT OF THE PLAIN LAW -/
theorem dDf_X1 : ∀ j, j < 17 → defaultValue (tyX1 j) = dFv 1 j (fun _ => 0) (fun _ => none) := by decide +kernel
theorem dDf_X10 : ∀ j, j < 52 → defaultValue (tyX10 j) = dFv 0 j (fun _ => 0) (fun _ => none) := by decide +kernel
theorem hgl_70 : yX1_init.cls ≠ "java/lang/invoke/MethodHandle" ∧ yX1_init.cls ≠ "java/lang/invoke/VarHandle" ∧ (parseMethodDescriptor yX1_init.desc).map (fun d => d.parameters.length) = some 0 := by decide +kernel
theorem hgl_73 : yX10_init.cls ≠ "java/lang/invoke/MethodHandle" ∧ yX10_init.cls ≠ "java/lang/invoke/VarHandle" ∧ (parseMethodDescriptor yX10_init.desc).map (fun d => d.parameters.length) = some 0 := by decide +kernel
/-- what the law makes ahead of its loop -/
def lwEntry (f : Nat) (adr0 : Nat → Nat) (R : Nat → Nat → Nat → cx_M → dP → dL → Nat → Nat → Prop) : Prop :=
  cd_new 1200128 5501098 0 0 17 (0, 1, 0) (fun _ _ => 0) (fun _ _ => none) [] fun a1 M1 P1 L1 k1 n1 =>
  dCc_initD (f, adr0) (1200128 - k1) (5501098 - n1) M1 P1 L1 a1 (fun M2 P2 L2 _ _ e k2 n2 => e = 0 → cd_add k1 k2 n1 n2 fun k3 n3 =>
  cd_new 1200128 5501098 k3 n3 52 (0, 0, 0) M2 P2 L2 fun a2 M3 P3 L3 k4 n4 =>
  dTw_initD (f, adr0) (1200128 - k4) (5501098 - n4) M3 P3 L3 a2 (fun M4 P4 L4 _ _ e k5 n5 => e = 0 → cd_add k4 k5 n4 n5 fun k6 n6 =>
  cd_newa 1200128 5501098 k6 n6 1 (fun z => (2, 0, z)) M4 P4 L4 fun o M5 P5 L5 k7 n7 => R a1 a2 o M5 P5 L5 k7 n7))
set_option maxRecDepth 100000 in
theorem law_entry {l : Launch} {D : va_G} {dA : Nat → ClassId} {A : Nat → Prop} {Z : State → Prop} {X : cx_X} {Q : State → Prop} {b f : Nat} {adr0 : Nat → Nat} {R : Nat → Nat → Nat → cx_M → dP → dL → Nat → Nat → Prop} (HD : dK l (vG0 D dA A Z) adr0) (HM : dM (vG0 D dA A Z) adr0) (h : lwEntry f adr0 R)
    (K : ∀ a1 a2 o M P L k n, (k ≤ 1200128 ∧ n ≤ 5501098) → R a1 a2 o M P L k n → cq_V l (dG (vG0 D dA A Z) L P) X sLw cL_law 23 [(4, .int 0), (3, .ref o), (2, .ref a2), (1, .ref a1), (0, .ref b)] [] M k n Q) : cq_V l (dG (vG0 D dA A Z) [] (fun _ _ => none)) X sLw cL_law 0 [(0, .ref b)] [] (fun _ _ => 0) 0 0 Q := by
  unfold lwEntry at h
  refine cd_newO HD.1.1.1.1 h ⟨rfl, rfl⟩ dCl_X1 dDf_X1 q170 q171 q116 dL_law_0 (fun a1 M1 P1 L1 k1 n1 h hk => ?_)
  refine cq_dup dL_law_3 rfl ?_
  refine cd_cI [] [.ref a1] (dCc_initD_m HD (N := (f, adr0)) (bc := 1200128 - k1) (bs := 5501098 - n1) M1 P1 L1 a1 h) dL_law_4 (lw_meth q174) rfl q116 q172 q173 rfl hgl_70 ⟨cx_le rfl, cx_le rfl⟩ (cd_bud hk) rfl (cx_le rfl) (fun M2 P2 L2 x2 r2 k2 n2 hk2 h => ?_)
  refine cd_addI (h rfl) (cd_bk hk hk2) (fun k3 n3 h hk => ?_)
  refine cq_astore_n [(1, .ref a1), (0, .ref b)] dL_law_7 (cx_lt rfl) rfl ?_
  refine cd_newO HD.1.1.1.1 h ⟨rfl, rfl⟩ dCl_X10 dDf_X10 q2369 q2370 q147 dL_law_8 (fun a2 M3 P3 L3 k4 n4 h hk => ?_)
  refine cq_dup dL_law_11 rfl ?_
  refine cd_cI [] [.ref a2] (dTw_initD_m HM (N := (f, adr0)) (bc := 1200128 - k4) (bs := 5501098 - n4) M3 P3 L3 a2 h) dL_law_12 (lw_meth q2373) rfl q147 q2371 q2372 rfl hgl_73 ⟨cx_le rfl, cx_le rfl⟩ (cd_bud hk) rfl (cx_le rfl) (fun M4 P4 L4 x5 r5 k5 n5 hk2 h => ?_)
  refine cd_addI (h rfl) (cd_bk hk hk2) (fun k6 n6 h hk => ?_)
  refine cq_astore_n [(2, .ref a2), (1, .ref a1), (0, .ref b)] dL_law_15 (cx_lt rfl) rfl ?_
  refine cq_iconst 1 dL_law_16 cx_ic_1 ?_
  refine cd_newL HD.1.1.1.1 h ⟨rfl, rfl⟩ q647 dL_law_17 (fun o M5 P5 L5 k7 n7 h hk => ?_)
  refine cq_astore_n [(3, .ref o), (2, .ref a2), (1, .ref a1), (0, .ref b)] dL_law_19 (cx_lt rfl) rfl ?_
  refine cq_iconst 0 dL_law_20 cx_ic_0 ?_
  refine cq_istore [(4, .int 0), (3, .ref o), (2, .ref a2), (1, .ref a1), (0, .ref b)] dL_law_21 (cx_lt rfl) rfl ?_
  exact K a1 a2 o M5 P5 L5 k7 n7 hk h
/-- what the plain law owes of the entry -/
def lwStart (dA : Nat → ClassId) (f : Nat) (adr0 : Nat → Nat) (PI : lwPI) : Prop := lwEntry f adr0 (fun a1 a2 o M P L k n => ∃ (adr : Nat → Nat) (Lx : dL) (Px : dP) (Mx : cx_M) (ev : Nat → (Nat → Int32) → Int32) (f' : Nat) (M' : cx_M) (P' : dP) (L' : dL), vFrom dA false 0 L P M adr Lx Px Mx L' P' M' ∧ adr 500 = a1 ∧ adr 60 = a2 ∧ PI 0 adr Lx Px Mx ev f' M' P' L' k n o)
theorem law_V {l : Launch} {p : Program} {e : Env} {s : State} {mm : MethodId} {below : List Frame} {meth : Method} {c : Code} {D : va_G} {dA : Nat → ClassId} {A : Nat → Prop} {Z : State → Prop} {b m f : Nat} {xs : Nat → Int32} {adr0 : Nat → Nat} {PI : lwPI} {KA : (Nat → Nat) → Prop} (hA : ∀ q, A q → s.heap.size ≤ q) (HD : dK l (vG0 D dA A Z) adr0) (HM : dM (vG0 D dA A Z) adr0)
    (HK : ∀ adr, KA adr → dR l (vT D dA A Z (adr 509)) adr ∧ ∀ Lx Px Mx ev f, vX adr Lx Px Mx ev → lwH l (vwG D dA A Z adr Lx Px Mx) (vN f ev, adr)) (HS : lwS (vG0 D dA A Z) b m xs) (hm : m ≤ 384) (h0 : lwStart dA f adr0 PI) (hB : lwBound PI KA) (hStep : lwStep dA PI KA xs m) :
    cq_V l (dG (vG0 D dA A Z) [] (fun _ _ => none)) (p, e, s, mm, #[Value.ref b], below, meth, c) sLw cL_law 0 [(0, .ref b)] [] (fun _ _ => 0) 0 0 (lw_Z below #[Value.ref b] s) := by
  refine law_entry HD HM h0 (fun a1 a2 o M P L k n hk h => ?_)
  obtain ⟨adr, Lx, Px, Mx, ev, f', M', P', L', hF, rfl, rfl, hPI⟩ := h
  refine cq_sub (lv' := lwV b o 0 adr) [4, 3, 2, 1, 0] rfl ?_
  refine cq_toS0 hF ?_
  exact law_loop HK HS hm hB hStep (fun _ _ _ _ _ _ _ _ _ _ hk => law_end hA hk) o (m + 1) 0 (by omega) (by omega) adr Lx Px Mx ev f' M' P' L' k n hPI
