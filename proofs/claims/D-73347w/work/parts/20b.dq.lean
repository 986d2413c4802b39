

theorem gd_J2_144 : GoodIn lw_all (wsV RJ2 144 RJ2 yJ2_fastRemove (ws_ yJ2_fastRemove cJ2_fastRemove 4 none)) := lw_V q1106 q1108 qs10 q120 q1109
theorem hgd_J2_144 : yJ2_fastRemove.cls = RJ2 ∧ yJ2_fastRemove.cls ≠ "java/lang/invoke/MethodHandle" ∧ yJ2_fastRemove.cls ≠ "java/lang/invoke/VarHandle" ∧ (parseMethodDescriptor yJ2_fastRemove.desc).map (fun d => d.parameters.length) = some 2 := by decide +kernel
abbrev esJ2_fastRemove (bc bs : Nat) : cx_S := (4, RJ2, cx_rI, { frames := 1, cells := bc, slots := bs, locals := 40 }, none, false)
def jAl_fastRemove_34 (N : dNt) (bc bs : Nat) (Q : cd_Qt) (a0 : Nat) (b0 : Nat) (M : cx_M) (P : dP) (L : dL) (k n : Nat) (x3 : Int32) : Prop :=
  (a0, (0, 20, 0)) ∈ L ∧ cq_put M (dc a0) 2 x3 fun M1 =>
  ∃ z2, (b0, (3, 4, z2)) ∈ L ∧ cd_ais (dia N.2) L none ∧ cd_stR P b0 z2 x3 none fun P3 =>
  Q M1 P3 L 0 none 0 k n
set_option maxRecDepth 100000 in
theorem jAl_fastRemove_34_v {l : Launch} {g : cx_G} {X : cx_X} {N : dNt} {bc bs : Nat} {Q : cd_Qt} {a0 : Nat} {b0 : Nat} (H : dI g N.2) (hX : X.2.2.2.2.2.2.1.name = "fastRemove") (M : cx_M) (P : dP) (L : dL) (k n : Nat) (x3 : Int32) (hk : k ≤ bc ∧ n ≤ bs) (h : jAl_fastRemove_34 N bc bs Q a0 b0 M P L k n x3) : cq_V l (dG g L P) X (esJ2_fastRemove bc bs) cJ2_fastRemove 34 [(0, .ref a0), (1, .ref b0), (3, .int x3)] [] M k n (cd_fin g X (esJ2_fastRemove bc bs) cd_rV Q) := by
  unfold jAl_fastRemove_34 at h
  refine cq_aload_n 1 dJ2_fastRemove_34 rfl ?_
  refine cq_aload_n 0 dJ2_fastRemove_35 rfl ?_
  refine cq_iload_n 2 dJ2_fastRemove_36 rfl ?_
  refine cq_dup_x1 dJ2_fastRemove_37 rfl rfl ?_
  refine cq_nd H.1.1 (fun hn => cq_putI h.2 (dG_FI H.1.1 hn h.1 dCl_J2 (cx_lt rfl) rfl rfl rfl) rfl rfl rfl q519 dJ2_fastRemove_38 (fun M1 h => ?_))
  refine cq_null dJ2_fastRemove_41 ?_
  obtain ⟨z2, hm, hai, h⟩ := h
  refine cq_nd H.1.1 (fun hn => cd_aast (v := none) H.1.1 H.2.1 hn hm hai h rfl d16 dCast dJ2_fastRemove_42 (fun P3 h => ?_))
  exact cd_vret hk h rfl dJ2_fastRemove_43
def jAl_fastRemove_0 (N : dNt) (bc bs : Nat) (Q : cd_Qt) (a0 : Nat) (b0 : Nat) (M : cx_M) (P : dP) (L : dL) (k n : Nat) (x2 : Int32) : Prop :=
  (a0, (0, 20, 0)) ∈ L ∧ cq_get M (dc a0) 0 fun v1 =>
  (a0, (0, 20, 0)) ∈ L ∧ cq_put M (dc a0) 0 (v1 + 1) fun M2 =>
  (a0, (0, 20, 0)) ∈ L ∧ cq_get M2 (dc a0) 2 fun v3 =>
  cq_let (v3 - 1) fun v4 =>
  if v4 ≤ x2 then (
    jAl_fastRemove_34 N bc bs Q a0 b0 M2 P L k n v4)
  else (
    ∃ z5 z6, (b0, (3, 4, z5)) ∈ L ∧ (b0, (3, 4, z6)) ∈ L ∧ cd_cpyR (dia N.2) L P b0 z5 b0 z6 (x2 + 1) x2 (v4 - x2) fun P7 =>
    jAl_fastRemove_34 N bc bs Q a0 b0 M2 P7 L k n v4)
set_option maxRecDepth 100000 in
theorem jAl_fastRemove_0_v {l : Launch} {g : cx_G} {X : cx_X} {N : dNt} {bc bs : Nat} {Q : cd_Qt} {a0 : Nat} {b0 : Nat} (H : dI g N.2) (hX : X.2.2.2.2.2.2.1.name = "fastRemove") (M : cx_M) (P : dP) (L : dL) (k n : Nat) (x2 : Int32) (hk : k ≤ bc ∧ n ≤ bs) (h : jAl_fastRemove_0 N bc bs Q a0 b0 M P L k n x2) : cq_V l (dG g L P) X (esJ2_fastRemove bc bs) cJ2_fastRemove 0 [(0, .ref a0), (1, .ref b0), (2, .int x2)] [] M k n (cd_fin g X (esJ2_fastRemove bc bs) cd_rV Q) := by
  unfold jAl_fastRemove_0 at h
  refine cq_aload_n 0 dJ2_fastRemove_0 rfl ?_
  refine cq_dup dJ2_fastRemove_1 rfl ?_
  refine cq_nd H.1.1 (fun hn => cd_getIs h.2 (dG_FI H.1.1 hn h.1 dCl_J2 (cx_lt rfl) rfl rfl rfl) q524 q527 dJ2_fastRemove_2 (fun v1 h => ?_))
  refine cq_iconst 1 dJ2_fastRemove_5 cx_ic_1 ?_
  refine cq_iadd dJ2_fastRemove_6 ?_
  refine cq_nd H.1.1 (fun hn => cd_putIs h.2 (dG_FI H.1.1 hn h.1 dCl_J2 (cx_lt rfl) rfl rfl rfl) q524 rfl rfl rfl q527 dJ2_fastRemove_7 (fun M2 h => ?_))
  refine cq_aload_n 0 dJ2_fastRemove_10 rfl ?_
  refine cq_nd H.1.1 (fun hn => cq_getI h.2 (dG_FI H.1.1 hn h.1 dCl_J2 (cx_lt rfl) rfl rfl rfl) q519 dJ2_fastRemove_11 (fun v3 h => ?_))
  refine cq_iconst 1 dJ2_fastRemove_14 cx_ic_1 ?_
  refine cq_isub dJ2_fastRemove_15 ?_
  refine cq_letI h (fun v4 h => ?_)
  refine cq_dup dJ2_fastRemove_16 rfl ?_
  refine cq_istore_n [(3, .int v4), (0, .ref a0), (1, .ref b0), (2, .int x2)] dJ2_fastRemove_17 (cx_lt rfl) rfl ?_
  refine cq_iload_n 3 dJ2_fastRemove_18 rfl ?_
  refine cq_icmp_le 34 h dJ2_fastRemove_19 rfl (fun h => ?_) (fun h => ?_)
  · refine cq_sub (lv' := [(0, .ref a0), (1, .ref b0), (3, .int v4)]) [1, 2, 0] rfl ?_
    exact jAl_fastRemove_34_v H hX M2 P L k n v4 hk h
  · refine cq_aload_n 2 dJ2_fastRemove_22 rfl ?_
    refine cq_iload_n 3 dJ2_fastRemove_23 rfl ?_
    refine cq_iconst 1 dJ2_fastRemove_24 cx_ic_1 ?_
    refine cq_iadd dJ2_fastRemove_25 ?_
    refine cq_aload_n 2 dJ2_fastRemove_26 rfl ?_
    refine cq_iload_n 3 dJ2_fastRemove_27 rfl ?_
    refine cq_iload_n 0 dJ2_fastRemove_28 rfl ?_
    refine cq_iload_n 3 dJ2_fastRemove_29 rfl ?_
    refine cq_isub dJ2_fastRemove_30 ?_
    obtain ⟨z5, z6, hm0, hm1, h⟩ := h
    refine cq_nd H.1.1 (fun hn => cd_copyR H.1.1 H.2.1 hn hm0 hm1 h d16 dCast dJ2_fastRemove_31 q1110 (cx_le rfl) (cx_le rfl) (fun P7 h => ?_))
    refine cq_sub (lv' := [(0, .ref a0), (1, .ref b0), (3, .int v4)]) [1, 2, 0] rfl ?_
    exact jAl_fastRemove_34_v H hX M2 P7 L k n v4 hk h
def jAl_fastRemove (N : dNt) (bc bs : Nat) (M : cx_M) (P : dP) (L : dL) (a0 : Nat) (b0 : Nat) (x2 : Int32) (Q : cd_Qt) : Prop := jAl_fastRemove_0 N bc bs Q a0 b0 M P L 0 0 x2
set_option maxRecDepth 100000 in
theorem jAl_fastRemove_m {l : Launch} {g : cx_G} {N : dNt} {bc bs : Nat} {Q : cd_Qt} (H : dI g N.2) (M : cx_M) (P : dP) (L : dL) (a0 : Nat) (b0 : Nat) (x2 : Int32) (h : jAl_fastRemove N bc bs M P L a0 b0 x2 Q) : cd_Met l g yJ2_fastRemove cJ2_fastRemove (esJ2_fastRemove bc bs) cd_rV [.ref a0, .ref b0, .int x2] M P L Q :=
  cd_met (by decide +kernel) rfl rfl (lv := [(0, .ref a0), (1, .ref b0), (2, .int x2)]) rfl (cx_le rfl) (fun X hX => cq_sub (lv' := [(0, .ref a0), (1, .ref b0), (2, .int x2)]) [0, 1, 2] rfl (jAl_fastRemove_0_v H hX M P L 0 0 x2 ⟨Nat.zero_le _, Nat.zero_le _⟩ h))

abbrev esJ2_remove (bc bs : Nat) : cx_S := (4, RJ2, cx_rI, { frames := 2, cells := bc, slots := bs, locals := 63 }, some (.object "java/lang/Object"), false)
def jAl_remove_0 (N : dNt) (bc bs : Nat) (Q : cd_Qt) (a0 : Nat) (M : cx_M) (P : dP) (L : dL) (k n : Nat) (x1 : Int32) : Prop :=
  (a0, (0, 20, 0)) ∈ L ∧ cq_get M (dc a0) 2 fun v1 =>
  jOb_checkIndex N (bc - k) (bs - n) M P L x1 v1 (fun M2 P3 L4 v5 r6 e9 k7 n8 => e9 = 0 → cd_add k k7 n n8 fun k9 n10 =>
  (a0, (0, 20, 0)) ∈ L4 ∧ cd_let (P3 a0 1) fun r11 =>
  cd_nn r11 fun a12 =>
  ∃ z14, (a12, (3, 4, z14)) ∈ L4 ∧ cd_ldR P3 a12 z14 x1 fun r13 =>
  (a0, (0, 20, 0)) ∈ L4 ∧
  jAl_fastRemove N (bc - k9) (bs - n10) M2 P3 L4 a0 a12 x1 (fun M15 P16 L17 v18 r19 e9 k20 n21 => e9 = 0 → cd_add k9 k20 n10 n21 fun k22 n23 =>
  Q M15 P16 L17 0 r13 0 k22 n23))
set_option maxRecDepth 100000 in
theorem jAl_remove_0_v {l : Launch} {g : cx_G} {X : cx_X} {N : dNt} {bc bs : Nat} {Q : cd_Qt} {a0 : Nat} (H : dI g N.2) (hX : X.2.2.2.2.2.2.1.name = "remove") (M : cx_M) (P : dP) (L : dL) (k n : Nat) (x1 : Int32) (hk : k ≤ bc ∧ n ≤ bs) (h : jAl_remove_0 N bc bs Q a0 M P L k n x1) : cq_V l (dG g L P) X (esJ2_remove bc bs) cJ2_remove 0 [(0, .ref a0), (1, .int x1)] [] M k n (cd_fin g X (esJ2_remove bc bs) cd_rA Q) := by
  unfold jAl_remove_0 at h
  refine cq_iload_n 1 dJ2_remove_0 rfl ?_
  refine cq_aload_n 0 dJ2_remove_1 rfl ?_
  refine cq_nd H.1.1 (fun hn => cq_getI h.2 (dG_FI H.1.1 hn h.1 dCl_J2 (cx_lt rfl) rfl rfl rfl) q519 dJ2_remove_2 (fun v1 h => ?_))
  refine cd_cS [.int x1, .int v1] [] (jOb_checkIndex_m H (N := N) (bc := bc - k) (bs := bs - n) M P L x1 v1 h) dJ2_remove_5 gd_J2_118 hgd_J2_118 ⟨cx_le rfl, cx_le rfl⟩ (cd_bud hk) rfl (cx_le rfl) (fun M2 P3 L4 v5 r6 k7 n8 hk2 h => ?_)
  refine cd_addI (h rfl) (cd_bk hk hk2) (fun k9 n10 h hk => ?_)
  refine cq_pop dJ2_remove_8 rfl ?_
  refine cq_aload_n 0 dJ2_remove_9 rfl ?_
  refine cq_getR (dG_FR (k := 1) H.1.1 h.1 dCl_J2 (cx_lt rfl) rfl rfl) q516 dJ2_remove_10 ?_
  refine cd_letI h.2 (fun r11 h => ?_)
  refine cd_astore_n (v := r11) (fun v => [(2, v), (0, .ref a0), (1, .int x1)]) dJ2_remove_13 (cx_lt rfl) (fun v => rfl) ?_
  refine cd_aload_n (v := r11) 0 dJ2_remove_14 rfl ?_
  refine cq_iload_n 2 dJ2_remove_15 rfl ?_
  obtain ⟨a12, e9, h⟩ := cd_nn_some h
  subst e9
  obtain ⟨z14, hm, h⟩ := h
  refine cd_ldRrow H.1.1 hm h rfl dJ2_remove_16 (fun r13 h => ?_)
  refine cd_astore_n (v := r13) (fun v => [(3, v), (2, .ref a12), (0, .ref a0), (1, .int x1)]) dJ2_remove_17 (cx_lt rfl) (fun v => rfl) ?_
  refine cq_aload_n 2 dJ2_remove_18 rfl ?_
  refine cq_aload_n 1 dJ2_remove_19 rfl ?_
  refine cq_iload_n 3 dJ2_remove_20 rfl ?_
  obtain ⟨hmr, h⟩ := h
  refine cd_cV [.ref a12, .int x1] [] (jAl_fastRemove_m H (N := N) (bc := bc - k9) (bs := bs - n10) M2 P3 L4 a0 a12 x1 h) (dG_Rc H.1.1 hmr dCl_J2) dJ2_remove_21 gd_J2_144 hgd_J2_144 ⟨cx_le rfl, cx_le rfl⟩ (cd_bud hk) rfl (cx_le rfl) (fun M15 P16 L17 v18 r19 k20 n21 hk2 h => ?_)
  refine cd_addI (h rfl) (cd_bk hk hk2) (fun k22 n23 h hk => ?_)
  refine cd_aload_n (v := r13) 0 dJ2_remove_24 rfl ?_
  exact cd_aret (v := r13) hk h rfl (Or.inl ⟨_, rfl⟩) dJ2_remove_25
def jAl_remove (N : dNt) (bc bs : Nat) (M : cx_M) (P : dP) (L : dL) (a0 : Nat) (x1 : Int32) (Q : cd_Qt) : Prop := jAl_remove_0 N bc bs Q a0 M P L 0 0 x1
set_option maxRecDepth 100000 in
theorem jAl_remove_m {l : Launch} {g : cx_G} {N : dNt} {bc bs : Nat} {Q : cd_Qt} (H : dI g N.2) (M : cx_M) (P : dP) (L : dL) (a0 : Nat) (x1 : Int32) (h : jAl_remove N bc bs M P L a0 x1 Q) : cd_Met l g yJ2_remove cJ2_remove (esJ2_remove bc bs) cd_rA [.ref a0, .int x1] M P L Q :=
  cd_met (by decide +kernel) rfl rfl (lv := [(0, .ref a0), (1, .int x1)]) rfl (cx_le rfl) (fun X hX => cq_sub (lv' := [(0, .ref a0), (1, .int x1)]) [0, 1] rfl (jAl_remove_0_v H hX M P L 0 0 x1 ⟨Nat.zero_le _, Nat.zero_le _⟩ h))

theorem gdw_get {own : String} {ix : Nat} (h : Cond.methodLink own ix yJ2_get ∈ lw_all) : GoodIn lw_all (wsV own ix RJ2 yJ2_get (ws_ yJ2_get cJ2_get 2 (some (.object "java/lang/Object")))) := lw_V h q1112 q1113 q120 q1114
theorem hgdw_get : yJ2_get.cls = RJ2 ∧ yJ2_get.cls ≠ "java/lang/invoke/MethodHandle" ∧ yJ2_get.cls ≠ "java/lang/invoke/VarHandle" ∧ (parseMethodDescriptor yJ2_get.desc).map (fun d => d.parameters.length) = some 1 := by decide +kernel
theorem gdw_size {own : String} {ix : Nat} (h : Cond.methodLink own ix yJ2_size ∈ lw_all) : GoodIn lw_all (wsV own ix RJ2 yJ2_size (ws_ yJ2_size cJ2_size 1 (some .int))) := lw_V h q1268 q1269 q120 q1270
theorem hgdw_size : yJ2_size.cls = RJ2 ∧ yJ2_size.cls ≠ "java/lang/invoke/MethodHandle" ∧ yJ2_size.cls ≠ "java/lang/invoke/VarHandle" ∧ (parseMethodDescriptor yJ2_size.desc).map (fun d => d.parameters.length) = some 0 := by decide +kernel
theorem gdw_isEmpty {own : String} {ix : Nat} (h : Cond.methodLink own ix yJ2_isEmpty ∈ lw_all) : GoodIn lw_all (wsV own ix RJ2 yJ2_isEmpty (ws_ yJ2_isEmpty cJ2_isEmpty 1 (some .boolean))) := lw_V h q1264 q1265 q120 q1266
theorem hgdw_isEmpty : yJ2_isEmpty.cls = RJ2 ∧ yJ2_isEmpty.cls ≠ "java/lang/invoke/MethodHandle" ∧ yJ2_isEmpty.cls ≠ "java/lang/invoke/VarHandle" ∧ (parseMethodDescriptor yJ2_isEmpty.desc).map (fun d => d.parameters.length) = some 0 := by decide +kernel
theorem gdw_remove {own : String} {ix : Nat} (h : Cond.methodLink own ix yJ2_remove ∈ lw_all) : GoodIn lw_all (wsV own ix RJ2 yJ2_remove (ws_ yJ2_remove cJ2_remove 4 (some (.object "java/lang/Object")))) := lw_V h q1097 q1098 q120 q1099
theorem hgdw_remove : yJ2_remove.cls = RJ2 ∧ yJ2_remove.cls ≠ "java/lang/invoke/MethodHandle" ∧ yJ2_remove.cls ≠ "java/lang/invoke/VarHandle" ∧ (parseMethodDescriptor yJ2_remove.desc).map (fun d => d.parameters.length) = some 1 := by decide +kernel
theorem gdw_add {own : String} {ix : Nat} (h : Cond.methodLink own ix yJ2_add ∈ lw_all) : GoodIn lw_all (wsV own ix RJ2 yJ2_add (ws_ yJ2_add cJ2_add 2 (some .boolean))) := lw_V h q827 q828 q120 q829
theorem hgdw_add : yJ2_add.cls = RJ2 ∧ yJ2_add.cls ≠ "java/lang/invoke/MethodHandle" ∧ yJ2_add.cls ≠ "java/lang/invoke/VarHandle" ∧ (parseMethodDescriptor yJ2_add.desc).map (fun d => d.parameters.length) = some 1 := by decide +kernel
theorem gdw_intValue {own : String} {ix : Nat} (h : Cond.methodLink own ix yJ17_intValue ∈ lw_all) : GoodIn lw_all (wsV own ix RJ17 yJ17_intValue (ws_ yJ17_intValue cJ17_intValue 1 (some .int))) := lw_V h q1274 q1275 q136 q1276
theorem hgdw_intValue : yJ17_intValue.cls = RJ17 ∧ yJ17_intValue.cls ≠ "java/lang/invoke/MethodHandle" ∧ yJ17_intValue.cls ≠ "java/lang/invoke/VarHandle" ∧ (parseMethodDescriptor yJ17_intValue.desc).map (fun d => d.parameters.length) = some 0 := by decide +kernel