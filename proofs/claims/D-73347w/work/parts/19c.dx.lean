
abbrev dNx : Type := cx_N × (Nat → Nat)
def dX (l : Launch) (g : cx_G) (adr : Nat → Nat) (N : cx_N) : Prop := dR l g adr ∧ (∀ (L : dL) (P : dP), cCp_H (dG g L P) adr N) ∧ lmK_H g adr
theorem dDf_J23 : ∀ j, j < 4 → defaultValue (tyJ23 j) = dFv 22 j (fun _ => 0) (fun _ => none) := by decide +kernel
theorem g_X6_298 : GoodIn lw_all (wsV RX6 298 RJ19 yJ19_get (ws_ yJ19_get cJ19_get 3 (some .boolean))) := lw_V q1813 q1599 q1600 q142 q1601
theorem hg_X6_298 : yJ19_get.cls = RJ19 ∧ yJ19_get.cls ≠ "java/lang/invoke/MethodHandle" ∧ yJ19_get.cls ≠ "java/lang/invoke/VarHandle" ∧ (parseMethodDescriptor yJ19_get.desc).map (fun d => d.parameters.length) = some 1 := by decide +kernel
theorem g_X1_433 : GoodIn lw_all (wsV RX1 433 RX1 yX1_waits (ws_ yX1_waits cX1_waits 5 (some .int))) := lw_V q2276 q2278 qs50 q116 q2279
theorem hg_X1_433 : yX1_waits.cls = RX1 ∧ yX1_waits.cls ≠ "java/lang/invoke/MethodHandle" ∧ yX1_waits.cls ≠ "java/lang/invoke/VarHandle" ∧ (parseMethodDescriptor yX1_waits.desc).map (fun d => d.parameters.length) = some 2 := by decide +kernel
theorem gd_X6_302D : GoodIn lw_all (wsV RX6 302 RJ19 yJ19_set_2 (ws_ yJ19_set_2 cJ19_set_2 3 none)) := lw_V q1814 q1286 q1287 q142 q1288
theorem hgd_X6_302D : yJ19_set_2.cls = RJ19 ∧ yJ19_set_2.cls ≠ "java/lang/invoke/MethodHandle" ∧ yJ19_set_2.cls ≠ "java/lang/invoke/VarHandle" ∧ (parseMethodDescriptor yJ19_set_2.desc).map (fun d => d.parameters.length) = some 1 := by decide +kernel
theorem gd_X1_184 : GoodIn lw_all (va_wsS RX1 184 yX1_there (ws_ yX1_there cX1_there 1 none)) := lw_S q1753 q1754 q116 q1755
theorem hgd_X1_184 : yX1_there.cls ≠ "java/lang/invoke/MethodHandle" ∧ yX1_there.cls ≠ "java/lang/invoke/VarHandle" ∧ (parseMethodDescriptor yX1_there.desc).map (fun d => d.parameters.length) = some 1 := by decide +kernel
theorem gd_X1_304D : GoodIn lw_all (wsV RX1 304 RX6 yX6_lacks (ws_ yX6_lacks cX6_lacks 4 (some (.object "java/util/BitSet")))) := lw_V q1808 q1809 q1810 q141 q1811
theorem hgd_X1_304D : yX6_lacks.cls = RX6 ∧ yX6_lacks.cls ≠ "java/lang/invoke/MethodHandle" ∧ yX6_lacks.cls ≠ "java/lang/invoke/VarHandle" ∧ (parseMethodDescriptor yX6_lacks.desc).map (fun d => d.parameters.length) = some 0 := by decide +kernel
theorem gd_X1_308D : GoodIn lw_all (wsV RX1 308 RJ19 yJ19_get (ws_ yJ19_get cJ19_get 3 (some .boolean))) := lw_V q1815 q1599 q1600 q142 q1601
theorem hgd_X1_308D : yJ19_get.cls = RJ19 ∧ yJ19_get.cls ≠ "java/lang/invoke/MethodHandle" ∧ yJ19_get.cls ≠ "java/lang/invoke/VarHandle" ∧ (parseMethodDescriptor yJ19_get.desc).map (fun d => d.parameters.length) = some 1 := by decide +kernel
theorem gd_X1_137 : GoodIn lw_all (va_wsS RX1 137 yX1_right (ws_ yX1_right cX1_right 1 none)) := lw_S q1360 q1361 q116 q1362
theorem hgd_X1_137 : yX1_right.cls ≠ "java/lang/invoke/MethodHandle" ∧ yX1_right.cls ≠ "java/lang/invoke/VarHandle" ∧ (parseMethodDescriptor yX1_right.desc).map (fun d => d.parameters.length) = some 1 := by decide +kernel
theorem gd_X1_407D : GoodIn lw_all (va_wsS RX1 407 yX1_soon (ws_ yX1_soon cX1_soon 2 none)) := lw_S q2258 q2259 q116 q2260
theorem hgd_X1_407D : yX1_soon.cls ≠ "java/lang/invoke/MethodHandle" ∧ yX1_soon.cls ≠ "java/lang/invoke/VarHandle" ∧ (parseMethodDescriptor yX1_soon.desc).map (fun d => d.parameters.length) = some 2 := by decide +kernel
theorem gd_X1_360 : GoodIn lw_all (wsV RX1 360 RJ20 yJ20_clear (ws_ yJ20_clear cJ20_clear 1 none)) := lw_V q2192 q2193 q2194 q143 q2195
theorem hgd_X1_360 : yJ20_clear.cls = RJ20 ∧ yJ20_clear.cls ≠ "java/lang/invoke/MethodHandle" ∧ yJ20_clear.cls ≠ "java/lang/invoke/VarHandle" ∧ (parseMethodDescriptor yJ20_clear.desc).map (fun d => d.parameters.length) = some 0 := by decide +kernel
theorem gd_X1_363 : GoodIn lw_all (wsV RX1 363 RJ20 yJ20_isEmpty (ws_ yJ20_isEmpty cJ20_isEmpty 1 (some .boolean))) := lw_V q2199 q2200 q2201 q143 q2202
theorem hgd_X1_363 : yJ20_isEmpty.cls = RJ20 ∧ yJ20_isEmpty.cls ≠ "java/lang/invoke/MethodHandle" ∧ yJ20_isEmpty.cls ≠ "java/lang/invoke/VarHandle" ∧ (parseMethodDescriptor yJ20_isEmpty.desc).map (fun d => d.parameters.length) = some 0 := by decide +kernel
theorem gd_X1_366 : GoodIn lw_all (wsV RX1 366 RJ20 yJ20_peekLast (ws_ yJ20_peekLast cJ20_peekLast 2 (some (.object "java/lang/Object")))) := lw_V q2203 q2204 q2205 q143 q2206
theorem hgd_X1_366 : yJ20_peekLast.cls = RJ20 ∧ yJ20_peekLast.cls ≠ "java/lang/invoke/MethodHandle" ∧ yJ20_peekLast.cls ≠ "java/lang/invoke/VarHandle" ∧ (parseMethodDescriptor yJ20_peekLast.desc).map (fun d => d.parameters.length) = some 0 := by decide +kernel
theorem gd_X1_347 : GoodIn lw_all (wsV RX1 347 RJ17 yJ17_intValue (ws_ yJ17_intValue cJ17_intValue 1 (some .int))) := lw_V q2106 q1274 q1275 q136 q1276
theorem hgd_X1_347 : yJ17_intValue.cls = RJ17 ∧ yJ17_intValue.cls ≠ "java/lang/invoke/MethodHandle" ∧ yJ17_intValue.cls ≠ "java/lang/invoke/VarHandle" ∧ (parseMethodDescriptor yJ17_intValue.desc).map (fun d => d.parameters.length) = some 0 := by decide +kernel
theorem gd_X1_369 : GoodIn lw_all (wsV RX1 369 RJ20 yJ20_pollLast (ws_ yJ20_pollLast cJ20_pollLast 4 (some (.object "java/lang/Object")))) := lw_V q2213 q2214 q2215 q143 q2216
theorem hgd_X1_369 : yJ20_pollLast.cls = RJ20 ∧ yJ20_pollLast.cls ≠ "java/lang/invoke/MethodHandle" ∧ yJ20_pollLast.cls ≠ "java/lang/invoke/VarHandle" ∧ (parseMethodDescriptor yJ20_pollLast.desc).map (fun d => d.parameters.length) = some 0 := by decide +kernel
theorem gd_X1_323 : GoodIn lw_all (va_wsS RX1 323 yJ17_valueOf (ws_ yJ17_valueOf cJ17_valueOf 1 (some (.object "java/lang/Integer")))) := lw_S q1859 q1614 q136 q1615
theorem hgd_X1_323 : yJ17_valueOf.cls ≠ "java/lang/invoke/MethodHandle" ∧ yJ17_valueOf.cls ≠ "java/lang/invoke/VarHandle" ∧ (parseMethodDescriptor yJ17_valueOf.desc).map (fun d => d.parameters.length) = some 1 := by decide +kernel
theorem gd_X1_372 : GoodIn lw_all (wsV RX1 372 RJ20 yJ20_addLast (ws_ yJ20_addLast cJ20_addLast 3 none)) := lw_V q2217 q2218 q2219 q143 q2220
theorem hgd_X1_372 : yJ20_addLast.cls = RJ20 ∧ yJ20_addLast.cls ≠ "java/lang/invoke/MethodHandle" ∧ yJ20_addLast.cls ≠ "java/lang/invoke/VarHandle" ∧ (parseMethodDescriptor yJ20_addLast.desc).map (fun d => d.parameters.length) = some 1 := by decide +kernel
theorem gd_X1_373 : GoodIn lw_all (wsV RX1 373 RJ20 yJ20_peekFirst (ws_ yJ20_peekFirst cJ20_peekFirst 1 (some (.object "java/lang/Object")))) := lw_V q2236 q2237 q2238 q143 q2239
theorem hgd_X1_373 : yJ20_peekFirst.cls = RJ20 ∧ yJ20_peekFirst.cls ≠ "java/lang/invoke/MethodHandle" ∧ yJ20_peekFirst.cls ≠ "java/lang/invoke/VarHandle" ∧ (parseMethodDescriptor yJ20_peekFirst.desc).map (fun d => d.parameters.length) = some 0 := by decide +kernel
theorem gd_X1_376 : GoodIn lw_all (wsV RX1 376 RJ20 yJ20_pollFirst (ws_ yJ20_pollFirst cJ20_pollFirst 4 (some (.object "java/lang/Object")))) := lw_V q2240 q2241 q2242 q143 q2243
theorem hgd_X1_376 : yJ20_pollFirst.cls = RJ20 ∧ yJ20_pollFirst.cls ≠ "java/lang/invoke/MethodHandle" ∧ yJ20_pollFirst.cls ≠ "java/lang/invoke/VarHandle" ∧ (parseMethodDescriptor yJ20_pollFirst.desc).map (fun d => d.parameters.length) = some 0 := by decide +kernel
theorem gd_X1_316 : GoodIn lw_all (ws_ yJ23_init cJ23_init 1 none) := lw_meth q1827
theorem hgd_X1_316 : yJ23_init.cls ≠ "java/lang/invoke/MethodHandle" ∧ yJ23_init.cls ≠ "java/lang/invoke/VarHandle" ∧ (parseMethodDescriptor yJ23_init.desc).map (fun d => d.parameters.length) = some 0 := by decide +kernel
theorem gd_X1_317D : GoodIn lw_all (wsV RX1 317 RJ19 yJ19_nextSetBit (ws_ yJ19_nextSetBit cJ19_nextSetBit 5 (some .int))) := lw_V q1844 q1845 q1846 q142 q1847
theorem hgd_X1_317D : yJ19_nextSetBit.cls = RJ19 ∧ yJ19_nextSetBit.cls ≠ "java/lang/invoke/MethodHandle" ∧ yJ19_nextSetBit.cls ≠ "java/lang/invoke/VarHandle" ∧ (parseMethodDescriptor yJ19_nextSetBit.desc).map (fun d => d.parameters.length) = some 1 := by decide +kernel
theorem gd_X1_333 : GoodIn lw_all (va_wsU RX1 333 RJ23 "java/util/AbstractSequentialList" ⟨"java/util/LinkedList", "iterator", "()Ljava/util/Iterator;"⟩ yJ22_iterator (ws_ yJ22_iterator cJ22_iterator 1 (some (.object "java/util/Iterator")))) := lw_U q1889 q1890 q1892 q1893 q158 q1894
theorem hgd_X1_333 : yJ22_iterator = ⟨"java/util/AbstractSequentialList", "iterator", "()Ljava/util/Iterator;"⟩ ∧ "java/util/AbstractSequentialList" ≠ "java/lang/invoke/MethodHandle" ∧ "java/util/AbstractSequentialList" ≠ "java/lang/invoke/VarHandle" ∧ (parseMethodDescriptor "()Ljava/util/Iterator;").map (fun d => d.parameters.length) = some 0 := by refine ⟨rfl, ?_⟩; decide +kernel
theorem gd_X1_320D : GoodIn lw_all (wsV RX1 320 RJ19 yJ19_nextClearBit (ws_ yJ19_nextClearBit cJ19_nextClearBit 5 (some .int))) := lw_V q1855 q1856 q1857 q142 q1858
theorem hgd_X1_320D : yJ19_nextClearBit.cls = RJ19 ∧ yJ19_nextClearBit.cls ≠ "java/lang/invoke/MethodHandle" ∧ yJ19_nextClearBit.cls ≠ "java/lang/invoke/VarHandle" ∧ (parseMethodDescriptor yJ19_nextClearBit.desc).map (fun d => d.parameters.length) = some 1 := by decide +kernel
theorem gd_X1_329 : GoodIn lw_all (wsV RX1 329 RJ23 yJ23_addLast (ws_ yJ23_addLast cJ23_addLast 2 none)) := lw_V q1860 q1861 q1862 q159 q1863
theorem hgd_X1_329 : yJ23_addLast.cls = RJ23 ∧ yJ23_addLast.cls ≠ "java/lang/invoke/MethodHandle" ∧ yJ23_addLast.cls ≠ "java/lang/invoke/VarHandle" ∧ (parseMethodDescriptor yJ23_addLast.desc).map (fun d => d.parameters.length) = some 1 := by decide +kernel
theorem gd_X1_337 : GoodIn lw_all (va_wsF RX1 337 RJ29 ⟨"java/util/Iterator", "hasNext", "()Z"⟩ yJ29_hasNext (ws_ yJ29_hasNext cJ29_hasNext 1 (some .boolean))) := lw_F q1977 q2000 q2002 q166 q2004
theorem hgd_X1_337 : "java/util/Iterator" ≠ "java/lang/invoke/MethodHandle" ∧ "java/util/Iterator" ≠ "java/lang/invoke/VarHandle" ∧ (parseMethodDescriptor "()Z").map (fun d => d.parameters.length) = some 0 := by decide +kernel
theorem gd_X1_353 : GoodIn lw_all (wsV RX1 353 RJ23 yJ23_size (ws_ yJ23_size cJ23_size 1 (some .int))) := lw_V q2172 q1991 q2961 q159 q1992
theorem hgd_X1_353 : yJ23_size.cls = RJ23 ∧ yJ23_size.cls ≠ "java/lang/invoke/MethodHandle" ∧ yJ23_size.cls ≠ "java/lang/invoke/VarHandle" ∧ (parseMethodDescriptor yJ23_size.desc).map (fun d => d.parameters.length) = some 0 := by decide +kernel
theorem gd_X1_343 : GoodIn lw_all (va_wsF RX1 343 RJ29 ⟨"java/util/Iterator", "next", "()Ljava/lang/Object;"⟩ yJ29_next (ws_ yJ29_next cJ29_next 1 (some (.object "java/lang/Object")))) := lw_F q2006 q2093 q2095 q166 q2097
theorem hgd_X1_343 : "java/util/Iterator" ≠ "java/lang/invoke/MethodHandle" ∧ "java/util/Iterator" ≠ "java/lang/invoke/VarHandle" ∧ (parseMethodDescriptor "()Ljava/lang/Object;").map (fun d => d.parameters.length) = some 0 := by decide +kernel
theorem gd_X1_350 : GoodIn lw_all (va_wsF RX1 350 RJ29 ⟨"java/util/Iterator", "remove", "()V"⟩ yJ29_remove (ws_ yJ29_remove cJ29_remove 2 none)) := lw_F q2108 q2166 q2168 q166 q2170
theorem hgd_X1_350 : "java/util/Iterator" ≠ "java/lang/invoke/MethodHandle" ∧ "java/util/Iterator" ≠ "java/lang/invoke/VarHandle" ∧ (parseMethodDescriptor "()V").map (fun d => d.parameters.length) = some 0 := by decide +kernel
theorem gd_X1_354 : GoodIn lw_all (wsV RX1 354 RJ23 yJ23_get (ws_ yJ23_get cJ23_get 2 (some (.object "java/lang/Object")))) := lw_V q2173 q2024 q2962 q159 q2025
theorem hgd_X1_354 : yJ23_get.cls = RJ23 ∧ yJ23_get.cls ≠ "java/lang/invoke/MethodHandle" ∧ yJ23_get.cls ≠ "java/lang/invoke/VarHandle" ∧ (parseMethodDescriptor yJ23_get.desc).map (fun d => d.parameters.length) = some 1 := by decide +kernel
abbrev esX6_lacksD (bc bs : Nat) : cx_S := (4, RX6, cx_rI, { frames := 3, cells := bc, slots := bs, locals := 66 }, some (.object "java/util/BitSet"), false)
def dSt_lacksD_54 (N : dNx) (bc bs : Nat) (Q : cd_Qt) (b : Nat) (r_22 : cx_M → dP → dL → Nat → Nat → Nat → Int32 → Int32 → Prop) (M : cx_M) (P : dP) (L : dL) (k n : Nat) (x1 : Nat) (x2 : Int32) (x3 : Int32) : Prop :=
  cq_let (x3 + 1) fun v1 =>
  r_22 M P L k n x1 x2 v1
set_option maxRecDepth 100000 in
theorem dSt_lacksD_54_v {l : Launch} {g : cx_G} {X : cx_X} {N : dNx} {bc bs : Nat} {Q : cd_Qt} {b : Nat} {r_22 : cx_M → dP → dL → Nat → Nat → Nat → Int32 → Int32 → Prop} (H : dX l g N.2 N.1) (hX : X.2.2.2.2.2.2.1.name = "lacks") (hb : ∀ (L : dL) (P : dP), cSt_H (dG g L P) N.2 b) (hr_22 : ∀ (M : cx_M) (P : dP) (L : dL) (k n : Nat) (x1 : Nat) (x2 : Int32) (x3 : Int32), (k ≤ bc ∧ n ≤ bs) → r_22 M P L k n x1 x2 x3 → cq_V l (dG g L P) X (esX6_lacksD bc bs) cX6_lacks 22 [(0, .ref (N.2 b)), (1, .ref x1), (2, .int x2), (3, .int x3)] [] M k n (cd_fin g X (esX6_lacksD bc bs) cd_rA Q)) (M : cx_M) (P : dP) (L : dL) (k n : Nat) (x1 : Nat) (x2 : Int32) (x3 : Int32) (hk : k ≤ bc ∧ n ≤ bs) (h : dSt_lacksD_54 N bc bs Q b r_22 M P L k n x1 x2 x3) : cq_V l (dG g L P) X (esX6_lacksD bc bs) cX6_lacks 54 [(0, .ref (N.2 b)), (1, .ref x1), (2, .int x2), (3, .int x3)] [] M k n (cd_fin g X (esX6_lacksD bc bs) cd_rA Q) := by
  unfold dSt_lacksD_54 at h
  refine cq_iinc 3 1 (fun v1 => [(3, .int v1), (0, .ref (N.2 b)), (1, .ref x1), (2, .int x2)]) h dX6_lacks_54 rfl cx_ic_1 (cx_lt rfl) (fun _ => rfl) (fun v1 h => ?_)
  refine cq_goto 22 dX6_lacks_57 rfl ?_
  refine cq_sub (lv' := [(0, .ref (N.2 b)), (1, .ref x1), (2, .int x2), (3, .int v1)]) [1, 2, 3, 0] rfl ?_
  exact hr_22 M P L k n x1 x2 v1 hk h
def dSt_lacksD_22b (N : dNx) (bc bs : Nat) (Q : cd_Qt) (b : Nat) (r_22 : cx_M → dP → dL → Nat → Nat → Nat → Int32 → Int32 → Prop) (M : cx_M) (P : dP) (L : dL) (k n : Nat) (x1 : Nat) (x2 : Int32) (x3 : Int32) : Prop :=
  if x2 ≤ x3 then (
    Q M P L 0 (some x1) 0 k n)
  else (
    cq_get M b 6 fun v1 =>
    cq_cal (jBs_get N.1 (b + 42) M (cx_rem ((v1 - x2) + x3) 128)) fun M2 v3 =>
    if v3 = 0 then (
      dSt_lacksD_54 N bc bs Q b r_22 M2 P L k n x1 x2 x3)
    else (
      (x1, (0, 21, 0)) ∈ L ∧
      jBd_set_2D N.1.1 (bc - k) (bs - n) M2 P L x1 x3 (fun M4 P5 L6 v7 r8 e9 k9 n10 => e9 = 0 → cd_add k k9 n n10 fun k11 n12 =>
      dSt_lacksD_54 N bc bs Q b r_22 M4 P5 L6 k11 n12 x1 x2 x3)))
set_option maxRecDepth 100000 in
theorem dSt_lacksD_22b_v {l : Launch} {g : cx_G} {X : cx_X} {N : dNx} {bc bs : Nat} {Q : cd_Qt} {b : Nat} {r_22 : cx_M → dP → dL → Nat → Nat → Nat → Int32 → Int32 → Prop} (H : dX l g N.2 N.1) (hX : X.2.2.2.2.2.2.1.name = "lacks") (hb : ∀ (L : dL) (P : dP), cSt_H (dG g L P) N.2 b) (hr_22 : ∀ (M : cx_M) (P : dP) (L : dL) (k n : Nat) (x1 : Nat) (x2 : Int32) (x3 : Int32), (k ≤ bc ∧ n ≤ bs) → r_22 M P L k n x1 x2 x3 → cq_V l (dG g L P) X (esX6_lacksD bc bs) cX6_lacks 22 [(0, .ref (N.2 b)), (1, .ref x1), (2, .int x2), (3, .int x3)] [] M k n (cd_fin g X (esX6_lacksD bc bs) cd_rA Q)) (M : cx_M) (P : dP) (L : dL) (k n : Nat) (x1 : Nat) (x2 : Int32) (x3 : Int32) (hk : k ≤ bc ∧ n ≤ bs) (h : dSt_lacksD_22b N bc bs Q b r_22 M P L k n x1 x2 x3) : cq_V l (dG g L P) X (esX6_lacksD bc bs) cX6_lacks 22 [(0, .ref (N.2 b)), (1, .ref x1), (2, .int x2), (3, .int x3)] [] M k n (cd_fin g X (esX6_lacksD bc bs) cd_rA Q) := by
  unfold dSt_lacksD_22b at h
  refine cq_iload_n 3 dX6_lacks_22 rfl ?_
  refine cq_iload_n 2 dX6_lacks_23 rfl ?_
  refine cq_icmp_ge 60 h dX6_lacks_24 rfl (fun h => ?_) (fun h => ?_)
  · refine cq_aload_n 1 dX6_lacks_60 rfl ?_
    exact cd_aret (v := (some x1)) hk h rfl (Or.inl ⟨_, rfl⟩) dX6_lacks_61
  · refine cq_aload_n 0 dX6_lacks_27 rfl ?_
    refine cq_getR (cSt_R41 (hb L P)) q722 dX6_lacks_28 ?_
    refine cq_aload_n 0 dX6_lacks_31 rfl ?_
    refine cq_getI h (cSt_F6 (hb L P)) q660 dX6_lacks_32 (fun v1 h => ?_)
    refine cq_iload_n 2 dX6_lacks_35 rfl ?_
    refine cq_isub dX6_lacks_36 ?_
    refine cq_iload_n 3 dX6_lacks_37 rfl ?_
    refine cq_iadd dX6_lacks_38 ?_
    refine cq_sipush 128 dX6_lacks_39 cx_sp_128 ?_
    refine cq_iremC cx_ne_128 dX6_lacks_42 ?_
    refine cq_cVi [.int (cx_rem ((v1 - x2) + x3) 128)] [] h (fun rs' h' => jBs_get_m (g := dG g L P) (N := N.1) (H.2.1 L P) (cSt_B41 (hb L P)) M (cx_rem ((v1 - x2) + x3) 128) rs' h') (jBs_rc (cSt_B41 (hb L P))) dX6_lacks_43 g_X6_298 hg_X6_298 ⟨cx_le rfl, cx_le rfl⟩ rfl ⟨rfl, rfl⟩ hk rfl (cx_le rfl) (fun M2 v3 h => ?_)
    refine cq_if_eq 54 h dX6_lacks_46 rfl (fun h => ?_) (fun h => ?_)
    · exact dSt_lacksD_54_v H hX hb hr_22 M2 P L k n x1 x2 x3 hk h
    · refine cq_aload_n 1 dX6_lacks_49 rfl ?_
      refine cq_iload_n 3 dX6_lacks_50 rfl ?_
      obtain ⟨hmr, h⟩ := h
      refine cd_cV [.int x3] [] (jBd_set_2D_m H.1.1.1 (N := N.1.1) (bc := bc - k) (bs := bs - n) M2 P L x1 x3 h) (dG_Rc H.1.1.1.1 hmr dCl_J19) dX6_lacks_51 gd_X6_302D hgd_X6_302D ⟨cx_le rfl, cx_le rfl⟩ (cd_bud hk) rfl (cx_le rfl) (fun M4 P5 L6 v7 r8 k9 n10 hk2 h => ?_)
      refine cd_addI (h rfl) (cd_bk hk hk2) (fun k11 n12 h hk => ?_)
      exact dSt_lacksD_54_v H hX hb hr_22 M4 P5 L6 k11 n12 x1 x2 x3 hk h
def dSt_lacksD_22 (N : dNx) (bc bs : Nat) (Q : cd_Qt) (b : Nat) : Nat → cx_M → dP → dL → Nat → Nat → Nat → Int32 → Int32 → Prop :=
  cx_fix (fun _ _ _ _ _ _ _ _ => False) (fun r_22 => dSt_lacksD_22b N bc bs Q b r_22)
theorem dSt_lacksD_22_v {l : Launch} {g : cx_G} {X : cx_X} {N : dNx} {bc bs : Nat} {Q : cd_Qt} {b : Nat} (H : dX l g N.2 N.1) (hX : X.2.2.2.2.2.2.1.name = "lacks") (hb : ∀ (L : dL) (P : dP), cSt_H (dG g L P) N.2 b) : ∀ (f : Nat) (M : cx_M) (P : dP) (L : dL) (k n : Nat) (x1 : Nat) (x2 : Int32) (x3 : Int32), (k ≤ bc ∧ n ≤ bs) → dSt_lacksD_22 N bc bs Q b f M P L k n x1 x2 x3 → cq_V l (dG g L P) X (esX6_lacksD bc bs) cX6_lacks 22 [(0, .ref (N.2 b)), (1, .ref x1), (2, .int x2), (3, .int x3)] [] M k n (cd_fin g X (esX6_lacksD bc bs) cd_rA Q) :=
  cx_fixI (fun (r : cx_M → dP → dL → Nat → Nat → Nat → Int32 → Int32 → Prop) => ∀ (M : cx_M) (P : dP) (L : dL) (k n : Nat) (x1 : Nat) (x2 : Int32) (x3 : Int32), (k ≤ bc ∧ n ≤ bs) → r M P L k n x1 x2 x3 → cq_V l (dG g L P) X (esX6_lacksD bc bs) cX6_lacks 22 [(0, .ref (N.2 b)), (1, .ref x1), (2, .int x2), (3, .int x3)] [] M k n (cd_fin g X (esX6_lacksD bc bs) cd_rA Q)) (fun _ _ _ _ _ _ _ _ _ h => by cases h) (fun r hr M P L k n x1 x2 x3 hk h => dSt_lacksD_22b_v H hX hb hr M P L k n x1 x2 x3 hk h)
def dSt_lacksD_0 (N : dNx) (bc bs : Nat) (Q : cd_Qt) (b : Nat) (M : cx_M) (P : dP) (L : dL) (k n : Nat) : Prop :=
  cd_new bc bs k n 3 (0, 21, 0) M P L fun a1 M2 P3 L4 k5 n6 =>
  jBd_initD N.1.1 (bc - k5) (bs - n6) M2 P3 L4 a1 128 (fun M7 P8 L9 v10 r11 e9 k12 n13 => e9 = 0 → cd_add k5 k12 n6 n13 fun k14 n15 =>
  cq_get M7 b 6 fun v16 =>
  cq_cal (cSt_kept N.1 b M7 v16) fun M17 v18 =>
  dSt_lacksD_22 N bc bs Q b N.1.1 M17 P8 L9 k14 n15 a1 v18 0)
set_option maxRecDepth 100000 in
theorem dSt_lacksD_0_v {l : Launch} {g : cx_G} {X : cx_X} {N : dNx} {bc bs : Nat} {Q : cd_Qt} {b : Nat} (H : dX l g N.2 N.1) (hX : X.2.2.2.2.2.2.1.name = "lacks") (hb : ∀ (L : dL) (P : dP), cSt_H (dG g L P) N.2 b) (M : cx_M) (P : dP) (L : dL) (k n : Nat) (hk : k ≤ bc ∧ n ≤ bs) (h : dSt_lacksD_0 N bc bs Q b M P L k n) : cq_V l (dG g L P) X (esX6_lacksD bc bs) cX6_lacks 0 [(0, .ref (N.2 b))] [] M k n (cd_fin g X (esX6_lacksD bc bs) cd_rA Q) := by
  unfold dSt_lacksD_0 at h
  refine cd_newO H.1.1.1.1 h ⟨rfl, rfl⟩ dCl_J19 dDf_J19 q624 q625 q142 dX6_lacks_0 (fun a1 M2 P3 L4 k5 n6 h hk => ?_)
  refine cq_dup dX6_lacks_3 rfl ?_
  refine cq_sipush 128 dX6_lacks_4 cx_sp_128 ?_
  refine cd_cI [.int 128] [.ref a1] (jBd_initD_m H.1.1.1 (N := N.1.1) (bc := bc - k5) (bs := bs - n6) M2 P3 L4 a1 128 h) dX6_lacks_7 gd_X6_35D rfl q142 q626 q627 rfl hgd_X6_35D ⟨cx_le rfl, cx_le rfl⟩ (cd_bud hk) rfl (cx_le rfl) (fun M7 P8 L9 v10 r11 k12 n13 hk2 h => ?_)
  refine cd_addI (h rfl) (cd_bk hk hk2) (fun k14 n15 h hk => ?_)
  refine cq_astore_n [(1, .ref a1), (0, .ref (N.2 b))] dX6_lacks_10 (cx_lt rfl) rfl ?_
  refine cq_aload_n 1 dX6_lacks_11 rfl ?_
  refine cq_aload_n 1 dX6_lacks_12 rfl ?_
  refine cq_getI h (cSt_F6 (hb L9 P8)) q660 dX6_lacks_13 (fun v16 h => ?_)
  refine cq_cVi [.int v16] [] h (fun rs' h' => cSt_kept_m (g := dG g L9 P8) (N := N.1) (H.2.1 L9 P8) (hb L9 P8) M7 v16 rs' h') (cSt_rc (hb L9 P8)) dX6_lacks_16 g_X6_295 hg_X6_295 ⟨cx_le rfl, cx_le rfl⟩ rfl ⟨rfl, rfl⟩ hk rfl (cx_le rfl) (fun M17 v18 h => ?_)
  refine cq_istore_n [(2, .int v18), (1, .ref a1), (0, .ref (N.2 b))] dX6_lacks_19 (cx_lt rfl) rfl ?_
  refine cq_iconst 0 dX6_lacks_20 cx_ic_0 ?_
  refine cq_istore_n [(3, .int 0), (2, .int v18), (1, .ref a1), (0, .ref (N.2 b))] dX6_lacks_21 (cx_lt rfl) rfl ?_
  refine cq_sub (lv' := [(0, .ref (N.2 b)), (1, .ref a1), (2, .int v18), (3, .int 0)]) [3, 2, 1, 0] rfl ?_
  exact dSt_lacksD_22_v H hX hb N.1.1 M17 P8 L9 k14 n15 a1 v18 0 hk h
def dSt_lacksD (N : dNx) (bc bs : Nat) (M : cx_M) (P : dP) (L : dL) (b : Nat) (Q : cd_Qt) : Prop := dSt_lacksD_0 N bc bs Q b M P L 0 0
set_option maxRecDepth 100000 in
theorem dSt_lacksD_m {l : Launch} {g : cx_G} {N : dNx} {bc bs : Nat} {Q : cd_Qt} (H : dX l g N.2 N.1) (M : cx_M) (P : dP) (L : dL) (b : Nat) (hb : ∀ (L : dL) (P : dP), cSt_H (dG g L P) N.2 b) (h : dSt_lacksD N bc bs M P L b Q) : cd_Met l g yX6_lacks cX6_lacks (esX6_lacksD bc bs) cd_rA [.ref (N.2 b)] M P L Q :=
  cd_met (by decide +kernel) rfl rfl (lv := [(0, .ref (N.2 b))]) rfl (cx_le rfl) (fun X hX => cq_sub (lv' := [(0, .ref (N.2 b))]) [0] rfl (dSt_lacksD_0_v H hX hb M P L 0 0 ⟨Nat.zero_le _, Nat.zero_le _⟩ h))

abbrev esX1_sampleD (bc bs : Nat) : cx_S := (2, RX1, cx_rI, { frames := 7, cells := bc, slots := bs, locals := 110 }, some .int, true)
def dCc_sampleD_27 (N : dNx) (bc bs : Nat) (Q : cd_Qt) (M : cx_M) (P : dP) (L : dL) (k n : Nat) (x1 : Int32) (z0 : Int32) : Prop :=
  cd_thr 1  (bc - k) (bs - n) M P L z0 (fun M1 P2 L3 v4 r5 e9 k6 n7 => (e9 ≠ 0 → Q M1 P2 L3 v4 none e9 (k + k6) (n + n7)) ∧ (e9 = 0 → cd_add k k6 n n7 fun k8 n9 =>
  cq_cal (cSt_sampleAt N.1 1000 M1 x1) fun M10 v11 =>
  Q M10 P2 L3 v11 none 0 k8 n9))
set_option maxRecDepth 100000 in
theorem dCc_sampleD_27_v {l : Launch} {g : cx_G} {X : cx_X} {N : dNx} {bc bs : Nat} {Q : cd_Qt} (H : dX l g N.2 N.1) (hX : True) (M : cx_M) (P : dP) (L : dL) (k n : Nat) (x1 : Int32) (z0 : Int32) (hk : k ≤ bc ∧ n ≤ bs) (h : dCc_sampleD_27 N bc bs Q M P L k n x1 z0) : cq_V l (dG g L P) X (esX1_sampleD bc bs) cX1_sample 27 [(0, .ref (N.2 500)), (1, .int x1)] [.int z0] M k n (cd_finX g X (esX1_sampleD bc bs) cd_rI Q) := by
  unfold dCc_sampleD_27 at h
  refine cd_xS [.int z0] [] (cc_there_m H.1.2.1 (bc := bc - k) (bs := bs - n) M P L z0 h) dX1_sample_27 gd_X1_184 hgd_X1_184 ⟨cx_le rfl, cx_le rfl⟩ (cd_bud hk) rfl (cx_le rfl) rfl (fun _ _ _ _ _ _ _ he h => h.1 he) (fun M1 P2 L3 v4 r5 k6 n7 hk2 h => ?_)
  refine cd_addI (h.2 rfl) (cd_bk hk hk2) (fun k8 n9 h hk => ?_)
  refine cq_aload_n 0 dX1_sample_30 rfl ?_
  refine cq_getR (cCc_R3 (H.2.1 L3 P2)) q1020 dX1_sample_31 ?_
  refine cq_iload_n 1 dX1_sample_34 rfl ?_
  refine cq_cVi [.int x1] [] h (fun rs' h' => cSt_sampleAt_m (g := dG g L3 P2) (N := N.1) (H.2.1 L3 P2) (cSt_i1000 (H.2.1 L3 P2)) M1 x1 rs' h') (cSt_rc (cSt_i1000 (H.2.1 L3 P2))) dX1_sample_35 g_X1_357 hg_X1_357 ⟨cx_le rfl, cx_le rfl⟩ rfl ⟨rfl, rfl⟩ hk rfl (cx_le rfl) (fun M10 v11 h => ?_)
  exact cd_toX (cd_iret hk h rfl dX1_sample_38)
def dCc_sampleD_26 (N : dNx) (bc bs : Nat) (Q : cd_Qt) (M : cx_M) (P : dP) (L : dL) (k n : Nat) (x1 : Int32) : Prop :=
  dCc_sampleD_27 N bc bs Q M P L k n x1 0
set_option maxRecDepth 100000 in
theorem dCc_sampleD_26_v {l : Launch} {g : cx_G} {X : cx_X} {N : dNx} {bc bs : Nat} {Q : cd_Qt} (H : dX l g N.2 N.1) (hX : True) (M : cx_M) (P : dP) (L : dL) (k n : Nat) (x1 : Int32) (hk : k ≤ bc ∧ n ≤ bs) (h : dCc_sampleD_26 N bc bs Q M P L k n x1) : cq_V l (dG g L P) X (esX1_sampleD bc bs) cX1_sample 26 [(0, .ref (N.2 500)), (1, .int x1)] [] M k n (cd_finX g X (esX1_sampleD bc bs) cd_rI Q) := by
  unfold dCc_sampleD_26 at h
  refine cq_iconst 0 dX1_sample_26 cx_ic_0 ?_
  exact dCc_sampleD_27_v H hX M P L k n x1 0 hk h
def dCc_sampleD_0 (N : dNx) (bc bs : Nat) (Q : cd_Qt) (M : cx_M) (P : dP) (L : dL) (k n : Nat) (x1 : Int32) : Prop :=
  if x1 < 0 then (
    dCc_sampleD_26 N bc bs Q M P L k n x1)
  else (
    cq_get M 1000 24 fun v1 =>
    cq_cal (cSt_kept N.1 1000 M v1) fun M2 v3 =>
    if v3 ≤ x1 then (
      dCc_sampleD_26 N bc bs Q M2 P L k n x1)
    else (
      dCc_sampleD_27 N bc bs Q M2 P L k n x1 1))
set_option maxRecDepth 100000 in
theorem dCc_sampleD_0_v {l : Launch} {g : cx_G} {X : cx_X} {N : dNx} {bc bs : Nat} {Q : cd_Qt} (H : dX l g N.2 N.1) (hX : True) (M : cx_M) (P : dP) (L : dL) (k n : Nat) (x1 : Int32) (hk : k ≤ bc ∧ n ≤ bs) (h : dCc_sampleD_0 N bc bs Q M P L k n x1) : cq_V l (dG g L P) X (esX1_sampleD bc bs) cX1_sample 0 [(0, .ref (N.2 500)), (1, .int x1)] [] M k n (cd_finX g X (esX1_sampleD bc bs) cd_rI Q) := by
  unfold dCc_sampleD_0 at h
  refine cq_iload_n 1 dX1_sample_0 rfl ?_
  refine cq_if_lt 26 h dX1_sample_1 rfl (fun h => ?_) (fun h => ?_)
  · exact dCc_sampleD_26_v H hX M P L k n x1 hk h
  · refine cq_iload_n 1 dX1_sample_4 rfl ?_
    refine cq_aload_n 0 dX1_sample_5 rfl ?_
    refine cq_getR (cCc_R3 (H.2.1 L P)) q1020 dX1_sample_6 ?_
    refine cq_aload_n 0 dX1_sample_9 rfl ?_
    refine cq_getR (cCc_R3 (H.2.1 L P)) q1020 dX1_sample_10 ?_
    refine cq_getIN h (cSt_F24 (cSt_i1000 (H.2.1 L P))) q692 dX1_sample_13 (fun v1 h => ?_)
    refine cq_cVi [.int v1] [.int x1] h (fun rs' h' => cSt_kept_m (g := dG g L P) (N := N.1) (H.2.1 L P) (cSt_i1000 (H.2.1 L P)) M v1 rs' h') (cSt_rc (cSt_i1000 (H.2.1 L P))) dX1_sample_16 g_X1_240 hg_X1_240 ⟨cx_le rfl, cx_le rfl⟩ rfl ⟨rfl, rfl⟩ hk rfl (cx_le rfl) (fun M2 v3 h => ?_)
    refine cq_icmp_ge 26 h dX1_sample_19 rfl (fun h => ?_) (fun h => ?_)
    · exact dCc_sampleD_26_v H hX M2 P L k n x1 hk h
    · refine cq_iconst 1 dX1_sample_22 cx_ic_1 ?_
      refine cq_goto 27 dX1_sample_23 rfl ?_
      exact dCc_sampleD_27_v H hX M2 P L k n x1 1 hk h
def dCc_sampleD (N : dNx) (bc bs : Nat) (M : cx_M) (P : dP) (L : dL) (x1 : Int32) (Q : cd_Qt) : Prop := dCc_sampleD_0 N bc bs Q M P L 0 0 x1
set_option maxRecDepth 100000 in
theorem dCc_sampleD_m {l : Launch} {g : cx_G} {N : dNx} {bc bs : Nat} {Q : cd_Qt} (H : dX l g N.2 N.1) (M : cx_M) (P : dP) (L : dL) (x1 : Int32) (h : dCc_sampleD N bc bs M P L x1 Q) : cd_MetX l g yX1_sample cX1_sample (esX1_sampleD bc bs) cd_rI [.ref (N.2 500), .int x1] M P L Q :=
  cd_metX (by decide +kernel) rfl rfl (lv := [(0, .ref (N.2 500)), (1, .int x1)]) rfl (cx_le rfl) (fun X hX => cq_sub (lv' := [(0, .ref (N.2 500)), (1, .int x1)]) [0, 1] rfl (dCc_sampleD_0_v H hX M P L 0 0 x1 ⟨Nat.zero_le _, Nat.zero_le _⟩ h))

abbrev esX1_flyingD (bc bs : Nat) : cx_S := (3, RX1, cx_rI, { frames := 7, cells := bc, slots := bs, locals := 110 }, some .int, true)
def dCc_flyingD_29 (N : dNx) (bc bs : Nat) (Q : cd_Qt) (M : cx_M) (P : dP) (L : dL) (k n : Nat) (x1 : Int32) (x2 : Int32) (z0 : Int32) : Prop :=
  cd_thr 1  (bc - k) (bs - n) M P L z0 (fun M1 P2 L3 v4 r5 e9 k6 n7 => (e9 ≠ 0 → Q M1 P2 L3 v4 none e9 (k + k6) (n + n7)) ∧ (e9 = 0 → cd_add k k6 n n7 fun k8 n9 =>
  if x2 = 0 then (
    cq_ld M1 1035 40 x1 fun v12 =>
    Q M1 P2 L3 v12 none 0 k8 n9)
  else (
    if x2 = 1 then (
      cq_ld M1 1036 40 x1 fun v11 =>
      Q M1 P2 L3 v11 none 0 k8 n9)
    else (
      cq_ld M1 1037 40 x1 fun v10 =>
      Q M1 P2 L3 v10 none 0 k8 n9))))
set_option maxRecDepth 100000 in
theorem dCc_flyingD_29_v {l : Launch} {g : cx_G} {X : cx_X} {N : dNx} {bc bs : Nat} {Q : cd_Qt} (H : dX l g N.2 N.1) (hX : True) (M : cx_M) (P : dP) (L : dL) (k n : Nat) (x1 : Int32) (x2 : Int32) (z0 : Int32) (hk : k ≤ bc ∧ n ≤ bs) (h : dCc_flyingD_29 N bc bs Q M P L k n x1 x2 z0) : cq_V l (dG g L P) X (esX1_flyingD bc bs) cX1_flying 29 [(0, .ref (N.2 500)), (1, .int x1), (2, .int x2)] [.int z0] M k n (cd_finX g X (esX1_flyingD bc bs) cd_rI Q) := by
  unfold dCc_flyingD_29 at h
  refine cd_xS [.int z0] [] (cc_there_m H.1.2.1 (bc := bc - k) (bs := bs - n) M P L z0 h) dX1_flying_29 gd_X1_184 hgd_X1_184 ⟨cx_le rfl, cx_le rfl⟩ (cd_bud hk) rfl (cx_le rfl) rfl (fun _ _ _ _ _ _ _ he h => h.1 he) (fun M1 P2 L3 v4 r5 k6 n7 hk2 h => ?_)
  refine cd_addI (h.2 rfl) (cd_bk hk hk2) (fun k8 n9 h hk => ?_)
  refine cq_iload_n 2 dX1_flying_32 rfl ?_
  refine cq_if_ne 48 h dX1_flying_33 rfl (fun h => ?_) (fun h => ?_)
  · refine cq_iload_n 2 dX1_flying_48 rfl ?_
    refine cq_iconst 1 dX1_flying_49 cx_ic_1 ?_
    refine cq_icmp_ne 65 h dX1_flying_50 rfl (fun h => ?_) (fun h => ?_)
    · refine cq_aload_n 0 dX1_flying_65 rfl ?_
      refine cq_getR (cCc_R3 (H.2.1 L3 P2)) q1020 dX1_flying_66 ?_
      refine cq_getRN (cSt_R36 (cSt_i1000 (H.2.1 L3 P2))) q715 dX1_flying_69 ?_
      refine cq_iload_n 1 dX1_flying_72 rfl ?_
      refine cq_ldI h (cSt_A36 (cSt_i1000 (H.2.1 L3 P2))) dX1_flying_73 (fun v10 h => ?_)
      exact cd_toX (cd_iret hk h rfl dX1_flying_74)
    · refine cq_aload_n 0 dX1_flying_53 rfl ?_
      refine cq_getR (cCc_R3 (H.2.1 L3 P2)) q1020 dX1_flying_54 ?_
      refine cq_getRN (cSt_R35 (cSt_i1000 (H.2.1 L3 P2))) q713 dX1_flying_57 ?_
      refine cq_iload_n 1 dX1_flying_60 rfl ?_
      refine cq_ldI h (cSt_A35 (cSt_i1000 (H.2.1 L3 P2))) dX1_flying_61 (fun v11 h => ?_)
      refine cq_goto 74 dX1_flying_62 rfl ?_
      exact cd_toX (cd_iret hk h rfl dX1_flying_74)
  · refine cq_aload_n 0 dX1_flying_36 rfl ?_
    refine cq_getR (cCc_R3 (H.2.1 L3 P2)) q1020 dX1_flying_37 ?_
    refine cq_getRN (cSt_R34 (cSt_i1000 (H.2.1 L3 P2))) q711 dX1_flying_40 ?_
    refine cq_iload_n 1 dX1_flying_43 rfl ?_
    refine cq_ldI h (cSt_A34 (cSt_i1000 (H.2.1 L3 P2))) dX1_flying_44 (fun v12 h => ?_)
    refine cq_goto 74 dX1_flying_45 rfl ?_
    exact cd_toX (cd_iret hk h rfl dX1_flying_74)
def dCc_flyingD_28 (N : dNx) (bc bs : Nat) (Q : cd_Qt) (M : cx_M) (P : dP) (L : dL) (k n : Nat) (x1 : Int32) (x2 : Int32) : Prop :=
  dCc_flyingD_29 N bc bs Q M P L k n x1 x2 0
set_option maxRecDepth 100000 in
theorem dCc_flyingD_28_v {l : Launch} {g : cx_G} {X : cx_X} {N : dNx} {bc bs : Nat} {Q : cd_Qt} (H : dX l g N.2 N.1) (hX : True) (M : cx_M) (P : dP) (L : dL) (k n : Nat) (x1 : Int32) (x2 : Int32) (hk : k ≤ bc ∧ n ≤ bs) (h : dCc_flyingD_28 N bc bs Q M P L k n x1 x2) : cq_V l (dG g L P) X (esX1_flyingD bc bs) cX1_flying 28 [(0, .ref (N.2 500)), (1, .int x1), (2, .int x2)] [] M k n (cd_finX g X (esX1_flyingD bc bs) cd_rI Q) := by
  unfold dCc_flyingD_28 at h
  refine cq_iconst 0 dX1_flying_28 cx_ic_0 ?_
  exact dCc_flyingD_29_v H hX M P L k n x1 x2 0 hk h
def dCc_flyingD_0 (N : dNx) (bc bs : Nat) (Q : cd_Qt) (M : cx_M) (P : dP) (L : dL) (k n : Nat) (x1 : Int32) (x2 : Int32) : Prop :=
  if x1 < 0 then (
    dCc_flyingD_28 N bc bs Q M P L k n x1 x2)
  else (
    cq_get M 1000 33 fun v1 =>
    if v1 ≤ x1 then (
      dCc_flyingD_28 N bc bs Q M P L k n x1 x2)
    else (
      cq_cal (cCc_within N.1 M x2 0 2) fun M2 v3 =>
      if v3 = 0 then (
        dCc_flyingD_28 N bc bs Q M2 P L k n x1 x2)
      else (
        dCc_flyingD_29 N bc bs Q M2 P L k n x1 x2 1)))
set_option maxRecDepth 100000 in
theorem dCc_flyingD_0_v {l : Launch} {g : cx_G} {X : cx_X} {N : dNx} {bc bs : Nat} {Q : cd_Qt} (H : dX l g N.2 N.1) (hX : True) (M : cx_M) (P : dP) (L : dL) (k n : Nat) (x1 : Int32) (x2 : Int32) (hk : k ≤ bc ∧ n ≤ bs) (h : dCc_flyingD_0 N bc bs Q M P L k n x1 x2) : cq_V l (dG g L P) X (esX1_flyingD bc bs) cX1_flying 0 [(0, .ref (N.2 500)), (1, .int x1), (2, .int x2)] [] M k n (cd_finX g X (esX1_flyingD bc bs) cd_rI Q) := by
  unfold dCc_flyingD_0 at h
  refine cq_iload_n 1 dX1_flying_0 rfl ?_
  refine cq_if_lt 28 h dX1_flying_1 rfl (fun h => ?_) (fun h => ?_)
  · exact dCc_flyingD_28_v H hX M P L k n x1 x2 hk h
  · refine cq_iload_n 1 dX1_flying_4 rfl ?_
    refine cq_aload_n 0 dX1_flying_5 rfl ?_
    refine cq_getR (cCc_R3 (H.2.1 L P)) q1020 dX1_flying_6 ?_
    refine cq_getIN h (cSt_F33 (cSt_i1000 (H.2.1 L P))) q709 dX1_flying_9 (fun v1 h => ?_)
    refine cq_icmp_ge 28 h dX1_flying_12 rfl (fun h => ?_) (fun h => ?_)
    · exact dCc_flyingD_28_v H hX M P L k n x1 x2 hk h
    · refine cq_iload_n 2 dX1_flying_15 rfl ?_
      refine cq_iconst 0 dX1_flying_16 cx_ic_0 ?_
      refine cq_iconst 2 dX1_flying_17 cx_ic_2 ?_
      refine cq_cSi [.int x2, .int 0, .int 2] [] h (fun rs' h' => cCc_within_m (g := dG g L P) (N := N.1) (H.2.1 L P) M x2 0 2 rs' h') dX1_flying_18 g_X1_180 hg_X1_180 ⟨cx_le rfl, cx_le rfl⟩ rfl ⟨rfl, rfl⟩ hk rfl (cx_le rfl) (fun M2 v3 h => ?_)
      refine cq_if_eq 28 h dX1_flying_21 rfl (fun h => ?_) (fun h => ?_)
      · exact dCc_flyingD_28_v H hX M2 P L k n x1 x2 hk h
      · refine cq_iconst 1 dX1_flying_24 cx_ic_1 ?_
        refine cq_goto 29 dX1_flying_25 rfl ?_
        exact dCc_flyingD_29_v H hX M2 P L k n x1 x2 1 hk h
def dCc_flyingD (N : dNx) (bc bs : Nat) (M : cx_M) (P : dP) (L : dL) (x1 : Int32) (x2 : Int32) (Q : cd_Qt) : Prop := dCc_flyingD_0 N bc bs Q M P L 0 0 x1 x2
set_option maxRecDepth 100000 in
theorem dCc_flyingD_m {l : Launch} {g : cx_G} {N : dNx} {bc bs : Nat} {Q : cd_Qt} (H : dX l g N.2 N.1) (M : cx_M) (P : dP) (L : dL) (x1 : Int32) (x2 : Int32) (h : dCc_flyingD N bc bs M P L x1 x2 Q) : cd_MetX l g yX1_flying cX1_flying (esX1_flyingD bc bs) cd_rI [.ref (N.2 500), .int x1, .int x2] M P L Q :=
  cd_metX (by decide +kernel) rfl rfl (lv := [(0, .ref (N.2 500)), (1, .int x1), (2, .int x2)]) rfl (cx_le rfl) (fun X hX => cq_sub (lv' := [(0, .ref (N.2 500)), (1, .int x1), (2, .int x2)]) [0, 1, 2] rfl (dCc_flyingD_0_v H hX M P L 0 0 x1 x2 ⟨Nat.zero_le _, Nat.zero_le _⟩ h))

abbrev esX1_slotD (bc bs : Nat) : cx_S := (2, RX1, cx_rI, { frames := 7, cells := bc, slots := bs, locals := 110 }, some .int, true)
def dCc_slotD_0 (N : dNx) (bc bs : Nat) (Q : cd_Qt) (M : cx_M) (P : dP) (L : dL) (k n : Nat) (x1 : Int32) : Prop :=
  cq_cal (cCc_within N.1 M x1 0 63) fun M1 v2 =>
  cd_thr 1  (bc - k) (bs - n) M1 P L v2 (fun M3 P4 L5 v6 r7 e9 k8 n9 => (e9 ≠ 0 → Q M3 P4 L5 v6 none e9 (k + k8) (n + n9)) ∧ (e9 = 0 → cd_add k k8 n n9 fun k10 n11 =>
  cq_get M3 1000 8 fun v12 =>
  if v12 = 0 then (
    Q M3 P4 L5 (-1) none 0 k10 n11)
  else (
    cq_ld M3 1038 64 x1 fun v13 =>
    cq_get M3 1000 14 fun v14 =>
    cq_get M3 8000 0 fun v15 =>
    cq_nz v15 <|
    if v13 < (v14 / v15) then (
      Q M3 P4 L5 (-1) none 0 k10 n11)
    else (
      cq_ld M3 1039 64 x1 fun v16 =>
      Q M3 P4 L5 v16 none 0 k10 n11))))
set_option maxRecDepth 100000 in
theorem dCc_slotD_0_v {l : Launch} {g : cx_G} {X : cx_X} {N : dNx} {bc bs : Nat} {Q : cd_Qt} (H : dX l g N.2 N.1) (hX : True) (M : cx_M) (P : dP) (L : dL) (k n : Nat) (x1 : Int32) (hk : k ≤ bc ∧ n ≤ bs) (h : dCc_slotD_0 N bc bs Q M P L k n x1) : cq_V l (dG g L P) X (esX1_slotD bc bs) cX1_slot 0 [(0, .ref (N.2 500)), (1, .int x1)] [] M k n (cd_finX g X (esX1_slotD bc bs) cd_rI Q) := by
  unfold dCc_slotD_0 at h
  refine cq_iload_n 1 dX1_slot_0 rfl ?_
  refine cq_iconst 0 dX1_slot_1 cx_ic_0 ?_
  refine cq_bipush 63 dX1_slot_2 cx_bp_63 ?_
  refine cq_cSi [.int x1, .int 0, .int 63] [] h (fun rs' h' => cCc_within_m (g := dG g L P) (N := N.1) (H.2.1 L P) M x1 0 63 rs' h') dX1_slot_4 g_X1_180 hg_X1_180 ⟨cx_le rfl, cx_le rfl⟩ rfl ⟨rfl, rfl⟩ hk rfl (cx_le rfl) (fun M1 v2 h => ?_)
  refine cd_xS [.int v2] [] (cc_there_m H.1.2.1 (bc := bc - k) (bs := bs - n) M1 P L v2 h) dX1_slot_7 gd_X1_184 hgd_X1_184 ⟨cx_le rfl, cx_le rfl⟩ (cd_bud hk) rfl (cx_le rfl) rfl (fun _ _ _ _ _ _ _ he h => h.1 he) (fun M3 P4 L5 v6 r7 k8 n9 hk2 h => ?_)
  refine cd_addI (h.2 rfl) (cd_bk hk hk2) (fun k10 n11 h hk => ?_)
  refine cq_aload_n 0 dX1_slot_10 rfl ?_
  refine cq_getR (cCc_R3 (H.2.1 L5 P4)) q1020 dX1_slot_11 ?_
  refine cq_getIN h (cSt_F8 (cSt_i1000 (H.2.1 L5 P4))) q665 dX1_slot_14 (fun v12 h => ?_)
  refine cq_if_eq 59 h dX1_slot_17 rfl (fun h => ?_) (fun h => ?_)
  · refine cq_iconst (-1) dX1_slot_59 cx_ic_m1 ?_
    exact cd_toX (cd_iret hk h rfl dX1_slot_60)
  · refine cq_aload_n 0 dX1_slot_20 rfl ?_
    refine cq_getR (cCc_R3 (H.2.1 L5 P4)) q1020 dX1_slot_21 ?_
    refine cq_getRN (cSt_R37 (cSt_i1000 (H.2.1 L5 P4))) q717 dX1_slot_24 ?_
    refine cq_iload_n 1 dX1_slot_27 rfl ?_
    refine cq_ldI h (cSt_A37 (cSt_i1000 (H.2.1 L5 P4))) dX1_slot_28 (fun v13 h => ?_)
    refine cq_aload_n 0 dX1_slot_29 rfl ?_
    refine cq_getR (cCc_R3 (H.2.1 L5 P4)) q1020 dX1_slot_30 ?_
    refine cq_getIN h (cSt_F14 (cSt_i1000 (H.2.1 L5 P4))) q677 dX1_slot_33 (fun v14 h => ?_)
    refine cq_aload_n 0 dX1_slot_36 rfl ?_
    refine cq_getR (cCc_R0 (H.2.1 L5 P4)) q1017 dX1_slot_37 ?_
    refine cq_getIN h (cLn_F0 (H.2.1 L5 P4)) q560 dX1_slot_40 (fun v15 h => ?_)
    refine cq_idiv h dX1_slot_43 (fun h => ?_)
    refine cq_icmp_lt 59 h dX1_slot_44 rfl (fun h => ?_) (fun h => ?_)
    · refine cq_iconst (-1) dX1_slot_59 cx_ic_m1 ?_
      exact cd_toX (cd_iret hk h rfl dX1_slot_60)
    · refine cq_aload_n 0 dX1_slot_47 rfl ?_
      refine cq_getR (cCc_R3 (H.2.1 L5 P4)) q1020 dX1_slot_48 ?_
      refine cq_getRN (cSt_R38 (cSt_i1000 (H.2.1 L5 P4))) q719 dX1_slot_51 ?_
      refine cq_iload_n 1 dX1_slot_54 rfl ?_
      refine cq_ldI h (cSt_A38 (cSt_i1000 (H.2.1 L5 P4))) dX1_slot_55 (fun v16 h => ?_)
      refine cq_goto 60 dX1_slot_56 rfl ?_
      exact cd_toX (cd_iret hk h rfl dX1_slot_60)
def dCc_slotD (N : dNx) (bc bs : Nat) (M : cx_M) (P : dP) (L : dL) (x1 : Int32) (Q : cd_Qt) : Prop := dCc_slotD_0 N bc bs Q M P L 0 0 x1
set_option maxRecDepth 100000 in
theorem dCc_slotD_m {l : Launch} {g : cx_G} {N : dNx} {bc bs : Nat} {Q : cd_Qt} (H : dX l g N.2 N.1) (M : cx_M) (P : dP) (L : dL) (x1 : Int32) (h : dCc_slotD N bc bs M P L x1 Q) : cd_MetX l g yX1_slot cX1_slot (esX1_slotD bc bs) cd_rI [.ref (N.2 500), .int x1] M P L Q :=
  cd_metX (by decide +kernel) rfl rfl (lv := [(0, .ref (N.2 500)), (1, .int x1)]) rfl (cx_le rfl) (fun X hX => cq_sub (lv' := [(0, .ref (N.2 500)), (1, .int x1)]) [0, 1] rfl (dCc_slotD_0_v H hX M P L 0 0 x1 ⟨Nat.zero_le _, Nat.zero_le _⟩ h))

abbrev esX1_countD (bc bs : Nat) : cx_S := (2, RX1, cx_rI, { frames := 7, cells := bc, slots := bs, locals := 110 }, some .int, true)
def dCc_countD_0 (N : dNx) (bc bs : Nat) (Q : cd_Qt) (M : cx_M) (P : dP) (L : dL) (k n : Nat) (x1 : Int32) : Prop :=
  cq_cal (cCc_within N.1 M x1 0 22) fun M1 v2 =>
  cd_thr 1  (bc - k) (bs - n) M1 P L v2 (fun M3 P4 L5 v6 r7 e9 k8 n9 => (e9 ≠ 0 → Q M3 P4 L5 v6 none e9 (k + k8) (n + n9)) ∧ (e9 = 0 → cd_add k k8 n n9 fun k10 n11 =>
  cq_sw x1 0 [
      (cq_get M3 1000 0 fun v13 =>
      Q M3 P4 L5 v13 none 0 k10 n11),
      (cq_get M3 1000 1 fun v14 =>
      Q M3 P4 L5 v14 none 0 k10 n11),
      (cq_get M3 1000 2 fun v15 =>
      Q M3 P4 L5 v15 none 0 k10 n11),
      (cq_get M3 1000 3 fun v16 =>
      Q M3 P4 L5 v16 none 0 k10 n11),
      (cq_get M3 1000 33 fun v17 =>
      Q M3 P4 L5 v17 none 0 k10 n11),
      (cq_get M3 1000 4 fun v18 =>
      Q M3 P4 L5 v18 none 0 k10 n11),
      (cq_get M3 1000 5 fun v19 =>
      Q M3 P4 L5 v19 none 0 k10 n11),
      (cq_get M3 1000 6 fun v20 =>
      Q M3 P4 L5 v20 none 0 k10 n11),
      (cq_get M3 1000 7 fun v21 =>
      Q M3 P4 L5 v21 none 0 k10 n11),
      (cq_cal (cSt_level N.1 1000 M3) fun M22 v23 =>
      Q M22 P4 L5 v23 none 0 k10 n11),
      (cq_get M3 1000 8 fun v24 =>
      Q M3 P4 L5 v24 none 0 k10 n11),
      (cq_get M3 1000 12 fun v25 =>
      Q M3 P4 L5 v25 none 0 k10 n11),
      (cq_get M3 1000 11 fun v26 =>
      Q M3 P4 L5 v26 none 0 k10 n11),
      (cq_get M3 8000 0 fun v27 =>
      cq_cal (cCc_regained N.1 1000 M3 v27) fun M28 v29 =>
      Q M28 P4 L5 v29 none 0 k10 n11),
      (cq_get M3 1000 22 fun v30 =>
      Q M3 P4 L5 v30 none 0 k10 n11),
      (cq_get M3 1000 23 fun v31 =>
      Q M3 P4 L5 v31 none 0 k10 n11),
      (cq_get M3 1000 24 fun v32 =>
      cq_cal (cSt_kept N.1 1000 M3 v32) fun M33 v34 =>
      Q M33 P4 L5 v34 none 0 k10 n11),
      (cq_get M3 600 5 fun v35 =>
      Q M3 P4 L5 v35 none 0 k10 n11),
      (cq_get M3 600 6 fun v36 =>
      Q M3 P4 L5 v36 none 0 k10 n11),
      (cq_get M3 500 9 fun v37 =>
      Q M3 P4 L5 v37 none 0 k10 n11)
    ] (
      cq_ld M3 605 3 (x1 - 20) fun v12 =>
      Q M3 P4 L5 v12 none 0 k10 n11)))
set_option maxRecDepth 100000 in
theorem dCc_countD_0_v {l : Launch} {g : cx_G} {X : cx_X} {N : dNx} {bc bs : Nat} {Q : cd_Qt} (H : dX l g N.2 N.1) (hX : True) (M : cx_M) (P : dP) (L : dL) (k n : Nat) (x1 : Int32) (hk : k ≤ bc ∧ n ≤ bs) (h : dCc_countD_0 N bc bs Q M P L k n x1) : cq_V l (dG g L P) X (esX1_countD bc bs) cX1_count 0 [(0, .ref (N.2 500)), (1, .int x1)] [] M k n (cd_finX g X (esX1_countD bc bs) cd_rI Q) := by
  unfold dCc_countD_0 at h
  refine cq_iload_n 1 dX1_count_0 rfl ?_
  refine cq_iconst 0 dX1_count_1 cx_ic_0 ?_
  refine cq_bipush 22 dX1_count_2 cx_bp_22 ?_
  refine cq_cSi [.int x1, .int 0, .int 22] [] h (fun rs' h' => cCc_within_m (g := dG g L P) (N := N.1) (H.2.1 L P) M x1 0 22 rs' h') dX1_count_4 g_X1_180 hg_X1_180 ⟨cx_le rfl, cx_le rfl⟩ rfl ⟨rfl, rfl⟩ hk rfl (cx_le rfl) (fun M1 v2 h => ?_)
  refine cd_xS [.int v2] [] (cc_there_m H.1.2.1 (bc := bc - k) (bs := bs - n) M1 P L v2 h) dX1_count_7 gd_X1_184 hgd_X1_184 ⟨cx_le rfl, cx_le rfl⟩ (cd_bud hk) rfl (cx_le rfl) rfl (fun _ _ _ _ _ _ _ he h => h.1 he) (fun M3 P4 L5 v6 r7 k8 n9 hk2 h => ?_)
  refine cd_addI (h.2 rfl) (cd_bk hk hk2) (fun k10 n11 h hk => ?_)
  refine cq_iload_n 1 dX1_count_10 rfl ?_
  refine cq_table 279 [104, 112, 120, 128, 136, 144, 152, 160, 168, 176, 188, 196, 204, 212, 227, 235, 243, 258, 266, 274] 20 h dX1_count_11 (by decide +kernel) rfl rfl rfl (by decide +kernel) (fun h => ?_) (cd_tabC ?_ (cd_tabC ?_ (cd_tabC ?_ (cd_tabC ?_ (cd_tabC ?_ (cd_tabC ?_ (cd_tabC ?_ (cd_tabC ?_ (cd_tabC ?_ (cd_tabC ?_ (cd_tabC ?_ (cd_tabC ?_ (cd_tabC ?_ (cd_tabC ?_ (cd_tabC ?_ (cd_tabC ?_ (cd_tabC ?_ (cd_tabC ?_ (cd_tabC ?_ (cd_tabC ?_ cd_tabN))))))))))))))))))))
  · refine cq_aload_n 0 dX1_count_279 rfl ?_
    refine cq_getR (cCc_R1 (H.2.1 L5 P4)) q1018 dX1_count_280 ?_
    refine cq_getRN (cBk_R4 (cBk_i600 (H.2.1 L5 P4))) q900 dX1_count_283 ?_
    refine cq_iload_n 1 dX1_count_286 rfl ?_
    refine cq_bipush 20 dX1_count_287 cx_bp_20 ?_
    refine cq_isub dX1_count_289 ?_
    refine cq_ldI h (cBk_A4 (cBk_i600 (H.2.1 L5 P4))) dX1_count_290 (fun v12 h => ?_)
    exact cd_toX (cd_iret hk h rfl dX1_count_291)
  · intro h
    refine cq_at (pc2 := 104) rfl ?_
    refine cq_aload_n 0 dX1_count_104 rfl ?_
    refine cq_getR (cCc_R3 (H.2.1 L5 P4)) q1020 dX1_count_105 ?_
    refine cq_getIN h (cSt_F0 (cSt_i1000 (H.2.1 L5 P4))) q649 dX1_count_108 (fun v13 h => ?_)
    exact cd_toX (cd_iret hk h rfl dX1_count_111)
  · intro h
    refine cq_at (pc2 := 112) rfl ?_
    refine cq_aload_n 0 dX1_count_112 rfl ?_
    refine cq_getR (cCc_R3 (H.2.1 L5 P4)) q1020 dX1_count_113 ?_
    refine cq_getIN h (cSt_F1 (cSt_i1000 (H.2.1 L5 P4))) q651 dX1_count_116 (fun v14 h => ?_)
    exact cd_toX (cd_iret hk h rfl dX1_count_119)
  · intro h
    refine cq_at (pc2 := 120) rfl ?_
    refine cq_aload_n 0 dX1_count_120 rfl ?_
    refine cq_getR (cCc_R3 (H.2.1 L5 P4)) q1020 dX1_count_121 ?_
    refine cq_getIN h (cSt_F2 (cSt_i1000 (H.2.1 L5 P4))) q653 dX1_count_124 (fun v15 h => ?_)
    exact cd_toX (cd_iret hk h rfl dX1_count_127)
  · intro h
    refine cq_at (pc2 := 128) rfl ?_
    refine cq_aload_n 0 dX1_count_128 rfl ?_
    refine cq_getR (cCc_R3 (H.2.1 L5 P4)) q1020 dX1_count_129 ?_
    refine cq_getIN h (cSt_F3 (cSt_i1000 (H.2.1 L5 P4))) q655 dX1_count_132 (fun v16 h => ?_)
    exact cd_toX (cd_iret hk h rfl dX1_count_135)
  · intro h
    refine cq_at (pc2 := 136) rfl ?_
    refine cq_aload_n 0 dX1_count_136 rfl ?_
    refine cq_getR (cCc_R3 (H.2.1 L5 P4)) q1020 dX1_count_137 ?_
    refine cq_getIN h (cSt_F33 (cSt_i1000 (H.2.1 L5 P4))) q709 dX1_count_140 (fun v17 h => ?_)
    exact cd_toX (cd_iret hk h rfl dX1_count_143)
  · intro h
    refine cq_at (pc2 := 144) rfl ?_
    refine cq_aload_n 0 dX1_count_144 rfl ?_
    refine cq_getR (cCc_R3 (H.2.1 L5 P4)) q1020 dX1_count_145 ?_
    refine cq_getIN h (cSt_F4 (cSt_i1000 (H.2.1 L5 P4))) q657 dX1_count_148 (fun v18 h => ?_)
    exact cd_toX (cd_iret hk h rfl dX1_count_151)
  · intro h
    refine cq_at (pc2 := 152) rfl ?_
    refine cq_aload_n 0 dX1_count_152 rfl ?_
    refine cq_getR (cCc_R3 (H.2.1 L5 P4)) q1020 dX1_count_153 ?_
    refine cq_getIN h (cSt_F5 (cSt_i1000 (H.2.1 L5 P4))) q659 dX1_count_156 (fun v19 h => ?_)
    exact cd_toX (cd_iret hk h rfl dX1_count_159)
  · intro h
    refine cq_at (pc2 := 160) rfl ?_
    refine cq_aload_n 0 dX1_count_160 rfl ?_
    refine cq_getR (cCc_R3 (H.2.1 L5 P4)) q1020 dX1_count_161 ?_
    refine cq_getIN h (cSt_F6 (cSt_i1000 (H.2.1 L5 P4))) q661 dX1_count_164 (fun v20 h => ?_)
    exact cd_toX (cd_iret hk h rfl dX1_count_167)
  · intro h
    refine cq_at (pc2 := 168) rfl ?_
    refine cq_aload_n 0 dX1_count_168 rfl ?_
    refine cq_getR (cCc_R3 (H.2.1 L5 P4)) q1020 dX1_count_169 ?_
    refine cq_getIN h (cSt_F7 (cSt_i1000 (H.2.1 L5 P4))) q663 dX1_count_172 (fun v21 h => ?_)
    exact cd_toX (cd_iret hk h rfl dX1_count_175)
  · intro h
    refine cq_at (pc2 := 176) rfl ?_
    refine cq_aload_n 0 dX1_count_176 rfl ?_
    refine cq_getR (cCc_R3 (H.2.1 L5 P4)) q1020 dX1_count_177 ?_
    refine cq_aload_n 0 dX1_count_180 rfl ?_
    refine cq_getR (cCc_R0 (H.2.1 L5 P4)) q1017 dX1_count_181 ?_
    refine cq_cVi [.ref (N.2 8000)] [] h (fun rs' h' => cSt_level_m (g := dG g L5 P4) (N := N.1) (H.2.1 L5 P4) (cSt_i1000 (H.2.1 L5 P4)) M3 rs' h') (cSt_rc (cSt_i1000 (H.2.1 L5 P4))) dX1_count_184 g_X1_214 hg_X1_214 ⟨cx_le rfl, cx_le rfl⟩ rfl ⟨rfl, rfl⟩ hk rfl (cx_le rfl) (fun M22 v23 h => ?_)
    exact cd_toX (cd_iret hk h rfl dX1_count_187)
  · intro h
    refine cq_at (pc2 := 188) rfl ?_
    refine cq_aload_n 0 dX1_count_188 rfl ?_
    refine cq_getR (cCc_R3 (H.2.1 L5 P4)) q1020 dX1_count_189 ?_
    refine cq_getIN h (cSt_F8 (cSt_i1000 (H.2.1 L5 P4))) q665 dX1_count_192 (fun v24 h => ?_)
    exact cd_toX (cd_iret hk h rfl dX1_count_195)
  · intro h
    refine cq_at (pc2 := 196) rfl ?_
    refine cq_aload_n 0 dX1_count_196 rfl ?_
    refine cq_getR (cCc_R3 (H.2.1 L5 P4)) q1020 dX1_count_197 ?_
    refine cq_getIN h (cSt_F12 (cSt_i1000 (H.2.1 L5 P4))) q673 dX1_count_200 (fun v25 h => ?_)
    exact cd_toX (cd_iret hk h rfl dX1_count_203)
  · intro h
    refine cq_at (pc2 := 204) rfl ?_
    refine cq_aload_n 0 dX1_count_204 rfl ?_
    refine cq_getR (cCc_R3 (H.2.1 L5 P4)) q1020 dX1_count_205 ?_
    refine cq_getIN h (cSt_F11 (cSt_i1000 (H.2.1 L5 P4))) q671 dX1_count_208 (fun v26 h => ?_)
    exact cd_toX (cd_iret hk h rfl dX1_count_211)
  · intro h
    refine cq_at (pc2 := 212) rfl ?_
    refine cq_aload_n 0 dX1_count_212 rfl ?_
    refine cq_getR (cCc_R3 (H.2.1 L5 P4)) q1020 dX1_count_213 ?_
    refine cq_aload_n 0 dX1_count_216 rfl ?_
    refine cq_getR (cCc_R0 (H.2.1 L5 P4)) q1017 dX1_count_217 ?_
    refine cq_getIN h (cLn_F0 (H.2.1 L5 P4)) q560 dX1_count_220 (fun v27 h => ?_)
    refine cq_cSi [.ref (N.2 1000), .int v27] [] h (fun rs' h' => cCc_regained_m (g := dG g L5 P4) (N := N.1) (H.2.1 L5 P4) (cSt_i1000 (H.2.1 L5 P4)) M3 v27 rs' h') dX1_count_223 g_X1_227 hg_X1_227 ⟨cx_le rfl, cx_le rfl⟩ rfl ⟨rfl, rfl⟩ hk rfl (cx_le rfl) (fun M28 v29 h => ?_)
    exact cd_toX (cd_iret hk h rfl dX1_count_226)
  · intro h
    refine cq_at (pc2 := 227) rfl ?_
    refine cq_aload_n 0 dX1_count_227 rfl ?_
    refine cq_getR (cCc_R3 (H.2.1 L5 P4)) q1020 dX1_count_228 ?_
    refine cq_getIN h (cSt_F22 (cSt_i1000 (H.2.1 L5 P4))) q688 dX1_count_231 (fun v30 h => ?_)
    exact cd_toX (cd_iret hk h rfl dX1_count_234)
  · intro h
    refine cq_at (pc2 := 235) rfl ?_
    refine cq_aload_n 0 dX1_count_235 rfl ?_
    refine cq_getR (cCc_R3 (H.2.1 L5 P4)) q1020 dX1_count_236 ?_
    refine cq_getIN h (cSt_F23 (cSt_i1000 (H.2.1 L5 P4))) q690 dX1_count_239 (fun v31 h => ?_)
    exact cd_toX (cd_iret hk h rfl dX1_count_242)
  · intro h
    refine cq_at (pc2 := 243) rfl ?_
    refine cq_aload_n 0 dX1_count_243 rfl ?_
    refine cq_getR (cCc_R3 (H.2.1 L5 P4)) q1020 dX1_count_244 ?_
    refine cq_aload_n 0 dX1_count_247 rfl ?_
    refine cq_getR (cCc_R3 (H.2.1 L5 P4)) q1020 dX1_count_248 ?_
    refine cq_getIN h (cSt_F24 (cSt_i1000 (H.2.1 L5 P4))) q692 dX1_count_251 (fun v32 h => ?_)
    refine cq_cVi [.int v32] [] h (fun rs' h' => cSt_kept_m (g := dG g L5 P4) (N := N.1) (H.2.1 L5 P4) (cSt_i1000 (H.2.1 L5 P4)) M3 v32 rs' h') (cSt_rc (cSt_i1000 (H.2.1 L5 P4))) dX1_count_254 g_X1_240 hg_X1_240 ⟨cx_le rfl, cx_le rfl⟩ rfl ⟨rfl, rfl⟩ hk rfl (cx_le rfl) (fun M33 v34 h => ?_)
    exact cd_toX (cd_iret hk h rfl dX1_count_257)
  · intro h
    refine cq_at (pc2 := 258) rfl ?_
    refine cq_aload_n 0 dX1_count_258 rfl ?_
    refine cq_getR (cCc_R1 (H.2.1 L5 P4)) q1018 dX1_count_259 ?_
    refine cq_getIN h (cBk_F5 (cBk_i600 (H.2.1 L5 P4))) q902 dX1_count_262 (fun v35 h => ?_)
    exact cd_toX (cd_iret hk h rfl dX1_count_265)
  · intro h
    refine cq_at (pc2 := 266) rfl ?_
    refine cq_aload_n 0 dX1_count_266 rfl ?_
    refine cq_getR (cCc_R1 (H.2.1 L5 P4)) q1018 dX1_count_267 ?_
    refine cq_getIN h (cBk_F6 (cBk_i600 (H.2.1 L5 P4))) q904 dX1_count_270 (fun v36 h => ?_)
    exact cd_toX (cd_iret hk h rfl dX1_count_273)
  · intro h
    refine cq_at (pc2 := 274) rfl ?_
    refine cq_aload_n 0 dX1_count_274 rfl ?_
    refine cq_getI h (cCc_F9 (H.2.1 L5 P4)) q1026 dX1_count_275 (fun v37 h => ?_)
    exact cd_toX (cd_iret hk h rfl dX1_count_278)
def dCc_countD (N : dNx) (bc bs : Nat) (M : cx_M) (P : dP) (L : dL) (x1 : Int32) (Q : cd_Qt) : Prop := dCc_countD_0 N bc bs Q M P L 0 0 x1
set_option maxRecDepth 100000 in
theorem dCc_countD_m {l : Launch} {g : cx_G} {N : dNx} {bc bs : Nat} {Q : cd_Qt} (H : dX l g N.2 N.1) (M : cx_M) (P : dP) (L : dL) (x1 : Int32) (h : dCc_countD N bc bs M P L x1 Q) : cd_MetX l g yX1_count cX1_count (esX1_countD bc bs) cd_rI [.ref (N.2 500), .int x1] M P L Q :=
  cd_metX (by decide +kernel) rfl rfl (lv := [(0, .ref (N.2 500)), (1, .int x1)]) rfl (cx_le rfl) (fun X hX => cq_sub (lv' := [(0, .ref (N.2 500)), (1, .int x1)]) [0, 1] rfl (dCc_countD_0_v H hX M P L 0 0 x1 ⟨Nat.zero_le _, Nat.zero_le _⟩ h))

abbrev esX1_setD (bc bs : Nat) : cx_S := (2, RX1, cx_rI, { frames := 30, cells := bc, slots := bs, locals := 900 }, some .int, true)
def dCc_setD_0 (N : dNx) (bc bs : Nat) (Q : cd_Qt) (M : cx_M) (P : dP) (L : dL) (k n : Nat) (x1 : Int32) : Prop :=
  cq_cal (cCc_within N.1 M x1 0 14) fun M1 v2 =>
  cd_thr 1  (bc - k) (bs - n) M1 P L v2 (fun M3 P4 L5 v6 r7 e9 k8 n9 => (e9 ≠ 0 → Q M3 P4 L5 v6 none e9 (k + k8) (n + n9)) ∧ (e9 = 0 → cd_add k k8 n n9 fun k10 n11 =>
  cq_sw x1 0 [
      (cq_get M3 8000 0 fun v13 =>
      Q M3 P4 L5 v13 none 0 k10 n11),
      (cq_get M3 1000 30 fun v14 =>
      Q M3 P4 L5 v14 none 0 k10 n11),
      (cq_get M3 1000 31 fun v15 =>
      Q M3 P4 L5 v15 none 0 k10 n11),
      (cq_get M3 1000 32 fun v16 =>
      Q M3 P4 L5 v16 none 0 k10 n11),
      (cq_get M3 8000 4 fun v17 =>
      Q M3 P4 L5 v17 none 0 k10 n11),
      (cq_get M3 1000 28 fun v18 =>
      Q M3 P4 L5 v18 none 0 k10 n11),
      (cq_get M3 8000 6 fun v19 =>
      Q M3 P4 L5 v19 none 0 k10 n11),
      (cq_let (cLn_n N.1) fun v20 =>
      Q M3 P4 L5 (cx_max 1 v20) none 0 k10 n11),
      (cq_get M3 1000 29 fun v21 =>
      Q M3 P4 L5 v21 none 0 k10 n11),
      (cq_get M3 1000 26 fun v22 =>
      Q M3 P4 L5 v22 none 0 k10 n11),
      (cq_get M3 1000 27 fun v23 =>
      Q M3 P4 L5 v23 none 0 k10 n11),
      (cq_get M3 1000 9 fun v24 =>
      Q M3 P4 L5 v24 none 0 k10 n11),
      (cq_get M3 1000 10 fun v25 =>
      Q M3 P4 L5 v25 none 0 k10 n11),
      (cq_get M3 1000 14 fun v26 =>
      cq_get M3 8000 0 fun v27 =>
      cq_nz ((64 : Int32) * v27) <|
      Q M3 P4 L5 (cx_rem v26 ((64 : Int32) * v27)) none 0 k10 n11)
    ] (
      cq_get M3 1000 13 fun v12 =>
      Q M3 P4 L5 v12 none 0 k10 n11)))
set_option maxRecDepth 100000 in
theorem dCc_setD_0_v {l : Launch} {g : cx_G} {X : cx_X} {N : dNx} {bc bs : Nat} {Q : cd_Qt} (H : dX l g N.2 N.1) (hX : True) (M : cx_M) (P : dP) (L : dL) (k n : Nat) (x1 : Int32) (hk : k ≤ bc ∧ n ≤ bs) (h : dCc_setD_0 N bc bs Q M P L k n x1) : cq_V l (dG g L P) X (esX1_setD bc bs) cX1_set 0 [(0, .ref (N.2 500)), (1, .int x1)] [] M k n (cd_finX g X (esX1_setD bc bs) cd_rI Q) := by
  unfold dCc_setD_0 at h
  refine cq_iload_n 1 dX1_set_0 rfl ?_
  refine cq_iconst 0 dX1_set_1 cx_ic_0 ?_
  refine cq_bipush 14 dX1_set_2 cx_bp_14 ?_
  refine cq_cSi [.int x1, .int 0, .int 14] [] h (fun rs' h' => cCc_within_m (g := dG g L P) (N := N.1) (H.2.1 L P) M x1 0 14 rs' h') dX1_set_4 g_X1_180 hg_X1_180 ⟨cx_le rfl, cx_le rfl⟩ rfl ⟨rfl, rfl⟩ hk rfl (cx_le rfl) (fun M1 v2 h => ?_)
  refine cd_xS [.int v2] [] (cc_there_m H.1.2.1 (bc := bc - k) (bs := bs - n) M1 P L v2 h) dX1_set_7 gd_X1_184 hgd_X1_184 ⟨cx_le rfl, cx_le rfl⟩ (cd_bud hk) rfl (cx_le rfl) rfl (fun _ _ _ _ _ _ _ he h => h.1 he) (fun M3 P4 L5 v6 r7 k8 n9 hk2 h => ?_)
  refine cd_addI (h.2 rfl) (cd_bk hk hk2) (fun k10 n11 h hk => ?_)
  refine cq_iload_n 1 dX1_set_10 rfl ?_
  refine cq_table 210 [80, 88, 96, 104, 112, 120, 128, 136, 151, 159, 167, 175, 183, 191] 14 h dX1_set_11 (by decide +kernel) rfl rfl rfl (by decide +kernel) (fun h => ?_) (cd_tabC ?_ (cd_tabC ?_ (cd_tabC ?_ (cd_tabC ?_ (cd_tabC ?_ (cd_tabC ?_ (cd_tabC ?_ (cd_tabC ?_ (cd_tabC ?_ (cd_tabC ?_ (cd_tabC ?_ (cd_tabC ?_ (cd_tabC ?_ (cd_tabC ?_ cd_tabN))))))))))))))
  · refine cq_aload_n 0 dX1_set_210 rfl ?_
    refine cq_getR (cCc_R3 (H.2.1 L5 P4)) q1020 dX1_set_211 ?_
    refine cq_getIN h (cSt_F13 (cSt_i1000 (H.2.1 L5 P4))) q675 dX1_set_214 (fun v12 h => ?_)
    exact cd_toX (cd_iret hk h rfl dX1_set_217)
  · intro h
    refine cq_at (pc2 := 80) rfl ?_
    refine cq_aload_n 0 dX1_set_80 rfl ?_
    refine cq_getR (cCc_R0 (H.2.1 L5 P4)) q1017 dX1_set_81 ?_
    refine cq_getIN h (cLn_F0 (H.2.1 L5 P4)) q560 dX1_set_84 (fun v13 h => ?_)
    exact cd_toX (cd_iret hk h rfl dX1_set_87)
  · intro h
    refine cq_at (pc2 := 88) rfl ?_
    refine cq_aload_n 0 dX1_set_88 rfl ?_
    refine cq_getR (cCc_R3 (H.2.1 L5 P4)) q1020 dX1_set_89 ?_
    refine cq_getIN h (cSt_F30 (cSt_i1000 (H.2.1 L5 P4))) q703 dX1_set_92 (fun v14 h => ?_)
    exact cd_toX (cd_iret hk h rfl dX1_set_95)
  · intro h
    refine cq_at (pc2 := 96) rfl ?_
    refine cq_aload_n 0 dX1_set_96 rfl ?_
    refine cq_getR (cCc_R3 (H.2.1 L5 P4)) q1020 dX1_set_97 ?_
    refine cq_getIN h (cSt_F31 (cSt_i1000 (H.2.1 L5 P4))) q705 dX1_set_100 (fun v15 h => ?_)
    exact cd_toX (cd_iret hk h rfl dX1_set_103)
  · intro h
    refine cq_at (pc2 := 104) rfl ?_
    refine cq_aload_n 0 dX1_set_104 rfl ?_
    refine cq_getR (cCc_R3 (H.2.1 L5 P4)) q1020 dX1_set_105 ?_
    refine cq_getIN h (cSt_F32 (cSt_i1000 (H.2.1 L5 P4))) q707 dX1_set_108 (fun v16 h => ?_)
    exact cd_toX (cd_iret hk h rfl dX1_set_111)
  · intro h
    refine cq_at (pc2 := 112) rfl ?_
    refine cq_aload_n 0 dX1_set_112 rfl ?_
    refine cq_getR (cCc_R0 (H.2.1 L5 P4)) q1017 dX1_set_113 ?_
    refine cq_getIN h (cLn_F4 (H.2.1 L5 P4)) q572 dX1_set_116 (fun v17 h => ?_)
    exact cd_toX (cd_iret hk h rfl dX1_set_119)
  · intro h
    refine cq_at (pc2 := 120) rfl ?_
    refine cq_aload_n 0 dX1_set_120 rfl ?_
    refine cq_getR (cCc_R3 (H.2.1 L5 P4)) q1020 dX1_set_121 ?_
    refine cq_getIN h (cSt_F28 (cSt_i1000 (H.2.1 L5 P4))) q699 dX1_set_124 (fun v18 h => ?_)
    exact cd_toX (cd_iret hk h rfl dX1_set_127)
  · intro h
    refine cq_at (pc2 := 128) rfl ?_
    refine cq_aload_n 0 dX1_set_128 rfl ?_
    refine cq_getR (cCc_R0 (H.2.1 L5 P4)) q1017 dX1_set_129 ?_
    refine cq_getIN h (cLn_F6 (H.2.1 L5 P4)) q578 dX1_set_132 (fun v19 h => ?_)
    exact cd_toX (cd_iret hk h rfl dX1_set_135)
  · intro h
    refine cq_at (pc2 := 136) rfl ?_
    refine cq_iconst 1 dX1_set_136 cx_ic_1 ?_
    refine cq_aload_n 0 dX1_set_137 rfl ?_
    refine cq_getR (cCc_R0 (H.2.1 L5 P4)) q1017 dX1_set_138 ?_
    refine cq_getRN (cLn_R7 (H.2.1 L5 P4)) q581 dX1_set_141 ?_
    refine cqs_size (H.2.1 L5 P4) h dX1_set_144 q1785 (cx_le rfl) (cx_le rfl) (cx_le rfl) hk.1 hk.2 (fun v20 h => ?_)
    refine cq_mmax dX1_set_147 q1786 (cx_le rfl) (cx_le rfl) hk.1 hk.2 ?_
    exact cd_toX (cd_iret hk h rfl dX1_set_150)
  · intro h
    refine cq_at (pc2 := 151) rfl ?_
    refine cq_aload_n 0 dX1_set_151 rfl ?_
    refine cq_getR (cCc_R3 (H.2.1 L5 P4)) q1020 dX1_set_152 ?_
    refine cq_getIN h (cSt_F29 (cSt_i1000 (H.2.1 L5 P4))) q701 dX1_set_155 (fun v21 h => ?_)
    exact cd_toX (cd_iret hk h rfl dX1_set_158)
  · intro h
    refine cq_at (pc2 := 159) rfl ?_
    refine cq_aload_n 0 dX1_set_159 rfl ?_
    refine cq_getR (cCc_R3 (H.2.1 L5 P4)) q1020 dX1_set_160 ?_
    refine cq_getIN h (cSt_F26 (cSt_i1000 (H.2.1 L5 P4))) q695 dX1_set_163 (fun v22 h => ?_)
    exact cd_toX (cd_iret hk h rfl dX1_set_166)
  · intro h
    refine cq_at (pc2 := 167) rfl ?_
    refine cq_aload_n 0 dX1_set_167 rfl ?_
    refine cq_getR (cCc_R3 (H.2.1 L5 P4)) q1020 dX1_set_168 ?_
    refine cq_getIN h (cSt_F27 (cSt_i1000 (H.2.1 L5 P4))) q697 dX1_set_171 (fun v23 h => ?_)
    exact cd_toX (cd_iret hk h rfl dX1_set_174)
  · intro h
    refine cq_at (pc2 := 175) rfl ?_
    refine cq_aload_n 0 dX1_set_175 rfl ?_
    refine cq_getR (cCc_R3 (H.2.1 L5 P4)) q1020 dX1_set_176 ?_
    refine cq_getIN h (cSt_F9 (cSt_i1000 (H.2.1 L5 P4))) q667 dX1_set_179 (fun v24 h => ?_)
    exact cd_toX (cd_iret hk h rfl dX1_set_182)
  · intro h
    refine cq_at (pc2 := 183) rfl ?_
    refine cq_aload_n 0 dX1_set_183 rfl ?_
    refine cq_getR (cCc_R3 (H.2.1 L5 P4)) q1020 dX1_set_184 ?_
    refine cq_getIN h (cSt_F10 (cSt_i1000 (H.2.1 L5 P4))) q669 dX1_set_187 (fun v25 h => ?_)
    exact cd_toX (cd_iret hk h rfl dX1_set_190)
  · intro h
    refine cq_at (pc2 := 191) rfl ?_
    refine cq_aload_n 0 dX1_set_191 rfl ?_
    refine cq_getR (cCc_R3 (H.2.1 L5 P4)) q1020 dX1_set_192 ?_
    refine cq_getIN h (cSt_F14 (cSt_i1000 (H.2.1 L5 P4))) q677 dX1_set_195 (fun v26 h => ?_)
    refine cq_bipush 64 dX1_set_198 cx_bp_64 ?_
    refine cq_aload_n 0 dX1_set_200 rfl ?_
    refine cq_getR (cCc_R0 (H.2.1 L5 P4)) q1017 dX1_set_201 ?_
    refine cq_getIN h (cLn_F0 (H.2.1 L5 P4)) q560 dX1_set_204 (fun v27 h => ?_)
    refine cq_imul dX1_set_207 ?_
    refine cq_irem h dX1_set_208 (fun h => ?_)
    exact cd_toX (cd_iret hk h rfl dX1_set_209)
def dCc_setD (N : dNx) (bc bs : Nat) (M : cx_M) (P : dP) (L : dL) (x1 : Int32) (Q : cd_Qt) : Prop := dCc_setD_0 N bc bs Q M P L 0 0 x1
set_option maxRecDepth 100000 in
theorem dCc_setD_m {l : Launch} {g : cx_G} {N : dNx} {bc bs : Nat} {Q : cd_Qt} (H : dX l g N.2 N.1) (M : cx_M) (P : dP) (L : dL) (x1 : Int32) (h : dCc_setD N bc bs M P L x1 Q) : cd_MetX l g yX1_set cX1_set (esX1_setD bc bs) cd_rI [.ref (N.2 500), .int x1] M P L Q :=
  cd_metX (by decide +kernel) rfl rfl (lv := [(0, .ref (N.2 500)), (1, .int x1)]) rfl (cx_le rfl) (fun X hX => cq_sub (lv' := [(0, .ref (N.2 500)), (1, .int x1)]) [0, 1] rfl (dCc_setD_0_v H hX M P L 0 0 x1 ⟨Nat.zero_le _, Nat.zero_le _⟩ h))

abbrev esX1_playedD (bc bs : Nat) : cx_S := (3, RX1, cx_rI, { frames := 7, cells := bc, slots := bs, locals := 110 }, some .int, true)
def dCc_playedD_36 (N : dNx) (bc bs : Nat) (Q : cd_Qt) (M : cx_M) (P : dP) (L : dL) (k n : Nat) (x1 : Int32) (x2 : Int32) (z0 : Int32) : Prop :=
  cd_thr 1  (bc - k) (bs - n) M P L z0 (fun M1 P2 L3 v4 r5 e9 k6 n7 => (e9 ≠ 0 → Q M1 P2 L3 v4 none e9 (k + k6) (n + n7)) ∧ (e9 = 0 → cd_add k k6 n n7 fun k8 n9 =>
  if x2 = 0 then (
    cq_cal (cSt_back N.1 1000 M1 (x1 + 1)) fun M32 v33 =>
    Q M32 P2 L3 v33 none 0 k8 n9)
  else (
    dSt_lacksD N (bc - k8) (bs - n9) M1 P2 L3 1000 (fun M10 P11 L12 v13 r14 e9 k15 n16 => e9 = 0 → cd_add k8 k15 n9 n16 fun k17 n18 =>
    cq_get M10 1000 6 fun v19 =>
    cq_cal (cSt_kept N.1 1000 M10 v19) fun M20 v21 =>
    cd_nn r14 fun a22 =>
    (a22, (0, 21, 0)) ∈ L12 ∧
    jBd_getD N.1.1 (bc - k17) (bs - n18) M20 P11 L12 a22 ((v21 - 1) - x1) (fun M23 P24 L25 v26 r27 e9 k28 n29 => e9 = 0 → cd_add k17 k28 n18 n29 fun k30 n31 =>
    if v26 = 0 then (
      Q M23 P24 L25 0 none 0 k30 n31)
    else (
      Q M23 P24 L25 1 none 0 k30 n31))))))
set_option maxRecDepth 100000 in
theorem dCc_playedD_36_v {l : Launch} {g : cx_G} {X : cx_X} {N : dNx} {bc bs : Nat} {Q : cd_Qt} (H : dX l g N.2 N.1) (hX : True) (M : cx_M) (P : dP) (L : dL) (k n : Nat) (x1 : Int32) (x2 : Int32) (z0 : Int32) (hk : k ≤ bc ∧ n ≤ bs) (h : dCc_playedD_36 N bc bs Q M P L k n x1 x2 z0) : cq_V l (dG g L P) X (esX1_playedD bc bs) cX1_played 36 [(0, .ref (N.2 500)), (1, .int x1), (2, .int x2)] [.int z0] M k n (cd_finX g X (esX1_playedD bc bs) cd_rI Q) := by
  unfold dCc_playedD_36 at h
  refine cd_xS [.int z0] [] (cc_there_m H.1.2.1 (bc := bc - k) (bs := bs - n) M P L z0 h) dX1_played_36 gd_X1_184 hgd_X1_184 ⟨cx_le rfl, cx_le rfl⟩ (cd_bud hk) rfl (cx_le rfl) rfl (fun _ _ _ _ _ _ _ he h => h.1 he) (fun M1 P2 L3 v4 r5 k6 n7 hk2 h => ?_)
  refine cd_addI (h.2 rfl) (cd_bk hk hk2) (fun k8 n9 h hk => ?_)
  refine cq_iload_n 2 dX1_played_39 rfl ?_
  refine cq_if_ne 56 h dX1_played_40 rfl (fun h => ?_) (fun h => ?_)
  · refine cq_aload_n 0 dX1_played_56 rfl ?_
    refine cq_getR (cCc_R3 (H.2.1 L3 P2)) q1020 dX1_played_57 ?_
    refine cd_cV [] [] (dSt_lacksD_m H (N := N) (bc := bc - k8) (bs := bs - n9) M1 P2 L3 1000 (fun L P => cSt_i1000 (H.2.1 L P)) h) (cSt_rc (cSt_i1000 (H.2.1 L3 P2))) dX1_played_60 gd_X1_304D hgd_X1_304D ⟨cx_le rfl, cx_le rfl⟩ (cd_bud hk) rfl (cx_le rfl) (fun M10 P11 L12 v13 r14 k15 n16 hk2 h => ?_)
    refine cd_addI (h rfl) (cd_bk hk hk2) (fun k17 n18 h hk => ?_)
    refine cq_aload_n 0 dX1_played_63 rfl ?_
    refine cq_getR (cCc_R3 (H.2.1 L12 P11)) q1020 dX1_played_64 ?_
    refine cq_aload_n 0 dX1_played_67 rfl ?_
    refine cq_getR (cCc_R3 (H.2.1 L12 P11)) q1020 dX1_played_68 ?_
    refine cq_getIN h (cSt_F6 (cSt_i1000 (H.2.1 L12 P11))) q661 dX1_played_71 (fun v19 h => ?_)
    refine cq_cVi [.int v19] [va_rf r14] h (fun rs' h' => cSt_kept_m (g := dG g L12 P11) (N := N.1) (H.2.1 L12 P11) (cSt_i1000 (H.2.1 L12 P11)) M10 v19 rs' h') (cSt_rc (cSt_i1000 (H.2.1 L12 P11))) dX1_played_74 g_X1_240 hg_X1_240 ⟨cx_le rfl, cx_le rfl⟩ rfl ⟨rfl, rfl⟩ hk rfl (by simp only [List.map, va_rf_cat, List.sum_cons, List.sum_nil]; exact cx_le rfl) (fun M20 v21 h => ?_)
    refine cq_iconst 1 dX1_played_77 cx_ic_1 ?_
    refine cq_isub dX1_played_78 ?_
    refine cq_iload_n 1 dX1_played_79 rfl ?_
    refine cq_isub dX1_played_80 ?_
    obtain ⟨a22, e9, h⟩ := cd_nn_some h
    subst e9
    obtain ⟨hmr, h⟩ := h
    refine cd_cV [.int ((v21 - 1) - x1)] [] (jBd_getD_m H.1.1.1 (N := N.1.1) (bc := bc - k17) (bs := bs - n18) M20 P11 L12 a22 ((v21 - 1) - x1) h) (dG_Rc H.1.1.1.1 hmr dCl_J19) dX1_played_81 gd_X1_308D hgd_X1_308D ⟨cx_le rfl, cx_le rfl⟩ (cd_bud hk) rfl (cx_le rfl) (fun M23 P24 L25 v26 r27 k28 n29 hk2 h => ?_)
    refine cd_addI (h rfl) (cd_bk hk hk2) (fun k30 n31 h hk => ?_)
    refine cq_if_eq 91 h dX1_played_84 rfl (fun h => ?_) (fun h => ?_)
    · refine cq_iconst 0 dX1_played_91 cx_ic_0 ?_
      exact cd_toX (cd_iret hk h rfl dX1_played_92)
    · refine cq_iconst 1 dX1_played_87 cx_ic_1 ?_
      refine cq_goto 92 dX1_played_88 rfl ?_
      exact cd_toX (cd_iret hk h rfl dX1_played_92)
  · refine cq_aload_n 0 dX1_played_43 rfl ?_
    refine cq_getR (cCc_R3 (H.2.1 L3 P2)) q1020 dX1_played_44 ?_
    refine cq_iload_n 1 dX1_played_47 rfl ?_
    refine cq_iconst 1 dX1_played_48 cx_ic_1 ?_
    refine cq_iadd dX1_played_49 ?_
    refine cq_cVi [.int (x1 + 1)] [] h (fun rs' h' => cSt_back_m (g := dG g L3 P2) (N := N.1) (H.2.1 L3 P2) (cSt_i1000 (H.2.1 L3 P2)) M1 (x1 + 1) rs' h') (cSt_rc (cSt_i1000 (H.2.1 L3 P2))) dX1_played_50 g_X1_121 hg_X1_121 ⟨cx_le rfl, cx_le rfl⟩ rfl ⟨rfl, rfl⟩ hk rfl (cx_le rfl) (fun M32 v33 h => ?_)
    refine cq_goto 92 dX1_played_53 rfl ?_
    exact cd_toX (cd_iret hk h rfl dX1_played_92)
def dCc_playedD_35 (N : dNx) (bc bs : Nat) (Q : cd_Qt) (M : cx_M) (P : dP) (L : dL) (k n : Nat) (x1 : Int32) (x2 : Int32) : Prop :=
  dCc_playedD_36 N bc bs Q M P L k n x1 x2 0
set_option maxRecDepth 100000 in
theorem dCc_playedD_35_v {l : Launch} {g : cx_G} {X : cx_X} {N : dNx} {bc bs : Nat} {Q : cd_Qt} (H : dX l g N.2 N.1) (hX : True) (M : cx_M) (P : dP) (L : dL) (k n : Nat) (x1 : Int32) (x2 : Int32) (hk : k ≤ bc ∧ n ≤ bs) (h : dCc_playedD_35 N bc bs Q M P L k n x1 x2) : cq_V l (dG g L P) X (esX1_playedD bc bs) cX1_played 35 [(0, .ref (N.2 500)), (1, .int x1), (2, .int x2)] [] M k n (cd_finX g X (esX1_playedD bc bs) cd_rI Q) := by
  unfold dCc_playedD_35 at h
  refine cq_iconst 0 dX1_played_35 cx_ic_0 ?_
  exact dCc_playedD_36_v H hX M P L k n x1 x2 0 hk h
def dCc_playedD_0 (N : dNx) (bc bs : Nat) (Q : cd_Qt) (M : cx_M) (P : dP) (L : dL) (k n : Nat) (x1 : Int32) (x2 : Int32) : Prop :=
  if x1 < 0 then (
    dCc_playedD_35 N bc bs Q M P L k n x1 x2)
  else (
    cq_get M 1000 6 fun v1 =>
    cq_cal (cSt_kept N.1 1000 M v1) fun M2 v3 =>
    if v3 ≤ x1 then (
      dCc_playedD_35 N bc bs Q M2 P L k n x1 x2)
    else (
      cq_cal (cCc_within N.1 M2 x2 0 1) fun M4 v5 =>
      if v5 = 0 then (
        dCc_playedD_35 N bc bs Q M4 P L k n x1 x2)
      else (
        dCc_playedD_36 N bc bs Q M4 P L k n x1 x2 1)))
set_option maxRecDepth 100000 in
theorem dCc_playedD_0_v {l : Launch} {g : cx_G} {X : cx_X} {N : dNx} {bc bs : Nat} {Q : cd_Qt} (H : dX l g N.2 N.1) (hX : True) (M : cx_M) (P : dP) (L : dL) (k n : Nat) (x1 : Int32) (x2 : Int32) (hk : k ≤ bc ∧ n ≤ bs) (h : dCc_playedD_0 N bc bs Q M P L k n x1 x2) : cq_V l (dG g L P) X (esX1_playedD bc bs) cX1_played 0 [(0, .ref (N.2 500)), (1, .int x1), (2, .int x2)] [] M k n (cd_finX g X (esX1_playedD bc bs) cd_rI Q) := by
  unfold dCc_playedD_0 at h
  refine cq_iload_n 1 dX1_played_0 rfl ?_
  refine cq_if_lt 35 h dX1_played_1 rfl (fun h => ?_) (fun h => ?_)
  · exact dCc_playedD_35_v H hX M P L k n x1 x2 hk h
  · refine cq_iload_n 1 dX1_played_4 rfl ?_
    refine cq_aload_n 0 dX1_played_5 rfl ?_
    refine cq_getR (cCc_R3 (H.2.1 L P)) q1020 dX1_played_6 ?_
    refine cq_aload_n 0 dX1_played_9 rfl ?_
    refine cq_getR (cCc_R3 (H.2.1 L P)) q1020 dX1_played_10 ?_
    refine cq_getIN h (cSt_F6 (cSt_i1000 (H.2.1 L P))) q661 dX1_played_13 (fun v1 h => ?_)
    refine cq_cVi [.int v1] [.int x1] h (fun rs' h' => cSt_kept_m (g := dG g L P) (N := N.1) (H.2.1 L P) (cSt_i1000 (H.2.1 L P)) M v1 rs' h') (cSt_rc (cSt_i1000 (H.2.1 L P))) dX1_played_16 g_X1_240 hg_X1_240 ⟨cx_le rfl, cx_le rfl⟩ rfl ⟨rfl, rfl⟩ hk rfl (cx_le rfl) (fun M2 v3 h => ?_)
    refine cq_icmp_ge 35 h dX1_played_19 rfl (fun h => ?_) (fun h => ?_)
    · exact dCc_playedD_35_v H hX M2 P L k n x1 x2 hk h
    · refine cq_iload_n 2 dX1_played_22 rfl ?_
      refine cq_iconst 0 dX1_played_23 cx_ic_0 ?_
      refine cq_iconst 1 dX1_played_24 cx_ic_1 ?_
      refine cq_cSi [.int x2, .int 0, .int 1] [] h (fun rs' h' => cCc_within_m (g := dG g L P) (N := N.1) (H.2.1 L P) M2 x2 0 1 rs' h') dX1_played_25 g_X1_180 hg_X1_180 ⟨cx_le rfl, cx_le rfl⟩ rfl ⟨rfl, rfl⟩ hk rfl (cx_le rfl) (fun M4 v5 h => ?_)
      refine cq_if_eq 35 h dX1_played_28 rfl (fun h => ?_) (fun h => ?_)
      · exact dCc_playedD_35_v H hX M4 P L k n x1 x2 hk h
      · refine cq_iconst 1 dX1_played_31 cx_ic_1 ?_
        refine cq_goto 36 dX1_played_32 rfl ?_
        exact dCc_playedD_36_v H hX M4 P L k n x1 x2 1 hk h
def dCc_playedD (N : dNx) (bc bs : Nat) (M : cx_M) (P : dP) (L : dL) (x1 : Int32) (x2 : Int32) (Q : cd_Qt) : Prop := dCc_playedD_0 N bc bs Q M P L 0 0 x1 x2
set_option maxRecDepth 100000 in
theorem dCc_playedD_m {l : Launch} {g : cx_G} {N : dNx} {bc bs : Nat} {Q : cd_Qt} (H : dX l g N.2 N.1) (M : cx_M) (P : dP) (L : dL) (x1 : Int32) (x2 : Int32) (h : dCc_playedD N bc bs M P L x1 x2 Q) : cd_MetX l g yX1_played cX1_played (esX1_playedD bc bs) cd_rI [.ref (N.2 500), .int x1, .int x2] M P L Q :=
  cd_metX (by decide +kernel) rfl rfl (lv := [(0, .ref (N.2 500)), (1, .int x1), (2, .int x2)]) rfl (cx_le rfl) (fun X hX => cq_sub (lv' := [(0, .ref (N.2 500)), (1, .int x1), (2, .int x2)]) [0, 1, 2] rfl (dCc_playedD_0_v H hX M P L 0 0 x1 x2 ⟨Nat.zero_le _, Nat.zero_le _⟩ h))

abbrev esX1_soonD (bc bs : Nat) : cx_S := (2, RX1, cx_rI, { frames := 7, cells := bc, slots := bs, locals := 110 }, none, true)
def dCc_soonD_0 (N : dNx) (bc bs : Nat) (Q : cd_Qt) (M : cx_M) (P : dP) (L : dL) (k n : Nat) (x0 : Int32) (x1 : Int32) : Prop :=
  cq_cal (cCc_within N.1 M x0 x1 400) fun M1 v2 =>
  cd_thr 2  (bc - k) (bs - n) M1 P L v2 (fun M3 P4 L5 v6 r7 e9 k8 n9 => (e9 ≠ 0 → Q M3 P4 L5 v6 none e9 (k + k8) (n + n9)) ∧ (e9 = 0 → cd_add k k8 n n9 fun k10 n11 =>
  Q M3 P4 L5 0 none 0 k10 n11))
set_option maxRecDepth 100000 in
theorem dCc_soonD_0_v {l : Launch} {g : cx_G} {X : cx_X} {N : dNx} {bc bs : Nat} {Q : cd_Qt} (H : dX l g N.2 N.1) (hX : True) (M : cx_M) (P : dP) (L : dL) (k n : Nat) (x0 : Int32) (x1 : Int32) (hk : k ≤ bc ∧ n ≤ bs) (h : dCc_soonD_0 N bc bs Q M P L k n x0 x1) : cq_V l (dG g L P) X (esX1_soonD bc bs) cX1_soon 0 [(0, .int x0), (1, .int x1)] [] M k n (cd_finX g X (esX1_soonD bc bs) cd_rV Q) := by
  unfold dCc_soonD_0 at h
  refine cq_iload_n 0 dX1_soon_0 rfl ?_
  refine cq_iload_n 1 dX1_soon_1 rfl ?_
  refine cq_sipush 400 dX1_soon_2 cx_sp_400 ?_
  refine cq_cSi [.int x0, .int x1, .int 400] [] h (fun rs' h' => cCc_within_m (g := dG g L P) (N := N.1) (H.2.1 L P) M x0 x1 400 rs' h') dX1_soon_5 g_X1_180 hg_X1_180 ⟨cx_le rfl, cx_le rfl⟩ rfl ⟨rfl, rfl⟩ hk rfl (cx_le rfl) (fun M1 v2 h => ?_)
  refine cd_xS [.int v2] [] (cc_right_m H.1.2.1 (bc := bc - k) (bs := bs - n) M1 P L v2 h) dX1_soon_8 gd_X1_137 hgd_X1_137 ⟨cx_le rfl, cx_le rfl⟩ (cd_bud hk) rfl (cx_le rfl) rfl (fun _ _ _ _ _ _ _ he h => h.1 he) (fun M3 P4 L5 v6 r7 k8 n9 hk2 h => ?_)
  refine cd_addI (h.2 rfl) (cd_bk hk hk2) (fun k10 n11 h hk => ?_)
  exact cd_toX (cd_vret hk h rfl dX1_soon_11)
def dCc_soonD (N : dNx) (bc bs : Nat) (M : cx_M) (P : dP) (L : dL) (x0 : Int32) (x1 : Int32) (Q : cd_Qt) : Prop := dCc_soonD_0 N bc bs Q M P L 0 0 x0 x1
set_option maxRecDepth 100000 in
theorem dCc_soonD_m {l : Launch} {g : cx_G} {N : dNx} {bc bs : Nat} {Q : cd_Qt} (H : dX l g N.2 N.1) (M : cx_M) (P : dP) (L : dL) (x0 : Int32) (x1 : Int32) (h : dCc_soonD N bc bs M P L x0 x1 Q) : cd_MetX l g yX1_soon cX1_soon (esX1_soonD bc bs) cd_rV [.int x0, .int x1] M P L Q :=
  cd_metX (by decide +kernel) rfl rfl (lv := [(0, .int x0), (1, .int x1)]) rfl (cx_le rfl) (fun X hX => cq_sub (lv' := [(0, .int x0), (1, .int x1)]) [0, 1] rfl (dCc_soonD_0_v H hX M P L 0 0 x0 x1 ⟨Nat.zero_le _, Nat.zero_le _⟩ h))

abbrev esX1_turnD (bc bs : Nat) : cx_S := (5, RX1, cx_rI, { frames := 32, cells := bc, slots := bs, locals := 941 }, some .int, true)
def dCc_turnD_100 (N : dNx) (bc bs : Nat) (Q : cd_Qt) (M : cx_M) (P : dP) (L : dL) (k n : Nat) (x1 : Int32) (x2 : Int32) (x3 : Int32) (z1 : Int32) : Prop :=
  cq_cal (cCc_does N.1 M z1) fun M1 v2 =>
  if v2 = 0 then (
    Q M1 P L 10000 none 0 k n)
  else (
    if x1 = 0 then (
      cq_put M1 1000 28 x2 fun M5 =>
      Q M5 P L x3 none 0 k n)
    else (
      if x1 = 1 then (
        cq_put M1 1000 29 x2 fun M4 =>
        Q M4 P L x3 none 0 k n)
      else (
        cq_put M1 1000 30 x2 fun M3 =>
        Q M3 P L x3 none 0 k n)))
set_option maxRecDepth 100000 in
theorem dCc_turnD_100_v {l : Launch} {g : cx_G} {X : cx_X} {N : dNx} {bc bs : Nat} {Q : cd_Qt} (H : dX l g N.2 N.1) (hX : True) (M : cx_M) (P : dP) (L : dL) (k n : Nat) (x1 : Int32) (x2 : Int32) (x3 : Int32) (z1 : Int32) (hk : k ≤ bc ∧ n ≤ bs) (h : dCc_turnD_100 N bc bs Q M P L k n x1 x2 x3 z1) : cq_V l (dG g L P) X (esX1_turnD bc bs) cX1_turn 100 [(0, .ref (N.2 500)), (1, .int x1), (2, .int x2), (3, .int x3)] [.int z1, .ref (N.2 500)] M k n (cd_finX g X (esX1_turnD bc bs) cd_rI Q) := by
  unfold dCc_turnD_100 at h
  refine cq_cVi [.int z1] [] h (fun rs' h' => cCc_does_m (g := dG g L P) (N := N.1) (H.2.1 L P) M z1 rs' h') (cCc_rc (H.2.1 L P)) dX1_turn_100 g_X1_393 hg_X1_393 ⟨cx_le rfl, cx_le rfl⟩ rfl ⟨rfl, rfl⟩ hk rfl (cx_le rfl) (fun M1 v2 h => ?_)
  refine cq_if_ne 110 h dX1_turn_103 rfl (fun h => ?_) (fun h => ?_)
  · refine cq_iload_n 1 dX1_turn_110 rfl ?_
    refine cq_if_ne 125 h dX1_turn_111 rfl (fun h => ?_) (fun h => ?_)
    · refine cq_iload_n 1 dX1_turn_125 rfl ?_
      refine cq_iconst 1 dX1_turn_126 cx_ic_1 ?_
      refine cq_icmp_ne 141 h dX1_turn_127 rfl (fun h => ?_) (fun h => ?_)
      · refine cq_aload_n 0 dX1_turn_141 rfl ?_
        refine cq_getR (cCc_R3 (H.2.1 L P)) q1020 dX1_turn_142 ?_
        refine cq_iload_n 2 dX1_turn_145 rfl ?_
        refine cq_putIN h (cSt_F30 (cSt_i1000 (H.2.1 L P))) rfl rfl rfl q703 dX1_turn_146 (fun M3 h => ?_)
        refine cq_iload_n 3 dX1_turn_149 rfl ?_
        exact cd_toX (cd_iret hk h rfl dX1_turn_150)
      · refine cq_aload_n 0 dX1_turn_130 rfl ?_
        refine cq_getR (cCc_R3 (H.2.1 L P)) q1020 dX1_turn_131 ?_
        refine cq_iload_n 2 dX1_turn_134 rfl ?_
        refine cq_putIN h (cSt_F29 (cSt_i1000 (H.2.1 L P))) rfl rfl rfl q701 dX1_turn_135 (fun M4 h => ?_)
        refine cq_goto 149 dX1_turn_138 rfl ?_
        refine cq_iload_n 3 dX1_turn_149 rfl ?_
        exact cd_toX (cd_iret hk h rfl dX1_turn_150)
    · refine cq_aload_n 0 dX1_turn_114 rfl ?_
      refine cq_getR (cCc_R3 (H.2.1 L P)) q1020 dX1_turn_115 ?_
      refine cq_iload_n 2 dX1_turn_118 rfl ?_
      refine cq_putIN h (cSt_F28 (cSt_i1000 (H.2.1 L P))) rfl rfl rfl q699 dX1_turn_119 (fun M5 h => ?_)
      refine cq_goto 149 dX1_turn_122 rfl ?_
      refine cq_iload_n 3 dX1_turn_149 rfl ?_
      exact cd_toX (cd_iret hk h rfl dX1_turn_150)
  · refine cq_sipush 10000 dX1_turn_106 cx_sp_10000 ?_
    exact cd_toX (cd_iret hk h rfl dX1_turn_109)
def dCc_turnD_99 (N : dNx) (bc bs : Nat) (Q : cd_Qt) (M : cx_M) (P : dP) (L : dL) (k n : Nat) (x1 : Int32) (x2 : Int32) (x3 : Int32) : Prop :=
  dCc_turnD_100 N bc bs Q M P L k n x1 x2 x3 0
set_option maxRecDepth 100000 in
theorem dCc_turnD_99_v {l : Launch} {g : cx_G} {X : cx_X} {N : dNx} {bc bs : Nat} {Q : cd_Qt} (H : dX l g N.2 N.1) (hX : True) (M : cx_M) (P : dP) (L : dL) (k n : Nat) (x1 : Int32) (x2 : Int32) (x3 : Int32) (hk : k ≤ bc ∧ n ≤ bs) (h : dCc_turnD_99 N bc bs Q M P L k n x1 x2 x3) : cq_V l (dG g L P) X (esX1_turnD bc bs) cX1_turn 99 [(0, .ref (N.2 500)), (1, .int x1), (2, .int x2), (3, .int x3)] [.ref (N.2 500)] M k n (cd_finX g X (esX1_turnD bc bs) cd_rI Q) := by
  unfold dCc_turnD_99 at h
  refine cq_iconst 0 dX1_turn_99 cx_ic_0 ?_
  exact dCc_turnD_100_v H hX M P L k n x1 x2 x3 0 hk h
def dCc_turnD_82 (N : dNx) (bc bs : Nat) (Q : cd_Qt) (M : cx_M) (P : dP) (L : dL) (k n : Nat) (x1 : Int32) (x2 : Int32) (x3 : Int32) (z0 : Int32) : Prop :=
  if z0 = 0 then (
    dCc_turnD_99 N bc bs Q M P L k n x1 x2 x3)
  else (
    if x3 = x2 then (
      dCc_turnD_99 N bc bs Q M P L k n x1 x2 x3)
    else (
      dCc_turnD_100 N bc bs Q M P L k n x1 x2 x3 1))
set_option maxRecDepth 100000 in
theorem dCc_turnD_82_v {l : Launch} {g : cx_G} {X : cx_X} {N : dNx} {bc bs : Nat} {Q : cd_Qt} (H : dX l g N.2 N.1) (hX : True) (M : cx_M) (P : dP) (L : dL) (k n : Nat) (x1 : Int32) (x2 : Int32) (x3 : Int32) (z0 : Int32) (hk : k ≤ bc ∧ n ≤ bs) (h : dCc_turnD_82 N bc bs Q M P L k n x1 x2 x3 z0) : cq_V l (dG g L P) X (esX1_turnD bc bs) cX1_turn 82 [(0, .ref (N.2 500)), (1, .int x1), (2, .int x2), (3, .int x3)] [.int z0] M k n (cd_finX g X (esX1_turnD bc bs) cd_rI Q) := by
  unfold dCc_turnD_82 at h
  refine cq_istore [(4, .int z0), (0, .ref (N.2 500)), (1, .int x1), (2, .int x2), (3, .int x3)] dX1_turn_82 (cx_lt rfl) rfl ?_
  refine cq_aload_n 1 dX1_turn_84 rfl ?_
  refine cq_iload 0 dX1_turn_85 rfl ?_
  refine cq_if_eq 99 h dX1_turn_87 rfl (fun h => ?_) (fun h => ?_)
  · refine cq_sub (lv' := [(0, .ref (N.2 500)), (1, .int x1), (2, .int x2), (3, .int x3)]) [1, 2, 3, 4] rfl ?_
    exact dCc_turnD_99_v H hX M P L k n x1 x2 x3 hk h
  · refine cq_iload_n 4 dX1_turn_90 rfl ?_
    refine cq_iload_n 3 dX1_turn_91 rfl ?_
    refine cq_icmp_eq 99 h dX1_turn_92 rfl (fun h => ?_) (fun h => ?_)
    · refine cq_sub (lv' := [(0, .ref (N.2 500)), (1, .int x1), (2, .int x2), (3, .int x3)]) [1, 2, 3, 4] rfl ?_
      exact dCc_turnD_99_v H hX M P L k n x1 x2 x3 hk h
    · refine cq_iconst 1 dX1_turn_95 cx_ic_1 ?_
      refine cq_goto 100 dX1_turn_96 rfl ?_
      refine cq_sub (lv' := [(0, .ref (N.2 500)), (1, .int x1), (2, .int x2), (3, .int x3)]) [1, 2, 3, 4] rfl ?_
      exact dCc_turnD_100_v H hX M P L k n x1 x2 x3 1 hk h
def dCc_turnD_45 (N : dNx) (bc bs : Nat) (Q : cd_Qt) (M : cx_M) (P : dP) (L : dL) (k n : Nat) (x1 : Int32) (x2 : Int32) (z0 : Int32) : Prop :=
  if x1 = 0 then (
    cq_cal (cCc_within N.1 M x2 (-99) 99) fun M5 v6 =>
    dCc_turnD_82 N bc bs Q M5 P L k n x1 x2 z0 v6)
  else (
    if x1 = 1 then (
      cq_cal (cCc_within N.1 M x2 0 2) fun M3 v4 =>
      dCc_turnD_82 N bc bs Q M3 P L k n x1 x2 z0 v4)
    else (
      cq_cal (cCc_within N.1 M x2 1 64) fun M1 v2 =>
      dCc_turnD_82 N bc bs Q M1 P L k n x1 x2 z0 v2))
set_option maxRecDepth 100000 in
theorem dCc_turnD_45_v {l : Launch} {g : cx_G} {X : cx_X} {N : dNx} {bc bs : Nat} {Q : cd_Qt} (H : dX l g N.2 N.1) (hX : True) (M : cx_M) (P : dP) (L : dL) (k n : Nat) (x1 : Int32) (x2 : Int32) (z0 : Int32) (hk : k ≤ bc ∧ n ≤ bs) (h : dCc_turnD_45 N bc bs Q M P L k n x1 x2 z0) : cq_V l (dG g L P) X (esX1_turnD bc bs) cX1_turn 45 [(0, .ref (N.2 500)), (1, .int x1), (2, .int x2)] [.int z0] M k n (cd_finX g X (esX1_turnD bc bs) cd_rI Q) := by
  unfold dCc_turnD_45 at h
  refine cq_istore_n [(3, .int z0), (0, .ref (N.2 500)), (1, .int x1), (2, .int x2)] dX1_turn_45 (cx_lt rfl) rfl ?_
  refine cq_iload_n 2 dX1_turn_46 rfl ?_
  refine cq_if_ne 61 h dX1_turn_47 rfl (fun h => ?_) (fun h => ?_)
  · refine cq_iload_n 2 dX1_turn_61 rfl ?_
    refine cq_iconst 1 dX1_turn_62 cx_ic_1 ?_
    refine cq_icmp_ne 75 h dX1_turn_63 rfl (fun h => ?_) (fun h => ?_)
    · refine cq_iload_n 3 dX1_turn_75 rfl ?_
      refine cq_iconst 1 dX1_turn_76 cx_ic_1 ?_
      refine cq_bipush 64 dX1_turn_77 cx_bp_64 ?_
      refine cq_cSi [.int x2, .int 1, .int 64] [] h (fun rs' h' => cCc_within_m (g := dG g L P) (N := N.1) (H.2.1 L P) M x2 1 64 rs' h') dX1_turn_79 g_X1_180 hg_X1_180 ⟨cx_le rfl, cx_le rfl⟩ rfl ⟨rfl, rfl⟩ hk rfl (cx_le rfl) (fun M1 v2 h => ?_)
      refine cq_sub (lv' := [(0, .ref (N.2 500)), (1, .int x1), (2, .int x2), (3, .int z0)]) [1, 2, 3, 0] rfl ?_
      exact dCc_turnD_82_v H hX M1 P L k n x1 x2 z0 v2 hk h
    · refine cq_iload_n 3 dX1_turn_66 rfl ?_
      refine cq_iconst 0 dX1_turn_67 cx_ic_0 ?_
      refine cq_iconst 2 dX1_turn_68 cx_ic_2 ?_
      refine cq_cSi [.int x2, .int 0, .int 2] [] h (fun rs' h' => cCc_within_m (g := dG g L P) (N := N.1) (H.2.1 L P) M x2 0 2 rs' h') dX1_turn_69 g_X1_180 hg_X1_180 ⟨cx_le rfl, cx_le rfl⟩ rfl ⟨rfl, rfl⟩ hk rfl (cx_le rfl) (fun M3 v4 h => ?_)
      refine cq_goto 82 dX1_turn_72 rfl ?_
      refine cq_sub (lv' := [(0, .ref (N.2 500)), (1, .int x1), (2, .int x2), (3, .int z0)]) [1, 2, 3, 0] rfl ?_
      exact dCc_turnD_82_v H hX M3 P L k n x1 x2 z0 v4 hk h
  · refine cq_iload_n 3 dX1_turn_50 rfl ?_
    refine cq_bipush (-99) dX1_turn_51 cx_bp_m99 ?_
    refine cq_bipush 99 dX1_turn_53 cx_bp_99 ?_
    refine cq_cSi [.int x2, .int (-99), .int 99] [] h (fun rs' h' => cCc_within_m (g := dG g L P) (N := N.1) (H.2.1 L P) M x2 (-99) 99 rs' h') dX1_turn_55 g_X1_180 hg_X1_180 ⟨cx_le rfl, cx_le rfl⟩ rfl ⟨rfl, rfl⟩ hk rfl (cx_le rfl) (fun M5 v6 h => ?_)
    refine cq_goto 82 dX1_turn_58 rfl ?_
    refine cq_sub (lv' := [(0, .ref (N.2 500)), (1, .int x1), (2, .int x2), (3, .int z0)]) [1, 2, 3, 0] rfl ?_
    exact dCc_turnD_82_v H hX M5 P L k n x1 x2 z0 v6 hk h
def dCc_turnD_0 (N : dNx) (bc bs : Nat) (Q : cd_Qt) (M : cx_M) (P : dP) (L : dL) (k n : Nat) (x1 : Int32) (x2 : Int32) : Prop :=
  cq_cal (cCc_within N.1 M x1 0 2) fun M1 v2 =>
  cd_thr 1  (bc - k) (bs - n) M1 P L v2 (fun M3 P4 L5 v6 r7 e9 k8 n9 => (e9 ≠ 0 → Q M3 P4 L5 v6 none e9 (k + k8) (n + n9)) ∧ (e9 = 0 → cd_add k k8 n n9 fun k10 n11 =>
  if x1 = 0 then (
    cq_get M3 1000 28 fun v14 =>
    dCc_turnD_45 N bc bs Q M3 P4 L5 k10 n11 x1 x2 v14)
  else (
    if x1 = 1 then (
      cq_get M3 1000 29 fun v13 =>
      dCc_turnD_45 N bc bs Q M3 P4 L5 k10 n11 x1 x2 v13)
    else (
      cq_get M3 1000 30 fun v12 =>
      dCc_turnD_45 N bc bs Q M3 P4 L5 k10 n11 x1 x2 v12))))
set_option maxRecDepth 100000 in
theorem dCc_turnD_0_v {l : Launch} {g : cx_G} {X : cx_X} {N : dNx} {bc bs : Nat} {Q : cd_Qt} (H : dX l g N.2 N.1) (hX : True) (M : cx_M) (P : dP) (L : dL) (k n : Nat) (x1 : Int32) (x2 : Int32) (hk : k ≤ bc ∧ n ≤ bs) (h : dCc_turnD_0 N bc bs Q M P L k n x1 x2) : cq_V l (dG g L P) X (esX1_turnD bc bs) cX1_turn 0 [(0, .ref (N.2 500)), (1, .int x1), (2, .int x2)] [] M k n (cd_finX g X (esX1_turnD bc bs) cd_rI Q) := by
  unfold dCc_turnD_0 at h
  refine cq_iload_n 1 dX1_turn_0 rfl ?_
  refine cq_iconst 0 dX1_turn_1 cx_ic_0 ?_
  refine cq_iconst 2 dX1_turn_2 cx_ic_2 ?_
  refine cq_cSi [.int x1, .int 0, .int 2] [] h (fun rs' h' => cCc_within_m (g := dG g L P) (N := N.1) (H.2.1 L P) M x1 0 2 rs' h') dX1_turn_3 g_X1_180 hg_X1_180 ⟨cx_le rfl, cx_le rfl⟩ rfl ⟨rfl, rfl⟩ hk rfl (cx_le rfl) (fun M1 v2 h => ?_)
  refine cd_xS [.int v2] [] (cc_there_m H.1.2.1 (bc := bc - k) (bs := bs - n) M1 P L v2 h) dX1_turn_6 gd_X1_184 hgd_X1_184 ⟨cx_le rfl, cx_le rfl⟩ (cd_bud hk) rfl (cx_le rfl) rfl (fun _ _ _ _ _ _ _ he h => h.1 he) (fun M3 P4 L5 v6 r7 k8 n9 hk2 h => ?_)
  refine cd_addI (h.2 rfl) (cd_bk hk hk2) (fun k10 n11 h hk => ?_)
  refine cq_iload_n 1 dX1_turn_9 rfl ?_
  refine cq_if_ne 23 h dX1_turn_10 rfl (fun h => ?_) (fun h => ?_)
  · refine cq_iload_n 1 dX1_turn_23 rfl ?_
    refine cq_iconst 1 dX1_turn_24 cx_ic_1 ?_
    refine cq_icmp_ne 38 h dX1_turn_25 rfl (fun h => ?_) (fun h => ?_)
    · refine cq_aload_n 0 dX1_turn_38 rfl ?_
      refine cq_getR (cCc_R3 (H.2.1 L5 P4)) q1020 dX1_turn_39 ?_
      refine cq_getIN h (cSt_F30 (cSt_i1000 (H.2.1 L5 P4))) q703 dX1_turn_42 (fun v12 h => ?_)
      exact dCc_turnD_45_v H hX M3 P4 L5 k10 n11 x1 x2 v12 hk h
    · refine cq_aload_n 0 dX1_turn_28 rfl ?_
      refine cq_getR (cCc_R3 (H.2.1 L5 P4)) q1020 dX1_turn_29 ?_
      refine cq_getIN h (cSt_F29 (cSt_i1000 (H.2.1 L5 P4))) q701 dX1_turn_32 (fun v13 h => ?_)
      refine cq_goto 45 dX1_turn_35 rfl ?_
      exact dCc_turnD_45_v H hX M3 P4 L5 k10 n11 x1 x2 v13 hk h
  · refine cq_aload_n 0 dX1_turn_13 rfl ?_
    refine cq_getR (cCc_R3 (H.2.1 L5 P4)) q1020 dX1_turn_14 ?_
    refine cq_getIN h (cSt_F28 (cSt_i1000 (H.2.1 L5 P4))) q699 dX1_turn_17 (fun v14 h => ?_)
    refine cq_goto 45 dX1_turn_20 rfl ?_
    exact dCc_turnD_45_v H hX M3 P4 L5 k10 n11 x1 x2 v14 hk h
def dCc_turnD (N : dNx) (bc bs : Nat) (M : cx_M) (P : dP) (L : dL) (x1 : Int32) (x2 : Int32) (Q : cd_Qt) : Prop := dCc_turnD_0 N bc bs Q M P L 0 0 x1 x2
set_option maxRecDepth 100000 in
theorem dCc_turnD_m {l : Launch} {g : cx_G} {N : dNx} {bc bs : Nat} {Q : cd_Qt} (H : dX l g N.2 N.1) (M : cx_M) (P : dP) (L : dL) (x1 : Int32) (x2 : Int32) (h : dCc_turnD N bc bs M P L x1 x2 Q) : cd_MetX l g yX1_turn cX1_turn (esX1_turnD bc bs) cd_rI [.ref (N.2 500), .int x1, .int x2] M P L Q :=
  cd_metX (by decide +kernel) rfl rfl (lv := [(0, .ref (N.2 500)), (1, .int x1), (2, .int x2)]) rfl (cx_le rfl) (fun X hX => cq_sub (lv' := [(0, .ref (N.2 500)), (1, .int x1), (2, .int x2)]) [0, 1, 2] rfl (dCc_turnD_0_v H hX M P L 0 0 x1 x2 ⟨Nat.zero_le _, Nat.zero_le _⟩ h))

abbrev esX1_toAimD (bc bs : Nat) : cx_S := (6, RX1, cx_rI, { frames := 906, cells := bc, slots := bs, locals := 30133 }, some .int, true)
def dCc_toAimD_118 (N : dNx) (bc bs : Nat) (Q : cd_Qt) (r_45 : cx_M → dP → dL → Nat → Nat → Int32 → Int32 → Int32 → Int32 → Int32 → Prop) (M : cx_M) (P : dP) (L : dL) (k n : Nat) (x1 : Int32) (x2 : Int32) (x3 : Int32) (x4 : Int32) (x5 : Int32) : Prop :=
  cq_let (x5 + 1) fun v1 =>
  r_45 M P L k n x1 x2 x3 x4 v1
set_option maxRecDepth 100000 in
theorem dCc_toAimD_118_v {l : Launch} {g : cx_G} {X : cx_X} {N : dNx} {bc bs : Nat} {Q : cd_Qt} {r_45 : cx_M → dP → dL → Nat → Nat → Int32 → Int32 → Int32 → Int32 → Int32 → Prop} (H : dX l g N.2 N.1) (hX : True) (hr_45 : ∀ (M : cx_M) (P : dP) (L : dL) (k n : Nat) (x1 : Int32) (x2 : Int32) (x3 : Int32) (x4 : Int32) (x5 : Int32), (k ≤ bc ∧ n ≤ bs) → r_45 M P L k n x1 x2 x3 x4 x5 → cq_V l (dG g L P) X (esX1_toAimD bc bs) cX1_toAim 45 [(0, .ref (N.2 500)), (1, .int x1), (2, .int x2), (3, .int x3), (4, .int x4), (5, .int x5)] [] M k n (cd_finX g X (esX1_toAimD bc bs) cd_rI Q)) (M : cx_M) (P : dP) (L : dL) (k n : Nat) (x1 : Int32) (x2 : Int32) (x3 : Int32) (x4 : Int32) (x5 : Int32) (hk : k ≤ bc ∧ n ≤ bs) (h : dCc_toAimD_118 N bc bs Q r_45 M P L k n x1 x2 x3 x4 x5) : cq_V l (dG g L P) X (esX1_toAimD bc bs) cX1_toAim 118 [(0, .ref (N.2 500)), (1, .int x1), (2, .int x2), (3, .int x3), (4, .int x4), (5, .int x5)] [] M k n (cd_finX g X (esX1_toAimD bc bs) cd_rI Q) := by
  unfold dCc_toAimD_118 at h
  refine cq_iinc 5 1 (fun v1 => [(5, .int v1), (0, .ref (N.2 500)), (1, .int x1), (2, .int x2), (3, .int x3), (4, .int x4)]) h dX1_toAim_118 rfl cx_ic_1 (cx_lt rfl) (fun _ => rfl) (fun v1 h => ?_)
  refine cq_goto 45 dX1_toAim_121 rfl ?_
  refine cq_sub (lv' := [(0, .ref (N.2 500)), (1, .int x1), (2, .int x2), (3, .int x3), (4, .int x4), (5, .int v1)]) [1, 2, 3, 4, 5, 0] rfl ?_
  exact hr_45 M P L k n x1 x2 x3 x4 v1 hk h
def dCc_toAimD_45b (N : dNx) (bc bs : Nat) (Q : cd_Qt) (r_45 : cx_M → dP → dL → Nat → Nat → Int32 → Int32 → Int32 → Int32 → Int32 → Prop) (M : cx_M) (P : dP) (L : dL) (k n : Nat) (x1 : Int32) (x2 : Int32) (x3 : Int32) (x4 : Int32) (x5 : Int32) : Prop :=
  if 64 < x5 then (
    cq_put M 1100 45 0 fun M1 =>
    if x2 = 0 then (
      Q M1 P L x3 none 0 k n)
    else (
      Q M1 P L x4 none 0 k n))
  else (
    cq_cal (cCc_tries N.1 M 0) fun M2 _ =>
    cq_put M2 1100 30 x5 fun M3 =>
    cq_cal (cCc_goes N.1 1100 M3 x1) fun M4 _ =>
    cq_get M4 1100 7 fun v5 =>
    cq_get M4 1000 7 fun v6 =>
    if (v5 - v6) < x4 then (
      cq_get M4 1100 7 fun v7 =>
      cq_get M4 1000 7 fun v8 =>
      cq_let (v7 - v8) fun v9 =>
      dCc_toAimD_118 N bc bs Q r_45 M4 P L k n x1 x2 x5 v9 x5)
    else (
      dCc_toAimD_118 N bc bs Q r_45 M4 P L k n x1 x2 x3 x4 x5))
set_option maxRecDepth 100000 in
theorem dCc_toAimD_45b_v {l : Launch} {g : cx_G} {X : cx_X} {N : dNx} {bc bs : Nat} {Q : cd_Qt} {r_45 : cx_M → dP → dL → Nat → Nat → Int32 → Int32 → Int32 → Int32 → Int32 → Prop} (H : dX l g N.2 N.1) (hX : True) (hr_45 : ∀ (M : cx_M) (P : dP) (L : dL) (k n : Nat) (x1 : Int32) (x2 : Int32) (x3 : Int32) (x4 : Int32) (x5 : Int32), (k ≤ bc ∧ n ≤ bs) → r_45 M P L k n x1 x2 x3 x4 x5 → cq_V l (dG g L P) X (esX1_toAimD bc bs) cX1_toAim 45 [(0, .ref (N.2 500)), (1, .int x1), (2, .int x2), (3, .int x3), (4, .int x4), (5, .int x5)] [] M k n (cd_finX g X (esX1_toAimD bc bs) cd_rI Q)) (M : cx_M) (P : dP) (L : dL) (k n : Nat) (x1 : Int32) (x2 : Int32) (x3 : Int32) (x4 : Int32) (x5 : Int32) (hk : k ≤ bc ∧ n ≤ bs) (h : dCc_toAimD_45b N bc bs Q r_45 M P L k n x1 x2 x3 x4 x5) : cq_V l (dG g L P) X (esX1_toAimD bc bs) cX1_toAim 45 [(0, .ref (N.2 500)), (1, .int x1), (2, .int x2), (3, .int x3), (4, .int x4), (5, .int x5)] [] M k n (cd_finX g X (esX1_toAimD bc bs) cd_rI Q) := by
  unfold dCc_toAimD_45b at h
  refine cq_iload 5 dX1_toAim_45 rfl ?_
  refine cq_bipush 64 dX1_toAim_47 cx_bp_64 ?_
  refine cq_icmp_gt 124 h dX1_toAim_49 rfl (fun h => ?_) (fun h => ?_)
  · refine cq_aload_n 0 dX1_toAim_124 rfl ?_
    refine cq_getR (cCc_R4 (H.2.1 L P)) q1021 dX1_toAim_125 ?_
    refine cq_null dX1_toAim_128 ?_
    refine cq_putON h (cSt_O45 (cSt_i1100 (H.2.1 L P))) cx_on0 rfl q730 dX1_toAim_129 (fun M1 h => ?_)
    refine cq_iload_n 2 dX1_toAim_132 rfl ?_
    refine cq_if_ne 140 h dX1_toAim_133 rfl (fun h => ?_) (fun h => ?_)
    · refine cq_iload 4 dX1_toAim_140 rfl ?_
      exact cd_toX (cd_iret hk h rfl dX1_toAim_142)
    · refine cq_iload_n 3 dX1_toAim_136 rfl ?_
      refine cq_goto 142 dX1_toAim_137 rfl ?_
      exact cd_toX (cd_iret hk h rfl dX1_toAim_142)
  · refine cq_aload_n 0 dX1_toAim_52 rfl ?_
    refine cq_iconst 0 dX1_toAim_53 cx_ic_0 ?_
    refine cq_cVv [.int 0] [] h (fun rs' h' => cCc_tries_m (g := dG g L P) (N := N.1) (H.2.1 L P) M 0 rs' h') (cCc_rc (H.2.1 L P)) dX1_toAim_54 g_X1_411 hg_X1_411 ⟨cx_le rfl, cx_le rfl⟩ rfl ⟨rfl, rfl⟩ hk rfl (cx_le rfl) (fun M2 _ h => ?_)
    refine cq_aload_n 0 dX1_toAim_57 rfl ?_
    refine cq_getR (cCc_R4 (H.2.1 L P)) q1021 dX1_toAim_58 ?_
    refine cq_iload 5 dX1_toAim_61 rfl ?_
    refine cq_putIN h (cSt_F30 (cSt_i1100 (H.2.1 L P))) rfl rfl rfl q703 dX1_toAim_63 (fun M3 h => ?_)
    refine cq_aload_n 0 dX1_toAim_66 rfl ?_
    refine cq_aload_n 0 dX1_toAim_67 rfl ?_
    refine cq_getR (cCc_R4 (H.2.1 L P)) q1021 dX1_toAim_68 ?_
    refine cq_iload_n 1 dX1_toAim_71 rfl ?_
    refine cq_cVv [.ref (N.2 1100), .int x1] [] h (fun rs' h' => cCc_goes_m (g := dG g L P) (N := N.1) (H.2.1 L P) (cSt_i1100 (H.2.1 L P)) M3 x1 rs' h') (cCc_rc (H.2.1 L P)) dX1_toAim_72 g_X1_397 hg_X1_397 ⟨cx_le rfl, cx_le rfl⟩ rfl ⟨rfl, rfl⟩ hk rfl (cx_le rfl) (fun M4 _ h => ?_)
    refine cq_aload_n 0 dX1_toAim_75 rfl ?_
    refine cq_getR (cCc_R4 (H.2.1 L P)) q1021 dX1_toAim_76 ?_
    refine cq_getIN h (cSt_F7 (cSt_i1100 (H.2.1 L P))) q663 dX1_toAim_79 (fun v5 h => ?_)
    refine cq_aload_n 0 dX1_toAim_82 rfl ?_
    refine cq_getR (cCc_R3 (H.2.1 L P)) q1020 dX1_toAim_83 ?_
    refine cq_getIN h (cSt_F7 (cSt_i1000 (H.2.1 L P))) q663 dX1_toAim_86 (fun v6 h => ?_)
    refine cq_isub dX1_toAim_89 ?_
    refine cq_iload 4 dX1_toAim_90 rfl ?_
    refine cq_icmp_lt 98 h dX1_toAim_92 rfl (fun h => ?_) (fun h => ?_)
    · refine cq_iload 5 dX1_toAim_98 rfl ?_
      refine cq_istore_n [(3, .int x5), (0, .ref (N.2 500)), (1, .int x1), (2, .int x2), (4, .int x4), (5, .int x5)] dX1_toAim_100 (cx_lt rfl) rfl ?_
      refine cq_aload_n 1 dX1_toAim_101 rfl ?_
      refine cq_getR (cCc_R4 (H.2.1 L P)) q1021 dX1_toAim_102 ?_
      refine cq_getIN h (cSt_F7 (cSt_i1100 (H.2.1 L P))) q663 dX1_toAim_105 (fun v7 h => ?_)
      refine cq_aload_n 1 dX1_toAim_108 rfl ?_
      refine cq_getR (cCc_R3 (H.2.1 L P)) q1020 dX1_toAim_109 ?_
      refine cq_getIN h (cSt_F7 (cSt_i1000 (H.2.1 L P))) q663 dX1_toAim_112 (fun v8 h => ?_)
      refine cq_isub dX1_toAim_115 ?_
      refine cq_letI h (fun v9 h => ?_)
      refine cq_istore [(4, .int v9), (3, .int x5), (0, .ref (N.2 500)), (1, .int x1), (2, .int x2), (5, .int x5)] dX1_toAim_116 (cx_lt rfl) rfl ?_
      refine cq_sub (lv' := [(0, .ref (N.2 500)), (1, .int x1), (2, .int x2), (3, .int x5), (4, .int v9), (5, .int x5)]) [2, 3, 4, 1, 0, 5] rfl ?_
      exact dCc_toAimD_118_v H hX hr_45 M4 P L k n x1 x2 x5 v9 x5 hk h
    · refine cq_goto 118 dX1_toAim_95 rfl ?_
      exact dCc_toAimD_118_v H hX hr_45 M4 P L k n x1 x2 x3 x4 x5 hk h
def dCc_toAimD_45 (N : dNx) (bc bs : Nat) (Q : cd_Qt) : Nat → cx_M → dP → dL → Nat → Nat → Int32 → Int32 → Int32 → Int32 → Int32 → Prop :=
  cx_fix (fun _ _ _ _ _ _ _ _ _ _ => False) (fun r_45 => dCc_toAimD_45b N bc bs Q r_45)
theorem dCc_toAimD_45_v {l : Launch} {g : cx_G} {X : cx_X} {N : dNx} {bc bs : Nat} {Q : cd_Qt} (H : dX l g N.2 N.1) (hX : True) : ∀ (f : Nat) (M : cx_M) (P : dP) (L : dL) (k n : Nat) (x1 : Int32) (x2 : Int32) (x3 : Int32) (x4 : Int32) (x5 : Int32), (k ≤ bc ∧ n ≤ bs) → dCc_toAimD_45 N bc bs Q f M P L k n x1 x2 x3 x4 x5 → cq_V l (dG g L P) X (esX1_toAimD bc bs) cX1_toAim 45 [(0, .ref (N.2 500)), (1, .int x1), (2, .int x2), (3, .int x3), (4, .int x4), (5, .int x5)] [] M k n (cd_finX g X (esX1_toAimD bc bs) cd_rI Q) :=
  cx_fixI (fun (r : cx_M → dP → dL → Nat → Nat → Int32 → Int32 → Int32 → Int32 → Int32 → Prop) => ∀ (M : cx_M) (P : dP) (L : dL) (k n : Nat) (x1 : Int32) (x2 : Int32) (x3 : Int32) (x4 : Int32) (x5 : Int32), (k ≤ bc ∧ n ≤ bs) → r M P L k n x1 x2 x3 x4 x5 → cq_V l (dG g L P) X (esX1_toAimD bc bs) cX1_toAim 45 [(0, .ref (N.2 500)), (1, .int x1), (2, .int x2), (3, .int x3), (4, .int x4), (5, .int x5)] [] M k n (cd_finX g X (esX1_toAimD bc bs) cd_rI Q)) (fun _ _ _ _ _ _ _ _ _ _ _ h => by cases h) (fun r hr M P L k n x1 x2 x3 x4 x5 hk h => dCc_toAimD_45b_v H hX hr M P L k n x1 x2 x3 x4 x5 hk h)
def dCc_toAimD_0 (N : dNx) (bc bs : Nat) (Q : cd_Qt) (M : cx_M) (P : dP) (L : dL) (k n : Nat) (x1 : Int32) (x2 : Int32) : Prop :=
  cq_cal (cCc_within N.1 M x2 0 1) fun M1 v2 =>
  cd_thr 1  (bc - k) (bs - n) M1 P L v2 (fun M3 P4 L5 v6 r7 e9 k8 n9 => (e9 ≠ 0 → Q M3 P4 L5 v6 none e9 (k + k8) (n + n9)) ∧ (e9 = 0 → cd_add k k8 n n9 fun k10 n11 =>
  dCc_soonD N (bc - k10) (bs - n11) M3 P4 L5 x1 1 (fun M12 P13 L14 v15 r16 e9 k17 n18 => (e9 ≠ 0 → Q M12 P13 L14 v15 none e9 (k10 + k17) (n11 + n18)) ∧ (e9 = 0 → cd_add k10 k17 n11 n18 fun k19 n20 =>
  cq_get M12 1000 2 fun v21 =>
  cq_cal (cCo_begins N.1 M12 v21) fun M22 v23 =>
  cq_put M22 1100 45 1 fun M24 =>
  dCc_toAimD_45 N bc bs Q N.1.1 M24 P13 L14 k19 n20 x1 x2 (-1) 999999 1))))
set_option maxRecDepth 100000 in
theorem dCc_toAimD_0_v {l : Launch} {g : cx_G} {X : cx_X} {N : dNx} {bc bs : Nat} {Q : cd_Qt} (H : dX l g N.2 N.1) (hX : True) (M : cx_M) (P : dP) (L : dL) (k n : Nat) (x1 : Int32) (x2 : Int32) (hk : k ≤ bc ∧ n ≤ bs) (h : dCc_toAimD_0 N bc bs Q M P L k n x1 x2) : cq_V l (dG g L P) X (esX1_toAimD bc bs) cX1_toAim 0 [(0, .ref (N.2 500)), (1, .int x1), (2, .int x2)] [] M k n (cd_finX g X (esX1_toAimD bc bs) cd_rI Q) := by
  unfold dCc_toAimD_0 at h
  refine cq_iload_n 2 dX1_toAim_0 rfl ?_
  refine cq_iconst 0 dX1_toAim_1 cx_ic_0 ?_
  refine cq_iconst 1 dX1_toAim_2 cx_ic_1 ?_
  refine cq_cSi [.int x2, .int 0, .int 1] [] h (fun rs' h' => cCc_within_m (g := dG g L P) (N := N.1) (H.2.1 L P) M x2 0 1 rs' h') dX1_toAim_3 g_X1_180 hg_X1_180 ⟨cx_le rfl, cx_le rfl⟩ rfl ⟨rfl, rfl⟩ hk rfl (cx_le rfl) (fun M1 v2 h => ?_)
  refine cd_xS [.int v2] [] (cc_there_m H.1.2.1 (bc := bc - k) (bs := bs - n) M1 P L v2 h) dX1_toAim_6 gd_X1_184 hgd_X1_184 ⟨cx_le rfl, cx_le rfl⟩ (cd_bud hk) rfl (cx_le rfl) rfl (fun _ _ _ _ _ _ _ he h => h.1 he) (fun M3 P4 L5 v6 r7 k8 n9 hk2 h => ?_)
  refine cd_addI (h.2 rfl) (cd_bk hk hk2) (fun k10 n11 h hk => ?_)
  refine cq_iload_n 1 dX1_toAim_9 rfl ?_
  refine cq_iconst 1 dX1_toAim_10 cx_ic_1 ?_
  refine cd_xS [.int x1, .int 1] [] (dCc_soonD_m H (N := N) (bc := bc - k10) (bs := bs - n11) M3 P4 L5 x1 1 h) dX1_toAim_11 gd_X1_407D hgd_X1_407D ⟨cx_le rfl, cx_le rfl⟩ (cd_bud hk) rfl (cx_le rfl) rfl (fun _ _ _ _ _ _ _ he h => h.1 he) (fun M12 P13 L14 v15 r16 k17 n18 hk2 h => ?_)
  refine cd_addI (h.2 rfl) (cd_bk hk hk2) (fun k19 n20 h hk => ?_)
  refine cq_iconst (-1) dX1_toAim_14 cx_ic_m1 ?_
  refine cq_istore_n [(3, .int (-1)), (0, .ref (N.2 500)), (1, .int x1), (2, .int x2)] dX1_toAim_15 (cx_lt rfl) rfl ?_
  refine cq_ldcw 999999 dX1_toAim_16 q2303 ?_
  refine cq_istore [(4, .int 999999), (3, .int (-1)), (0, .ref (N.2 500)), (1, .int x1), (2, .int x2)] dX1_toAim_19 (cx_lt rfl) rfl ?_
  refine cq_aload_n 2 dX1_toAim_21 rfl ?_
  refine cq_getR (cCc_R4 (H.2.1 L14 P13)) q1021 dX1_toAim_22 ?_
  refine cq_aload_n 2 dX1_toAim_25 rfl ?_
  refine cq_getR (cCc_R13 (H.2.1 L14 P13)) q1030 dX1_toAim_26 ?_
  refine cq_aload_n 2 dX1_toAim_29 rfl ?_
  refine cq_getR (cCc_R3 (H.2.1 L14 P13)) q1020 dX1_toAim_30 ?_
  refine cq_getIN h (cSt_F2 (cSt_i1000 (H.2.1 L14 P13))) q653 dX1_toAim_33 (fun v21 h => ?_)
  refine cq_cVr [.int v21] [.ref (N.2 1100)] h (fun rs' h' => cCo_begins_m (g := dG g L14 P13) (N := N.1) (H.2.1 L14 P13) M12 v21 rs' h') (cCo_rc (H.2.1 L14 P13)) dX1_toAim_36 g_X1_450 hg_X1_450 ⟨cx_le rfl, cx_le rfl⟩ rfl ⟨rfl, rfl⟩ hk rfl (cx_le rfl) (fun M22 v23 h => ?_)
  refine cq_putON h (cSt_O45 (cSt_i1100 (H.2.1 L14 P13))) cx_on1 rfl q730 dX1_toAim_39 (fun M24 h => ?_)
  refine cq_iconst 1 dX1_toAim_42 cx_ic_1 ?_
  refine cq_istore [(5, .int 1), (4, .int 999999), (3, .int (-1)), (0, .ref (N.2 500)), (1, .int x1), (2, .int x2)] dX1_toAim_43 (cx_lt rfl) rfl ?_
  refine cq_sub (lv' := [(0, .ref (N.2 500)), (1, .int x1), (2, .int x2), (3, .int (-1)), (4, .int 999999), (5, .int 1)]) [3, 4, 5, 2, 1, 0] rfl ?_
  exact dCc_toAimD_45_v H hX N.1.1 M24 P13 L14 k19 n20 x1 x2 (-1) 999999 1 hk h
def dCc_toAimD (N : dNx) (bc bs : Nat) (M : cx_M) (P : dP) (L : dL) (x1 : Int32) (x2 : Int32) (Q : cd_Qt) : Prop := dCc_toAimD_0 N bc bs Q M P L 0 0 x1 x2
set_option maxRecDepth 100000 in
theorem dCc_toAimD_m {l : Launch} {g : cx_G} {N : dNx} {bc bs : Nat} {Q : cd_Qt} (H : dX l g N.2 N.1) (M : cx_M) (P : dP) (L : dL) (x1 : Int32) (x2 : Int32) (h : dCc_toAimD N bc bs M P L x1 x2 Q) : cd_MetX l g yX1_toAim cX1_toAim (esX1_toAimD bc bs) cd_rI [.ref (N.2 500), .int x1, .int x2] M P L Q :=
  cd_metX (by decide +kernel) rfl rfl (lv := [(0, .ref (N.2 500)), (1, .int x1), (2, .int x2)]) rfl (cx_le rfl) (fun X hX => cq_sub (lv' := [(0, .ref (N.2 500)), (1, .int x1), (2, .int x2)]) [0, 1, 2] rfl (dCc_toAimD_0_v H hX M P L 0 0 x1 x2 ⟨Nat.zero_le _, Nat.zero_le _⟩ h))

abbrev esX1_toGainD (bc bs : Nat) : cx_S := (7, RX1, cx_rI, { frames := 906, cells := bc, slots := bs, locals := 30135 }, some .int, true)
def dCc_toGainD_127 (N : dNx) (bc bs : Nat) (Q : cd_Qt) (r_43 : cx_M → dP → dL → Nat → Nat → Int32 → Int32 → Int32 → Int32 → Int32 → Prop) (M : cx_M) (P : dP) (L : dL) (k n : Nat) (x1 : Int32) (x2 : Int32) (x3 : Int32) (x4 : Int32) (x5 : Int32) : Prop :=
  cq_let (x5 + 1) fun v1 =>
  r_43 M P L k n x1 x2 x3 x4 v1
set_option maxRecDepth 100000 in
theorem dCc_toGainD_127_v {l : Launch} {g : cx_G} {X : cx_X} {N : dNx} {bc bs : Nat} {Q : cd_Qt} {r_43 : cx_M → dP → dL → Nat → Nat → Int32 → Int32 → Int32 → Int32 → Int32 → Prop} (H : dX l g N.2 N.1) (hX : True) (hr_43 : ∀ (M : cx_M) (P : dP) (L : dL) (k n : Nat) (x1 : Int32) (x2 : Int32) (x3 : Int32) (x4 : Int32) (x5 : Int32), (k ≤ bc ∧ n ≤ bs) → r_43 M P L k n x1 x2 x3 x4 x5 → cq_V l (dG g L P) X (esX1_toGainD bc bs) cX1_toGain 43 [(0, .ref (N.2 500)), (1, .int x1), (2, .int x2), (3, .int x3), (4, .int x4), (5, .int x5)] [] M k n (cd_finX g X (esX1_toGainD bc bs) cd_rI Q)) (M : cx_M) (P : dP) (L : dL) (k n : Nat) (x1 : Int32) (x2 : Int32) (x3 : Int32) (x4 : Int32) (x5 : Int32) (hk : k ≤ bc ∧ n ≤ bs) (h : dCc_toGainD_127 N bc bs Q r_43 M P L k n x1 x2 x3 x4 x5) : cq_V l (dG g L P) X (esX1_toGainD bc bs) cX1_toGain 127 [(0, .ref (N.2 500)), (1, .int x1), (2, .int x2), (3, .int x3), (4, .int x4), (5, .int x5)] [] M k n (cd_finX g X (esX1_toGainD bc bs) cd_rI Q) := by
  unfold dCc_toGainD_127 at h
  refine cq_iinc 5 1 (fun v1 => [(5, .int v1), (0, .ref (N.2 500)), (1, .int x1), (2, .int x2), (3, .int x3), (4, .int x4)]) h dX1_toGain_127 rfl cx_ic_1 (cx_lt rfl) (fun _ => rfl) (fun v1 h => ?_)
  refine cq_goto 43 dX1_toGain_130 rfl ?_
  refine cq_sub (lv' := [(0, .ref (N.2 500)), (1, .int x1), (2, .int x2), (3, .int x3), (4, .int x4), (5, .int v1)]) [1, 2, 3, 4, 5, 0] rfl ?_
  exact hr_43 M P L k n x1 x2 x3 x4 v1 hk h
def dCc_toGainD_120 (N : dNx) (bc bs : Nat) (Q : cd_Qt) (r_43 : cx_M → dP → dL → Nat → Nat → Int32 → Int32 → Int32 → Int32 → Int32 → Prop) (M : cx_M) (P : dP) (L : dL) (k n : Nat) (x1 : Int32) (x2 : Int32) (x5 : Int32) (x6 : Int32) : Prop :=
  dCc_toGainD_127 N bc bs Q r_43 M P L k n x1 x2 x5 x6 x5
set_option maxRecDepth 100000 in
theorem dCc_toGainD_120_v {l : Launch} {g : cx_G} {X : cx_X} {N : dNx} {bc bs : Nat} {Q : cd_Qt} {r_43 : cx_M → dP → dL → Nat → Nat → Int32 → Int32 → Int32 → Int32 → Int32 → Prop} (H : dX l g N.2 N.1) (hX : True) (hr_43 : ∀ (M : cx_M) (P : dP) (L : dL) (k n : Nat) (x1 : Int32) (x2 : Int32) (x3 : Int32) (x4 : Int32) (x5 : Int32), (k ≤ bc ∧ n ≤ bs) → r_43 M P L k n x1 x2 x3 x4 x5 → cq_V l (dG g L P) X (esX1_toGainD bc bs) cX1_toGain 43 [(0, .ref (N.2 500)), (1, .int x1), (2, .int x2), (3, .int x3), (4, .int x4), (5, .int x5)] [] M k n (cd_finX g X (esX1_toGainD bc bs) cd_rI Q)) (M : cx_M) (P : dP) (L : dL) (k n : Nat) (x1 : Int32) (x2 : Int32) (x5 : Int32) (x6 : Int32) (hk : k ≤ bc ∧ n ≤ bs) (h : dCc_toGainD_120 N bc bs Q r_43 M P L k n x1 x2 x5 x6) : cq_V l (dG g L P) X (esX1_toGainD bc bs) cX1_toGain 120 [(0, .ref (N.2 500)), (1, .int x1), (2, .int x2), (5, .int x5), (6, .int x6)] [] M k n (cd_finX g X (esX1_toGainD bc bs) cd_rI Q) := by
  unfold dCc_toGainD_120 at h
  refine cq_iload 3 dX1_toGain_120 rfl ?_
  refine cq_istore_n [(3, .int x5), (0, .ref (N.2 500)), (1, .int x1), (2, .int x2), (5, .int x5), (6, .int x6)] dX1_toGain_122 (cx_lt rfl) rfl ?_
  refine cq_iload 5 dX1_toGain_123 rfl ?_
  refine cq_istore [(4, .int x6), (3, .int x5), (0, .ref (N.2 500)), (1, .int x1), (2, .int x2), (5, .int x5), (6, .int x6)] dX1_toGain_125 (cx_lt rfl) rfl ?_
  refine cq_sub (lv' := [(0, .ref (N.2 500)), (1, .int x1), (2, .int x2), (3, .int x5), (4, .int x6), (5, .int x5)]) [2, 3, 4, 1, 0, 5] rfl ?_
  exact dCc_toGainD_127_v H hX hr_43 M P L k n x1 x2 x5 x6 x5 hk h
def dCc_toGainD_43b (N : dNx) (bc bs : Nat) (Q : cd_Qt) (r_43 : cx_M → dP → dL → Nat → Nat → Int32 → Int32 → Int32 → Int32 → Int32 → Prop) (M : cx_M) (P : dP) (L : dL) (k n : Nat) (x1 : Int32) (x2 : Int32) (x3 : Int32) (x4 : Int32) (x5 : Int32) : Prop :=
  if 100 ≤ x5 then (
    cq_put M 1100 45 0 fun M1 =>
    if x2 = 0 then (
      Q M1 P L x3 none 0 k n)
    else (
      Q M1 P L x4 none 0 k n))
  else (
    if (cx_rem x5 10) ≤ 3 then (
      cq_cal (cCc_tries N.1 M 0) fun M2 _ =>
      cq_put M2 1100 31 (x5 / 10) fun M3 =>
      cq_put M3 1100 32 (cx_rem x5 10) fun M4 =>
      cq_cal (cCc_mostOff N.1 M4 x1) fun M5 v6 =>
      if v6 = (-1) then (
        dCc_toGainD_127 N bc bs Q r_43 M5 P L k n x1 x2 x3 x4 x5)
      else (
        if x4 = (-1) then (
          dCc_toGainD_120 N bc bs Q r_43 M5 P L k n x1 x2 x5 v6)
        else (
          if v6 < x4 then (
            dCc_toGainD_120 N bc bs Q r_43 M5 P L k n x1 x2 x5 v6)
          else (
            dCc_toGainD_127 N bc bs Q r_43 M5 P L k n x1 x2 x3 x4 x5))))
    else (
      dCc_toGainD_127 N bc bs Q r_43 M P L k n x1 x2 x3 x4 x5))
set_option maxRecDepth 100000 in
theorem dCc_toGainD_43b_v {l : Launch} {g : cx_G} {X : cx_X} {N : dNx} {bc bs : Nat} {Q : cd_Qt} {r_43 : cx_M → dP → dL → Nat → Nat → Int32 → Int32 → Int32 → Int32 → Int32 → Prop} (H : dX l g N.2 N.1) (hX : True) (hr_43 : ∀ (M : cx_M) (P : dP) (L : dL) (k n : Nat) (x1 : Int32) (x2 : Int32) (x3 : Int32) (x4 : Int32) (x5 : Int32), (k ≤ bc ∧ n ≤ bs) → r_43 M P L k n x1 x2 x3 x4 x5 → cq_V l (dG g L P) X (esX1_toGainD bc bs) cX1_toGain 43 [(0, .ref (N.2 500)), (1, .int x1), (2, .int x2), (3, .int x3), (4, .int x4), (5, .int x5)] [] M k n (cd_finX g X (esX1_toGainD bc bs) cd_rI Q)) (M : cx_M) (P : dP) (L : dL) (k n : Nat) (x1 : Int32) (x2 : Int32) (x3 : Int32) (x4 : Int32) (x5 : Int32) (hk : k ≤ bc ∧ n ≤ bs) (h : dCc_toGainD_43b N bc bs Q r_43 M P L k n x1 x2 x3 x4 x5) : cq_V l (dG g L P) X (esX1_toGainD bc bs) cX1_toGain 43 [(0, .ref (N.2 500)), (1, .int x1), (2, .int x2), (3, .int x3), (4, .int x4), (5, .int x5)] [] M k n (cd_finX g X (esX1_toGainD bc bs) cd_rI Q) := by
  unfold dCc_toGainD_43b at h
  refine cq_iload 5 dX1_toGain_43 rfl ?_
  refine cq_bipush 100 dX1_toGain_45 cx_bp_100 ?_
  refine cq_icmp_ge 133 h dX1_toGain_47 rfl (fun h => ?_) (fun h => ?_)
  · refine cq_aload_n 0 dX1_toGain_133 rfl ?_
    refine cq_getR (cCc_R4 (H.2.1 L P)) q1021 dX1_toGain_134 ?_
    refine cq_null dX1_toGain_137 ?_
    refine cq_putON h (cSt_O45 (cSt_i1100 (H.2.1 L P))) cx_on0 rfl q730 dX1_toGain_138 (fun M1 h => ?_)
    refine cq_iload_n 2 dX1_toGain_141 rfl ?_
    refine cq_if_ne 149 h dX1_toGain_142 rfl (fun h => ?_) (fun h => ?_)
    · refine cq_iload 4 dX1_toGain_149 rfl ?_
      exact cd_toX (cd_iret hk h rfl dX1_toGain_151)
    · refine cq_iload_n 3 dX1_toGain_145 rfl ?_
      refine cq_goto 151 dX1_toGain_146 rfl ?_
      exact cd_toX (cd_iret hk h rfl dX1_toGain_151)
  · refine cq_iload 5 dX1_toGain_50 rfl ?_
    refine cq_bipush 10 dX1_toGain_52 cx_bp_10 ?_
    refine cq_iremC cx_ne_10 dX1_toGain_54 ?_
    refine cq_iconst 3 dX1_toGain_55 cx_ic_3 ?_
    refine cq_icmp_le 62 h dX1_toGain_56 rfl (fun h => ?_) (fun h => ?_)
    · refine cq_aload_n 0 dX1_toGain_62 rfl ?_
      refine cq_iconst 0 dX1_toGain_63 cx_ic_0 ?_
      refine cq_cVv [.int 0] [] h (fun rs' h' => cCc_tries_m (g := dG g L P) (N := N.1) (H.2.1 L P) M 0 rs' h') (cCc_rc (H.2.1 L P)) dX1_toGain_64 g_X1_411 hg_X1_411 ⟨cx_le rfl, cx_le rfl⟩ rfl ⟨rfl, rfl⟩ hk rfl (cx_le rfl) (fun M2 _ h => ?_)
      refine cq_aload_n 0 dX1_toGain_67 rfl ?_
      refine cq_getR (cCc_R4 (H.2.1 L P)) q1021 dX1_toGain_68 ?_
      refine cq_iload 5 dX1_toGain_71 rfl ?_
      refine cq_bipush 10 dX1_toGain_73 cx_bp_10 ?_
      refine cq_idivC cx_ne_10 dX1_toGain_75 ?_
      refine cq_putIN h (cSt_F31 (cSt_i1100 (H.2.1 L P))) rfl rfl rfl q705 dX1_toGain_76 (fun M3 h => ?_)
      refine cq_aload_n 0 dX1_toGain_79 rfl ?_
      refine cq_getR (cCc_R4 (H.2.1 L P)) q1021 dX1_toGain_80 ?_
      refine cq_iload 5 dX1_toGain_83 rfl ?_
      refine cq_bipush 10 dX1_toGain_85 cx_bp_10 ?_
      refine cq_iremC cx_ne_10 dX1_toGain_87 ?_
      refine cq_putIN h (cSt_F32 (cSt_i1100 (H.2.1 L P))) rfl rfl rfl q707 dX1_toGain_88 (fun M4 h => ?_)
      refine cq_aload_n 0 dX1_toGain_91 rfl ?_
      refine cq_iload_n 1 dX1_toGain_92 rfl ?_
      refine cq_cVi [.int x1] [] h (fun rs' h' => cCc_mostOff_m (g := dG g L P) (N := N.1) (H.2.1 L P) M4 x1 rs' h') (cCc_rc (H.2.1 L P)) dX1_toGain_93 g_X1_454 hg_X1_454 ⟨cx_le rfl, cx_le rfl⟩ rfl ⟨rfl, rfl⟩ hk rfl (cx_le rfl) (fun M5 v6 h => ?_)
      refine cq_istore [(6, .int v6), (0, .ref (N.2 500)), (1, .int x1), (2, .int x2), (3, .int x3), (4, .int x4), (5, .int x5)] dX1_toGain_96 (cx_lt rfl) rfl ?_
      refine cq_iload 0 dX1_toGain_98 rfl ?_
      refine cq_iconst (-1) dX1_toGain_100 cx_ic_m1 ?_
      refine cq_icmp_eq 127 h dX1_toGain_101 rfl (fun h => ?_) (fun h => ?_)
      · refine cq_sub (lv' := [(0, .ref (N.2 500)), (1, .int x1), (2, .int x2), (3, .int x3), (4, .int x4), (5, .int x5)]) [1, 2, 3, 4, 5, 6] rfl ?_
        exact dCc_toGainD_127_v H hX hr_43 M5 P L k n x1 x2 x3 x4 x5 hk h
      · refine cq_iload 5 dX1_toGain_104 rfl ?_
        refine cq_iconst (-1) dX1_toGain_106 cx_ic_m1 ?_
        refine cq_icmp_eq 120 h dX1_toGain_107 rfl (fun h => ?_) (fun h => ?_)
        · refine cq_sub (lv' := [(0, .ref (N.2 500)), (1, .int x1), (2, .int x2), (5, .int x5), (6, .int v6)]) [1, 2, 3, 6, 0] rfl ?_
          exact dCc_toGainD_120_v H hX hr_43 M5 P L k n x1 x2 x5 v6 hk h
        · refine cq_iload 0 dX1_toGain_110 rfl ?_
          refine cq_iload 5 dX1_toGain_112 rfl ?_
          refine cq_icmp_lt 120 h dX1_toGain_114 rfl (fun h => ?_) (fun h => ?_)
          · refine cq_sub (lv' := [(0, .ref (N.2 500)), (1, .int x1), (2, .int x2), (5, .int x5), (6, .int v6)]) [1, 2, 3, 6, 0] rfl ?_
            exact dCc_toGainD_120_v H hX hr_43 M5 P L k n x1 x2 x5 v6 hk h
          · refine cq_goto 127 dX1_toGain_117 rfl ?_
            refine cq_sub (lv' := [(0, .ref (N.2 500)), (1, .int x1), (2, .int x2), (3, .int x3), (4, .int x4), (5, .int x5)]) [1, 2, 3, 4, 5, 6] rfl ?_
            exact dCc_toGainD_127_v H hX hr_43 M5 P L k n x1 x2 x3 x4 x5 hk h
    · refine cq_goto 127 dX1_toGain_59 rfl ?_
      exact dCc_toGainD_127_v H hX hr_43 M P L k n x1 x2 x3 x4 x5 hk h
def dCc_toGainD_43 (N : dNx) (bc bs : Nat) (Q : cd_Qt) : Nat → cx_M → dP → dL → Nat → Nat → Int32 → Int32 → Int32 → Int32 → Int32 → Prop :=
  cx_fix (fun _ _ _ _ _ _ _ _ _ _ => False) (fun r_43 => dCc_toGainD_43b N bc bs Q r_43)
theorem dCc_toGainD_43_v {l : Launch} {g : cx_G} {X : cx_X} {N : dNx} {bc bs : Nat} {Q : cd_Qt} (H : dX l g N.2 N.1) (hX : True) : ∀ (f : Nat) (M : cx_M) (P : dP) (L : dL) (k n : Nat) (x1 : Int32) (x2 : Int32) (x3 : Int32) (x4 : Int32) (x5 : Int32), (k ≤ bc ∧ n ≤ bs) → dCc_toGainD_43 N bc bs Q f M P L k n x1 x2 x3 x4 x5 → cq_V l (dG g L P) X (esX1_toGainD bc bs) cX1_toGain 43 [(0, .ref (N.2 500)), (1, .int x1), (2, .int x2), (3, .int x3), (4, .int x4), (5, .int x5)] [] M k n (cd_finX g X (esX1_toGainD bc bs) cd_rI Q) :=
  cx_fixI (fun (r : cx_M → dP → dL → Nat → Nat → Int32 → Int32 → Int32 → Int32 → Int32 → Prop) => ∀ (M : cx_M) (P : dP) (L : dL) (k n : Nat) (x1 : Int32) (x2 : Int32) (x3 : Int32) (x4 : Int32) (x5 : Int32), (k ≤ bc ∧ n ≤ bs) → r M P L k n x1 x2 x3 x4 x5 → cq_V l (dG g L P) X (esX1_toGainD bc bs) cX1_toGain 43 [(0, .ref (N.2 500)), (1, .int x1), (2, .int x2), (3, .int x3), (4, .int x4), (5, .int x5)] [] M k n (cd_finX g X (esX1_toGainD bc bs) cd_rI Q)) (fun _ _ _ _ _ _ _ _ _ _ _ h => by cases h) (fun r hr M P L k n x1 x2 x3 x4 x5 hk h => dCc_toGainD_43b_v H hX hr M P L k n x1 x2 x3 x4 x5 hk h)
def dCc_toGainD_0 (N : dNx) (bc bs : Nat) (Q : cd_Qt) (M : cx_M) (P : dP) (L : dL) (k n : Nat) (x1 : Int32) (x2 : Int32) : Prop :=
  cq_cal (cCc_within N.1 M x2 0 1) fun M1 v2 =>
  cd_thr 1  (bc - k) (bs - n) M1 P L v2 (fun M3 P4 L5 v6 r7 e9 k8 n9 => (e9 ≠ 0 → Q M3 P4 L5 v6 none e9 (k + k8) (n + n9)) ∧ (e9 = 0 → cd_add k k8 n n9 fun k10 n11 =>
  dCc_soonD N (bc - k10) (bs - n11) M3 P4 L5 x1 1 (fun M12 P13 L14 v15 r16 e9 k17 n18 => (e9 ≠ 0 → Q M12 P13 L14 v15 none e9 (k10 + k17) (n11 + n18)) ∧ (e9 = 0 → cd_add k10 k17 n11 n18 fun k19 n20 =>
  cq_get M12 1000 2 fun v21 =>
  cq_cal (cCo_begins N.1 M12 v21) fun M22 v23 =>
  cq_put M22 1100 45 1 fun M24 =>
  dCc_toGainD_43 N bc bs Q N.1.1 M24 P13 L14 k19 n20 x1 x2 (-1) (-1) 0))))
set_option maxRecDepth 100000 in
theorem dCc_toGainD_0_v {l : Launch} {g : cx_G} {X : cx_X} {N : dNx} {bc bs : Nat} {Q : cd_Qt} (H : dX l g N.2 N.1) (hX : True) (M : cx_M) (P : dP) (L : dL) (k n : Nat) (x1 : Int32) (x2 : Int32) (hk : k ≤ bc ∧ n ≤ bs) (h : dCc_toGainD_0 N bc bs Q M P L k n x1 x2) : cq_V l (dG g L P) X (esX1_toGainD bc bs) cX1_toGain 0 [(0, .ref (N.2 500)), (1, .int x1), (2, .int x2)] [] M k n (cd_finX g X (esX1_toGainD bc bs) cd_rI Q) := by
  unfold dCc_toGainD_0 at h
  refine cq_iload_n 2 dX1_toGain_0 rfl ?_
  refine cq_iconst 0 dX1_toGain_1 cx_ic_0 ?_
  refine cq_iconst 1 dX1_toGain_2 cx_ic_1 ?_
  refine cq_cSi [.int x2, .int 0, .int 1] [] h (fun rs' h' => cCc_within_m (g := dG g L P) (N := N.1) (H.2.1 L P) M x2 0 1 rs' h') dX1_toGain_3 g_X1_180 hg_X1_180 ⟨cx_le rfl, cx_le rfl⟩ rfl ⟨rfl, rfl⟩ hk rfl (cx_le rfl) (fun M1 v2 h => ?_)
  refine cd_xS [.int v2] [] (cc_there_m H.1.2.1 (bc := bc - k) (bs := bs - n) M1 P L v2 h) dX1_toGain_6 gd_X1_184 hgd_X1_184 ⟨cx_le rfl, cx_le rfl⟩ (cd_bud hk) rfl (cx_le rfl) rfl (fun _ _ _ _ _ _ _ he h => h.1 he) (fun M3 P4 L5 v6 r7 k8 n9 hk2 h => ?_)
  refine cd_addI (h.2 rfl) (cd_bk hk hk2) (fun k10 n11 h hk => ?_)
  refine cq_iload_n 1 dX1_toGain_9 rfl ?_
  refine cq_iconst 1 dX1_toGain_10 cx_ic_1 ?_
  refine cd_xS [.int x1, .int 1] [] (dCc_soonD_m H (N := N) (bc := bc - k10) (bs := bs - n11) M3 P4 L5 x1 1 h) dX1_toGain_11 gd_X1_407D hgd_X1_407D ⟨cx_le rfl, cx_le rfl⟩ (cd_bud hk) rfl (cx_le rfl) rfl (fun _ _ _ _ _ _ _ he h => h.1 he) (fun M12 P13 L14 v15 r16 k17 n18 hk2 h => ?_)
  refine cd_addI (h.2 rfl) (cd_bk hk hk2) (fun k19 n20 h hk => ?_)
  refine cq_iconst (-1) dX1_toGain_14 cx_ic_m1 ?_
  refine cq_istore_n [(3, .int (-1)), (0, .ref (N.2 500)), (1, .int x1), (2, .int x2)] dX1_toGain_15 (cx_lt rfl) rfl ?_
  refine cq_iconst (-1) dX1_toGain_16 cx_ic_m1 ?_
  refine cq_istore [(4, .int (-1)), (3, .int (-1)), (0, .ref (N.2 500)), (1, .int x1), (2, .int x2)] dX1_toGain_17 (cx_lt rfl) rfl ?_
  refine cq_aload_n 2 dX1_toGain_19 rfl ?_
  refine cq_getR (cCc_R4 (H.2.1 L14 P13)) q1021 dX1_toGain_20 ?_
  refine cq_aload_n 2 dX1_toGain_23 rfl ?_
  refine cq_getR (cCc_R13 (H.2.1 L14 P13)) q1030 dX1_toGain_24 ?_
  refine cq_aload_n 2 dX1_toGain_27 rfl ?_
  refine cq_getR (cCc_R3 (H.2.1 L14 P13)) q1020 dX1_toGain_28 ?_
  refine cq_getIN h (cSt_F2 (cSt_i1000 (H.2.1 L14 P13))) q653 dX1_toGain_31 (fun v21 h => ?_)
  refine cq_cVr [.int v21] [.ref (N.2 1100)] h (fun rs' h' => cCo_begins_m (g := dG g L14 P13) (N := N.1) (H.2.1 L14 P13) M12 v21 rs' h') (cCo_rc (H.2.1 L14 P13)) dX1_toGain_34 g_X1_450 hg_X1_450 ⟨cx_le rfl, cx_le rfl⟩ rfl ⟨rfl, rfl⟩ hk rfl (cx_le rfl) (fun M22 v23 h => ?_)
  refine cq_putON h (cSt_O45 (cSt_i1100 (H.2.1 L14 P13))) cx_on1 rfl q730 dX1_toGain_37 (fun M24 h => ?_)
  refine cq_iconst 0 dX1_toGain_40 cx_ic_0 ?_
  refine cq_istore [(5, .int 0), (4, .int (-1)), (3, .int (-1)), (0, .ref (N.2 500)), (1, .int x1), (2, .int x2)] dX1_toGain_41 (cx_lt rfl) rfl ?_
  refine cq_sub (lv' := [(0, .ref (N.2 500)), (1, .int x1), (2, .int x2), (3, .int (-1)), (4, .int (-1)), (5, .int 0)]) [3, 4, 5, 2, 1, 0] rfl ?_
  exact dCc_toGainD_43_v H hX N.1.1 M24 P13 L14 k19 n20 x1 x2 (-1) (-1) 0 hk h
def dCc_toGainD (N : dNx) (bc bs : Nat) (M : cx_M) (P : dP) (L : dL) (x1 : Int32) (x2 : Int32) (Q : cd_Qt) : Prop := dCc_toGainD_0 N bc bs Q M P L 0 0 x1 x2
set_option maxRecDepth 100000 in
theorem dCc_toGainD_m {l : Launch} {g : cx_G} {N : dNx} {bc bs : Nat} {Q : cd_Qt} (H : dX l g N.2 N.1) (M : cx_M) (P : dP) (L : dL) (x1 : Int32) (x2 : Int32) (h : dCc_toGainD N bc bs M P L x1 x2 Q) : cd_MetX l g yX1_toGain cX1_toGain (esX1_toGainD bc bs) cd_rI [.ref (N.2 500), .int x1, .int x2] M P L Q :=
  cd_metX (by decide +kernel) rfl rfl (lv := [(0, .ref (N.2 500)), (1, .int x1), (2, .int x2)]) rfl (cx_le rfl) (fun X hX => cq_sub (lv' := [(0, .ref (N.2 500)), (1, .int x1), (2, .int x2)]) [0, 1, 2] rfl (dCc_toGainD_0_v H hX M P L 0 0 x1 x2 ⟨Nat.zero_le _, Nat.zero_le _⟩ h))

abbrev esX1_otherD (bc bs : Nat) : cx_S := (5, RX1, cx_rI, { frames := 907, cells := bc, slots := bs, locals := 30156 }, some .int, true)
def dCc_otherD_66 (N : dNx) (bc bs : Nat) (Q : cd_Qt) (r_41 : cx_M → dP → dL → Nat → Nat → Int32 → Int32 → Int32 → Int32 → Prop) (M : cx_M) (P : dP) (L : dL) (k n : Nat) (x1 : Int32) (x2 : Int32) (x3 : Int32) (x4 : Int32) : Prop :=
  cq_let (x4 - 1) fun v1 =>
  r_41 M P L k n x1 x2 x3 v1
set_option maxRecDepth 100000 in
theorem dCc_otherD_66_v {l : Launch} {g : cx_G} {X : cx_X} {N : dNx} {bc bs : Nat} {Q : cd_Qt} {r_41 : cx_M → dP → dL → Nat → Nat → Int32 → Int32 → Int32 → Int32 → Prop} (H : dX l g N.2 N.1) (hX : True) (hr_41 : ∀ (M : cx_M) (P : dP) (L : dL) (k n : Nat) (x1 : Int32) (x2 : Int32) (x3 : Int32) (x4 : Int32), (k ≤ bc ∧ n ≤ bs) → r_41 M P L k n x1 x2 x3 x4 → cq_V l (dG g L P) X (esX1_otherD bc bs) cX1_other 41 [(0, .ref (N.2 500)), (1, .int x1), (2, .int x2), (3, .int x3), (4, .int x4)] [] M k n (cd_finX g X (esX1_otherD bc bs) cd_rI Q)) (M : cx_M) (P : dP) (L : dL) (k n : Nat) (x1 : Int32) (x2 : Int32) (x3 : Int32) (x4 : Int32) (hk : k ≤ bc ∧ n ≤ bs) (h : dCc_otherD_66 N bc bs Q r_41 M P L k n x1 x2 x3 x4) : cq_V l (dG g L P) X (esX1_otherD bc bs) cX1_other 66 [(0, .ref (N.2 500)), (1, .int x1), (2, .int x2), (3, .int x3), (4, .int x4)] [] M k n (cd_finX g X (esX1_otherD bc bs) cd_rI Q) := by
  unfold dCc_otherD_66 at h
  refine cq_iincM 4 1 (fun v1 => [(4, .int v1), (0, .ref (N.2 500)), (1, .int x1), (2, .int x2), (3, .int x3)]) h dX1_other_66 rfl cx_ic_m1 (cx_lt rfl) (fun _ => rfl) (fun v1 h => ?_)
  refine cq_goto 41 dX1_other_69 rfl ?_
  refine cq_sub (lv' := [(0, .ref (N.2 500)), (1, .int x1), (2, .int x2), (3, .int x3), (4, .int v1)]) [1, 2, 3, 4, 0] rfl ?_
  exact hr_41 M P L k n x1 x2 x3 v1 hk h
def dCc_otherD_41b (N : dNx) (bc bs : Nat) (Q : cd_Qt) (r_41 : cx_M → dP → dL → Nat → Nat → Int32 → Int32 → Int32 → Int32 → Prop) (M : cx_M) (P : dP) (L : dL) (k n : Nat) (x1 : Int32) (x2 : Int32) (x3 : Int32) (x4 : Int32) : Prop :=
  if x4 < (-99) then (
    if x1 = 0 then (
      Q M P L x2 none 0 k n)
    else (
      Q M P L x3 none 0 k n))
  else (
    cq_cal (cCc_isGuess N.1 M x4) fun M1 v2 =>
    if v2 = 0 then (
      dCc_otherD_66 N bc bs Q r_41 M1 P L k n x1 x2 x3 x4)
    else (
      cq_let (x2 + 1) fun v3 =>
      dCc_otherD_66 N bc bs Q r_41 M1 P L k n x1 v3 x4 x4))
set_option maxRecDepth 100000 in
theorem dCc_otherD_41b_v {l : Launch} {g : cx_G} {X : cx_X} {N : dNx} {bc bs : Nat} {Q : cd_Qt} {r_41 : cx_M → dP → dL → Nat → Nat → Int32 → Int32 → Int32 → Int32 → Prop} (H : dX l g N.2 N.1) (hX : True) (hr_41 : ∀ (M : cx_M) (P : dP) (L : dL) (k n : Nat) (x1 : Int32) (x2 : Int32) (x3 : Int32) (x4 : Int32), (k ≤ bc ∧ n ≤ bs) → r_41 M P L k n x1 x2 x3 x4 → cq_V l (dG g L P) X (esX1_otherD bc bs) cX1_other 41 [(0, .ref (N.2 500)), (1, .int x1), (2, .int x2), (3, .int x3), (4, .int x4)] [] M k n (cd_finX g X (esX1_otherD bc bs) cd_rI Q)) (M : cx_M) (P : dP) (L : dL) (k n : Nat) (x1 : Int32) (x2 : Int32) (x3 : Int32) (x4 : Int32) (hk : k ≤ bc ∧ n ≤ bs) (h : dCc_otherD_41b N bc bs Q r_41 M P L k n x1 x2 x3 x4) : cq_V l (dG g L P) X (esX1_otherD bc bs) cX1_other 41 [(0, .ref (N.2 500)), (1, .int x1), (2, .int x2), (3, .int x3), (4, .int x4)] [] M k n (cd_finX g X (esX1_otherD bc bs) cd_rI Q) := by
  unfold dCc_otherD_41b at h
  refine cq_iload 4 dX1_other_41 rfl ?_
  refine cq_bipush (-99) dX1_other_43 cx_bp_m99 ?_
  refine cq_icmp_lt 72 h dX1_other_45 rfl (fun h => ?_) (fun h => ?_)
  · refine cq_iload_n 1 dX1_other_72 rfl ?_
    refine cq_if_ne 80 h dX1_other_73 rfl (fun h => ?_) (fun h => ?_)
    · refine cq_iload_n 3 dX1_other_80 rfl ?_
      exact cd_toX (cd_iret hk h rfl dX1_other_81)
    · refine cq_iload_n 2 dX1_other_76 rfl ?_
      refine cq_goto 81 dX1_other_77 rfl ?_
      exact cd_toX (cd_iret hk h rfl dX1_other_81)
  · refine cq_aload_n 0 dX1_other_48 rfl ?_
    refine cq_iload 4 dX1_other_49 rfl ?_
    refine cq_cVi [.int x4] [] h (fun rs' h' => cCc_isGuess_m (g := dG g L P) (N := N.1) (H.2.1 L P) M x4 rs' h') (cCc_rc (H.2.1 L P)) dX1_other_51 g_X1_465 hg_X1_465 ⟨cx_le rfl, cx_le rfl⟩ rfl ⟨rfl, rfl⟩ hk rfl (cx_le rfl) (fun M1 v2 h => ?_)
    refine cq_if_ne 60 h dX1_other_54 rfl (fun h => ?_) (fun h => ?_)
    · refine cq_iinc 2 1 (fun v3 => [(2, .int v3), (0, .ref (N.2 500)), (1, .int x1), (3, .int x3), (4, .int x4)]) h dX1_other_60 rfl cx_ic_1 (cx_lt rfl) (fun _ => rfl) (fun v3 h => ?_)
      refine cq_iload 4 dX1_other_63 rfl ?_
      refine cq_istore_n [(3, .int x4), (2, .int v3), (0, .ref (N.2 500)), (1, .int x1), (4, .int x4)] dX1_other_65 (cx_lt rfl) rfl ?_
      refine cq_sub (lv' := [(0, .ref (N.2 500)), (1, .int x1), (2, .int v3), (3, .int x4), (4, .int x4)]) [2, 3, 1, 0, 4] rfl ?_
      exact dCc_otherD_66_v H hX hr_41 M1 P L k n x1 v3 x4 x4 hk h
    · refine cq_goto 66 dX1_other_57 rfl ?_
      exact dCc_otherD_66_v H hX hr_41 M1 P L k n x1 x2 x3 x4 hk h
def dCc_otherD_41 (N : dNx) (bc bs : Nat) (Q : cd_Qt) : Nat → cx_M → dP → dL → Nat → Nat → Int32 → Int32 → Int32 → Int32 → Prop :=
  cx_fix (fun _ _ _ _ _ _ _ _ _ => False) (fun r_41 => dCc_otherD_41b N bc bs Q r_41)
theorem dCc_otherD_41_v {l : Launch} {g : cx_G} {X : cx_X} {N : dNx} {bc bs : Nat} {Q : cd_Qt} (H : dX l g N.2 N.1) (hX : True) : ∀ (f : Nat) (M : cx_M) (P : dP) (L : dL) (k n : Nat) (x1 : Int32) (x2 : Int32) (x3 : Int32) (x4 : Int32), (k ≤ bc ∧ n ≤ bs) → dCc_otherD_41 N bc bs Q f M P L k n x1 x2 x3 x4 → cq_V l (dG g L P) X (esX1_otherD bc bs) cX1_other 41 [(0, .ref (N.2 500)), (1, .int x1), (2, .int x2), (3, .int x3), (4, .int x4)] [] M k n (cd_finX g X (esX1_otherD bc bs) cd_rI Q) :=
  cx_fixI (fun (r : cx_M → dP → dL → Nat → Nat → Int32 → Int32 → Int32 → Int32 → Prop) => ∀ (M : cx_M) (P : dP) (L : dL) (k n : Nat) (x1 : Int32) (x2 : Int32) (x3 : Int32) (x4 : Int32), (k ≤ bc ∧ n ≤ bs) → r M P L k n x1 x2 x3 x4 → cq_V l (dG g L P) X (esX1_otherD bc bs) cX1_other 41 [(0, .ref (N.2 500)), (1, .int x1), (2, .int x2), (3, .int x3), (4, .int x4)] [] M k n (cd_finX g X (esX1_otherD bc bs) cd_rI Q)) (fun _ _ _ _ _ _ _ _ _ _ h => by cases h) (fun r hr M P L k n x1 x2 x3 x4 hk h => dCc_otherD_41b_v H hX hr M P L k n x1 x2 x3 x4 hk h)
def dCc_otherD_0 (N : dNx) (bc bs : Nat) (Q : cd_Qt) (M : cx_M) (P : dP) (L : dL) (k n : Nat) (x1 : Int32) : Prop :=
  cq_cal (cCc_within N.1 M x1 0 2) fun M1 v2 =>
  cd_thr 1  (bc - k) (bs - n) M1 P L v2 (fun M3 P4 L5 v6 r7 e9 k8 n9 => (e9 ≠ 0 → Q M3 P4 L5 v6 none e9 (k + k8) (n + n9)) ∧ (e9 = 0 → cd_add k k8 n n9 fun k10 n11 =>
  if x1 = 2 then (
    cq_cal (cCc_tries N.1 M3 0) fun M12 _ =>
    cq_cal (cCc_isNoted N.1 M12) fun M13 v14 =>
    if v14 = 0 then (
      Q M13 P4 L5 0 none 0 k10 n11)
    else (
      Q M13 P4 L5 1 none 0 k10 n11))
  else (
    dCc_otherD_41 N bc bs Q N.1.1 M3 P4 L5 k10 n11 x1 0 100 99)))
set_option maxRecDepth 100000 in
theorem dCc_otherD_0_v {l : Launch} {g : cx_G} {X : cx_X} {N : dNx} {bc bs : Nat} {Q : cd_Qt} (H : dX l g N.2 N.1) (hX : True) (M : cx_M) (P : dP) (L : dL) (k n : Nat) (x1 : Int32) (hk : k ≤ bc ∧ n ≤ bs) (h : dCc_otherD_0 N bc bs Q M P L k n x1) : cq_V l (dG g L P) X (esX1_otherD bc bs) cX1_other 0 [(0, .ref (N.2 500)), (1, .int x1)] [] M k n (cd_finX g X (esX1_otherD bc bs) cd_rI Q) := by
  unfold dCc_otherD_0 at h
  refine cq_iload_n 1 dX1_other_0 rfl ?_
  refine cq_iconst 0 dX1_other_1 cx_ic_0 ?_
  refine cq_iconst 2 dX1_other_2 cx_ic_2 ?_
  refine cq_cSi [.int x1, .int 0, .int 2] [] h (fun rs' h' => cCc_within_m (g := dG g L P) (N := N.1) (H.2.1 L P) M x1 0 2 rs' h') dX1_other_3 g_X1_180 hg_X1_180 ⟨cx_le rfl, cx_le rfl⟩ rfl ⟨rfl, rfl⟩ hk rfl (cx_le rfl) (fun M1 v2 h => ?_)
  refine cd_xS [.int v2] [] (cc_there_m H.1.2.1 (bc := bc - k) (bs := bs - n) M1 P L v2 h) dX1_other_6 gd_X1_184 hgd_X1_184 ⟨cx_le rfl, cx_le rfl⟩ (cd_bud hk) rfl (cx_le rfl) rfl (fun _ _ _ _ _ _ _ he h => h.1 he) (fun M3 P4 L5 v6 r7 k8 n9 hk2 h => ?_)
  refine cd_addI (h.2 rfl) (cd_bk hk hk2) (fun k10 n11 h hk => ?_)
  refine cq_iload_n 1 dX1_other_9 rfl ?_
  refine cq_iconst 2 dX1_other_10 cx_ic_2 ?_
  refine cq_icmp_ne 32 h dX1_other_11 rfl (fun h => ?_) (fun h => ?_)
  · refine cq_iconst 0 dX1_other_32 cx_ic_0 ?_
    refine cq_istore_n [(2, .int 0), (0, .ref (N.2 500)), (1, .int x1)] dX1_other_33 (cx_lt rfl) rfl ?_
    refine cq_bipush 100 dX1_other_34 cx_bp_100 ?_
    refine cq_istore_n [(3, .int 100), (2, .int 0), (0, .ref (N.2 500)), (1, .int x1)] dX1_other_36 (cx_lt rfl) rfl ?_
    refine cq_bipush 99 dX1_other_37 cx_bp_99 ?_
    refine cq_istore [(4, .int 99), (3, .int 100), (2, .int 0), (0, .ref (N.2 500)), (1, .int x1)] dX1_other_39 (cx_lt rfl) rfl ?_
    refine cq_sub (lv' := [(0, .ref (N.2 500)), (1, .int x1), (2, .int 0), (3, .int 100), (4, .int 99)]) [3, 4, 2, 1, 0] rfl ?_
    exact dCc_otherD_41_v H hX N.1.1 M3 P4 L5 k10 n11 x1 0 100 99 hk h
  · refine cq_aload_n 0 dX1_other_14 rfl ?_
    refine cq_iconst 0 dX1_other_15 cx_ic_0 ?_
    refine cq_cVv [.int 0] [] h (fun rs' h' => cCc_tries_m (g := dG g L5 P4) (N := N.1) (H.2.1 L5 P4) M3 0 rs' h') (cCc_rc (H.2.1 L5 P4)) dX1_other_16 g_X1_411 hg_X1_411 ⟨cx_le rfl, cx_le rfl⟩ rfl ⟨rfl, rfl⟩ hk rfl (cx_le rfl) (fun M12 _ h => ?_)
    refine cq_aload_n 0 dX1_other_19 rfl ?_
    refine cq_cVi [] [] h (fun rs' h' => cCc_isNoted_m (g := dG g L5 P4) (N := N.1) (H.2.1 L5 P4) M12 rs' h') (cCc_rc (H.2.1 L5 P4)) dX1_other_20 g_X1_462 hg_X1_462 ⟨cx_le rfl, cx_le rfl⟩ rfl ⟨rfl, rfl⟩ hk rfl (cx_le rfl) (fun M13 v14 h => ?_)
    refine cq_if_eq 30 h dX1_other_23 rfl (fun h => ?_) (fun h => ?_)
    · refine cq_iconst 0 dX1_other_30 cx_ic_0 ?_
      exact cd_toX (cd_iret hk h rfl dX1_other_31)
    · refine cq_iconst 1 dX1_other_26 cx_ic_1 ?_
      refine cq_goto 31 dX1_other_27 rfl ?_
      exact cd_toX (cd_iret hk h rfl dX1_other_31)
def dCc_otherD (N : dNx) (bc bs : Nat) (M : cx_M) (P : dP) (L : dL) (x1 : Int32) (Q : cd_Qt) : Prop := dCc_otherD_0 N bc bs Q M P L 0 0 x1
set_option maxRecDepth 100000 in
theorem dCc_otherD_m {l : Launch} {g : cx_G} {N : dNx} {bc bs : Nat} {Q : cd_Qt} (H : dX l g N.2 N.1) (M : cx_M) (P : dP) (L : dL) (x1 : Int32) (h : dCc_otherD N bc bs M P L x1 Q) : cd_MetX l g yX1_other cX1_other (esX1_otherD bc bs) cd_rI [.ref (N.2 500), .int x1] M P L Q :=
  cd_metX (by decide +kernel) rfl rfl (lv := [(0, .ref (N.2 500)), (1, .int x1)]) rfl (cx_le rfl) (fun X hX => cq_sub (lv' := [(0, .ref (N.2 500)), (1, .int x1)]) [0, 1] rfl (dCc_otherD_0_v H hX M P L 0 0 x1 ⟨Nat.zero_le _, Nat.zero_le _⟩ h))

abbrev esX1_lookD (bc bs : Nat) : cx_S := (7, RX1, cx_rI, { frames := 907, cells := bc, slots := bs, locals := 30156 }, some .int, true)
def dCc_lookD_50 (N : dNx) (bc bs : Nat) (Q : cd_Qt) (r_14 : cx_M → dP → dL → Nat → Nat → Int32 → Int32 → Int32 → Prop) (M : cx_M) (P : dP) (L : dL) (k n : Nat) (x1 : Int32) (x2 : Int32) (x3 : Int32) : Prop :=
  cq_let (x3 + 1) fun v1 =>
  r_14 M P L k n x1 x2 v1
set_option maxRecDepth 100000 in
theorem dCc_lookD_50_v {l : Launch} {g : cx_G} {X : cx_X} {N : dNx} {bc bs : Nat} {Q : cd_Qt} {r_14 : cx_M → dP → dL → Nat → Nat → Int32 → Int32 → Int32 → Prop} (H : dX l g N.2 N.1) (hX : True) (hr_14 : ∀ (M : cx_M) (P : dP) (L : dL) (k n : Nat) (x1 : Int32) (x2 : Int32) (x3 : Int32), (k ≤ bc ∧ n ≤ bs) → r_14 M P L k n x1 x2 x3 → cq_V l (dG g L P) X (esX1_lookD bc bs) cX1_look 14 [(0, .ref (N.2 500)), (1, .int x1), (2, .int x2), (3, .int x3)] [] M k n (cd_finX g X (esX1_lookD bc bs) cd_rI Q)) (M : cx_M) (P : dP) (L : dL) (k n : Nat) (x1 : Int32) (x2 : Int32) (x3 : Int32) (hk : k ≤ bc ∧ n ≤ bs) (h : dCc_lookD_50 N bc bs Q r_14 M P L k n x1 x2 x3) : cq_V l (dG g L P) X (esX1_lookD bc bs) cX1_look 50 [(0, .ref (N.2 500)), (1, .int x1), (2, .int x2), (3, .int x3)] [] M k n (cd_finX g X (esX1_lookD bc bs) cd_rI Q) := by
  unfold dCc_lookD_50 at h
  refine cq_iinc 3 1 (fun v1 => [(3, .int v1), (0, .ref (N.2 500)), (1, .int x1), (2, .int x2)]) h dX1_look_50 rfl cx_ic_1 (cx_lt rfl) (fun _ => rfl) (fun v1 h => ?_)
  refine cq_goto 14 dX1_look_53 rfl ?_
  refine cq_sub (lv' := [(0, .ref (N.2 500)), (1, .int x1), (2, .int x2), (3, .int v1)]) [1, 2, 3, 0] rfl ?_
  exact hr_14 M P L k n x1 x2 v1 hk h
def dCc_lookD_101 (N : dNx) (bc bs : Nat) (Q : cd_Qt) (r_64 : cx_M → dP → dL → Nat → Nat → Int32 → Int32 → Int32 → Int32 → Int32 → Prop) (M : cx_M) (P : dP) (L : dL) (k n : Nat) (x1 : Int32) (x2 : Int32) (x3 : Int32) (x4 : Int32) (x5 : Int32) : Prop :=
  cq_let (x5 + 1) fun v1 =>
  r_64 M P L k n x1 x2 x3 x4 v1
set_option maxRecDepth 100000 in
theorem dCc_lookD_101_v {l : Launch} {g : cx_G} {X : cx_X} {N : dNx} {bc bs : Nat} {Q : cd_Qt} {r_64 : cx_M → dP → dL → Nat → Nat → Int32 → Int32 → Int32 → Int32 → Int32 → Prop} (H : dX l g N.2 N.1) (hX : True) (hr_64 : ∀ (M : cx_M) (P : dP) (L : dL) (k n : Nat) (x1 : Int32) (x2 : Int32) (x3 : Int32) (x4 : Int32) (x5 : Int32), (k ≤ bc ∧ n ≤ bs) → r_64 M P L k n x1 x2 x3 x4 x5 → cq_V l (dG g L P) X (esX1_lookD bc bs) cX1_look 64 [(0, .ref (N.2 500)), (1, .int x1), (2, .int x2), (3, .int x3), (4, .int x4), (5, .int x5)] [] M k n (cd_finX g X (esX1_lookD bc bs) cd_rI Q)) (M : cx_M) (P : dP) (L : dL) (k n : Nat) (x1 : Int32) (x2 : Int32) (x3 : Int32) (x4 : Int32) (x5 : Int32) (hk : k ≤ bc ∧ n ≤ bs) (h : dCc_lookD_101 N bc bs Q r_64 M P L k n x1 x2 x3 x4 x5) : cq_V l (dG g L P) X (esX1_lookD bc bs) cX1_look 101 [(0, .ref (N.2 500)), (1, .int x1), (2, .int x2), (3, .int x3), (4, .int x4), (5, .int x5)] [] M k n (cd_finX g X (esX1_lookD bc bs) cd_rI Q) := by
  unfold dCc_lookD_101 at h
  refine cq_iinc 5 1 (fun v1 => [(5, .int v1), (0, .ref (N.2 500)), (1, .int x1), (2, .int x2), (3, .int x3), (4, .int x4)]) h dX1_look_101 rfl cx_ic_1 (cx_lt rfl) (fun _ => rfl) (fun v1 h => ?_)
  refine cq_goto 64 dX1_look_104 rfl ?_
  refine cq_sub (lv' := [(0, .ref (N.2 500)), (1, .int x1), (2, .int x2), (3, .int x3), (4, .int x4), (5, .int v1)]) [1, 2, 3, 4, 5, 0] rfl ?_
  exact hr_64 M P L k n x1 x2 x3 x4 v1 hk h
def dCc_lookD_64b (N : dNx) (bc bs : Nat) (Q : cd_Qt) (r_64 : cx_M → dP → dL → Nat → Nat → Int32 → Int32 → Int32 → Int32 → Int32 → Prop) (M : cx_M) (P : dP) (L : dL) (k n : Nat) (x1 : Int32) (x2 : Int32) (x3 : Int32) (x4 : Int32) (x5 : Int32) : Prop :=
  if 5 ≤ x5 then (
    if x1 = 0 then (
      Q M P L x3 none 0 k n)
    else (
      Q M P L x4 none 0 k n))
  else (
    cq_cal (cCc_unlike N.1 M x5 x2) fun M1 v2 =>
    if x4 < v2 then (
      cq_let ((10 : Int32) * (x5 + 1)) fun v3 =>
      dCc_lookD_101 N bc bs Q r_64 M1 P L k n x1 x2 v3 v2 x5)
    else (
      dCc_lookD_101 N bc bs Q r_64 M1 P L k n x1 x2 x3 x4 x5))
set_option maxRecDepth 100000 in
theorem dCc_lookD_64b_v {l : Launch} {g : cx_G} {X : cx_X} {N : dNx} {bc bs : Nat} {Q : cd_Qt} {r_64 : cx_M → dP → dL → Nat → Nat → Int32 → Int32 → Int32 → Int32 → Int32 → Prop} (H : dX l g N.2 N.1) (hX : True) (hr_64 : ∀ (M : cx_M) (P : dP) (L : dL) (k n : Nat) (x1 : Int32) (x2 : Int32) (x3 : Int32) (x4 : Int32) (x5 : Int32), (k ≤ bc ∧ n ≤ bs) → r_64 M P L k n x1 x2 x3 x4 x5 → cq_V l (dG g L P) X (esX1_lookD bc bs) cX1_look 64 [(0, .ref (N.2 500)), (1, .int x1), (2, .int x2), (3, .int x3), (4, .int x4), (5, .int x5)] [] M k n (cd_finX g X (esX1_lookD bc bs) cd_rI Q)) (M : cx_M) (P : dP) (L : dL) (k n : Nat) (x1 : Int32) (x2 : Int32) (x3 : Int32) (x4 : Int32) (x5 : Int32) (hk : k ≤ bc ∧ n ≤ bs) (h : dCc_lookD_64b N bc bs Q r_64 M P L k n x1 x2 x3 x4 x5) : cq_V l (dG g L P) X (esX1_lookD bc bs) cX1_look 64 [(0, .ref (N.2 500)), (1, .int x1), (2, .int x2), (3, .int x3), (4, .int x4), (5, .int x5)] [] M k n (cd_finX g X (esX1_lookD bc bs) cd_rI Q) := by
  unfold dCc_lookD_64b at h
  refine cq_iload 5 dX1_look_64 rfl ?_
  refine cq_iconst 5 dX1_look_66 cx_ic_5 ?_
  refine cq_icmp_ge 107 h dX1_look_67 rfl (fun h => ?_) (fun h => ?_)
  · refine cq_iload_n 1 dX1_look_107 rfl ?_
    refine cq_if_ne 115 h dX1_look_108 rfl (fun h => ?_) (fun h => ?_)
    · refine cq_iload 4 dX1_look_115 rfl ?_
      exact cd_toX (cd_iret hk h rfl dX1_look_117)
    · refine cq_iload_n 3 dX1_look_111 rfl ?_
      refine cq_goto 117 dX1_look_112 rfl ?_
      exact cd_toX (cd_iret hk h rfl dX1_look_117)
  · refine cq_aload_n 0 dX1_look_70 rfl ?_
    refine cq_iload 5 dX1_look_71 rfl ?_
    refine cq_iload_n 2 dX1_look_73 rfl ?_
    refine cq_cVi [.int x5, .int x2] [] h (fun rs' h' => cCc_unlike_m (g := dG g L P) (N := N.1) (H.2.1 L P) M x5 x2 rs' h') (cCc_rc (H.2.1 L P)) dX1_look_74 g_X1_474 hg_X1_474 ⟨cx_le rfl, cx_le rfl⟩ rfl ⟨rfl, rfl⟩ hk rfl (cx_le rfl) (fun M1 v2 h => ?_)
    refine cq_istore [(6, .int v2), (0, .ref (N.2 500)), (1, .int x1), (2, .int x2), (3, .int x3), (4, .int x4), (5, .int x5)] dX1_look_77 (cx_lt rfl) rfl ?_
    refine cq_iload 0 dX1_look_79 rfl ?_
    refine cq_iload 5 dX1_look_81 rfl ?_
    refine cq_icmp_gt 89 h dX1_look_83 rfl (fun h => ?_) (fun h => ?_)
    · refine cq_bipush 10 dX1_look_89 cx_bp_10 ?_
      refine cq_iload 6 dX1_look_91 rfl ?_
      refine cq_iconst 1 dX1_look_93 cx_ic_1 ?_
      refine cq_iadd dX1_look_94 ?_
      refine cq_imul dX1_look_95 ?_
      refine cq_letI h (fun v3 h => ?_)
      refine cq_istore_n [(3, .int v3), (6, .int v2), (0, .ref (N.2 500)), (1, .int x1), (2, .int x2), (4, .int x4), (5, .int x5)] dX1_look_96 (cx_lt rfl) rfl ?_
      refine cq_iload 1 dX1_look_97 rfl ?_
      refine cq_istore [(4, .int v2), (3, .int v3), (6, .int v2), (0, .ref (N.2 500)), (1, .int x1), (2, .int x2), (5, .int x5)] dX1_look_99 (cx_lt rfl) rfl ?_
      refine cq_sub (lv' := [(0, .ref (N.2 500)), (1, .int x1), (2, .int x2), (3, .int v3), (4, .int v2), (5, .int x5)]) [3, 4, 5, 1, 0, 6] rfl ?_
      exact dCc_lookD_101_v H hX hr_64 M1 P L k n x1 x2 v3 v2 x5 hk h
    · refine cq_goto 101 dX1_look_86 rfl ?_
      refine cq_sub (lv' := [(0, .ref (N.2 500)), (1, .int x1), (2, .int x2), (3, .int x3), (4, .int x4), (5, .int x5)]) [1, 2, 3, 4, 5, 6] rfl ?_
      exact dCc_lookD_101_v H hX hr_64 M1 P L k n x1 x2 x3 x4 x5 hk h
def dCc_lookD_64 (N : dNx) (bc bs : Nat) (Q : cd_Qt) : Nat → cx_M → dP → dL → Nat → Nat → Int32 → Int32 → Int32 → Int32 → Int32 → Prop :=
  cx_fix (fun _ _ _ _ _ _ _ _ _ _ => False) (fun r_64 => dCc_lookD_64b N bc bs Q r_64)
theorem dCc_lookD_64_v {l : Launch} {g : cx_G} {X : cx_X} {N : dNx} {bc bs : Nat} {Q : cd_Qt} (H : dX l g N.2 N.1) (hX : True) : ∀ (f : Nat) (M : cx_M) (P : dP) (L : dL) (k n : Nat) (x1 : Int32) (x2 : Int32) (x3 : Int32) (x4 : Int32) (x5 : Int32), (k ≤ bc ∧ n ≤ bs) → dCc_lookD_64 N bc bs Q f M P L k n x1 x2 x3 x4 x5 → cq_V l (dG g L P) X (esX1_lookD bc bs) cX1_look 64 [(0, .ref (N.2 500)), (1, .int x1), (2, .int x2), (3, .int x3), (4, .int x4), (5, .int x5)] [] M k n (cd_finX g X (esX1_lookD bc bs) cd_rI Q) :=
  cx_fixI (fun (r : cx_M → dP → dL → Nat → Nat → Int32 → Int32 → Int32 → Int32 → Int32 → Prop) => ∀ (M : cx_M) (P : dP) (L : dL) (k n : Nat) (x1 : Int32) (x2 : Int32) (x3 : Int32) (x4 : Int32) (x5 : Int32), (k ≤ bc ∧ n ≤ bs) → r M P L k n x1 x2 x3 x4 x5 → cq_V l (dG g L P) X (esX1_lookD bc bs) cX1_look 64 [(0, .ref (N.2 500)), (1, .int x1), (2, .int x2), (3, .int x3), (4, .int x4), (5, .int x5)] [] M k n (cd_finX g X (esX1_lookD bc bs) cd_rI Q)) (fun _ _ _ _ _ _ _ _ _ _ _ h => by cases h) (fun r hr M P L k n x1 x2 x3 x4 x5 hk h => dCc_lookD_64b_v H hX hr M P L k n x1 x2 x3 x4 x5 hk h)
def dCc_lookD_14b (N : dNx) (bc bs : Nat) (Q : cd_Qt) (r_14 : cx_M → dP → dL → Nat → Nat → Int32 → Int32 → Int32 → Prop) (M : cx_M) (P : dP) (L : dL) (k n : Nat) (x1 : Int32) (x2 : Int32) (x3 : Int32) : Prop :=
  if 99 < x3 then (
    dCc_lookD_64 N bc bs Q N.1.1 M P L k n x1 x2 (-1) 0 0)
  else (
    cq_cal (cCc_isGuess N.1 M x3) fun M1 v2 =>
    if v2 = 0 then (
      dCc_lookD_50 N bc bs Q r_14 M1 P L k n x1 x2 x3)
    else (
      cq_cpy M1 515 5 516 10000 0 ((5 : Int32) * x2) 5 fun M3 =>
      cq_let (x2 + 1) fun v4 =>
      dCc_lookD_50 N bc bs Q r_14 M3 P L k n x1 v4 x3))
set_option maxRecDepth 100000 in
theorem dCc_lookD_14b_v {l : Launch} {g : cx_G} {X : cx_X} {N : dNx} {bc bs : Nat} {Q : cd_Qt} {r_14 : cx_M → dP → dL → Nat → Nat → Int32 → Int32 → Int32 → Prop} (H : dX l g N.2 N.1) (hX : True) (hr_14 : ∀ (M : cx_M) (P : dP) (L : dL) (k n : Nat) (x1 : Int32) (x2 : Int32) (x3 : Int32), (k ≤ bc ∧ n ≤ bs) → r_14 M P L k n x1 x2 x3 → cq_V l (dG g L P) X (esX1_lookD bc bs) cX1_look 14 [(0, .ref (N.2 500)), (1, .int x1), (2, .int x2), (3, .int x3)] [] M k n (cd_finX g X (esX1_lookD bc bs) cd_rI Q)) (M : cx_M) (P : dP) (L : dL) (k n : Nat) (x1 : Int32) (x2 : Int32) (x3 : Int32) (hk : k ≤ bc ∧ n ≤ bs) (h : dCc_lookD_14b N bc bs Q r_14 M P L k n x1 x2 x3) : cq_V l (dG g L P) X (esX1_lookD bc bs) cX1_look 14 [(0, .ref (N.2 500)), (1, .int x1), (2, .int x2), (3, .int x3)] [] M k n (cd_finX g X (esX1_lookD bc bs) cd_rI Q) := by
  unfold dCc_lookD_14b at h
  refine cq_iload_n 3 dX1_look_14 rfl ?_
  refine cq_bipush 99 dX1_look_15 cx_bp_99 ?_
  refine cq_icmp_gt 56 h dX1_look_17 rfl (fun h => ?_) (fun h => ?_)
  · refine cq_iconst (-1) dX1_look_56 cx_ic_m1 ?_
    refine cq_istore_n [(3, .int (-1)), (0, .ref (N.2 500)), (1, .int x1), (2, .int x2)] dX1_look_57 (cx_lt rfl) rfl ?_
    refine cq_iconst 0 dX1_look_58 cx_ic_0 ?_
    refine cq_istore [(4, .int 0), (3, .int (-1)), (0, .ref (N.2 500)), (1, .int x1), (2, .int x2)] dX1_look_59 (cx_lt rfl) rfl ?_
    refine cq_iconst 0 dX1_look_61 cx_ic_0 ?_
    refine cq_istore [(5, .int 0), (4, .int 0), (3, .int (-1)), (0, .ref (N.2 500)), (1, .int x1), (2, .int x2)] dX1_look_62 (cx_lt rfl) rfl ?_
    refine cq_sub (lv' := [(0, .ref (N.2 500)), (1, .int x1), (2, .int x2), (3, .int (-1)), (4, .int 0), (5, .int 0)]) [3, 4, 5, 2, 1, 0] rfl ?_
    exact dCc_lookD_64_v H hX N.1.1 M P L k n x1 x2 (-1) 0 0 hk h
  · refine cq_aload_n 0 dX1_look_20 rfl ?_
    refine cq_iload_n 3 dX1_look_21 rfl ?_
    refine cq_cVi [.int x3] [] h (fun rs' h' => cCc_isGuess_m (g := dG g L P) (N := N.1) (H.2.1 L P) M x3 rs' h') (cCc_rc (H.2.1 L P)) dX1_look_22 g_X1_465 hg_X1_465 ⟨cx_le rfl, cx_le rfl⟩ rfl ⟨rfl, rfl⟩ hk rfl (cx_le rfl) (fun M1 v2 h => ?_)
    refine cq_if_ne 31 h dX1_look_25 rfl (fun h => ?_) (fun h => ?_)
    · refine cq_aload_n 0 dX1_look_31 rfl ?_
      refine cq_getR (cCc_R14 (H.2.1 L P)) q1031 dX1_look_32 ?_
      refine cq_iconst 0 dX1_look_35 cx_ic_0 ?_
      refine cq_aload_n 0 dX1_look_36 rfl ?_
      refine cq_getR (cCc_R15 (H.2.1 L P)) q1032 dX1_look_37 ?_
      refine cq_iconst 5 dX1_look_40 cx_ic_5 ?_
      refine cq_iload_n 2 dX1_look_41 rfl ?_
      refine cq_imul dX1_look_42 ?_
      refine cq_iconst 5 dX1_look_43 cx_ic_5 ?_
      refine cq_copy h (cCc_A14 (H.2.1 L P)) (cCc_A15 (H.2.1 L P)) dX1_look_44 q2341 (cx_le rfl) (cx_le rfl) (fun M3 h => ?_)
      refine cq_iinc 2 1 (fun v4 => [(2, .int v4), (0, .ref (N.2 500)), (1, .int x1), (3, .int x3)]) h dX1_look_47 rfl cx_ic_1 (cx_lt rfl) (fun _ => rfl) (fun v4 h => ?_)
      refine cq_sub (lv' := [(0, .ref (N.2 500)), (1, .int x1), (2, .int v4), (3, .int x3)]) [1, 2, 0, 3] rfl ?_
      exact dCc_lookD_50_v H hX hr_14 M3 P L k n x1 v4 x3 hk h
    · refine cq_goto 50 dX1_look_28 rfl ?_
      exact dCc_lookD_50_v H hX hr_14 M1 P L k n x1 x2 x3 hk h
def dCc_lookD_14 (N : dNx) (bc bs : Nat) (Q : cd_Qt) : Nat → cx_M → dP → dL → Nat → Nat → Int32 → Int32 → Int32 → Prop :=
  cx_fix (fun _ _ _ _ _ _ _ _ => False) (fun r_14 => dCc_lookD_14b N bc bs Q r_14)
theorem dCc_lookD_14_v {l : Launch} {g : cx_G} {X : cx_X} {N : dNx} {bc bs : Nat} {Q : cd_Qt} (H : dX l g N.2 N.1) (hX : True) : ∀ (f : Nat) (M : cx_M) (P : dP) (L : dL) (k n : Nat) (x1 : Int32) (x2 : Int32) (x3 : Int32), (k ≤ bc ∧ n ≤ bs) → dCc_lookD_14 N bc bs Q f M P L k n x1 x2 x3 → cq_V l (dG g L P) X (esX1_lookD bc bs) cX1_look 14 [(0, .ref (N.2 500)), (1, .int x1), (2, .int x2), (3, .int x3)] [] M k n (cd_finX g X (esX1_lookD bc bs) cd_rI Q) :=
  cx_fixI (fun (r : cx_M → dP → dL → Nat → Nat → Int32 → Int32 → Int32 → Prop) => ∀ (M : cx_M) (P : dP) (L : dL) (k n : Nat) (x1 : Int32) (x2 : Int32) (x3 : Int32), (k ≤ bc ∧ n ≤ bs) → r M P L k n x1 x2 x3 → cq_V l (dG g L P) X (esX1_lookD bc bs) cX1_look 14 [(0, .ref (N.2 500)), (1, .int x1), (2, .int x2), (3, .int x3)] [] M k n (cd_finX g X (esX1_lookD bc bs) cd_rI Q)) (fun _ _ _ _ _ _ _ _ _ h => by cases h) (fun r hr M P L k n x1 x2 x3 hk h => dCc_lookD_14b_v H hX hr M P L k n x1 x2 x3 hk h)
def dCc_lookD_0 (N : dNx) (bc bs : Nat) (Q : cd_Qt) (M : cx_M) (P : dP) (L : dL) (k n : Nat) (x1 : Int32) : Prop :=
  cq_cal (cCc_within N.1 M x1 0 1) fun M1 v2 =>
  cd_thr 1  (bc - k) (bs - n) M1 P L v2 (fun M3 P4 L5 v6 r7 e9 k8 n9 => (e9 ≠ 0 → Q M3 P4 L5 v6 none e9 (k + k8) (n + n9)) ∧ (e9 = 0 → cd_add k k8 n n9 fun k10 n11 =>
  dCc_lookD_14 N bc bs Q N.1.1 M3 P4 L5 k10 n11 x1 0 (-99)))
set_option maxRecDepth 100000 in
theorem dCc_lookD_0_v {l : Launch} {g : cx_G} {X : cx_X} {N : dNx} {bc bs : Nat} {Q : cd_Qt} (H : dX l g N.2 N.1) (hX : True) (M : cx_M) (P : dP) (L : dL) (k n : Nat) (x1 : Int32) (hk : k ≤ bc ∧ n ≤ bs) (h : dCc_lookD_0 N bc bs Q M P L k n x1) : cq_V l (dG g L P) X (esX1_lookD bc bs) cX1_look 0 [(0, .ref (N.2 500)), (1, .int x1)] [] M k n (cd_finX g X (esX1_lookD bc bs) cd_rI Q) := by
  unfold dCc_lookD_0 at h
  refine cq_iload_n 1 dX1_look_0 rfl ?_
  refine cq_iconst 0 dX1_look_1 cx_ic_0 ?_
  refine cq_iconst 1 dX1_look_2 cx_ic_1 ?_
  refine cq_cSi [.int x1, .int 0, .int 1] [] h (fun rs' h' => cCc_within_m (g := dG g L P) (N := N.1) (H.2.1 L P) M x1 0 1 rs' h') dX1_look_3 g_X1_180 hg_X1_180 ⟨cx_le rfl, cx_le rfl⟩ rfl ⟨rfl, rfl⟩ hk rfl (cx_le rfl) (fun M1 v2 h => ?_)
  refine cd_xS [.int v2] [] (cc_there_m H.1.2.1 (bc := bc - k) (bs := bs - n) M1 P L v2 h) dX1_look_6 gd_X1_184 hgd_X1_184 ⟨cx_le rfl, cx_le rfl⟩ (cd_bud hk) rfl (cx_le rfl) rfl (fun _ _ _ _ _ _ _ he h => h.1 he) (fun M3 P4 L5 v6 r7 k8 n9 hk2 h => ?_)
  refine cd_addI (h.2 rfl) (cd_bk hk hk2) (fun k10 n11 h hk => ?_)
  refine cq_iconst 0 dX1_look_9 cx_ic_0 ?_
  refine cq_istore_n [(2, .int 0), (0, .ref (N.2 500)), (1, .int x1)] dX1_look_10 (cx_lt rfl) rfl ?_
  refine cq_bipush (-99) dX1_look_11 cx_bp_m99 ?_
  refine cq_istore_n [(3, .int (-99)), (2, .int 0), (0, .ref (N.2 500)), (1, .int x1)] dX1_look_13 (cx_lt rfl) rfl ?_
  refine cq_sub (lv' := [(0, .ref (N.2 500)), (1, .int x1), (2, .int 0), (3, .int (-99))]) [2, 3, 1, 0] rfl ?_
  exact dCc_lookD_14_v H hX N.1.1 M3 P4 L5 k10 n11 x1 0 (-99) hk h
def dCc_lookD (N : dNx) (bc bs : Nat) (M : cx_M) (P : dP) (L : dL) (x1 : Int32) (Q : cd_Qt) : Prop := dCc_lookD_0 N bc bs Q M P L 0 0 x1
set_option maxRecDepth 100000 in
theorem dCc_lookD_m {l : Launch} {g : cx_G} {N : dNx} {bc bs : Nat} {Q : cd_Qt} (H : dX l g N.2 N.1) (M : cx_M) (P : dP) (L : dL) (x1 : Int32) (h : dCc_lookD N bc bs M P L x1 Q) : cd_MetX l g yX1_look cX1_look (esX1_lookD bc bs) cd_rI [.ref (N.2 500), .int x1] M P L Q :=
  cd_metX (by decide +kernel) rfl rfl (lv := [(0, .ref (N.2 500)), (1, .int x1)]) rfl (cx_le rfl) (fun X hX => cq_sub (lv' := [(0, .ref (N.2 500)), (1, .int x1)]) [0, 1] rfl (dCc_lookD_0_v H hX M P L 0 0 x1 ⟨Nat.zero_le _, Nat.zero_le _⟩ h))

abbrev esX1_stormsD (bc bs : Nat) : cx_S := (7, RX1, cx_rI, { frames := 906, cells := bc, slots := bs, locals := 30133 }, some .int, true)
def dCc_stormsD_73 (N : dNx) (bc bs : Nat) (Q : cd_Qt) (r_32 : cx_M → dP → dL → Nat → Nat → Int32 → Int32 → Int32 → Int32 → Prop) (r_46 : cx_M → dP → dL → Nat → Nat → Int32 → Int32 → Int32 → Int32 → Int32 → Int32 → Prop) (M : cx_M) (P : dP) (L : dL) (k n : Nat) (x1 : Int32) (x2 : Int32) (x3 : Int32) (x4 : Int32) (x6 : Int32) (z0 : Int32) (z1 : Int32) : Prop :=
  cq_let (z0 * z1) fun v1 =>
  cq_let (x6 + 1) fun v2 =>
  r_46 M P L k n x1 x2 x3 x4 v1 v2
set_option maxRecDepth 100000 in
theorem dCc_stormsD_73_v {l : Launch} {g : cx_G} {X : cx_X} {N : dNx} {bc bs : Nat} {Q : cd_Qt} {r_32 : cx_M → dP → dL → Nat → Nat → Int32 → Int32 → Int32 → Int32 → Prop} {r_46 : cx_M → dP → dL → Nat → Nat → Int32 → Int32 → Int32 → Int32 → Int32 → Int32 → Prop} (H : dX l g N.2 N.1) (hX : True) (hr_32 : ∀ (M : cx_M) (P : dP) (L : dL) (k n : Nat) (x1 : Int32) (x2 : Int32) (x3 : Int32) (x4 : Int32), (k ≤ bc ∧ n ≤ bs) → r_32 M P L k n x1 x2 x3 x4 → cq_V l (dG g L P) X (esX1_stormsD bc bs) cX1_storms 32 [(0, .ref (N.2 500)), (1, .int x1), (2, .int x2), (3, .int x3), (4, .int x4)] [] M k n (cd_finX g X (esX1_stormsD bc bs) cd_rI Q)) (hr_46 : ∀ (M : cx_M) (P : dP) (L : dL) (k n : Nat) (x1 : Int32) (x2 : Int32) (x3 : Int32) (x4 : Int32) (x5 : Int32) (x6 : Int32), (k ≤ bc ∧ n ≤ bs) → r_46 M P L k n x1 x2 x3 x4 x5 x6 → cq_V l (dG g L P) X (esX1_stormsD bc bs) cX1_storms 46 [(0, .ref (N.2 500)), (1, .int x1), (2, .int x2), (3, .int x3), (4, .int x4), (5, .int x5), (6, .int x6)] [] M k n (cd_finX g X (esX1_stormsD bc bs) cd_rI Q)) (M : cx_M) (P : dP) (L : dL) (k n : Nat) (x1 : Int32) (x2 : Int32) (x3 : Int32) (x4 : Int32) (x6 : Int32) (z0 : Int32) (z1 : Int32) (hk : k ≤ bc ∧ n ≤ bs) (h : dCc_stormsD_73 N bc bs Q r_32 r_46 M P L k n x1 x2 x3 x4 x6 z0 z1) : cq_V l (dG g L P) X (esX1_stormsD bc bs) cX1_storms 73 [(0, .ref (N.2 500)), (1, .int x1), (2, .int x2), (3, .int x3), (4, .int x4), (6, .int x6)] [.int z1, .int z0] M k n (cd_finX g X (esX1_stormsD bc bs) cd_rI Q) := by
  unfold dCc_stormsD_73 at h
  refine cq_imul dX1_storms_73 ?_
  refine cq_letI h (fun v1 h => ?_)
  refine cq_istore [(5, .int v1), (0, .ref (N.2 500)), (1, .int x1), (2, .int x2), (3, .int x3), (4, .int x4), (6, .int x6)] dX1_storms_74 (cx_lt rfl) rfl ?_
  refine cq_iinc 6 1 (fun v2 => [(6, .int v2), (5, .int v1), (0, .ref (N.2 500)), (1, .int x1), (2, .int x2), (3, .int x3), (4, .int x4)]) h dX1_storms_76 rfl cx_ic_1 (cx_lt rfl) (fun _ => rfl) (fun v2 h => ?_)
  refine cq_goto 46 dX1_storms_79 rfl ?_
  refine cq_sub (lv' := [(0, .ref (N.2 500)), (1, .int x1), (2, .int x2), (3, .int x3), (4, .int x4), (5, .int v1), (6, .int v2)]) [2, 3, 4, 5, 6, 1, 0] rfl ?_
  exact hr_46 M P L k n x1 x2 x3 x4 v1 v2 hk h
def dCc_stormsD_136 (N : dNx) (bc bs : Nat) (Q : cd_Qt) (r_32 : cx_M → dP → dL → Nat → Nat → Int32 → Int32 → Int32 → Int32 → Prop) (M : cx_M) (P : dP) (L : dL) (k n : Nat) (x1 : Int32) (x2 : Int32) (x3 : Int32) (x4 : Int32) : Prop :=
  cq_let (x4 + 1) fun v1 =>
  r_32 M P L k n x1 x2 x3 v1
set_option maxRecDepth 100000 in
theorem dCc_stormsD_136_v {l : Launch} {g : cx_G} {X : cx_X} {N : dNx} {bc bs : Nat} {Q : cd_Qt} {r_32 : cx_M → dP → dL → Nat → Nat → Int32 → Int32 → Int32 → Int32 → Prop} (H : dX l g N.2 N.1) (hX : True) (hr_32 : ∀ (M : cx_M) (P : dP) (L : dL) (k n : Nat) (x1 : Int32) (x2 : Int32) (x3 : Int32) (x4 : Int32), (k ≤ bc ∧ n ≤ bs) → r_32 M P L k n x1 x2 x3 x4 → cq_V l (dG g L P) X (esX1_stormsD bc bs) cX1_storms 32 [(0, .ref (N.2 500)), (1, .int x1), (2, .int x2), (3, .int x3), (4, .int x4)] [] M k n (cd_finX g X (esX1_stormsD bc bs) cd_rI Q)) (M : cx_M) (P : dP) (L : dL) (k n : Nat) (x1 : Int32) (x2 : Int32) (x3 : Int32) (x4 : Int32) (hk : k ≤ bc ∧ n ≤ bs) (h : dCc_stormsD_136 N bc bs Q r_32 M P L k n x1 x2 x3 x4) : cq_V l (dG g L P) X (esX1_stormsD bc bs) cX1_storms 136 [(0, .ref (N.2 500)), (1, .int x1), (2, .int x2), (3, .int x3), (4, .int x4)] [] M k n (cd_finX g X (esX1_stormsD bc bs) cd_rI Q) := by
  unfold dCc_stormsD_136 at h
  refine cq_iinc 4 1 (fun v1 => [(4, .int v1), (0, .ref (N.2 500)), (1, .int x1), (2, .int x2), (3, .int x3)]) h dX1_storms_136 rfl cx_ic_1 (cx_lt rfl) (fun _ => rfl) (fun v1 h => ?_)
  refine cq_goto 32 dX1_storms_139 rfl ?_
  refine cq_sub (lv' := [(0, .ref (N.2 500)), (1, .int x1), (2, .int x2), (3, .int x3), (4, .int v1)]) [1, 2, 3, 4, 0] rfl ?_
  exact hr_32 M P L k n x1 x2 x3 v1 hk h
def dCc_stormsD_46b (N : dNx) (bc bs : Nat) (Q : cd_Qt) (r_32 : cx_M → dP → dL → Nat → Nat → Int32 → Int32 → Int32 → Int32 → Prop) (r_46 : cx_M → dP → dL → Nat → Nat → Int32 → Int32 → Int32 → Int32 → Int32 → Int32 → Prop) (M : cx_M) (P : dP) (L : dL) (k n : Nat) (x1 : Int32) (x2 : Int32) (x3 : Int32) (x4 : Int32) (x5 : Int32) (x6 : Int32) : Prop :=
  if x1 ≤ x6 then (
    cq_cal (cCc_tries N.1 M 0) fun M1 _ =>
    cq_put M1 1100 43 x1 fun M2 =>
    cq_put M2 1100 44 x4 fun M3 =>
    cq_cal (cCc_goes N.1 1100 M3 80) fun M4 _ =>
    cq_get M4 1100 7 fun v5 =>
    cq_get M4 1000 7 fun v6 =>
    if v5 = v6 then (
      cq_let (x3 + x5) fun v7 =>
      dCc_stormsD_136 N bc bs Q r_32 M4 P L k n x1 x2 v7 x4)
    else (
      dCc_stormsD_136 N bc bs Q r_32 M4 P L k n x1 x2 x3 x4))
  else (
    if ((x4 >>> (x6 &&& 31)) &&& 1) = 1 then (
      dCc_stormsD_73 N bc bs Q r_32 r_46 M P L k n x1 x2 x3 x4 x6 x5 x2)
    else (
      dCc_stormsD_73 N bc bs Q r_32 r_46 M P L k n x1 x2 x3 x4 x6 x5 ((10 : Int32) - x2)))
set_option maxRecDepth 100000 in
theorem dCc_stormsD_46b_v {l : Launch} {g : cx_G} {X : cx_X} {N : dNx} {bc bs : Nat} {Q : cd_Qt} {r_32 : cx_M → dP → dL → Nat → Nat → Int32 → Int32 → Int32 → Int32 → Prop} {r_46 : cx_M → dP → dL → Nat → Nat → Int32 → Int32 → Int32 → Int32 → Int32 → Int32 → Prop} (H : dX l g N.2 N.1) (hX : True) (hr_32 : ∀ (M : cx_M) (P : dP) (L : dL) (k n : Nat) (x1 : Int32) (x2 : Int32) (x3 : Int32) (x4 : Int32), (k ≤ bc ∧ n ≤ bs) → r_32 M P L k n x1 x2 x3 x4 → cq_V l (dG g L P) X (esX1_stormsD bc bs) cX1_storms 32 [(0, .ref (N.2 500)), (1, .int x1), (2, .int x2), (3, .int x3), (4, .int x4)] [] M k n (cd_finX g X (esX1_stormsD bc bs) cd_rI Q)) (hr_46 : ∀ (M : cx_M) (P : dP) (L : dL) (k n : Nat) (x1 : Int32) (x2 : Int32) (x3 : Int32) (x4 : Int32) (x5 : Int32) (x6 : Int32), (k ≤ bc ∧ n ≤ bs) → r_46 M P L k n x1 x2 x3 x4 x5 x6 → cq_V l (dG g L P) X (esX1_stormsD bc bs) cX1_storms 46 [(0, .ref (N.2 500)), (1, .int x1), (2, .int x2), (3, .int x3), (4, .int x4), (5, .int x5), (6, .int x6)] [] M k n (cd_finX g X (esX1_stormsD bc bs) cd_rI Q)) (M : cx_M) (P : dP) (L : dL) (k n : Nat) (x1 : Int32) (x2 : Int32) (x3 : Int32) (x4 : Int32) (x5 : Int32) (x6 : Int32) (hk : k ≤ bc ∧ n ≤ bs) (h : dCc_stormsD_46b N bc bs Q r_32 r_46 M P L k n x1 x2 x3 x4 x5 x6) : cq_V l (dG g L P) X (esX1_stormsD bc bs) cX1_storms 46 [(0, .ref (N.2 500)), (1, .int x1), (2, .int x2), (3, .int x3), (4, .int x4), (5, .int x5), (6, .int x6)] [] M k n (cd_finX g X (esX1_stormsD bc bs) cd_rI Q) := by
  unfold dCc_stormsD_46b at h
  refine cq_iload 6 dX1_storms_46 rfl ?_
  refine cq_iload_n 1 dX1_storms_48 rfl ?_
  refine cq_icmp_ge 82 h dX1_storms_49 rfl (fun h => ?_) (fun h => ?_)
  · refine cq_aload_n 0 dX1_storms_82 rfl ?_
    refine cq_iconst 0 dX1_storms_83 cx_ic_0 ?_
    refine cq_cVv [.int 0] [] h (fun rs' h' => cCc_tries_m (g := dG g L P) (N := N.1) (H.2.1 L P) M 0 rs' h') (cCc_rc (H.2.1 L P)) dX1_storms_84 g_X1_411 hg_X1_411 ⟨cx_le rfl, cx_le rfl⟩ rfl ⟨rfl, rfl⟩ hk rfl (cx_le rfl) (fun M1 _ h => ?_)
    refine cq_aload_n 0 dX1_storms_87 rfl ?_
    refine cq_getR (cCc_R4 (H.2.1 L P)) q1021 dX1_storms_88 ?_
    refine cq_iload_n 1 dX1_storms_91 rfl ?_
    refine cq_putIN h (cSt_F43 (cSt_i1100 (H.2.1 L P))) rfl rfl rfl q726 dX1_storms_92 (fun M2 h => ?_)
    refine cq_aload_n 0 dX1_storms_95 rfl ?_
    refine cq_getR (cCc_R4 (H.2.1 L P)) q1021 dX1_storms_96 ?_
    refine cq_iload 4 dX1_storms_99 rfl ?_
    refine cq_putIN h (cSt_F44 (cSt_i1100 (H.2.1 L P))) rfl rfl rfl q728 dX1_storms_101 (fun M3 h => ?_)
    refine cq_aload_n 0 dX1_storms_104 rfl ?_
    refine cq_aload_n 0 dX1_storms_105 rfl ?_
    refine cq_getR (cCc_R4 (H.2.1 L P)) q1021 dX1_storms_106 ?_
    refine cq_bipush 80 dX1_storms_109 cx_bp_80 ?_
    refine cq_cVv [.ref (N.2 1100), .int 80] [] h (fun rs' h' => cCc_goes_m (g := dG g L P) (N := N.1) (H.2.1 L P) (cSt_i1100 (H.2.1 L P)) M3 80 rs' h') (cCc_rc (H.2.1 L P)) dX1_storms_111 g_X1_397 hg_X1_397 ⟨cx_le rfl, cx_le rfl⟩ rfl ⟨rfl, rfl⟩ hk rfl (cx_le rfl) (fun M4 _ h => ?_)
    refine cq_aload_n 0 dX1_storms_114 rfl ?_
    refine cq_getR (cCc_R4 (H.2.1 L P)) q1021 dX1_storms_115 ?_
    refine cq_getIN h (cSt_F7 (cSt_i1100 (H.2.1 L P))) q663 dX1_storms_118 (fun v5 h => ?_)
    refine cq_aload_n 0 dX1_storms_121 rfl ?_
    refine cq_getR (cCc_R3 (H.2.1 L P)) q1020 dX1_storms_122 ?_
    refine cq_getIN h (cSt_F7 (cSt_i1000 (H.2.1 L P))) q663 dX1_storms_125 (fun v6 h => ?_)
    refine cq_icmp_ne 136 h dX1_storms_128 rfl (fun h => ?_) (fun h => ?_)
    · refine cq_sub (lv' := [(0, .ref (N.2 500)), (1, .int x1), (2, .int x2), (3, .int x3), (4, .int x4)]) [0, 1, 2, 3, 4] rfl ?_
      exact dCc_stormsD_136_v H hX hr_32 M4 P L k n x1 x2 x3 x4 hk h
    · refine cq_iload_n 3 dX1_storms_131 rfl ?_
      refine cq_iload 5 dX1_storms_132 rfl ?_
      refine cq_iadd dX1_storms_134 ?_
      refine cq_letI h (fun v7 h => ?_)
      refine cq_istore_n [(3, .int v7), (0, .ref (N.2 500)), (1, .int x1), (2, .int x2), (4, .int x4), (5, .int x5), (6, .int x6)] dX1_storms_135 (cx_lt rfl) rfl ?_
      refine cq_sub (lv' := [(0, .ref (N.2 500)), (1, .int x1), (2, .int x2), (3, .int v7), (4, .int x4)]) [1, 2, 3, 0, 4] rfl ?_
      exact dCc_stormsD_136_v H hX hr_32 M4 P L k n x1 x2 v7 x4 hk h
  · refine cq_iload 5 dX1_storms_52 rfl ?_
    refine cq_iload 4 dX1_storms_54 rfl ?_
    refine cq_iload 6 dX1_storms_56 rfl ?_
    refine cq_ishr dX1_storms_58 ?_
    refine cq_iconst 1 dX1_storms_59 cx_ic_1 ?_
    refine cq_iand dX1_storms_60 ?_
    refine cq_iconst 1 dX1_storms_61 cx_ic_1 ?_
    refine cq_icmp_ne 69 h dX1_storms_62 rfl (fun h => ?_) (fun h => ?_)
    · refine cq_bipush 10 dX1_storms_69 cx_bp_10 ?_
      refine cq_iload_n 2 dX1_storms_71 rfl ?_
      refine cq_isub dX1_storms_72 ?_
      refine cq_sub (lv' := [(0, .ref (N.2 500)), (1, .int x1), (2, .int x2), (3, .int x3), (4, .int x4), (6, .int x6)]) [0, 1, 2, 3, 4, 6] rfl ?_
      exact dCc_stormsD_73_v H hX hr_32 hr_46 M P L k n x1 x2 x3 x4 x6 x5 ((10 : Int32) - x2) hk h
    · refine cq_iload_n 2 dX1_storms_65 rfl ?_
      refine cq_goto 73 dX1_storms_66 rfl ?_
      refine cq_sub (lv' := [(0, .ref (N.2 500)), (1, .int x1), (2, .int x2), (3, .int x3), (4, .int x4), (6, .int x6)]) [0, 1, 2, 3, 4, 6] rfl ?_
      exact dCc_stormsD_73_v H hX hr_32 hr_46 M P L k n x1 x2 x3 x4 x6 x5 x2 hk h
def dCc_stormsD_46 (N : dNx) (bc bs : Nat) (Q : cd_Qt) (r_32 : cx_M → dP → dL → Nat → Nat → Int32 → Int32 → Int32 → Int32 → Prop) : Nat → cx_M → dP → dL → Nat → Nat → Int32 → Int32 → Int32 → Int32 → Int32 → Int32 → Prop :=
  cx_fix (fun _ _ _ _ _ _ _ _ _ _ _ => False) (fun r_46 => dCc_stormsD_46b N bc bs Q r_32 r_46)
theorem dCc_stormsD_46_v {l : Launch} {g : cx_G} {X : cx_X} {N : dNx} {bc bs : Nat} {Q : cd_Qt} {r_32 : cx_M → dP → dL → Nat → Nat → Int32 → Int32 → Int32 → Int32 → Prop} (H : dX l g N.2 N.1) (hX : True) (hr_32 : ∀ (M : cx_M) (P : dP) (L : dL) (k n : Nat) (x1 : Int32) (x2 : Int32) (x3 : Int32) (x4 : Int32), (k ≤ bc ∧ n ≤ bs) → r_32 M P L k n x1 x2 x3 x4 → cq_V l (dG g L P) X (esX1_stormsD bc bs) cX1_storms 32 [(0, .ref (N.2 500)), (1, .int x1), (2, .int x2), (3, .int x3), (4, .int x4)] [] M k n (cd_finX g X (esX1_stormsD bc bs) cd_rI Q)) : ∀ (f : Nat) (M : cx_M) (P : dP) (L : dL) (k n : Nat) (x1 : Int32) (x2 : Int32) (x3 : Int32) (x4 : Int32) (x5 : Int32) (x6 : Int32), (k ≤ bc ∧ n ≤ bs) → dCc_stormsD_46 N bc bs Q r_32 f M P L k n x1 x2 x3 x4 x5 x6 → cq_V l (dG g L P) X (esX1_stormsD bc bs) cX1_storms 46 [(0, .ref (N.2 500)), (1, .int x1), (2, .int x2), (3, .int x3), (4, .int x4), (5, .int x5), (6, .int x6)] [] M k n (cd_finX g X (esX1_stormsD bc bs) cd_rI Q) :=
  cx_fixI (fun (r : cx_M → dP → dL → Nat → Nat → Int32 → Int32 → Int32 → Int32 → Int32 → Int32 → Prop) => ∀ (M : cx_M) (P : dP) (L : dL) (k n : Nat) (x1 : Int32) (x2 : Int32) (x3 : Int32) (x4 : Int32) (x5 : Int32) (x6 : Int32), (k ≤ bc ∧ n ≤ bs) → r M P L k n x1 x2 x3 x4 x5 x6 → cq_V l (dG g L P) X (esX1_stormsD bc bs) cX1_storms 46 [(0, .ref (N.2 500)), (1, .int x1), (2, .int x2), (3, .int x3), (4, .int x4), (5, .int x5), (6, .int x6)] [] M k n (cd_finX g X (esX1_stormsD bc bs) cd_rI Q)) (fun _ _ _ _ _ _ _ _ _ _ _ _ h => by cases h) (fun r hr M P L k n x1 x2 x3 x4 x5 x6 hk h => dCc_stormsD_46b_v H hX hr_32 hr M P L k n x1 x2 x3 x4 x5 x6 hk h)
def dCc_stormsD_32b (N : dNx) (bc bs : Nat) (Q : cd_Qt) (r_32 : cx_M → dP → dL → Nat → Nat → Int32 → Int32 → Int32 → Int32 → Prop) (M : cx_M) (P : dP) (L : dL) (k n : Nat) (x1 : Int32) (x2 : Int32) (x3 : Int32) (x4 : Int32) : Prop :=
  if ((1 : Int32) <<< (x1 &&& 31)) ≤ x4 then (
    Q M P L x3 none 0 k n)
  else (
    dCc_stormsD_46 N bc bs Q r_32 N.1.1 M P L k n x1 x2 x3 x4 1 0)
set_option maxRecDepth 100000 in
theorem dCc_stormsD_32b_v {l : Launch} {g : cx_G} {X : cx_X} {N : dNx} {bc bs : Nat} {Q : cd_Qt} {r_32 : cx_M → dP → dL → Nat → Nat → Int32 → Int32 → Int32 → Int32 → Prop} (H : dX l g N.2 N.1) (hX : True) (hr_32 : ∀ (M : cx_M) (P : dP) (L : dL) (k n : Nat) (x1 : Int32) (x2 : Int32) (x3 : Int32) (x4 : Int32), (k ≤ bc ∧ n ≤ bs) → r_32 M P L k n x1 x2 x3 x4 → cq_V l (dG g L P) X (esX1_stormsD bc bs) cX1_storms 32 [(0, .ref (N.2 500)), (1, .int x1), (2, .int x2), (3, .int x3), (4, .int x4)] [] M k n (cd_finX g X (esX1_stormsD bc bs) cd_rI Q)) (M : cx_M) (P : dP) (L : dL) (k n : Nat) (x1 : Int32) (x2 : Int32) (x3 : Int32) (x4 : Int32) (hk : k ≤ bc ∧ n ≤ bs) (h : dCc_stormsD_32b N bc bs Q r_32 M P L k n x1 x2 x3 x4) : cq_V l (dG g L P) X (esX1_stormsD bc bs) cX1_storms 32 [(0, .ref (N.2 500)), (1, .int x1), (2, .int x2), (3, .int x3), (4, .int x4)] [] M k n (cd_finX g X (esX1_stormsD bc bs) cd_rI Q) := by
  unfold dCc_stormsD_32b at h
  refine cq_iload 4 dX1_storms_32 rfl ?_
  refine cq_iconst 1 dX1_storms_34 cx_ic_1 ?_
  refine cq_iload_n 1 dX1_storms_35 rfl ?_
  refine cq_ishl dX1_storms_36 ?_
  refine cq_icmp_ge 142 h dX1_storms_37 rfl (fun h => ?_) (fun h => ?_)
  · refine cq_iload_n 3 dX1_storms_142 rfl ?_
    exact cd_toX (cd_iret hk h rfl dX1_storms_143)
  · refine cq_iconst 1 dX1_storms_40 cx_ic_1 ?_
    refine cq_istore [(5, .int 1), (0, .ref (N.2 500)), (1, .int x1), (2, .int x2), (3, .int x3), (4, .int x4)] dX1_storms_41 (cx_lt rfl) rfl ?_
    refine cq_iconst 0 dX1_storms_43 cx_ic_0 ?_
    refine cq_istore [(6, .int 0), (5, .int 1), (0, .ref (N.2 500)), (1, .int x1), (2, .int x2), (3, .int x3), (4, .int x4)] dX1_storms_44 (cx_lt rfl) rfl ?_
    refine cq_sub (lv' := [(0, .ref (N.2 500)), (1, .int x1), (2, .int x2), (3, .int x3), (4, .int x4), (5, .int 1), (6, .int 0)]) [2, 3, 4, 5, 6, 1, 0] rfl ?_
    exact dCc_stormsD_46_v H hX hr_32 N.1.1 M P L k n x1 x2 x3 x4 1 0 hk h
def dCc_stormsD_32 (N : dNx) (bc bs : Nat) (Q : cd_Qt) : Nat → cx_M → dP → dL → Nat → Nat → Int32 → Int32 → Int32 → Int32 → Prop :=
  cx_fix (fun _ _ _ _ _ _ _ _ _ => False) (fun r_32 => dCc_stormsD_32b N bc bs Q r_32)
theorem dCc_stormsD_32_v {l : Launch} {g : cx_G} {X : cx_X} {N : dNx} {bc bs : Nat} {Q : cd_Qt} (H : dX l g N.2 N.1) (hX : True) : ∀ (f : Nat) (M : cx_M) (P : dP) (L : dL) (k n : Nat) (x1 : Int32) (x2 : Int32) (x3 : Int32) (x4 : Int32), (k ≤ bc ∧ n ≤ bs) → dCc_stormsD_32 N bc bs Q f M P L k n x1 x2 x3 x4 → cq_V l (dG g L P) X (esX1_stormsD bc bs) cX1_storms 32 [(0, .ref (N.2 500)), (1, .int x1), (2, .int x2), (3, .int x3), (4, .int x4)] [] M k n (cd_finX g X (esX1_stormsD bc bs) cd_rI Q) :=
  cx_fixI (fun (r : cx_M → dP → dL → Nat → Nat → Int32 → Int32 → Int32 → Int32 → Prop) => ∀ (M : cx_M) (P : dP) (L : dL) (k n : Nat) (x1 : Int32) (x2 : Int32) (x3 : Int32) (x4 : Int32), (k ≤ bc ∧ n ≤ bs) → r M P L k n x1 x2 x3 x4 → cq_V l (dG g L P) X (esX1_stormsD bc bs) cX1_storms 32 [(0, .ref (N.2 500)), (1, .int x1), (2, .int x2), (3, .int x3), (4, .int x4)] [] M k n (cd_finX g X (esX1_stormsD bc bs) cd_rI Q)) (fun _ _ _ _ _ _ _ _ _ _ h => by cases h) (fun r hr M P L k n x1 x2 x3 x4 hk h => dCc_stormsD_32b_v H hX hr M P L k n x1 x2 x3 x4 hk h)
def dCc_stormsD_24 (N : dNx) (bc bs : Nat) (Q : cd_Qt) (M : cx_M) (P : dP) (L : dL) (k n : Nat) (x1 : Int32) (x2 : Int32) (z0 : Int32) : Prop :=
  cd_thr 2  (bc - k) (bs - n) M P L z0 (fun M1 P2 L3 v4 r5 e9 k6 n7 => (e9 ≠ 0 → Q M1 P2 L3 v4 none e9 (k + k6) (n + n7)) ∧ (e9 = 0 → cd_add k k6 n n7 fun k8 n9 =>
  dCc_stormsD_32 N bc bs Q N.1.1 M1 P2 L3 k8 n9 x1 x2 0 0))
set_option maxRecDepth 100000 in
theorem dCc_stormsD_24_v {l : Launch} {g : cx_G} {X : cx_X} {N : dNx} {bc bs : Nat} {Q : cd_Qt} (H : dX l g N.2 N.1) (hX : True) (M : cx_M) (P : dP) (L : dL) (k n : Nat) (x1 : Int32) (x2 : Int32) (z0 : Int32) (hk : k ≤ bc ∧ n ≤ bs) (h : dCc_stormsD_24 N bc bs Q M P L k n x1 x2 z0) : cq_V l (dG g L P) X (esX1_stormsD bc bs) cX1_storms 24 [(0, .ref (N.2 500)), (1, .int x1), (2, .int x2)] [.int z0] M k n (cd_finX g X (esX1_stormsD bc bs) cd_rI Q) := by
  unfold dCc_stormsD_24 at h
  refine cd_xS [.int z0] [] (cc_right_m H.1.2.1 (bc := bc - k) (bs := bs - n) M P L z0 h) dX1_storms_24 gd_X1_137 hgd_X1_137 ⟨cx_le rfl, cx_le rfl⟩ (cd_bud hk) rfl (cx_le rfl) rfl (fun _ _ _ _ _ _ _ he h => h.1 he) (fun M1 P2 L3 v4 r5 k6 n7 hk2 h => ?_)
  refine cd_addI (h.2 rfl) (cd_bk hk hk2) (fun k8 n9 h hk => ?_)
  refine cq_iconst 0 dX1_storms_27 cx_ic_0 ?_
  refine cq_istore_n [(3, .int 0), (0, .ref (N.2 500)), (1, .int x1), (2, .int x2)] dX1_storms_28 (cx_lt rfl) rfl ?_
  refine cq_iconst 0 dX1_storms_29 cx_ic_0 ?_
  refine cq_istore [(4, .int 0), (3, .int 0), (0, .ref (N.2 500)), (1, .int x1), (2, .int x2)] dX1_storms_30 (cx_lt rfl) rfl ?_
  refine cq_sub (lv' := [(0, .ref (N.2 500)), (1, .int x1), (2, .int x2), (3, .int 0), (4, .int 0)]) [2, 3, 4, 1, 0] rfl ?_
  exact dCc_stormsD_32_v H hX N.1.1 M1 P2 L3 k8 n9 x1 x2 0 0 hk h
def dCc_stormsD_23 (N : dNx) (bc bs : Nat) (Q : cd_Qt) (M : cx_M) (P : dP) (L : dL) (k n : Nat) (x1 : Int32) (x2 : Int32) : Prop :=
  dCc_stormsD_24 N bc bs Q M P L k n x1 x2 0
set_option maxRecDepth 100000 in
theorem dCc_stormsD_23_v {l : Launch} {g : cx_G} {X : cx_X} {N : dNx} {bc bs : Nat} {Q : cd_Qt} (H : dX l g N.2 N.1) (hX : True) (M : cx_M) (P : dP) (L : dL) (k n : Nat) (x1 : Int32) (x2 : Int32) (hk : k ≤ bc ∧ n ≤ bs) (h : dCc_stormsD_23 N bc bs Q M P L k n x1 x2) : cq_V l (dG g L P) X (esX1_stormsD bc bs) cX1_storms 23 [(0, .ref (N.2 500)), (1, .int x1), (2, .int x2)] [] M k n (cd_finX g X (esX1_stormsD bc bs) cd_rI Q) := by
  unfold dCc_stormsD_23 at h
  refine cq_iconst 0 dX1_storms_23 cx_ic_0 ?_
  exact dCc_stormsD_24_v H hX M P L k n x1 x2 0 hk h
def dCc_stormsD_0 (N : dNx) (bc bs : Nat) (Q : cd_Qt) (M : cx_M) (P : dP) (L : dL) (k n : Nat) (x1 : Int32) (x2 : Int32) : Prop :=
  cq_cal (cCc_within N.1 M x1 1 5) fun M1 v2 =>
  if v2 = 0 then (
    dCc_stormsD_23 N bc bs Q M1 P L k n x1 x2)
  else (
    cq_cal (cCc_within N.1 M1 x2 0 10) fun M3 v4 =>
    if v4 = 0 then (
      dCc_stormsD_23 N bc bs Q M3 P L k n x1 x2)
    else (
      dCc_stormsD_24 N bc bs Q M3 P L k n x1 x2 1))
set_option maxRecDepth 100000 in
theorem dCc_stormsD_0_v {l : Launch} {g : cx_G} {X : cx_X} {N : dNx} {bc bs : Nat} {Q : cd_Qt} (H : dX l g N.2 N.1) (hX : True) (M : cx_M) (P : dP) (L : dL) (k n : Nat) (x1 : Int32) (x2 : Int32) (hk : k ≤ bc ∧ n ≤ bs) (h : dCc_stormsD_0 N bc bs Q M P L k n x1 x2) : cq_V l (dG g L P) X (esX1_stormsD bc bs) cX1_storms 0 [(0, .ref (N.2 500)), (1, .int x1), (2, .int x2)] [] M k n (cd_finX g X (esX1_stormsD bc bs) cd_rI Q) := by
  unfold dCc_stormsD_0 at h
  refine cq_iload_n 1 dX1_storms_0 rfl ?_
  refine cq_iconst 1 dX1_storms_1 cx_ic_1 ?_
  refine cq_iconst 5 dX1_storms_2 cx_ic_5 ?_
  refine cq_cSi [.int x1, .int 1, .int 5] [] h (fun rs' h' => cCc_within_m (g := dG g L P) (N := N.1) (H.2.1 L P) M x1 1 5 rs' h') dX1_storms_3 g_X1_180 hg_X1_180 ⟨cx_le rfl, cx_le rfl⟩ rfl ⟨rfl, rfl⟩ hk rfl (cx_le rfl) (fun M1 v2 h => ?_)
  refine cq_if_eq 23 h dX1_storms_6 rfl (fun h => ?_) (fun h => ?_)
  · exact dCc_stormsD_23_v H hX M1 P L k n x1 x2 hk h
  · refine cq_iload_n 2 dX1_storms_9 rfl ?_
    refine cq_iconst 0 dX1_storms_10 cx_ic_0 ?_
    refine cq_bipush 10 dX1_storms_11 cx_bp_10 ?_
    refine cq_cSi [.int x2, .int 0, .int 10] [] h (fun rs' h' => cCc_within_m (g := dG g L P) (N := N.1) (H.2.1 L P) M1 x2 0 10 rs' h') dX1_storms_13 g_X1_180 hg_X1_180 ⟨cx_le rfl, cx_le rfl⟩ rfl ⟨rfl, rfl⟩ hk rfl (cx_le rfl) (fun M3 v4 h => ?_)
    refine cq_if_eq 23 h dX1_storms_16 rfl (fun h => ?_) (fun h => ?_)
    · exact dCc_stormsD_23_v H hX M3 P L k n x1 x2 hk h
    · refine cq_iconst 1 dX1_storms_19 cx_ic_1 ?_
      refine cq_goto 24 dX1_storms_20 rfl ?_
      exact dCc_stormsD_24_v H hX M3 P L k n x1 x2 1 hk h
def dCc_stormsD (N : dNx) (bc bs : Nat) (M : cx_M) (P : dP) (L : dL) (x1 : Int32) (x2 : Int32) (Q : cd_Qt) : Prop := dCc_stormsD_0 N bc bs Q M P L 0 0 x1 x2
set_option maxRecDepth 100000 in
theorem dCc_stormsD_m {l : Launch} {g : cx_G} {N : dNx} {bc bs : Nat} {Q : cd_Qt} (H : dX l g N.2 N.1) (M : cx_M) (P : dP) (L : dL) (x1 : Int32) (x2 : Int32) (h : dCc_stormsD N bc bs M P L x1 x2 Q) : cd_MetX l g yX1_storms cX1_storms (esX1_stormsD bc bs) cd_rI [.ref (N.2 500), .int x1, .int x2] M P L Q :=
  cd_metX (by decide +kernel) rfl rfl (lv := [(0, .ref (N.2 500)), (1, .int x1), (2, .int x2)]) rfl (cx_le rfl) (fun X hX => cq_sub (lv' := [(0, .ref (N.2 500)), (1, .int x1), (2, .int x2)]) [0, 1, 2] rfl (dCc_stormsD_0_v H hX M P L 0 0 x1 x2 ⟨Nat.zero_le _, Nat.zero_le _⟩ h))

abbrev esX1_yearsD (bc bs : Nat) : cx_S := (6, RX1, cx_rI, { frames := 906, cells := bc, slots := bs, locals := 30133 }, some .int, true)
def dCc_yearsD_35b (N : dNx) (bc bs : Nat) (Q : cd_Qt) (r_35 : cx_M → dP → dL → Nat → Nat → Int32 → Int32 → Int32 → Int32 → Prop) (M : cx_M) (P : dP) (L : dL) (k n : Nat) (x2 : Int32) (x3 : Int32) (x4 : Int32) (x5 : Int32) : Prop :=
  if x2 ≤ x5 then (
    if x3 = 0 then (
      cq_get M 1100 7 fun v3 =>
      cq_get M 1000 7 fun v4 =>
      Q M P L (v3 - v4) none 0 k n)
    else (
      if x3 = 1 then (
        cq_get M 1100 22 fun v1 =>
        cq_get M 1000 22 fun v2 =>
        Q M P L (v1 - v2) none 0 k n)
      else (
        Q M P L x4 none 0 k n)))
  else (
    cq_cal (cCc_happens N.1 M) fun M5 _ =>
    cq_cal (cCc_goes N.1 1100 M5 10) fun M6 _ =>
    cq_cal (cSt_level N.1 1100 M6) fun M7 v8 =>
    cq_let (cx_max x4 v8) fun v9 =>
    cq_let (x5 + 1) fun v10 =>
    r_35 M7 P L k n x2 x3 v9 v10)
set_option maxRecDepth 100000 in
theorem dCc_yearsD_35b_v {l : Launch} {g : cx_G} {X : cx_X} {N : dNx} {bc bs : Nat} {Q : cd_Qt} {r_35 : cx_M → dP → dL → Nat → Nat → Int32 → Int32 → Int32 → Int32 → Prop} (H : dX l g N.2 N.1) (hX : True) (hr_35 : ∀ (M : cx_M) (P : dP) (L : dL) (k n : Nat) (x2 : Int32) (x3 : Int32) (x4 : Int32) (x5 : Int32), (k ≤ bc ∧ n ≤ bs) → r_35 M P L k n x2 x3 x4 x5 → cq_V l (dG g L P) X (esX1_yearsD bc bs) cX1_years 35 [(0, .ref (N.2 500)), (2, .int x2), (3, .int x3), (4, .int x4), (5, .int x5)] [] M k n (cd_finX g X (esX1_yearsD bc bs) cd_rI Q)) (M : cx_M) (P : dP) (L : dL) (k n : Nat) (x2 : Int32) (x3 : Int32) (x4 : Int32) (x5 : Int32) (hk : k ≤ bc ∧ n ≤ bs) (h : dCc_yearsD_35b N bc bs Q r_35 M P L k n x2 x3 x4 x5) : cq_V l (dG g L P) X (esX1_yearsD bc bs) cX1_years 35 [(0, .ref (N.2 500)), (2, .int x2), (3, .int x3), (4, .int x4), (5, .int x5)] [] M k n (cd_finX g X (esX1_yearsD bc bs) cd_rI Q) := by
  unfold dCc_yearsD_35b at h
  refine cq_iload 4 dX1_years_35 rfl ?_
  refine cq_iload_n 1 dX1_years_37 rfl ?_
  refine cq_icmp_ge 79 h dX1_years_38 rfl (fun h => ?_) (fun h => ?_)
  · refine cq_iload_n 2 dX1_years_79 rfl ?_
    refine cq_if_ne 101 h dX1_years_80 rfl (fun h => ?_) (fun h => ?_)
    · refine cq_iload_n 2 dX1_years_101 rfl ?_
      refine cq_iconst 1 dX1_years_102 cx_ic_1 ?_
      refine cq_icmp_ne 124 h dX1_years_103 rfl (fun h => ?_) (fun h => ?_)
      · refine cq_iload 3 dX1_years_124 rfl ?_
        exact cd_toX (cd_iret hk h rfl dX1_years_126)
      · refine cq_aload_n 0 dX1_years_106 rfl ?_
        refine cq_getR (cCc_R4 (H.2.1 L P)) q1021 dX1_years_107 ?_
        refine cq_getIN h (cSt_F22 (cSt_i1100 (H.2.1 L P))) q688 dX1_years_110 (fun v1 h => ?_)
        refine cq_aload_n 0 dX1_years_113 rfl ?_
        refine cq_getR (cCc_R3 (H.2.1 L P)) q1020 dX1_years_114 ?_
        refine cq_getIN h (cSt_F22 (cSt_i1000 (H.2.1 L P))) q688 dX1_years_117 (fun v2 h => ?_)
        refine cq_isub dX1_years_120 ?_
        refine cq_goto 126 dX1_years_121 rfl ?_
        exact cd_toX (cd_iret hk h rfl dX1_years_126)
    · refine cq_aload_n 0 dX1_years_83 rfl ?_
      refine cq_getR (cCc_R4 (H.2.1 L P)) q1021 dX1_years_84 ?_
      refine cq_getIN h (cSt_F7 (cSt_i1100 (H.2.1 L P))) q663 dX1_years_87 (fun v3 h => ?_)
      refine cq_aload_n 0 dX1_years_90 rfl ?_
      refine cq_getR (cCc_R3 (H.2.1 L P)) q1020 dX1_years_91 ?_
      refine cq_getIN h (cSt_F7 (cSt_i1000 (H.2.1 L P))) q663 dX1_years_94 (fun v4 h => ?_)
      refine cq_isub dX1_years_97 ?_
      refine cq_goto 126 dX1_years_98 rfl ?_
      exact cd_toX (cd_iret hk h rfl dX1_years_126)
  · refine cq_aload_n 0 dX1_years_41 rfl ?_
    refine cq_cVv [] [] h (fun rs' h' => cCc_happens_m (g := dG g L P) (N := N.1) (H.2.1 L P) M rs' h') (cCc_rc (H.2.1 L P)) dX1_years_42 g_X1_490 hg_X1_490 ⟨cx_le rfl, cx_le rfl⟩ rfl ⟨rfl, rfl⟩ hk rfl (cx_le rfl) (fun M5 _ h => ?_)
    refine cq_aload_n 0 dX1_years_45 rfl ?_
    refine cq_aload_n 0 dX1_years_46 rfl ?_
    refine cq_getR (cCc_R4 (H.2.1 L P)) q1021 dX1_years_47 ?_
    refine cq_bipush 10 dX1_years_50 cx_bp_10 ?_
    refine cq_cVv [.ref (N.2 1100), .int 10] [] h (fun rs' h' => cCc_goes_m (g := dG g L P) (N := N.1) (H.2.1 L P) (cSt_i1100 (H.2.1 L P)) M5 10 rs' h') (cCc_rc (H.2.1 L P)) dX1_years_52 g_X1_397 hg_X1_397 ⟨cx_le rfl, cx_le rfl⟩ rfl ⟨rfl, rfl⟩ hk rfl (cx_le rfl) (fun M6 _ h => ?_)
    refine cq_iload 3 dX1_years_55 rfl ?_
    refine cq_aload_n 0 dX1_years_57 rfl ?_
    refine cq_getR (cCc_R4 (H.2.1 L P)) q1021 dX1_years_58 ?_
    refine cq_aload_n 0 dX1_years_61 rfl ?_
    refine cq_getR (cCc_R0 (H.2.1 L P)) q1017 dX1_years_62 ?_
    refine cq_cVi [.ref (N.2 8000)] [.int x4] h (fun rs' h' => cSt_level_m (g := dG g L P) (N := N.1) (H.2.1 L P) (cSt_i1100 (H.2.1 L P)) M6 rs' h') (cSt_rc (cSt_i1100 (H.2.1 L P))) dX1_years_65 g_X1_214 hg_X1_214 ⟨cx_le rfl, cx_le rfl⟩ rfl ⟨rfl, rfl⟩ hk rfl (cx_le rfl) (fun M7 v8 h => ?_)
    refine cq_mmax dX1_years_68 q1786 (cx_le rfl) (cx_le rfl) hk.1 hk.2 ?_
    refine cq_letI h (fun v9 h => ?_)
    refine cq_istore [(4, .int v9), (0, .ref (N.2 500)), (2, .int x2), (3, .int x3), (5, .int x5)] dX1_years_71 (cx_lt rfl) rfl ?_
    refine cq_iinc 4 1 (fun v10 => [(5, .int v10), (4, .int v9), (0, .ref (N.2 500)), (2, .int x2), (3, .int x3)]) h dX1_years_73 rfl cx_ic_1 (cx_lt rfl) (fun _ => rfl) (fun v10 h => ?_)
    refine cq_goto 35 dX1_years_76 rfl ?_
    refine cq_sub (lv' := [(0, .ref (N.2 500)), (2, .int x2), (3, .int x3), (4, .int v9), (5, .int v10)]) [2, 3, 4, 1, 0] rfl ?_
    exact hr_35 M7 P L k n x2 x3 v9 v10 hk h
def dCc_yearsD_35 (N : dNx) (bc bs : Nat) (Q : cd_Qt) : Nat → cx_M → dP → dL → Nat → Nat → Int32 → Int32 → Int32 → Int32 → Prop :=
  cx_fix (fun _ _ _ _ _ _ _ _ _ => False) (fun r_35 => dCc_yearsD_35b N bc bs Q r_35)
theorem dCc_yearsD_35_v {l : Launch} {g : cx_G} {X : cx_X} {N : dNx} {bc bs : Nat} {Q : cd_Qt} (H : dX l g N.2 N.1) (hX : True) : ∀ (f : Nat) (M : cx_M) (P : dP) (L : dL) (k n : Nat) (x2 : Int32) (x3 : Int32) (x4 : Int32) (x5 : Int32), (k ≤ bc ∧ n ≤ bs) → dCc_yearsD_35 N bc bs Q f M P L k n x2 x3 x4 x5 → cq_V l (dG g L P) X (esX1_yearsD bc bs) cX1_years 35 [(0, .ref (N.2 500)), (2, .int x2), (3, .int x3), (4, .int x4), (5, .int x5)] [] M k n (cd_finX g X (esX1_yearsD bc bs) cd_rI Q) :=
  cx_fixI (fun (r : cx_M → dP → dL → Nat → Nat → Int32 → Int32 → Int32 → Int32 → Prop) => ∀ (M : cx_M) (P : dP) (L : dL) (k n : Nat) (x2 : Int32) (x3 : Int32) (x4 : Int32) (x5 : Int32), (k ≤ bc ∧ n ≤ bs) → r M P L k n x2 x3 x4 x5 → cq_V l (dG g L P) X (esX1_yearsD bc bs) cX1_years 35 [(0, .ref (N.2 500)), (2, .int x2), (3, .int x3), (4, .int x4), (5, .int x5)] [] M k n (cd_finX g X (esX1_yearsD bc bs) cd_rI Q)) (fun _ _ _ _ _ _ _ _ _ _ h => by cases h) (fun r hr M P L k n x2 x3 x4 x5 hk h => dCc_yearsD_35b_v H hX hr M P L k n x2 x3 x4 x5 hk h)
def dCc_yearsD_0 (N : dNx) (bc bs : Nat) (Q : cd_Qt) (M : cx_M) (P : dP) (L : dL) (k n : Nat) (x1 : Int32) (x2 : Int32) (x3 : Int32) : Prop :=
  cq_cal (cCc_within N.1 M x3 0 2) fun M1 v2 =>
  cd_thr 1  (bc - k) (bs - n) M1 P L v2 (fun M3 P4 L5 v6 r7 e9 k8 n9 => (e9 ≠ 0 → Q M3 P4 L5 v6 none e9 (k + k8) (n + n9)) ∧ (e9 = 0 → cd_add k k8 n n9 fun k10 n11 =>
  cq_cal (cCc_within N.1 M3 x2 0 60) fun M12 v13 =>
  cd_thr 2  (bc - k10) (bs - n11) M12 P4 L5 v13 (fun M14 P15 L16 v17 r18 e9 k19 n20 => (e9 ≠ 0 → Q M14 P15 L16 v17 none e9 (k10 + k19) (n11 + n20)) ∧ (e9 = 0 → cd_add k10 k19 n11 n20 fun k21 n22 =>
  cq_cal (cCc_tries N.1 M14 0) fun M23 _ =>
  cq_put M23 500 16 x1 fun M24 =>
  dCc_yearsD_35 N bc bs Q N.1.1 M24 P15 L16 k21 n22 x2 x3 0 0))))
set_option maxRecDepth 100000 in
theorem dCc_yearsD_0_v {l : Launch} {g : cx_G} {X : cx_X} {N : dNx} {bc bs : Nat} {Q : cd_Qt} (H : dX l g N.2 N.1) (hX : True) (M : cx_M) (P : dP) (L : dL) (k n : Nat) (x1 : Int32) (x2 : Int32) (x3 : Int32) (hk : k ≤ bc ∧ n ≤ bs) (h : dCc_yearsD_0 N bc bs Q M P L k n x1 x2 x3) : cq_V l (dG g L P) X (esX1_yearsD bc bs) cX1_years 0 [(0, .ref (N.2 500)), (1, .int x1), (2, .int x2), (3, .int x3)] [] M k n (cd_finX g X (esX1_yearsD bc bs) cd_rI Q) := by
  unfold dCc_yearsD_0 at h
  refine cq_iload_n 3 dX1_years_0 rfl ?_
  refine cq_iconst 0 dX1_years_1 cx_ic_0 ?_
  refine cq_iconst 2 dX1_years_2 cx_ic_2 ?_
  refine cq_cSi [.int x3, .int 0, .int 2] [] h (fun rs' h' => cCc_within_m (g := dG g L P) (N := N.1) (H.2.1 L P) M x3 0 2 rs' h') dX1_years_3 g_X1_180 hg_X1_180 ⟨cx_le rfl, cx_le rfl⟩ rfl ⟨rfl, rfl⟩ hk rfl (cx_le rfl) (fun M1 v2 h => ?_)
  refine cd_xS [.int v2] [] (cc_there_m H.1.2.1 (bc := bc - k) (bs := bs - n) M1 P L v2 h) dX1_years_6 gd_X1_184 hgd_X1_184 ⟨cx_le rfl, cx_le rfl⟩ (cd_bud hk) rfl (cx_le rfl) rfl (fun _ _ _ _ _ _ _ he h => h.1 he) (fun M3 P4 L5 v6 r7 k8 n9 hk2 h => ?_)
  refine cd_addI (h.2 rfl) (cd_bk hk hk2) (fun k10 n11 h hk => ?_)
  refine cq_iload_n 2 dX1_years_9 rfl ?_
  refine cq_iconst 0 dX1_years_10 cx_ic_0 ?_
  refine cq_bipush 60 dX1_years_11 cx_bp_60 ?_
  refine cq_cSi [.int x2, .int 0, .int 60] [] h (fun rs' h' => cCc_within_m (g := dG g L5 P4) (N := N.1) (H.2.1 L5 P4) M3 x2 0 60 rs' h') dX1_years_13 g_X1_180 hg_X1_180 ⟨cx_le rfl, cx_le rfl⟩ rfl ⟨rfl, rfl⟩ hk rfl (cx_le rfl) (fun M12 v13 h => ?_)
  refine cd_xS [.int v13] [] (cc_right_m H.1.2.1 (bc := bc - k10) (bs := bs - n11) M12 P4 L5 v13 h) dX1_years_16 gd_X1_137 hgd_X1_137 ⟨cx_le rfl, cx_le rfl⟩ (cd_bud hk) rfl (cx_le rfl) rfl (fun _ _ _ _ _ _ _ he h => h.1 he) (fun M14 P15 L16 v17 r18 k19 n20 hk2 h => ?_)
  refine cd_addI (h.2 rfl) (cd_bk hk hk2) (fun k21 n22 h hk => ?_)
  refine cq_aload_n 0 dX1_years_19 rfl ?_
  refine cq_iconst 0 dX1_years_20 cx_ic_0 ?_
  refine cq_cVv [.int 0] [] h (fun rs' h' => cCc_tries_m (g := dG g L16 P15) (N := N.1) (H.2.1 L16 P15) M14 0 rs' h') (cCc_rc (H.2.1 L16 P15)) dX1_years_21 g_X1_411 hg_X1_411 ⟨cx_le rfl, cx_le rfl⟩ rfl ⟨rfl, rfl⟩ hk rfl (cx_le rfl) (fun M23 _ h => ?_)
  refine cq_aload_n 0 dX1_years_24 rfl ?_
  refine cq_iload_n 1 dX1_years_25 rfl ?_
  refine cq_putI h (cCc_F16 (H.2.1 L16 P15)) rfl rfl rfl q1033 dX1_years_26 (fun M24 h => ?_)
  refine cq_iconst 0 dX1_years_29 cx_ic_0 ?_
  refine cq_istore [(4, .int 0), (0, .ref (N.2 500)), (1, .int x1), (2, .int x2), (3, .int x3)] dX1_years_30 (cx_lt rfl) rfl ?_
  refine cq_iconst 0 dX1_years_32 cx_ic_0 ?_
  refine cq_istore [(5, .int 0), (4, .int 0), (0, .ref (N.2 500)), (1, .int x1), (2, .int x2), (3, .int x3)] dX1_years_33 (cx_lt rfl) rfl ?_
  refine cq_sub (lv' := [(0, .ref (N.2 500)), (2, .int x2), (3, .int x3), (4, .int 0), (5, .int 0)]) [2, 4, 5, 1, 0] rfl ?_
  exact dCc_yearsD_35_v H hX N.1.1 M24 P15 L16 k21 n22 x2 x3 0 0 hk h
def dCc_yearsD (N : dNx) (bc bs : Nat) (M : cx_M) (P : dP) (L : dL) (x1 : Int32) (x2 : Int32) (x3 : Int32) (Q : cd_Qt) : Prop := dCc_yearsD_0 N bc bs Q M P L 0 0 x1 x2 x3
set_option maxRecDepth 100000 in
theorem dCc_yearsD_m {l : Launch} {g : cx_G} {N : dNx} {bc bs : Nat} {Q : cd_Qt} (H : dX l g N.2 N.1) (M : cx_M) (P : dP) (L : dL) (x1 : Int32) (x2 : Int32) (x3 : Int32) (h : dCc_yearsD N bc bs M P L x1 x2 x3 Q) : cd_MetX l g yX1_years cX1_years (esX1_yearsD bc bs) cd_rI [.ref (N.2 500), .int x1, .int x2, .int x3] M P L Q :=
  cd_metX (by decide +kernel) rfl rfl (lv := [(0, .ref (N.2 500)), (1, .int x1), (2, .int x2), (3, .int x3)]) rfl (cx_le rfl) (fun X hX => cq_sub (lv' := [(0, .ref (N.2 500)), (1, .int x1), (2, .int x2), (3, .int x3)]) [0, 1, 2, 3] rfl (dCc_yearsD_0_v H hX M P L 0 0 x1 x2 x3 ⟨Nat.zero_le _, Nat.zero_le _⟩ h))

abbrev esX1_wanderD (bc bs : Nat) : cx_S := (6, RX1, cx_rI, { frames := 7, cells := bc, slots := bs, locals := 134 }, some .int, true)
def dCc_wanderD_241 (N : dNx) (bc bs : Nat) (Q : cd_Qt) (r_52 : cx_M → dP → dL → Nat → Nat → Int32 → Int32 → Int32 → Int32 → Prop) (M : cx_M) (P : dP) (L : dL) (k n : Nat) (x1 : Int32) (x2 : Int32) (x3 : Int32) (x4 : Int32) : Prop :=
  ((N.2 9300), (0, 19, 0)) ∈ L ∧
  jAd_peekFirst (N.1.1, N.2) (bc - k) (bs - n) M P L ((N.2 9300)) (fun M1 P2 L3 v4 r5 e9 k6 n7 => e9 = 0 → cd_add k k6 n n7 fun k8 n9 =>
  (∀ a, r5 = some a → dBm (dia N.2) L3 a) ∧
  cd_nn r5 fun a10 =>
  dBm (dia N.2) L3 a10 ∧
  jI_intValue (N.1.1, N.2) (bc - k8) (bs - n9) M1 P2 L3 a10 (fun M11 P12 L13 v14 r15 e9 k16 n17 => e9 = 0 → cd_add k8 k16 n9 n17 fun k18 n19 =>
  cq_cal (cSt_sampleAt N.1 1000 M11 v14) fun M20 v21 =>
  ((N.2 9310), (0, 19, 0)) ∈ L13 ∧
  jAd_peekFirst (N.1.1, N.2) (bc - k18) (bs - n19) M20 P12 L13 ((N.2 9310)) (fun M22 P23 L24 v25 r26 e9 k27 n28 => e9 = 0 → cd_add k18 k27 n19 n28 fun k29 n30 =>
  (∀ a, r26 = some a → dBm (dia N.2) L24 a) ∧
  cd_nn r26 fun a31 =>
  dBm (dia N.2) L24 a31 ∧
  jI_intValue (N.1.1, N.2) (bc - k29) (bs - n30) M22 P23 L24 a31 (fun M32 P33 L34 v35 r36 e9 k37 n38 => e9 = 0 → cd_add k29 k37 n30 n38 fun k39 n40 =>
  cq_cal (cSt_sampleAt N.1 1000 M32 v35) fun M41 v42 =>
  cq_let (cx_max x3 (v21 - v42)) fun v43 =>
  cq_let (x4 + 1) fun v44 =>
  r_52 M41 P33 L34 k39 n40 x1 x2 v43 v44))))
set_option maxRecDepth 100000 in
theorem dCc_wanderD_241_v {l : Launch} {g : cx_G} {X : cx_X} {N : dNx} {bc bs : Nat} {Q : cd_Qt} {r_52 : cx_M → dP → dL → Nat → Nat → Int32 → Int32 → Int32 → Int32 → Prop} (H : dX l g N.2 N.1) (hX : True) (hr_52 : ∀ (M : cx_M) (P : dP) (L : dL) (k n : Nat) (x1 : Int32) (x2 : Int32) (x3 : Int32) (x4 : Int32), (k ≤ bc ∧ n ≤ bs) → r_52 M P L k n x1 x2 x3 x4 → cq_V l (dG g L P) X (esX1_wanderD bc bs) cX1_wander 52 [(0, .ref (N.2 500)), (1, .int x1), (2, .int x2), (3, .int x3), (4, .int x4)] [] M k n (cd_finX g X (esX1_wanderD bc bs) cd_rI Q)) (M : cx_M) (P : dP) (L : dL) (k n : Nat) (x1 : Int32) (x2 : Int32) (x3 : Int32) (x4 : Int32) (hk : k ≤ bc ∧ n ≤ bs) (h : dCc_wanderD_241 N bc bs Q r_52 M P L k n x1 x2 x3 x4) : cq_V l (dG g L P) X (esX1_wanderD bc bs) cX1_wander 241 [(0, .ref (N.2 500)), (1, .int x1), (2, .int x2), (3, .int x3), (4, .int x4)] [] M k n (cd_finX g X (esX1_wanderD bc bs) cd_rI Q) := by
  unfold dCc_wanderD_241 at h
  refine cq_iload_n 3 dX1_wander_241 rfl ?_
  refine cq_aload_n 0 dX1_wander_242 rfl ?_
  refine cq_getR (cCc_R3 (H.2.1 L P)) q1020 dX1_wander_243 ?_
  refine cq_aload_n 0 dX1_wander_246 rfl ?_
  refine cq_getR (cCc_R11 (H.2.1 L P)) q1028 dX1_wander_247 ?_
  obtain ⟨hmr, h⟩ := h
  refine cd_cV [] [.ref (N.2 1000), .int x3] (jAd_peekFirst_m H.1.1 (N := (N.1.1, N.2)) (bc := bc - k) (bs := bs - n) M P L ((N.2 9300)) h) (dG_Rc H.1.1.1.1 hmr dCl_J20) dX1_wander_250 gd_X1_373 hgd_X1_373 ⟨cx_le rfl, cx_le rfl⟩ (cd_bud hk) rfl (cx_le rfl) (fun M1 P2 L3 v4 r5 k6 n7 hk2 h => ?_)
  refine cd_addI (h rfl) (cd_bk hk hk2) (fun k8 n9 h hk => ?_)
  refine cd_castBox (v := r5) H.1.1.1.1 H.1.1.2.1 dCl_J17 h.1 q2105 dX1_wander_253 ?_
  replace h := h.2
  obtain ⟨a10, e9, h⟩ := cd_nn_some h
  subst e9
  obtain ⟨hmr, h⟩ := h
  refine cd_cVO [] [.ref (N.2 1000), .int x3] (jI_intValue_m H.1.1 (N := (N.1.1, N.2)) (bc := bc - k8) (bs := bs - n9) M1 P2 L3 a10 h) (dI_RO H.1.1.1.1 H.1.1.2.1 dCl_J17 hmr) dX1_wander_256 gd_X1_347 hgd_X1_347 ⟨cx_le rfl, cx_le rfl⟩ (cd_bud hk) rfl (cx_le rfl) (fun M11 P12 L13 v14 r15 k16 n17 hk2 h => ?_)
  refine cd_addI (h rfl) (cd_bk hk hk2) (fun k18 n19 h hk => ?_)
  refine cq_cVi [.int v14] [.int x3] h (fun rs' h' => cSt_sampleAt_m (g := dG g L13 P12) (N := N.1) (H.2.1 L13 P12) (cSt_i1000 (H.2.1 L13 P12)) M11 v14 rs' h') (cSt_rc (cSt_i1000 (H.2.1 L13 P12))) dX1_wander_259 g_X1_357 hg_X1_357 ⟨cx_le rfl, cx_le rfl⟩ rfl ⟨rfl, rfl⟩ hk rfl (cx_le rfl) (fun M20 v21 h => ?_)
  refine cq_aload_n 0 dX1_wander_262 rfl ?_
  refine cq_getR (cCc_R3 (H.2.1 L13 P12)) q1020 dX1_wander_263 ?_
  refine cq_aload_n 0 dX1_wander_266 rfl ?_
  refine cq_getR (cCc_R12 (H.2.1 L13 P12)) q1029 dX1_wander_267 ?_
  obtain ⟨hmr, h⟩ := h
  refine cd_cV [] [.ref (N.2 1000), .int v21, .int x3] (jAd_peekFirst_m H.1.1 (N := (N.1.1, N.2)) (bc := bc - k18) (bs := bs - n19) M20 P12 L13 ((N.2 9310)) h) (dG_Rc H.1.1.1.1 hmr dCl_J20) dX1_wander_270 gd_X1_373 hgd_X1_373 ⟨cx_le rfl, cx_le rfl⟩ (cd_bud hk) rfl (cx_le rfl) (fun M22 P23 L24 v25 r26 k27 n28 hk2 h => ?_)
  refine cd_addI (h rfl) (cd_bk hk hk2) (fun k29 n30 h hk => ?_)
  refine cd_castBox (v := r26) H.1.1.1.1 H.1.1.2.1 dCl_J17 h.1 q2105 dX1_wander_273 ?_
  replace h := h.2
  obtain ⟨a31, e9, h⟩ := cd_nn_some h
  subst e9
  obtain ⟨hmr, h⟩ := h
  refine cd_cVO [] [.ref (N.2 1000), .int v21, .int x3] (jI_intValue_m H.1.1 (N := (N.1.1, N.2)) (bc := bc - k29) (bs := bs - n30) M22 P23 L24 a31 h) (dI_RO H.1.1.1.1 H.1.1.2.1 dCl_J17 hmr) dX1_wander_276 gd_X1_347 hgd_X1_347 ⟨cx_le rfl, cx_le rfl⟩ (cd_bud hk) rfl (cx_le rfl) (fun M32 P33 L34 v35 r36 k37 n38 hk2 h => ?_)
  refine cd_addI (h rfl) (cd_bk hk hk2) (fun k39 n40 h hk => ?_)
  refine cq_cVi [.int v35] [.int v21, .int x3] h (fun rs' h' => cSt_sampleAt_m (g := dG g L34 P33) (N := N.1) (H.2.1 L34 P33) (cSt_i1000 (H.2.1 L34 P33)) M32 v35 rs' h') (cSt_rc (cSt_i1000 (H.2.1 L34 P33))) dX1_wander_279 g_X1_357 hg_X1_357 ⟨cx_le rfl, cx_le rfl⟩ rfl ⟨rfl, rfl⟩ hk rfl (cx_le rfl) (fun M41 v42 h => ?_)
  refine cq_isub dX1_wander_282 ?_
  refine cq_mmax dX1_wander_283 q1786 (cx_le rfl) (cx_le rfl) hk.1 hk.2 ?_
  refine cq_letI h (fun v43 h => ?_)
  refine cq_istore_n [(3, .int v43), (0, .ref (N.2 500)), (1, .int x1), (2, .int x2), (4, .int x4)] dX1_wander_286 (cx_lt rfl) rfl ?_
  refine cq_iinc 4 1 (fun v44 => [(4, .int v44), (3, .int v43), (0, .ref (N.2 500)), (1, .int x1), (2, .int x2)]) h dX1_wander_287 rfl cx_ic_1 (cx_lt rfl) (fun _ => rfl) (fun v44 h => ?_)
  refine cq_goto 52 dX1_wander_290 rfl ?_
  refine cq_sub (lv' := [(0, .ref (N.2 500)), (1, .int x1), (2, .int x2), (3, .int v43), (4, .int v44)]) [2, 3, 4, 1, 0] rfl ?_
  exact hr_52 M41 P33 L34 k39 n40 x1 x2 v43 v44 hk h
def dCc_wanderD_213 (N : dNx) (bc bs : Nat) (Q : cd_Qt) (r_52 : cx_M → dP → dL → Nat → Nat → Int32 → Int32 → Int32 → Int32 → Prop) (M : cx_M) (P : dP) (L : dL) (k n : Nat) (x1 : Int32) (x2 : Int32) (x3 : Int32) (x4 : Int32) : Prop :=
  ((N.2 9310), (0, 19, 0)) ∈ L ∧
  jAd_peekFirst (N.1.1, N.2) (bc - k) (bs - n) M P L ((N.2 9310)) (fun M1 P2 L3 v4 r5 e9 k6 n7 => e9 = 0 → cd_add k k6 n n7 fun k8 n9 =>
  (∀ a, r5 = some a → dBm (dia N.2) L3 a) ∧
  cd_nn r5 fun a10 =>
  dBm (dia N.2) L3 a10 ∧
  jI_intValue (N.1.1, N.2) (bc - k8) (bs - n9) M1 P2 L3 a10 (fun M11 P12 L13 v14 r15 e9 k16 n17 => e9 = 0 → cd_add k8 k16 n9 n17 fun k18 n19 =>
  if (x4 - x1) < v14 then (
    dCc_wanderD_241 N bc bs Q r_52 M11 P12 L13 k18 n19 x1 x2 x3 x4)
  else (
    ((N.2 9310), (0, 19, 0)) ∈ L13 ∧
    jAd_pollFirst (N.1.1, N.2) (bc - k18) (bs - n19) M11 P12 L13 ((N.2 9310)) (fun M20 P21 L22 v23 r24 e9 k25 n26 => e9 = 0 → cd_add k18 k25 n19 n26 fun k27 n28 =>
    dCc_wanderD_241 N bc bs Q r_52 M20 P21 L22 k27 n28 x1 x2 x3 x4))))
set_option maxRecDepth 100000 in
theorem dCc_wanderD_213_v {l : Launch} {g : cx_G} {X : cx_X} {N : dNx} {bc bs : Nat} {Q : cd_Qt} {r_52 : cx_M → dP → dL → Nat → Nat → Int32 → Int32 → Int32 → Int32 → Prop} (H : dX l g N.2 N.1) (hX : True) (hr_52 : ∀ (M : cx_M) (P : dP) (L : dL) (k n : Nat) (x1 : Int32) (x2 : Int32) (x3 : Int32) (x4 : Int32), (k ≤ bc ∧ n ≤ bs) → r_52 M P L k n x1 x2 x3 x4 → cq_V l (dG g L P) X (esX1_wanderD bc bs) cX1_wander 52 [(0, .ref (N.2 500)), (1, .int x1), (2, .int x2), (3, .int x3), (4, .int x4)] [] M k n (cd_finX g X (esX1_wanderD bc bs) cd_rI Q)) (M : cx_M) (P : dP) (L : dL) (k n : Nat) (x1 : Int32) (x2 : Int32) (x3 : Int32) (x4 : Int32) (hk : k ≤ bc ∧ n ≤ bs) (h : dCc_wanderD_213 N bc bs Q r_52 M P L k n x1 x2 x3 x4) : cq_V l (dG g L P) X (esX1_wanderD bc bs) cX1_wander 213 [(0, .ref (N.2 500)), (1, .int x1), (2, .int x2), (3, .int x3), (4, .int x4)] [] M k n (cd_finX g X (esX1_wanderD bc bs) cd_rI Q) := by
  unfold dCc_wanderD_213 at h
  refine cq_aload_n 0 dX1_wander_213 rfl ?_
  refine cq_getR (cCc_R12 (H.2.1 L P)) q1029 dX1_wander_214 ?_
  obtain ⟨hmr, h⟩ := h
  refine cd_cV [] [] (jAd_peekFirst_m H.1.1 (N := (N.1.1, N.2)) (bc := bc - k) (bs := bs - n) M P L ((N.2 9310)) h) (dG_Rc H.1.1.1.1 hmr dCl_J20) dX1_wander_217 gd_X1_373 hgd_X1_373 ⟨cx_le rfl, cx_le rfl⟩ (cd_bud hk) rfl (cx_le rfl) (fun M1 P2 L3 v4 r5 k6 n7 hk2 h => ?_)
  refine cd_addI (h rfl) (cd_bk hk hk2) (fun k8 n9 h hk => ?_)
  refine cd_castBox (v := r5) H.1.1.1.1 H.1.1.2.1 dCl_J17 h.1 q2105 dX1_wander_220 ?_
  replace h := h.2
  obtain ⟨a10, e9, h⟩ := cd_nn_some h
  subst e9
  obtain ⟨hmr, h⟩ := h
  refine cd_cVO [] [] (jI_intValue_m H.1.1 (N := (N.1.1, N.2)) (bc := bc - k8) (bs := bs - n9) M1 P2 L3 a10 h) (dI_RO H.1.1.1.1 H.1.1.2.1 dCl_J17 hmr) dX1_wander_223 gd_X1_347 hgd_X1_347 ⟨cx_le rfl, cx_le rfl⟩ (cd_bud hk) rfl (cx_le rfl) (fun M11 P12 L13 v14 r15 k16 n17 hk2 h => ?_)
  refine cd_addI (h rfl) (cd_bk hk hk2) (fun k18 n19 h hk => ?_)
  refine cq_iload 4 dX1_wander_226 rfl ?_
  refine cq_iload_n 1 dX1_wander_228 rfl ?_
  refine cq_isub dX1_wander_229 ?_
  refine cq_icmp_gt 241 h dX1_wander_230 rfl (fun h => ?_) (fun h => ?_)
  · exact dCc_wanderD_241_v H hX hr_52 M11 P12 L13 k18 n19 x1 x2 x3 x4 hk h
  · refine cq_aload_n 0 dX1_wander_233 rfl ?_
    refine cq_getR (cCc_R12 (H.2.1 L13 P12)) q1029 dX1_wander_234 ?_
    obtain ⟨hmr, h⟩ := h
    refine cd_cV [] [] (jAd_pollFirst_m H.1.1 (N := (N.1.1, N.2)) (bc := bc - k18) (bs := bs - n19) M11 P12 L13 ((N.2 9310)) h) (dG_Rc H.1.1.1.1 hmr dCl_J20) dX1_wander_237 gd_X1_376 hgd_X1_376 ⟨cx_le rfl, cx_le rfl⟩ (cd_bud hk) rfl (cx_le rfl) (fun M20 P21 L22 v23 r24 k25 n26 hk2 h => ?_)
    refine cd_addI (h rfl) (cd_bk hk hk2) (fun k27 n28 h hk => ?_)
    refine cq_pop dX1_wander_240 (va_rf_cat _) ?_
    exact dCc_wanderD_241_v H hX hr_52 M20 P21 L22 k27 n28 x1 x2 x3 x4 hk h
def dCc_wanderD_161 (N : dNx) (bc bs : Nat) (Q : cd_Qt) (r_52 : cx_M → dP → dL → Nat → Nat → Int32 → Int32 → Int32 → Int32 → Prop) (M : cx_M) (P : dP) (L : dL) (k n : Nat) (x1 : Int32) (x2 : Int32) (x3 : Int32) (x4 : Int32) : Prop :=
  jI_valueOf (N.1.1, N.2) (bc - k) (bs - n) M P L x4 (fun M1 P2 L3 v4 r5 e9 k6 n7 => e9 = 0 → cd_add k k6 n n7 fun k8 n9 =>
  ((N.2 9300), (0, 19, 0)) ∈ L3 ∧
  jAd_addLast (N.1.1, N.2) (bc - k8) (bs - n9) M1 P2 L3 ((N.2 9300)) r5 (fun M10 P11 L12 v13 r14 e9 k15 n16 => e9 = 0 → cd_add k8 k15 n9 n16 fun k17 n18 =>
  jI_valueOf (N.1.1, N.2) (bc - k17) (bs - n18) M10 P11 L12 x4 (fun M19 P20 L21 v22 r23 e9 k24 n25 => e9 = 0 → cd_add k17 k24 n18 n25 fun k26 n27 =>
  ((N.2 9310), (0, 19, 0)) ∈ L21 ∧
  jAd_addLast (N.1.1, N.2) (bc - k26) (bs - n27) M19 P20 L21 ((N.2 9310)) r23 (fun M28 P29 L30 v31 r32 e9 k33 n34 => e9 = 0 → cd_add k26 k33 n27 n34 fun k35 n36 =>
  ((N.2 9300), (0, 19, 0)) ∈ L30 ∧
  jAd_peekFirst (N.1.1, N.2) (bc - k35) (bs - n36) M28 P29 L30 ((N.2 9300)) (fun M37 P38 L39 v40 r41 e9 k42 n43 => e9 = 0 → cd_add k35 k42 n36 n43 fun k44 n45 =>
  (∀ a, r41 = some a → dBm (dia N.2) L39 a) ∧
  cd_nn r41 fun a46 =>
  dBm (dia N.2) L39 a46 ∧
  jI_intValue (N.1.1, N.2) (bc - k44) (bs - n45) M37 P38 L39 a46 (fun M47 P48 L49 v50 r51 e9 k52 n53 => e9 = 0 → cd_add k44 k52 n45 n53 fun k54 n55 =>
  if (x4 - x1) < v50 then (
    dCc_wanderD_213 N bc bs Q r_52 M47 P48 L49 k54 n55 x1 x2 x3 x4)
  else (
    ((N.2 9300), (0, 19, 0)) ∈ L49 ∧
    jAd_pollFirst (N.1.1, N.2) (bc - k54) (bs - n55) M47 P48 L49 ((N.2 9300)) (fun M56 P57 L58 v59 r60 e9 k61 n62 => e9 = 0 → cd_add k54 k61 n55 n62 fun k63 n64 =>
    dCc_wanderD_213 N bc bs Q r_52 M56 P57 L58 k63 n64 x1 x2 x3 x4))))))))
set_option maxRecDepth 100000 in
theorem dCc_wanderD_161_v {l : Launch} {g : cx_G} {X : cx_X} {N : dNx} {bc bs : Nat} {Q : cd_Qt} {r_52 : cx_M → dP → dL → Nat → Nat → Int32 → Int32 → Int32 → Int32 → Prop} (H : dX l g N.2 N.1) (hX : True) (hr_52 : ∀ (M : cx_M) (P : dP) (L : dL) (k n : Nat) (x1 : Int32) (x2 : Int32) (x3 : Int32) (x4 : Int32), (k ≤ bc ∧ n ≤ bs) → r_52 M P L k n x1 x2 x3 x4 → cq_V l (dG g L P) X (esX1_wanderD bc bs) cX1_wander 52 [(0, .ref (N.2 500)), (1, .int x1), (2, .int x2), (3, .int x3), (4, .int x4)] [] M k n (cd_finX g X (esX1_wanderD bc bs) cd_rI Q)) (M : cx_M) (P : dP) (L : dL) (k n : Nat) (x1 : Int32) (x2 : Int32) (x3 : Int32) (x4 : Int32) (hk : k ≤ bc ∧ n ≤ bs) (h : dCc_wanderD_161 N bc bs Q r_52 M P L k n x1 x2 x3 x4) : cq_V l (dG g L P) X (esX1_wanderD bc bs) cX1_wander 161 [(0, .ref (N.2 500)), (1, .int x1), (2, .int x2), (3, .int x3), (4, .int x4)] [] M k n (cd_finX g X (esX1_wanderD bc bs) cd_rI Q) := by
  unfold dCc_wanderD_161 at h
  refine cq_aload_n 0 dX1_wander_161 rfl ?_
  refine cq_getR (cCc_R11 (H.2.1 L P)) q1028 dX1_wander_162 ?_
  refine cq_iload 4 dX1_wander_165 rfl ?_
  refine cd_cS [.int x4] [.ref (N.2 9300)] (jI_valueOf_m H.1.1 (N := (N.1.1, N.2)) (bc := bc - k) (bs := bs - n) M P L x4 h) dX1_wander_167 gd_X1_323 hgd_X1_323 ⟨cx_le rfl, cx_le rfl⟩ (cd_bud hk) rfl (cx_le rfl) (fun M1 P2 L3 v4 r5 k6 n7 hk2 h => ?_)
  refine cd_addI (h rfl) (cd_bk hk hk2) (fun k8 n9 h hk => ?_)
  obtain ⟨hmr, h⟩ := h
  refine cd_cV [va_rf r5] [] (jAd_addLast_m H.1.1 (N := (N.1.1, N.2)) (bc := bc - k8) (bs := bs - n9) M1 P2 L3 ((N.2 9300)) r5 h) (dG_Rc H.1.1.1.1 hmr dCl_J20) dX1_wander_170 gd_X1_372 hgd_X1_372 ⟨cx_le rfl, cx_le rfl⟩ (cd_bud hk) rfl (cx_le rfl) (fun M10 P11 L12 v13 r14 k15 n16 hk2 h => ?_)
  refine cd_addI (h rfl) (cd_bk hk hk2) (fun k17 n18 h hk => ?_)
  refine cq_aload_n 0 dX1_wander_173 rfl ?_
  refine cq_getR (cCc_R12 (H.2.1 L12 P11)) q1029 dX1_wander_174 ?_
  refine cq_iload 4 dX1_wander_177 rfl ?_
  refine cd_cS [.int x4] [.ref (N.2 9310)] (jI_valueOf_m H.1.1 (N := (N.1.1, N.2)) (bc := bc - k17) (bs := bs - n18) M10 P11 L12 x4 h) dX1_wander_179 gd_X1_323 hgd_X1_323 ⟨cx_le rfl, cx_le rfl⟩ (cd_bud hk) rfl (cx_le rfl) (fun M19 P20 L21 v22 r23 k24 n25 hk2 h => ?_)
  refine cd_addI (h rfl) (cd_bk hk hk2) (fun k26 n27 h hk => ?_)
  obtain ⟨hmr, h⟩ := h
  refine cd_cV [va_rf r23] [] (jAd_addLast_m H.1.1 (N := (N.1.1, N.2)) (bc := bc - k26) (bs := bs - n27) M19 P20 L21 ((N.2 9310)) r23 h) (dG_Rc H.1.1.1.1 hmr dCl_J20) dX1_wander_182 gd_X1_372 hgd_X1_372 ⟨cx_le rfl, cx_le rfl⟩ (cd_bud hk) rfl (cx_le rfl) (fun M28 P29 L30 v31 r32 k33 n34 hk2 h => ?_)
  refine cd_addI (h rfl) (cd_bk hk hk2) (fun k35 n36 h hk => ?_)
  refine cq_aload_n 0 dX1_wander_185 rfl ?_
  refine cq_getR (cCc_R11 (H.2.1 L30 P29)) q1028 dX1_wander_186 ?_
  obtain ⟨hmr, h⟩ := h
  refine cd_cV [] [] (jAd_peekFirst_m H.1.1 (N := (N.1.1, N.2)) (bc := bc - k35) (bs := bs - n36) M28 P29 L30 ((N.2 9300)) h) (dG_Rc H.1.1.1.1 hmr dCl_J20) dX1_wander_189 gd_X1_373 hgd_X1_373 ⟨cx_le rfl, cx_le rfl⟩ (cd_bud hk) rfl (cx_le rfl) (fun M37 P38 L39 v40 r41 k42 n43 hk2 h => ?_)
  refine cd_addI (h rfl) (cd_bk hk hk2) (fun k44 n45 h hk => ?_)
  refine cd_castBox (v := r41) H.1.1.1.1 H.1.1.2.1 dCl_J17 h.1 q2105 dX1_wander_192 ?_
  replace h := h.2
  obtain ⟨a46, e9, h⟩ := cd_nn_some h
  subst e9
  obtain ⟨hmr, h⟩ := h
  refine cd_cVO [] [] (jI_intValue_m H.1.1 (N := (N.1.1, N.2)) (bc := bc - k44) (bs := bs - n45) M37 P38 L39 a46 h) (dI_RO H.1.1.1.1 H.1.1.2.1 dCl_J17 hmr) dX1_wander_195 gd_X1_347 hgd_X1_347 ⟨cx_le rfl, cx_le rfl⟩ (cd_bud hk) rfl (cx_le rfl) (fun M47 P48 L49 v50 r51 k52 n53 hk2 h => ?_)
  refine cd_addI (h rfl) (cd_bk hk hk2) (fun k54 n55 h hk => ?_)
  refine cq_iload 4 dX1_wander_198 rfl ?_
  refine cq_iload_n 1 dX1_wander_200 rfl ?_
  refine cq_isub dX1_wander_201 ?_
  refine cq_icmp_gt 213 h dX1_wander_202 rfl (fun h => ?_) (fun h => ?_)
  · exact dCc_wanderD_213_v H hX hr_52 M47 P48 L49 k54 n55 x1 x2 x3 x4 hk h
  · refine cq_aload_n 0 dX1_wander_205 rfl ?_
    refine cq_getR (cCc_R11 (H.2.1 L49 P48)) q1028 dX1_wander_206 ?_
    obtain ⟨hmr, h⟩ := h
    refine cd_cV [] [] (jAd_pollFirst_m H.1.1 (N := (N.1.1, N.2)) (bc := bc - k54) (bs := bs - n55) M47 P48 L49 ((N.2 9300)) h) (dG_Rc H.1.1.1.1 hmr dCl_J20) dX1_wander_209 gd_X1_376 hgd_X1_376 ⟨cx_le rfl, cx_le rfl⟩ (cd_bud hk) rfl (cx_le rfl) (fun M56 P57 L58 v59 r60 k61 n62 hk2 h => ?_)
    refine cd_addI (h rfl) (cd_bk hk hk2) (fun k63 n64 h hk => ?_)
    refine cq_pop dX1_wander_212 (va_rf_cat _) ?_
    exact dCc_wanderD_213_v H hX hr_52 M56 P57 L58 k63 n64 x1 x2 x3 x4 hk h
def dCc_wanderD_115b (N : dNx) (bc bs : Nat) (Q : cd_Qt) (r_52 : cx_M → dP → dL → Nat → Nat → Int32 → Int32 → Int32 → Int32 → Prop) (r_115 : cx_M → dP → dL → Nat → Nat → Int32 → Int32 → Int32 → Int32 → Int32 → Prop) (M : cx_M) (P : dP) (L : dL) (k n : Nat) (x1 : Int32) (x2 : Int32) (x3 : Int32) (x4 : Int32) (x5 : Int32) : Prop :=
  ((N.2 9310), (0, 19, 0)) ∈ L ∧
  jAd_isEmpty (N.1.1, N.2) (bc - k) (bs - n) M P L ((N.2 9310)) (fun M1 P2 L3 v4 r5 e9 k6 n7 => e9 = 0 → cd_add k k6 n n7 fun k8 n9 =>
  if v4 = 0 then (
    ((N.2 9310), (0, 19, 0)) ∈ L3 ∧
    jAd_peekLast (N.1.1, N.2) (bc - k8) (bs - n9) M1 P2 L3 ((N.2 9310)) (fun M10 P11 L12 v13 r14 e9 k15 n16 => e9 = 0 → cd_add k8 k15 n9 n16 fun k17 n18 =>
    (∀ a, r14 = some a → dBm (dia N.2) L12 a) ∧
    cd_nn r14 fun a19 =>
    dBm (dia N.2) L12 a19 ∧
    jI_intValue (N.1.1, N.2) (bc - k17) (bs - n18) M10 P11 L12 a19 (fun M20 P21 L22 v23 r24 e9 k25 n26 => e9 = 0 → cd_add k17 k25 n18 n26 fun k27 n28 =>
    cq_cal (cSt_sampleAt N.1 1000 M20 v23) fun M29 v30 =>
    if v30 < x5 then (
      dCc_wanderD_161 N bc bs Q r_52 M29 P21 L22 k27 n28 x1 x2 x3 x4)
    else (
      ((N.2 9310), (0, 19, 0)) ∈ L22 ∧
      jAd_pollLast (N.1.1, N.2) (bc - k27) (bs - n28) M29 P21 L22 ((N.2 9310)) (fun M31 P32 L33 v34 r35 e9 k36 n37 => e9 = 0 → cd_add k27 k36 n28 n37 fun k38 n39 =>
      r_115 M31 P32 L33 k38 n39 x1 x2 x3 x4 x5)))))
  else (
    dCc_wanderD_161 N bc bs Q r_52 M1 P2 L3 k8 n9 x1 x2 x3 x4))
set_option maxRecDepth 100000 in
theorem dCc_wanderD_115b_v {l : Launch} {g : cx_G} {X : cx_X} {N : dNx} {bc bs : Nat} {Q : cd_Qt} {r_52 : cx_M → dP → dL → Nat → Nat → Int32 → Int32 → Int32 → Int32 → Prop} {r_115 : cx_M → dP → dL → Nat → Nat → Int32 → Int32 → Int32 → Int32 → Int32 → Prop} (H : dX l g N.2 N.1) (hX : True) (hr_52 : ∀ (M : cx_M) (P : dP) (L : dL) (k n : Nat) (x1 : Int32) (x2 : Int32) (x3 : Int32) (x4 : Int32), (k ≤ bc ∧ n ≤ bs) → r_52 M P L k n x1 x2 x3 x4 → cq_V l (dG g L P) X (esX1_wanderD bc bs) cX1_wander 52 [(0, .ref (N.2 500)), (1, .int x1), (2, .int x2), (3, .int x3), (4, .int x4)] [] M k n (cd_finX g X (esX1_wanderD bc bs) cd_rI Q)) (hr_115 : ∀ (M : cx_M) (P : dP) (L : dL) (k n : Nat) (x1 : Int32) (x2 : Int32) (x3 : Int32) (x4 : Int32) (x5 : Int32), (k ≤ bc ∧ n ≤ bs) → r_115 M P L k n x1 x2 x3 x4 x5 → cq_V l (dG g L P) X (esX1_wanderD bc bs) cX1_wander 115 [(0, .ref (N.2 500)), (1, .int x1), (2, .int x2), (3, .int x3), (4, .int x4), (5, .int x5)] [] M k n (cd_finX g X (esX1_wanderD bc bs) cd_rI Q)) (M : cx_M) (P : dP) (L : dL) (k n : Nat) (x1 : Int32) (x2 : Int32) (x3 : Int32) (x4 : Int32) (x5 : Int32) (hk : k ≤ bc ∧ n ≤ bs) (h : dCc_wanderD_115b N bc bs Q r_52 r_115 M P L k n x1 x2 x3 x4 x5) : cq_V l (dG g L P) X (esX1_wanderD bc bs) cX1_wander 115 [(0, .ref (N.2 500)), (1, .int x1), (2, .int x2), (3, .int x3), (4, .int x4), (5, .int x5)] [] M k n (cd_finX g X (esX1_wanderD bc bs) cd_rI Q) := by
  unfold dCc_wanderD_115b at h
  refine cq_aload_n 0 dX1_wander_115 rfl ?_
  refine cq_getR (cCc_R12 (H.2.1 L P)) q1029 dX1_wander_116 ?_
  obtain ⟨hmr, h⟩ := h
  refine cd_cV [] [] (jAd_isEmpty_m H.1.1 (N := (N.1.1, N.2)) (bc := bc - k) (bs := bs - n) M P L ((N.2 9310)) h) (dG_Rc H.1.1.1.1 hmr dCl_J20) dX1_wander_119 gd_X1_363 hgd_X1_363 ⟨cx_le rfl, cx_le rfl⟩ (cd_bud hk) rfl (cx_le rfl) (fun M1 P2 L3 v4 r5 k6 n7 hk2 h => ?_)
  refine cd_addI (h rfl) (cd_bk hk hk2) (fun k8 n9 h hk => ?_)
  refine cq_if_ne 161 h dX1_wander_122 rfl (fun h => ?_) (fun h => ?_)
  · refine cq_sub (lv' := [(0, .ref (N.2 500)), (1, .int x1), (2, .int x2), (3, .int x3), (4, .int x4)]) [0, 1, 2, 3, 4] rfl ?_
    exact dCc_wanderD_161_v H hX hr_52 M1 P2 L3 k8 n9 x1 x2 x3 x4 hk h
  · refine cq_aload_n 0 dX1_wander_125 rfl ?_
    refine cq_getR (cCc_R3 (H.2.1 L3 P2)) q1020 dX1_wander_126 ?_
    refine cq_aload_n 0 dX1_wander_129 rfl ?_
    refine cq_getR (cCc_R12 (H.2.1 L3 P2)) q1029 dX1_wander_130 ?_
    obtain ⟨hmr, h⟩ := h
    refine cd_cV [] [.ref (N.2 1000)] (jAd_peekLast_m H.1.1 (N := (N.1.1, N.2)) (bc := bc - k8) (bs := bs - n9) M1 P2 L3 ((N.2 9310)) h) (dG_Rc H.1.1.1.1 hmr dCl_J20) dX1_wander_133 gd_X1_366 hgd_X1_366 ⟨cx_le rfl, cx_le rfl⟩ (cd_bud hk) rfl (cx_le rfl) (fun M10 P11 L12 v13 r14 k15 n16 hk2 h => ?_)
    refine cd_addI (h rfl) (cd_bk hk hk2) (fun k17 n18 h hk => ?_)
    refine cd_castBox (v := r14) H.1.1.1.1 H.1.1.2.1 dCl_J17 h.1 q2105 dX1_wander_136 ?_
    replace h := h.2
    obtain ⟨a19, e9, h⟩ := cd_nn_some h
    subst e9
    obtain ⟨hmr, h⟩ := h
    refine cd_cVO [] [.ref (N.2 1000)] (jI_intValue_m H.1.1 (N := (N.1.1, N.2)) (bc := bc - k17) (bs := bs - n18) M10 P11 L12 a19 h) (dI_RO H.1.1.1.1 H.1.1.2.1 dCl_J17 hmr) dX1_wander_139 gd_X1_347 hgd_X1_347 ⟨cx_le rfl, cx_le rfl⟩ (cd_bud hk) rfl (cx_le rfl) (fun M20 P21 L22 v23 r24 k25 n26 hk2 h => ?_)
    refine cd_addI (h rfl) (cd_bk hk hk2) (fun k27 n28 h hk => ?_)
    refine cq_cVi [.int v23] [] h (fun rs' h' => cSt_sampleAt_m (g := dG g L22 P21) (N := N.1) (H.2.1 L22 P21) (cSt_i1000 (H.2.1 L22 P21)) M20 v23 rs' h') (cSt_rc (cSt_i1000 (H.2.1 L22 P21))) dX1_wander_142 g_X1_357 hg_X1_357 ⟨cx_le rfl, cx_le rfl⟩ rfl ⟨rfl, rfl⟩ hk rfl (cx_le rfl) (fun M29 v30 h => ?_)
    refine cq_iload 5 dX1_wander_145 rfl ?_
    refine cq_icmp_lt 161 h dX1_wander_147 rfl (fun h => ?_) (fun h => ?_)
    · refine cq_sub (lv' := [(0, .ref (N.2 500)), (1, .int x1), (2, .int x2), (3, .int x3), (4, .int x4)]) [0, 1, 2, 3, 4] rfl ?_
      exact dCc_wanderD_161_v H hX hr_52 M29 P21 L22 k27 n28 x1 x2 x3 x4 hk h
    · refine cq_aload_n 0 dX1_wander_150 rfl ?_
      refine cq_getR (cCc_R12 (H.2.1 L22 P21)) q1029 dX1_wander_151 ?_
      obtain ⟨hmr, h⟩ := h
      refine cd_cV [] [] (jAd_pollLast_m H.1.1 (N := (N.1.1, N.2)) (bc := bc - k27) (bs := bs - n28) M29 P21 L22 ((N.2 9310)) h) (dG_Rc H.1.1.1.1 hmr dCl_J20) dX1_wander_154 gd_X1_369 hgd_X1_369 ⟨cx_le rfl, cx_le rfl⟩ (cd_bud hk) rfl (cx_le rfl) (fun M31 P32 L33 v34 r35 k36 n37 hk2 h => ?_)
      refine cd_addI (h rfl) (cd_bk hk hk2) (fun k38 n39 h hk => ?_)
      refine cq_pop dX1_wander_157 (va_rf_cat _) ?_
      refine cq_goto 115 dX1_wander_158 rfl ?_
      exact hr_115 M31 P32 L33 k38 n39 x1 x2 x3 x4 x5 hk h
def dCc_wanderD_115 (N : dNx) (bc bs : Nat) (Q : cd_Qt) (r_52 : cx_M → dP → dL → Nat → Nat → Int32 → Int32 → Int32 → Int32 → Prop) : Nat → cx_M → dP → dL → Nat → Nat → Int32 → Int32 → Int32 → Int32 → Int32 → Prop :=
  cx_fix (fun _ _ _ _ _ _ _ _ _ _ => False) (fun r_115 => dCc_wanderD_115b N bc bs Q r_52 r_115)
theorem dCc_wanderD_115_v {l : Launch} {g : cx_G} {X : cx_X} {N : dNx} {bc bs : Nat} {Q : cd_Qt} {r_52 : cx_M → dP → dL → Nat → Nat → Int32 → Int32 → Int32 → Int32 → Prop} (H : dX l g N.2 N.1) (hX : True) (hr_52 : ∀ (M : cx_M) (P : dP) (L : dL) (k n : Nat) (x1 : Int32) (x2 : Int32) (x3 : Int32) (x4 : Int32), (k ≤ bc ∧ n ≤ bs) → r_52 M P L k n x1 x2 x3 x4 → cq_V l (dG g L P) X (esX1_wanderD bc bs) cX1_wander 52 [(0, .ref (N.2 500)), (1, .int x1), (2, .int x2), (3, .int x3), (4, .int x4)] [] M k n (cd_finX g X (esX1_wanderD bc bs) cd_rI Q)) : ∀ (f : Nat) (M : cx_M) (P : dP) (L : dL) (k n : Nat) (x1 : Int32) (x2 : Int32) (x3 : Int32) (x4 : Int32) (x5 : Int32), (k ≤ bc ∧ n ≤ bs) → dCc_wanderD_115 N bc bs Q r_52 f M P L k n x1 x2 x3 x4 x5 → cq_V l (dG g L P) X (esX1_wanderD bc bs) cX1_wander 115 [(0, .ref (N.2 500)), (1, .int x1), (2, .int x2), (3, .int x3), (4, .int x4), (5, .int x5)] [] M k n (cd_finX g X (esX1_wanderD bc bs) cd_rI Q) :=
  cx_fixI (fun (r : cx_M → dP → dL → Nat → Nat → Int32 → Int32 → Int32 → Int32 → Int32 → Prop) => ∀ (M : cx_M) (P : dP) (L : dL) (k n : Nat) (x1 : Int32) (x2 : Int32) (x3 : Int32) (x4 : Int32) (x5 : Int32), (k ≤ bc ∧ n ≤ bs) → r M P L k n x1 x2 x3 x4 x5 → cq_V l (dG g L P) X (esX1_wanderD bc bs) cX1_wander 115 [(0, .ref (N.2 500)), (1, .int x1), (2, .int x2), (3, .int x3), (4, .int x4), (5, .int x5)] [] M k n (cd_finX g X (esX1_wanderD bc bs) cd_rI Q)) (fun _ _ _ _ _ _ _ _ _ _ _ h => by cases h) (fun r hr M P L k n x1 x2 x3 x4 x5 hk h => dCc_wanderD_115b_v H hX hr_52 hr M P L k n x1 x2 x3 x4 x5 hk h)
def dCc_wanderD_69b (N : dNx) (bc bs : Nat) (Q : cd_Qt) (r_52 : cx_M → dP → dL → Nat → Nat → Int32 → Int32 → Int32 → Int32 → Prop) (r_69 : cx_M → dP → dL → Nat → Nat → Int32 → Int32 → Int32 → Int32 → Int32 → Prop) (M : cx_M) (P : dP) (L : dL) (k n : Nat) (x1 : Int32) (x2 : Int32) (x3 : Int32) (x4 : Int32) (x5 : Int32) : Prop :=
  ((N.2 9300), (0, 19, 0)) ∈ L ∧
  jAd_isEmpty (N.1.1, N.2) (bc - k) (bs - n) M P L ((N.2 9300)) (fun M1 P2 L3 v4 r5 e9 k6 n7 => e9 = 0 → cd_add k k6 n n7 fun k8 n9 =>
  if v4 = 0 then (
    ((N.2 9300), (0, 19, 0)) ∈ L3 ∧
    jAd_peekLast (N.1.1, N.2) (bc - k8) (bs - n9) M1 P2 L3 ((N.2 9300)) (fun M10 P11 L12 v13 r14 e9 k15 n16 => e9 = 0 → cd_add k8 k15 n9 n16 fun k17 n18 =>
    (∀ a, r14 = some a → dBm (dia N.2) L12 a) ∧
    cd_nn r14 fun a19 =>
    dBm (dia N.2) L12 a19 ∧
    jI_intValue (N.1.1, N.2) (bc - k17) (bs - n18) M10 P11 L12 a19 (fun M20 P21 L22 v23 r24 e9 k25 n26 => e9 = 0 → cd_add k17 k25 n18 n26 fun k27 n28 =>
    cq_cal (cSt_sampleAt N.1 1000 M20 v23) fun M29 v30 =>
    if x5 < v30 then (
      dCc_wanderD_115 N bc bs Q r_52 N.1.1 M29 P21 L22 k27 n28 x1 x2 x3 x4 x5)
    else (
      ((N.2 9300), (0, 19, 0)) ∈ L22 ∧
      jAd_pollLast (N.1.1, N.2) (bc - k27) (bs - n28) M29 P21 L22 ((N.2 9300)) (fun M31 P32 L33 v34 r35 e9 k36 n37 => e9 = 0 → cd_add k27 k36 n28 n37 fun k38 n39 =>
      r_69 M31 P32 L33 k38 n39 x1 x2 x3 x4 x5)))))
  else (
    dCc_wanderD_115 N bc bs Q r_52 N.1.1 M1 P2 L3 k8 n9 x1 x2 x3 x4 x5))
set_option maxRecDepth 100000 in
theorem dCc_wanderD_69b_v {l : Launch} {g : cx_G} {X : cx_X} {N : dNx} {bc bs : Nat} {Q : cd_Qt} {r_52 : cx_M → dP → dL → Nat → Nat → Int32 → Int32 → Int32 → Int32 → Prop} {r_69 : cx_M → dP → dL → Nat → Nat → Int32 → Int32 → Int32 → Int32 → Int32 → Prop} (H : dX l g N.2 N.1) (hX : True) (hr_52 : ∀ (M : cx_M) (P : dP) (L : dL) (k n : Nat) (x1 : Int32) (x2 : Int32) (x3 : Int32) (x4 : Int32), (k ≤ bc ∧ n ≤ bs) → r_52 M P L k n x1 x2 x3 x4 → cq_V l (dG g L P) X (esX1_wanderD bc bs) cX1_wander 52 [(0, .ref (N.2 500)), (1, .int x1), (2, .int x2), (3, .int x3), (4, .int x4)] [] M k n (cd_finX g X (esX1_wanderD bc bs) cd_rI Q)) (hr_69 : ∀ (M : cx_M) (P : dP) (L : dL) (k n : Nat) (x1 : Int32) (x2 : Int32) (x3 : Int32) (x4 : Int32) (x5 : Int32), (k ≤ bc ∧ n ≤ bs) → r_69 M P L k n x1 x2 x3 x4 x5 → cq_V l (dG g L P) X (esX1_wanderD bc bs) cX1_wander 69 [(0, .ref (N.2 500)), (1, .int x1), (2, .int x2), (3, .int x3), (4, .int x4), (5, .int x5)] [] M k n (cd_finX g X (esX1_wanderD bc bs) cd_rI Q)) (M : cx_M) (P : dP) (L : dL) (k n : Nat) (x1 : Int32) (x2 : Int32) (x3 : Int32) (x4 : Int32) (x5 : Int32) (hk : k ≤ bc ∧ n ≤ bs) (h : dCc_wanderD_69b N bc bs Q r_52 r_69 M P L k n x1 x2 x3 x4 x5) : cq_V l (dG g L P) X (esX1_wanderD bc bs) cX1_wander 69 [(0, .ref (N.2 500)), (1, .int x1), (2, .int x2), (3, .int x3), (4, .int x4), (5, .int x5)] [] M k n (cd_finX g X (esX1_wanderD bc bs) cd_rI Q) := by
  unfold dCc_wanderD_69b at h
  refine cq_aload_n 0 dX1_wander_69 rfl ?_
  refine cq_getR (cCc_R11 (H.2.1 L P)) q1028 dX1_wander_70 ?_
  obtain ⟨hmr, h⟩ := h
  refine cd_cV [] [] (jAd_isEmpty_m H.1.1 (N := (N.1.1, N.2)) (bc := bc - k) (bs := bs - n) M P L ((N.2 9300)) h) (dG_Rc H.1.1.1.1 hmr dCl_J20) dX1_wander_73 gd_X1_363 hgd_X1_363 ⟨cx_le rfl, cx_le rfl⟩ (cd_bud hk) rfl (cx_le rfl) (fun M1 P2 L3 v4 r5 k6 n7 hk2 h => ?_)
  refine cd_addI (h rfl) (cd_bk hk hk2) (fun k8 n9 h hk => ?_)
  refine cq_if_ne 115 h dX1_wander_76 rfl (fun h => ?_) (fun h => ?_)
  · exact dCc_wanderD_115_v H hX hr_52 N.1.1 M1 P2 L3 k8 n9 x1 x2 x3 x4 x5 hk h
  · refine cq_aload_n 0 dX1_wander_79 rfl ?_
    refine cq_getR (cCc_R3 (H.2.1 L3 P2)) q1020 dX1_wander_80 ?_
    refine cq_aload_n 0 dX1_wander_83 rfl ?_
    refine cq_getR (cCc_R11 (H.2.1 L3 P2)) q1028 dX1_wander_84 ?_
    obtain ⟨hmr, h⟩ := h
    refine cd_cV [] [.ref (N.2 1000)] (jAd_peekLast_m H.1.1 (N := (N.1.1, N.2)) (bc := bc - k8) (bs := bs - n9) M1 P2 L3 ((N.2 9300)) h) (dG_Rc H.1.1.1.1 hmr dCl_J20) dX1_wander_87 gd_X1_366 hgd_X1_366 ⟨cx_le rfl, cx_le rfl⟩ (cd_bud hk) rfl (cx_le rfl) (fun M10 P11 L12 v13 r14 k15 n16 hk2 h => ?_)
    refine cd_addI (h rfl) (cd_bk hk hk2) (fun k17 n18 h hk => ?_)
    refine cd_castBox (v := r14) H.1.1.1.1 H.1.1.2.1 dCl_J17 h.1 q2105 dX1_wander_90 ?_
    replace h := h.2
    obtain ⟨a19, e9, h⟩ := cd_nn_some h
    subst e9
    obtain ⟨hmr, h⟩ := h
    refine cd_cVO [] [.ref (N.2 1000)] (jI_intValue_m H.1.1 (N := (N.1.1, N.2)) (bc := bc - k17) (bs := bs - n18) M10 P11 L12 a19 h) (dI_RO H.1.1.1.1 H.1.1.2.1 dCl_J17 hmr) dX1_wander_93 gd_X1_347 hgd_X1_347 ⟨cx_le rfl, cx_le rfl⟩ (cd_bud hk) rfl (cx_le rfl) (fun M20 P21 L22 v23 r24 k25 n26 hk2 h => ?_)
    refine cd_addI (h rfl) (cd_bk hk hk2) (fun k27 n28 h hk => ?_)
    refine cq_cVi [.int v23] [] h (fun rs' h' => cSt_sampleAt_m (g := dG g L22 P21) (N := N.1) (H.2.1 L22 P21) (cSt_i1000 (H.2.1 L22 P21)) M20 v23 rs' h') (cSt_rc (cSt_i1000 (H.2.1 L22 P21))) dX1_wander_96 g_X1_357 hg_X1_357 ⟨cx_le rfl, cx_le rfl⟩ rfl ⟨rfl, rfl⟩ hk rfl (cx_le rfl) (fun M29 v30 h => ?_)
    refine cq_iload 5 dX1_wander_99 rfl ?_
    refine cq_icmp_gt 115 h dX1_wander_101 rfl (fun h => ?_) (fun h => ?_)
    · exact dCc_wanderD_115_v H hX hr_52 N.1.1 M29 P21 L22 k27 n28 x1 x2 x3 x4 x5 hk h
    · refine cq_aload_n 0 dX1_wander_104 rfl ?_
      refine cq_getR (cCc_R11 (H.2.1 L22 P21)) q1028 dX1_wander_105 ?_
      obtain ⟨hmr, h⟩ := h
      refine cd_cV [] [] (jAd_pollLast_m H.1.1 (N := (N.1.1, N.2)) (bc := bc - k27) (bs := bs - n28) M29 P21 L22 ((N.2 9300)) h) (dG_Rc H.1.1.1.1 hmr dCl_J20) dX1_wander_108 gd_X1_369 hgd_X1_369 ⟨cx_le rfl, cx_le rfl⟩ (cd_bud hk) rfl (cx_le rfl) (fun M31 P32 L33 v34 r35 k36 n37 hk2 h => ?_)
      refine cd_addI (h rfl) (cd_bk hk hk2) (fun k38 n39 h hk => ?_)
      refine cq_pop dX1_wander_111 (va_rf_cat _) ?_
      refine cq_goto 69 dX1_wander_112 rfl ?_
      exact hr_69 M31 P32 L33 k38 n39 x1 x2 x3 x4 x5 hk h
def dCc_wanderD_69 (N : dNx) (bc bs : Nat) (Q : cd_Qt) (r_52 : cx_M → dP → dL → Nat → Nat → Int32 → Int32 → Int32 → Int32 → Prop) : Nat → cx_M → dP → dL → Nat → Nat → Int32 → Int32 → Int32 → Int32 → Int32 → Prop :=
  cx_fix (fun _ _ _ _ _ _ _ _ _ _ => False) (fun r_69 => dCc_wanderD_69b N bc bs Q r_52 r_69)
theorem dCc_wanderD_69_v {l : Launch} {g : cx_G} {X : cx_X} {N : dNx} {bc bs : Nat} {Q : cd_Qt} {r_52 : cx_M → dP → dL → Nat → Nat → Int32 → Int32 → Int32 → Int32 → Prop} (H : dX l g N.2 N.1) (hX : True) (hr_52 : ∀ (M : cx_M) (P : dP) (L : dL) (k n : Nat) (x1 : Int32) (x2 : Int32) (x3 : Int32) (x4 : Int32), (k ≤ bc ∧ n ≤ bs) → r_52 M P L k n x1 x2 x3 x4 → cq_V l (dG g L P) X (esX1_wanderD bc bs) cX1_wander 52 [(0, .ref (N.2 500)), (1, .int x1), (2, .int x2), (3, .int x3), (4, .int x4)] [] M k n (cd_finX g X (esX1_wanderD bc bs) cd_rI Q)) : ∀ (f : Nat) (M : cx_M) (P : dP) (L : dL) (k n : Nat) (x1 : Int32) (x2 : Int32) (x3 : Int32) (x4 : Int32) (x5 : Int32), (k ≤ bc ∧ n ≤ bs) → dCc_wanderD_69 N bc bs Q r_52 f M P L k n x1 x2 x3 x4 x5 → cq_V l (dG g L P) X (esX1_wanderD bc bs) cX1_wander 69 [(0, .ref (N.2 500)), (1, .int x1), (2, .int x2), (3, .int x3), (4, .int x4), (5, .int x5)] [] M k n (cd_finX g X (esX1_wanderD bc bs) cd_rI Q) :=
  cx_fixI (fun (r : cx_M → dP → dL → Nat → Nat → Int32 → Int32 → Int32 → Int32 → Int32 → Prop) => ∀ (M : cx_M) (P : dP) (L : dL) (k n : Nat) (x1 : Int32) (x2 : Int32) (x3 : Int32) (x4 : Int32) (x5 : Int32), (k ≤ bc ∧ n ≤ bs) → r M P L k n x1 x2 x3 x4 x5 → cq_V l (dG g L P) X (esX1_wanderD bc bs) cX1_wander 69 [(0, .ref (N.2 500)), (1, .int x1), (2, .int x2), (3, .int x3), (4, .int x4), (5, .int x5)] [] M k n (cd_finX g X (esX1_wanderD bc bs) cd_rI Q)) (fun _ _ _ _ _ _ _ _ _ _ _ h => by cases h) (fun r hr M P L k n x1 x2 x3 x4 x5 hk h => dCc_wanderD_69b_v H hX hr_52 hr M P L k n x1 x2 x3 x4 x5 hk h)
def dCc_wanderD_52b (N : dNx) (bc bs : Nat) (Q : cd_Qt) (r_52 : cx_M → dP → dL → Nat → Nat → Int32 → Int32 → Int32 → Int32 → Prop) (M : cx_M) (P : dP) (L : dL) (k n : Nat) (x1 : Int32) (x2 : Int32) (x3 : Int32) (x4 : Int32) : Prop :=
  if x2 ≤ x4 then (
    Q M P L x3 none 0 k n)
  else (
    cq_cal (cSt_sampleAt N.1 1000 M x4) fun M1 v2 =>
    dCc_wanderD_69 N bc bs Q r_52 N.1.1 M1 P L k n x1 x2 x3 x4 v2)
set_option maxRecDepth 100000 in
theorem dCc_wanderD_52b_v {l : Launch} {g : cx_G} {X : cx_X} {N : dNx} {bc bs : Nat} {Q : cd_Qt} {r_52 : cx_M → dP → dL → Nat → Nat → Int32 → Int32 → Int32 → Int32 → Prop} (H : dX l g N.2 N.1) (hX : True) (hr_52 : ∀ (M : cx_M) (P : dP) (L : dL) (k n : Nat) (x1 : Int32) (x2 : Int32) (x3 : Int32) (x4 : Int32), (k ≤ bc ∧ n ≤ bs) → r_52 M P L k n x1 x2 x3 x4 → cq_V l (dG g L P) X (esX1_wanderD bc bs) cX1_wander 52 [(0, .ref (N.2 500)), (1, .int x1), (2, .int x2), (3, .int x3), (4, .int x4)] [] M k n (cd_finX g X (esX1_wanderD bc bs) cd_rI Q)) (M : cx_M) (P : dP) (L : dL) (k n : Nat) (x1 : Int32) (x2 : Int32) (x3 : Int32) (x4 : Int32) (hk : k ≤ bc ∧ n ≤ bs) (h : dCc_wanderD_52b N bc bs Q r_52 M P L k n x1 x2 x3 x4) : cq_V l (dG g L P) X (esX1_wanderD bc bs) cX1_wander 52 [(0, .ref (N.2 500)), (1, .int x1), (2, .int x2), (3, .int x3), (4, .int x4)] [] M k n (cd_finX g X (esX1_wanderD bc bs) cd_rI Q) := by
  unfold dCc_wanderD_52b at h
  refine cq_iload 4 dX1_wander_52 rfl ?_
  refine cq_iload_n 2 dX1_wander_54 rfl ?_
  refine cq_icmp_ge 293 h dX1_wander_55 rfl (fun h => ?_) (fun h => ?_)
  · refine cq_iload_n 3 dX1_wander_293 rfl ?_
    exact cd_toX (cd_iret hk h rfl dX1_wander_294)
  · refine cq_aload_n 0 dX1_wander_58 rfl ?_
    refine cq_getR (cCc_R3 (H.2.1 L P)) q1020 dX1_wander_59 ?_
    refine cq_iload 4 dX1_wander_62 rfl ?_
    refine cq_cVi [.int x4] [] h (fun rs' h' => cSt_sampleAt_m (g := dG g L P) (N := N.1) (H.2.1 L P) (cSt_i1000 (H.2.1 L P)) M x4 rs' h') (cSt_rc (cSt_i1000 (H.2.1 L P))) dX1_wander_64 g_X1_357 hg_X1_357 ⟨cx_le rfl, cx_le rfl⟩ rfl ⟨rfl, rfl⟩ hk rfl (cx_le rfl) (fun M1 v2 h => ?_)
    refine cq_istore [(5, .int v2), (0, .ref (N.2 500)), (1, .int x1), (2, .int x2), (3, .int x3), (4, .int x4)] dX1_wander_67 (cx_lt rfl) rfl ?_
    refine cq_sub (lv' := [(0, .ref (N.2 500)), (1, .int x1), (2, .int x2), (3, .int x3), (4, .int x4), (5, .int v2)]) [1, 2, 3, 4, 5, 0] rfl ?_
    exact dCc_wanderD_69_v H hX hr_52 N.1.1 M1 P L k n x1 x2 x3 x4 v2 hk h
def dCc_wanderD_52 (N : dNx) (bc bs : Nat) (Q : cd_Qt) : Nat → cx_M → dP → dL → Nat → Nat → Int32 → Int32 → Int32 → Int32 → Prop :=
  cx_fix (fun _ _ _ _ _ _ _ _ _ => False) (fun r_52 => dCc_wanderD_52b N bc bs Q r_52)
theorem dCc_wanderD_52_v {l : Launch} {g : cx_G} {X : cx_X} {N : dNx} {bc bs : Nat} {Q : cd_Qt} (H : dX l g N.2 N.1) (hX : True) : ∀ (f : Nat) (M : cx_M) (P : dP) (L : dL) (k n : Nat) (x1 : Int32) (x2 : Int32) (x3 : Int32) (x4 : Int32), (k ≤ bc ∧ n ≤ bs) → dCc_wanderD_52 N bc bs Q f M P L k n x1 x2 x3 x4 → cq_V l (dG g L P) X (esX1_wanderD bc bs) cX1_wander 52 [(0, .ref (N.2 500)), (1, .int x1), (2, .int x2), (3, .int x3), (4, .int x4)] [] M k n (cd_finX g X (esX1_wanderD bc bs) cd_rI Q) :=
  cx_fixI (fun (r : cx_M → dP → dL → Nat → Nat → Int32 → Int32 → Int32 → Int32 → Prop) => ∀ (M : cx_M) (P : dP) (L : dL) (k n : Nat) (x1 : Int32) (x2 : Int32) (x3 : Int32) (x4 : Int32), (k ≤ bc ∧ n ≤ bs) → r M P L k n x1 x2 x3 x4 → cq_V l (dG g L P) X (esX1_wanderD bc bs) cX1_wander 52 [(0, .ref (N.2 500)), (1, .int x1), (2, .int x2), (3, .int x3), (4, .int x4)] [] M k n (cd_finX g X (esX1_wanderD bc bs) cd_rI Q)) (fun _ _ _ _ _ _ _ _ _ _ h => by cases h) (fun r hr M P L k n x1 x2 x3 x4 hk h => dCc_wanderD_52b_v H hX hr M P L k n x1 x2 x3 x4 hk h)
def dCc_wanderD_0 (N : dNx) (bc bs : Nat) (Q : cd_Qt) (M : cx_M) (P : dP) (L : dL) (k n : Nat) (x1 : Int32) : Prop :=
  cq_cal (cCc_within N.1 M x1 2 128) fun M1 v2 =>
  cd_thr 2  (bc - k) (bs - n) M1 P L v2 (fun M3 P4 L5 v6 r7 e9 k8 n9 => (e9 ≠ 0 → Q M3 P4 L5 v6 none e9 (k + k8) (n + n9)) ∧ (e9 = 0 → cd_add k k8 n n9 fun k10 n11 =>
  cq_get M3 1000 24 fun v12 =>
  cq_cal (cSt_kept N.1 1000 M3 v12) fun M13 v14 =>
  if 2 ≤ v14 then (
    ((N.2 9300), (0, 19, 0)) ∈ L5 ∧
    jAd_clear (N.1.1, N.2) (bc - k10) (bs - n11) M13 P4 L5 ((N.2 9300)) (fun M15 P16 L17 v18 r19 e9 k20 n21 => e9 = 0 → cd_add k10 k20 n11 n21 fun k22 n23 =>
    ((N.2 9310), (0, 19, 0)) ∈ L17 ∧
    jAd_clear (N.1.1, N.2) (bc - k22) (bs - n23) M15 P16 L17 ((N.2 9310)) (fun M24 P25 L26 v27 r28 e9 k29 n30 => e9 = 0 → cd_add k22 k29 n23 n30 fun k31 n32 =>
    dCc_wanderD_52 N bc bs Q N.1.1 M24 P25 L26 k31 n32 x1 v14 0 0)))
  else (
    Q M13 P4 L5 (-1) none 0 k10 n11)))
set_option maxRecDepth 100000 in
theorem dCc_wanderD_0_v {l : Launch} {g : cx_G} {X : cx_X} {N : dNx} {bc bs : Nat} {Q : cd_Qt} (H : dX l g N.2 N.1) (hX : True) (M : cx_M) (P : dP) (L : dL) (k n : Nat) (x1 : Int32) (hk : k ≤ bc ∧ n ≤ bs) (h : dCc_wanderD_0 N bc bs Q M P L k n x1) : cq_V l (dG g L P) X (esX1_wanderD bc bs) cX1_wander 0 [(0, .ref (N.2 500)), (1, .int x1)] [] M k n (cd_finX g X (esX1_wanderD bc bs) cd_rI Q) := by
  unfold dCc_wanderD_0 at h
  refine cq_iload_n 1 dX1_wander_0 rfl ?_
  refine cq_iconst 2 dX1_wander_1 cx_ic_2 ?_
  refine cq_sipush 128 dX1_wander_2 cx_sp_128 ?_
  refine cq_cSi [.int x1, .int 2, .int 128] [] h (fun rs' h' => cCc_within_m (g := dG g L P) (N := N.1) (H.2.1 L P) M x1 2 128 rs' h') dX1_wander_5 g_X1_180 hg_X1_180 ⟨cx_le rfl, cx_le rfl⟩ rfl ⟨rfl, rfl⟩ hk rfl (cx_le rfl) (fun M1 v2 h => ?_)
  refine cd_xS [.int v2] [] (cc_right_m H.1.2.1 (bc := bc - k) (bs := bs - n) M1 P L v2 h) dX1_wander_8 gd_X1_137 hgd_X1_137 ⟨cx_le rfl, cx_le rfl⟩ (cd_bud hk) rfl (cx_le rfl) rfl (fun _ _ _ _ _ _ _ he h => h.1 he) (fun M3 P4 L5 v6 r7 k8 n9 hk2 h => ?_)
  refine cd_addI (h.2 rfl) (cd_bk hk hk2) (fun k10 n11 h hk => ?_)
  refine cq_aload_n 0 dX1_wander_11 rfl ?_
  refine cq_getR (cCc_R3 (H.2.1 L5 P4)) q1020 dX1_wander_12 ?_
  refine cq_aload_n 0 dX1_wander_15 rfl ?_
  refine cq_getR (cCc_R3 (H.2.1 L5 P4)) q1020 dX1_wander_16 ?_
  refine cq_getIN h (cSt_F24 (cSt_i1000 (H.2.1 L5 P4))) q692 dX1_wander_19 (fun v12 h => ?_)
  refine cq_cVi [.int v12] [] h (fun rs' h' => cSt_kept_m (g := dG g L5 P4) (N := N.1) (H.2.1 L5 P4) (cSt_i1000 (H.2.1 L5 P4)) M3 v12 rs' h') (cSt_rc (cSt_i1000 (H.2.1 L5 P4))) dX1_wander_22 g_X1_240 hg_X1_240 ⟨cx_le rfl, cx_le rfl⟩ rfl ⟨rfl, rfl⟩ hk rfl (cx_le rfl) (fun M13 v14 h => ?_)
  refine cq_istore_n [(2, .int v14), (0, .ref (N.2 500)), (1, .int x1)] dX1_wander_25 (cx_lt rfl) rfl ?_
  refine cq_iload_n 0 dX1_wander_26 rfl ?_
  refine cq_iconst 2 dX1_wander_27 cx_ic_2 ?_
  refine cq_icmp_ge 33 h dX1_wander_28 rfl (fun h => ?_) (fun h => ?_)
  · refine cq_iconst 0 dX1_wander_33 cx_ic_0 ?_
    refine cq_istore_n [(3, .int 0), (2, .int v14), (0, .ref (N.2 500)), (1, .int x1)] dX1_wander_34 (cx_lt rfl) rfl ?_
    refine cq_aload_n 2 dX1_wander_35 rfl ?_
    refine cq_getR (cCc_R11 (H.2.1 L5 P4)) q1028 dX1_wander_36 ?_
    obtain ⟨hmr, h⟩ := h
    refine cd_cV [] [] (jAd_clear_m H.1.1 (N := (N.1.1, N.2)) (bc := bc - k10) (bs := bs - n11) M13 P4 L5 ((N.2 9300)) h) (dG_Rc H.1.1.1.1 hmr dCl_J20) dX1_wander_39 gd_X1_360 hgd_X1_360 ⟨cx_le rfl, cx_le rfl⟩ (cd_bud hk) rfl (cx_le rfl) (fun M15 P16 L17 v18 r19 k20 n21 hk2 h => ?_)
    refine cd_addI (h rfl) (cd_bk hk hk2) (fun k22 n23 h hk => ?_)
    refine cq_aload_n 2 dX1_wander_42 rfl ?_
    refine cq_getR (cCc_R12 (H.2.1 L17 P16)) q1029 dX1_wander_43 ?_
    obtain ⟨hmr, h⟩ := h
    refine cd_cV [] [] (jAd_clear_m H.1.1 (N := (N.1.1, N.2)) (bc := bc - k22) (bs := bs - n23) M15 P16 L17 ((N.2 9310)) h) (dG_Rc H.1.1.1.1 hmr dCl_J20) dX1_wander_46 gd_X1_360 hgd_X1_360 ⟨cx_le rfl, cx_le rfl⟩ (cd_bud hk) rfl (cx_le rfl) (fun M24 P25 L26 v27 r28 k29 n30 hk2 h => ?_)
    refine cd_addI (h rfl) (cd_bk hk hk2) (fun k31 n32 h hk => ?_)
    refine cq_iconst 0 dX1_wander_49 cx_ic_0 ?_
    refine cq_istore [(4, .int 0), (3, .int 0), (2, .int v14), (0, .ref (N.2 500)), (1, .int x1)] dX1_wander_50 (cx_lt rfl) rfl ?_
    refine cq_sub (lv' := [(0, .ref (N.2 500)), (1, .int x1), (2, .int v14), (3, .int 0), (4, .int 0)]) [3, 4, 2, 1, 0] rfl ?_
    exact dCc_wanderD_52_v H hX N.1.1 M24 P25 L26 k31 n32 x1 v14 0 0 hk h
  · refine cq_iconst (-1) dX1_wander_31 cx_ic_m1 ?_
    exact cd_toX (cd_iret hk h rfl dX1_wander_32)
def dCc_wanderD (N : dNx) (bc bs : Nat) (M : cx_M) (P : dP) (L : dL) (x1 : Int32) (Q : cd_Qt) : Prop := dCc_wanderD_0 N bc bs Q M P L 0 0 x1
set_option maxRecDepth 100000 in
theorem dCc_wanderD_m {l : Launch} {g : cx_G} {N : dNx} {bc bs : Nat} {Q : cd_Qt} (H : dX l g N.2 N.1) (M : cx_M) (P : dP) (L : dL) (x1 : Int32) (h : dCc_wanderD N bc bs M P L x1 Q) : cd_MetX l g yX1_wander cX1_wander (esX1_wanderD bc bs) cd_rI [.ref (N.2 500), .int x1] M P L Q :=
  cd_metX (by decide +kernel) rfl rfl (lv := [(0, .ref (N.2 500)), (1, .int x1)]) rfl (cx_le rfl) (fun X hX => cq_sub (lv' := [(0, .ref (N.2 500)), (1, .int x1)]) [0, 1] rfl (dCc_wanderD_0_v H hX M P L 0 0 x1 ⟨Nat.zero_le _, Nat.zero_le _⟩ h))

abbrev esX1_spansD (bc bs : Nat) : cx_S := (6, RX1, cx_rI, { frames := 7, cells := bc, slots := bs, locals := 110 }, some .int, true)
def dCc_spansD_145 (N : dNx) (bc bs : Nat) (Q : cd_Qt) (M : cx_M) (P : dP) (L : dL) (k n : Nat) (x2 : Int32) (x3 : Nat) (z0 : Int32) : Prop :=
  cd_thr 1  (bc - k) (bs - n) M P L z0 (fun M1 P2 L3 v4 r5 e9 k6 n7 => (e9 ≠ 0 → Q M1 P2 L3 v4 none e9 (k + k6) (n + n7)) ∧ (e9 = 0 → cd_add k k6 n n7 fun k8 n9 =>
  (x3, (0, 22, 0)) ∈ L3 ∧
  jLl_get (N.1.1, N.2) (bc - k8) (bs - n9) M1 P2 L3 x3 x2 (fun M10 P11 L12 v13 r14 e9 k15 n16 => e9 = 0 → cd_add k8 k15 n9 n16 fun k17 n18 =>
  (∀ a, r14 = some a → dBm (dia N.2) L12 a) ∧
  cd_nn r14 fun a19 =>
  dBm (dia N.2) L12 a19 ∧
  jI_intValue (N.1.1, N.2) (bc - k17) (bs - n18) M10 P11 L12 a19 (fun M20 P21 L22 v23 r24 e9 k25 n26 => e9 = 0 → cd_add k17 k25 n18 n26 fun k27 n28 =>
  Q M20 P21 L22 v23 none 0 k27 n28))))
set_option maxRecDepth 100000 in
theorem dCc_spansD_145_v {l : Launch} {g : cx_G} {X : cx_X} {N : dNx} {bc bs : Nat} {Q : cd_Qt} (H : dX l g N.2 N.1) (hX : True) (M : cx_M) (P : dP) (L : dL) (k n : Nat) (x2 : Int32) (x3 : Nat) (z0 : Int32) (hk : k ≤ bc ∧ n ≤ bs) (h : dCc_spansD_145 N bc bs Q M P L k n x2 x3 z0) : cq_V l (dG g L P) X (esX1_spansD bc bs) cX1_spans 145 [(2, .int x2), (3, .ref x3)] [.int z0] M k n (cd_finX g X (esX1_spansD bc bs) cd_rI Q) := by
  unfold dCc_spansD_145 at h
  refine cd_xS [.int z0] [] (cc_there_m H.1.2.1 (bc := bc - k) (bs := bs - n) M P L z0 h) dX1_spans_145 gd_X1_184 hgd_X1_184 ⟨cx_le rfl, cx_le rfl⟩ (cd_bud hk) rfl (cx_le rfl) rfl (fun _ _ _ _ _ _ _ he h => h.1 he) (fun M1 P2 L3 v4 r5 k6 n7 hk2 h => ?_)
  refine cd_addI (h.2 rfl) (cd_bk hk hk2) (fun k8 n9 h hk => ?_)
  refine cq_aload_n 1 dX1_spans_148 rfl ?_
  refine cq_iload_n 0 dX1_spans_149 rfl ?_
  obtain ⟨hmr, h⟩ := h
  refine cd_cV [.int x2] [] (jLl_get_m H.1.1 (N := (N.1.1, N.2)) (bc := bc - k8) (bs := bs - n9) M1 P2 L3 x3 x2 h) (dG_Rc H.1.1.1.1 hmr dCl_J23) dX1_spans_150 gd_X1_354 hgd_X1_354 ⟨cx_le rfl, cx_le rfl⟩ (cd_bud hk) rfl (cx_le rfl) (fun M10 P11 L12 v13 r14 k15 n16 hk2 h => ?_)
  refine cd_addI (h rfl) (cd_bk hk hk2) (fun k17 n18 h hk => ?_)
  refine cd_castBox (v := r14) H.1.1.1.1 H.1.1.2.1 dCl_J17 h.1 q2105 dX1_spans_153 ?_
  replace h := h.2
  obtain ⟨a19, e9, h⟩ := cd_nn_some h
  subst e9
  obtain ⟨hmr, h⟩ := h
  refine cd_cVO [] [] (jI_intValue_m H.1.1 (N := (N.1.1, N.2)) (bc := bc - k17) (bs := bs - n18) M10 P11 L12 a19 h) (dI_RO H.1.1.1.1 H.1.1.2.1 dCl_J17 hmr) dX1_spans_156 gd_X1_347 hgd_X1_347 ⟨cx_le rfl, cx_le rfl⟩ (cd_bud hk) rfl (cx_le rfl) (fun M20 P21 L22 v23 r24 k25 n26 hk2 h => ?_)
  refine cd_addI (h rfl) (cd_bk hk hk2) (fun k27 n28 h hk => ?_)
  exact cd_toX (cd_iret hk h rfl dX1_spans_159)
def dCc_spansD_144 (N : dNx) (bc bs : Nat) (Q : cd_Qt) (M : cx_M) (P : dP) (L : dL) (k n : Nat) (x2 : Int32) (x3 : Nat) : Prop :=
  dCc_spansD_145 N bc bs Q M P L k n x2 x3 0
set_option maxRecDepth 100000 in
theorem dCc_spansD_144_v {l : Launch} {g : cx_G} {X : cx_X} {N : dNx} {bc bs : Nat} {Q : cd_Qt} (H : dX l g N.2 N.1) (hX : True) (M : cx_M) (P : dP) (L : dL) (k n : Nat) (x2 : Int32) (x3 : Nat) (hk : k ≤ bc ∧ n ≤ bs) (h : dCc_spansD_144 N bc bs Q M P L k n x2 x3) : cq_V l (dG g L P) X (esX1_spansD bc bs) cX1_spans 144 [(2, .int x2), (3, .ref x3)] [] M k n (cd_finX g X (esX1_spansD bc bs) cd_rI Q) := by
  unfold dCc_spansD_144 at h
  refine cq_iconst 0 dX1_spans_144 cx_ic_0 ?_
  exact dCc_spansD_145_v H hX M P L k n x2 x3 0 hk h
def dCc_spansD_81b (N : dNx) (bc bs : Nat) (Q : cd_Qt) (r_81 : cx_M → dP → dL → Nat → Nat → Int32 → Int32 → Nat → Option Nat → Prop) (M : cx_M) (P : dP) (L : dL) (k n : Nat) (x1 : Int32) (x2 : Int32) (x3 : Nat) (x5 : Option Nat) : Prop :=
  cd_nn x5 fun a1 =>
  (a1, (0, 23, 0)) ∈ L ∧
  jLi_hasNext (N.1.1, N.2) (bc - k) (bs - n) M P L a1 (fun M2 P3 L4 v5 r6 e9 k7 n8 => e9 = 0 → cd_add k k7 n n8 fun k9 n10 =>
  if v5 = 0 then (
    if x2 = (-1) then (
      (x3, (0, 22, 0)) ∈ L4 ∧
      jLl_size (N.1.1, N.2) (bc - k9) (bs - n10) M2 P3 L4 x3 (fun M20 P21 L22 v23 r24 e9 k25 n26 => e9 = 0 → cd_add k9 k25 n10 n26 fun k27 n28 =>
      Q M20 P21 L22 v23 none 0 k27 n28))
    else (
      if x2 < 0 then (
        dCc_spansD_144 N bc bs Q M2 P3 L4 k9 n10 x2 x3)
      else (
        (x3, (0, 22, 0)) ∈ L4 ∧
        jLl_size (N.1.1, N.2) (bc - k9) (bs - n10) M2 P3 L4 x3 (fun M11 P12 L13 v14 r15 e9 k16 n17 => e9 = 0 → cd_add k9 k16 n10 n17 fun k18 n19 =>
        if v14 ≤ x2 then (
          dCc_spansD_144 N bc bs Q M11 P12 L13 k18 n19 x2 x3)
        else (
          dCc_spansD_145 N bc bs Q M11 P12 L13 k18 n19 x2 x3 1)))))
  else (
    (a1, (0, 23, 0)) ∈ L4 ∧
    jLi_next (N.1.1, N.2) (bc - k9) (bs - n10) M2 P3 L4 a1 (fun M29 P30 L31 v32 r33 e9 k34 n35 => e9 = 0 → cd_add k9 k34 n10 n35 fun k36 n37 =>
    (∀ a, r33 = some a → dBm (dia N.2) L31 a) ∧
    cd_nn r33 fun a38 =>
    dBm (dia N.2) L31 a38 ∧
    jI_intValue (N.1.1, N.2) (bc - k36) (bs - n37) M29 P30 L31 a38 (fun M39 P40 L41 v42 r43 e9 k44 n45 => e9 = 0 → cd_add k36 k44 n37 n45 fun k46 n47 =>
    if x1 ≤ v42 then (
      r_81 M39 P40 L41 k46 n47 x1 x2 x3 ((some a1)))
    else (
      (a1, (0, 23, 0)) ∈ L41 ∧
      jLi_remove (N.1.1, N.2) (bc - k46) (bs - n47) M39 P40 L41 a1 (fun M48 P49 L50 v51 r52 e9 k53 n54 => e9 = 0 → cd_add k46 k53 n47 n54 fun k55 n56 =>
      r_81 M48 P49 L50 k55 n56 x1 x2 x3 ((some a1))))))))
set_option maxRecDepth 100000 in
theorem dCc_spansD_81b_v {l : Launch} {g : cx_G} {X : cx_X} {N : dNx} {bc bs : Nat} {Q : cd_Qt} {r_81 : cx_M → dP → dL → Nat → Nat → Int32 → Int32 → Nat → Option Nat → Prop} (H : dX l g N.2 N.1) (hX : True) (hr_81 : ∀ (M : cx_M) (P : dP) (L : dL) (k n : Nat) (x1 : Int32) (x2 : Int32) (x3 : Nat) (x5 : Option Nat), (k ≤ bc ∧ n ≤ bs) → r_81 M P L k n x1 x2 x3 x5 → cq_V l (dG g L P) X (esX1_spansD bc bs) cX1_spans 81 [(1, .int x1), (2, .int x2), (3, .ref x3), (5, va_rf x5)] [] M k n (cd_finX g X (esX1_spansD bc bs) cd_rI Q)) (M : cx_M) (P : dP) (L : dL) (k n : Nat) (x1 : Int32) (x2 : Int32) (x3 : Nat) (x5 : Option Nat) (hk : k ≤ bc ∧ n ≤ bs) (h : dCc_spansD_81b N bc bs Q r_81 M P L k n x1 x2 x3 x5) : cq_V l (dG g L P) X (esX1_spansD bc bs) cX1_spans 81 [(1, .int x1), (2, .int x2), (3, .ref x3), (5, va_rf x5)] [] M k n (cd_finX g X (esX1_spansD bc bs) cd_rI Q) := by
  unfold dCc_spansD_81b at h
  refine cd_aload (v := x5) 3 dX1_spans_81 rfl ?_
  obtain ⟨a1, e9, h⟩ := cd_nn_some h
  subst e9
  obtain ⟨hmr, h⟩ := h
  refine cd_cF (x := ⟨"java/util/Iterator", "hasNext", "()Z"⟩) [] [] (jLi_hasNext_m H.1.1 (N := (N.1.1, N.2)) (bc := bc - k) (bs := bs - n) M P L a1 h) (dG_Rc H.1.1.1.1 hmr dCl_J29) dX1_spans_83 gd_X1_337 (fun U k => (H.1.1.2.2.2 U k).1) hgd_X1_337 ⟨cx_le rfl, cx_le rfl⟩ (cd_bud hk) rfl (cx_le rfl) (fun M2 P3 L4 v5 r6 k7 n8 hk2 h => ?_)
  refine cd_addI (h rfl) (cd_bk hk hk2) (fun k9 n10 h hk => ?_)
  refine cq_if_eq 118 h dX1_spans_88 rfl (fun h => ?_) (fun h => ?_)
  · refine cq_iload_n 1 dX1_spans_118 rfl ?_
    refine cq_iconst (-1) dX1_spans_119 cx_ic_m1 ?_
    refine cq_icmp_ne 128 h dX1_spans_120 rfl (fun h => ?_) (fun h => ?_)
    · refine cq_iload_n 1 dX1_spans_128 rfl ?_
      refine cq_if_lt 144 h dX1_spans_129 rfl (fun h => ?_) (fun h => ?_)
      · refine cq_sub (lv' := [(2, .int x2), (3, .ref x3)]) [1, 2] rfl ?_
        exact dCc_spansD_144_v H hX M2 P3 L4 k9 n10 x2 x3 hk h
      · refine cq_iload_n 1 dX1_spans_132 rfl ?_
        refine cq_aload_n 2 dX1_spans_133 rfl ?_
        obtain ⟨hmr, h⟩ := h
        refine cd_cV [] [.int x2] (jLl_size_m H.1.1 (N := (N.1.1, N.2)) (bc := bc - k9) (bs := bs - n10) M2 P3 L4 x3 h) (dG_Rc H.1.1.1.1 hmr dCl_J23) dX1_spans_134 gd_X1_353 hgd_X1_353 ⟨cx_le rfl, cx_le rfl⟩ (cd_bud hk) rfl (cx_le rfl) (fun M11 P12 L13 v14 r15 k16 n17 hk2 h => ?_)
        refine cd_addI (h rfl) (cd_bk hk hk2) (fun k18 n19 h hk => ?_)
        refine cq_icmp_ge 144 h dX1_spans_137 rfl (fun h => ?_) (fun h => ?_)
        · refine cq_sub (lv' := [(2, .int x2), (3, .ref x3)]) [1, 2] rfl ?_
          exact dCc_spansD_144_v H hX M11 P12 L13 k18 n19 x2 x3 hk h
        · refine cq_iconst 1 dX1_spans_140 cx_ic_1 ?_
          refine cq_goto 145 dX1_spans_141 rfl ?_
          refine cq_sub (lv' := [(2, .int x2), (3, .ref x3)]) [1, 2] rfl ?_
          exact dCc_spansD_145_v H hX M11 P12 L13 k18 n19 x2 x3 1 hk h
    · refine cq_aload_n 2 dX1_spans_123 rfl ?_
      obtain ⟨hmr, h⟩ := h
      refine cd_cV [] [] (jLl_size_m H.1.1 (N := (N.1.1, N.2)) (bc := bc - k9) (bs := bs - n10) M2 P3 L4 x3 h) (dG_Rc H.1.1.1.1 hmr dCl_J23) dX1_spans_124 gd_X1_353 hgd_X1_353 ⟨cx_le rfl, cx_le rfl⟩ (cd_bud hk) rfl (cx_le rfl) (fun M20 P21 L22 v23 r24 k25 n26 hk2 h => ?_)
      refine cd_addI (h rfl) (cd_bk hk hk2) (fun k27 n28 h hk => ?_)
      exact cd_toX (cd_iret hk h rfl dX1_spans_127)
  · refine cq_aload 3 dX1_spans_91 rfl ?_
    obtain ⟨hmr, h⟩ := h
    refine cd_cF (x := ⟨"java/util/Iterator", "next", "()Ljava/lang/Object;"⟩) [] [] (jLi_next_m H.1.1 (N := (N.1.1, N.2)) (bc := bc - k9) (bs := bs - n10) M2 P3 L4 a1 h) (dG_Rc H.1.1.1.1 hmr dCl_J29) dX1_spans_93 gd_X1_343 (fun U k => (H.1.1.2.2.2 U k).2.1) hgd_X1_343 ⟨cx_le rfl, cx_le rfl⟩ (cd_bud hk) rfl (cx_le rfl) (fun M29 P30 L31 v32 r33 k34 n35 hk2 h => ?_)
    refine cd_addI (h rfl) (cd_bk hk hk2) (fun k36 n37 h hk => ?_)
    refine cd_castBox (v := r33) H.1.1.1.1 H.1.1.2.1 dCl_J17 h.1 q2105 dX1_spans_98 ?_
    replace h := h.2
    obtain ⟨a38, e9, h⟩ := cd_nn_some h
    subst e9
    obtain ⟨hmr, h⟩ := h
    refine cd_cVO [] [] (jI_intValue_m H.1.1 (N := (N.1.1, N.2)) (bc := bc - k36) (bs := bs - n37) M29 P30 L31 a38 h) (dI_RO H.1.1.1.1 H.1.1.2.1 dCl_J17 hmr) dX1_spans_101 gd_X1_347 hgd_X1_347 ⟨cx_le rfl, cx_le rfl⟩ (cd_bud hk) rfl (cx_le rfl) (fun M39 P40 L41 v42 r43 k44 n45 hk2 h => ?_)
    refine cd_addI (h rfl) (cd_bk hk hk2) (fun k46 n47 h hk => ?_)
    refine cq_iload_n 0 dX1_spans_104 rfl ?_
    refine cq_icmp_ge 81 h dX1_spans_105 rfl (fun h => ?_) (fun h => ?_)
    · exact hr_81 M39 P40 L41 k46 n47 x1 x2 x3 ((some a1)) hk h
    · refine cq_aload 3 dX1_spans_108 rfl ?_
      obtain ⟨hmr, h⟩ := h
      refine cd_cF (x := ⟨"java/util/Iterator", "remove", "()V"⟩) [] [] (jLi_remove_m H.1.1 (N := (N.1.1, N.2)) (bc := bc - k46) (bs := bs - n47) M39 P40 L41 a1 h) (dG_Rc H.1.1.1.1 hmr dCl_J29) dX1_spans_110 gd_X1_350 (fun U k => (H.1.1.2.2.2 U k).2.2) hgd_X1_350 ⟨cx_le rfl, cx_le rfl⟩ (cd_bud hk) rfl (cx_le rfl) (fun M48 P49 L50 v51 r52 k53 n54 hk2 h => ?_)
      refine cd_addI (h rfl) (cd_bk hk hk2) (fun k55 n56 h hk => ?_)
      refine cq_goto 81 dX1_spans_115 rfl ?_
      exact hr_81 M48 P49 L50 k55 n56 x1 x2 x3 ((some a1)) hk h
def dCc_spansD_81 (N : dNx) (bc bs : Nat) (Q : cd_Qt) : Nat → cx_M → dP → dL → Nat → Nat → Int32 → Int32 → Nat → Option Nat → Prop :=
  cx_fix (fun _ _ _ _ _ _ _ _ _ => False) (fun r_81 => dCc_spansD_81b N bc bs Q r_81)
theorem dCc_spansD_81_v {l : Launch} {g : cx_G} {X : cx_X} {N : dNx} {bc bs : Nat} {Q : cd_Qt} (H : dX l g N.2 N.1) (hX : True) : ∀ (f : Nat) (M : cx_M) (P : dP) (L : dL) (k n : Nat) (x1 : Int32) (x2 : Int32) (x3 : Nat) (x5 : Option Nat), (k ≤ bc ∧ n ≤ bs) → dCc_spansD_81 N bc bs Q f M P L k n x1 x2 x3 x5 → cq_V l (dG g L P) X (esX1_spansD bc bs) cX1_spans 81 [(1, .int x1), (2, .int x2), (3, .ref x3), (5, va_rf x5)] [] M k n (cd_finX g X (esX1_spansD bc bs) cd_rI Q) :=
  cx_fixI (fun (r : cx_M → dP → dL → Nat → Nat → Int32 → Int32 → Nat → Option Nat → Prop) => ∀ (M : cx_M) (P : dP) (L : dL) (k n : Nat) (x1 : Int32) (x2 : Int32) (x3 : Nat) (x5 : Option Nat), (k ≤ bc ∧ n ≤ bs) → r M P L k n x1 x2 x3 x5 → cq_V l (dG g L P) X (esX1_spansD bc bs) cX1_spans 81 [(1, .int x1), (2, .int x2), (3, .ref x3), (5, va_rf x5)] [] M k n (cd_finX g X (esX1_spansD bc bs) cd_rI Q)) (fun _ _ _ _ _ _ _ _ _ _ h => by cases h) (fun r hr M P L k n x1 x2 x3 x5 hk h => dCc_spansD_81b_v H hX hr M P L k n x1 x2 x3 x5 hk h)
def dCc_spansD_36b (N : dNx) (bc bs : Nat) (Q : cd_Qt) (r_36 : cx_M → dP → dL → Nat → Nat → Int32 → Int32 → Nat → Nat → Int32 → Prop) (M : cx_M) (P : dP) (L : dL) (k n : Nat) (x1 : Int32) (x2 : Int32) (x3 : Nat) (x4 : Nat) (x5 : Int32) : Prop :=
  if x5 < 0 then (
    (x3, (0, 22, 0)) ∈ L ∧
    jAsl_iterator (N.1.1, N.2) (bc - k) (bs - n) M P L x3 (fun M1 P2 L3 v4 r5 e9 k6 n7 => e9 = 0 → cd_add k k6 n n7 fun k8 n9 =>
    dCc_spansD_81 N bc bs Q N.1.1 M1 P2 L3 k8 n9 x1 x2 x3 r5))
  else (
    (x4, (0, 21, 0)) ∈ L ∧
    jBd_nextClearBitD N.1.1 (bc - k) (bs - n) M P L x4 x5 (fun M10 P11 L12 v13 r14 e9 k15 n16 => e9 = 0 → cd_add k k15 n n16 fun k17 n18 =>
    jI_valueOf (N.1.1, N.2) (bc - k17) (bs - n18) M10 P11 L12 (v13 - x5) (fun M19 P20 L21 v22 r23 e9 k24 n25 => e9 = 0 → cd_add k17 k24 n18 n25 fun k26 n27 =>
    (x3, (0, 22, 0)) ∈ L21 ∧
    jLl_addLast (N.1.1, N.2) (bc - k26) (bs - n27) M19 P20 L21 x3 r23 (fun M28 P29 L30 v31 r32 e9 k33 n34 => e9 = 0 → cd_add k26 k33 n27 n34 fun k35 n36 =>
    (x4, (0, 21, 0)) ∈ L30 ∧
    jBd_nextClearBitD N.1.1 (bc - k35) (bs - n36) M28 P29 L30 x4 x5 (fun M37 P38 L39 v40 r41 e9 k42 n43 => e9 = 0 → cd_add k35 k42 n36 n43 fun k44 n45 =>
    (x4, (0, 21, 0)) ∈ L39 ∧
    jBd_nextSetBitD N.1.1 (bc - k44) (bs - n45) M37 P38 L39 x4 v40 (fun M46 P47 L48 v49 r50 e9 k51 n52 => e9 = 0 → cd_add k44 k51 n45 n52 fun k53 n54 =>
    r_36 M46 P47 L48 k53 n54 x1 x2 x3 x4 v49))))))
set_option maxRecDepth 100000 in
theorem dCc_spansD_36b_v {l : Launch} {g : cx_G} {X : cx_X} {N : dNx} {bc bs : Nat} {Q : cd_Qt} {r_36 : cx_M → dP → dL → Nat → Nat → Int32 → Int32 → Nat → Nat → Int32 → Prop} (H : dX l g N.2 N.1) (hX : True) (hr_36 : ∀ (M : cx_M) (P : dP) (L : dL) (k n : Nat) (x1 : Int32) (x2 : Int32) (x3 : Nat) (x4 : Nat) (x5 : Int32), (k ≤ bc ∧ n ≤ bs) → r_36 M P L k n x1 x2 x3 x4 x5 → cq_V l (dG g L P) X (esX1_spansD bc bs) cX1_spans 36 [(1, .int x1), (2, .int x2), (3, .ref x3), (4, .ref x4), (5, .int x5)] [] M k n (cd_finX g X (esX1_spansD bc bs) cd_rI Q)) (M : cx_M) (P : dP) (L : dL) (k n : Nat) (x1 : Int32) (x2 : Int32) (x3 : Nat) (x4 : Nat) (x5 : Int32) (hk : k ≤ bc ∧ n ≤ bs) (h : dCc_spansD_36b N bc bs Q r_36 M P L k n x1 x2 x3 x4 x5) : cq_V l (dG g L P) X (esX1_spansD bc bs) cX1_spans 36 [(1, .int x1), (2, .int x2), (3, .ref x3), (4, .ref x4), (5, .int x5)] [] M k n (cd_finX g X (esX1_spansD bc bs) cd_rI Q) := by
  unfold dCc_spansD_36b at h
  refine cq_iload 4 dX1_spans_36 rfl ?_
  refine cq_if_lt 75 h dX1_spans_38 rfl (fun h => ?_) (fun h => ?_)
  · refine cq_aload_n 2 dX1_spans_75 rfl ?_
    obtain ⟨hmr, h⟩ := h
    refine cd_cU (x := ⟨"java/util/LinkedList", "iterator", "()Ljava/util/Iterator;"⟩) [] [] (jAsl_iterator_m H.1.1 (N := (N.1.1, N.2)) (bc := bc - k) (bs := bs - n) M P L x3 h) (dG_Rc H.1.1.1.1 hmr dCl_J23) dX1_spans_76 gd_X1_333 hgd_X1_333 ⟨cx_le rfl, cx_le rfl⟩ (cd_bud hk) rfl (cx_le rfl) (fun M1 P2 L3 v4 r5 k6 n7 hk2 h => ?_)
    refine cd_addI (h rfl) (cd_bk hk hk2) (fun k8 n9 h hk => ?_)
    refine cd_astore (v := r5) (fun v => [(5, v), (1, .int x1), (2, .int x2), (3, .ref x3), (4, .ref x4)]) dX1_spans_79 (cx_lt rfl) (fun v => rfl) ?_
    refine cq_sub (lv' := [(1, .int x1), (2, .int x2), (3, .ref x3), (5, va_rf r5)]) [1, 2, 3, 0] rfl ?_
    exact dCc_spansD_81_v H hX N.1.1 M1 P2 L3 k8 n9 x1 x2 x3 r5 hk h
  · refine cq_aload_n 2 dX1_spans_41 rfl ?_
    refine cq_aload 3 dX1_spans_42 rfl ?_
    refine cq_iload 4 dX1_spans_44 rfl ?_
    obtain ⟨hmr, h⟩ := h
    refine cd_cV [.int x5] [.ref x3] (jBd_nextClearBitD_m H.1.1.1 (N := N.1.1) (bc := bc - k) (bs := bs - n) M P L x4 x5 h) (dG_Rc H.1.1.1.1 hmr dCl_J19) dX1_spans_46 gd_X1_320D hgd_X1_320D ⟨cx_le rfl, cx_le rfl⟩ (cd_bud hk) rfl (cx_le rfl) (fun M10 P11 L12 v13 r14 k15 n16 hk2 h => ?_)
    refine cd_addI (h rfl) (cd_bk hk hk2) (fun k17 n18 h hk => ?_)
    refine cq_iload 4 dX1_spans_49 rfl ?_
    refine cq_isub dX1_spans_51 ?_
    refine cd_cS [.int (v13 - x5)] [.ref x3] (jI_valueOf_m H.1.1 (N := (N.1.1, N.2)) (bc := bc - k17) (bs := bs - n18) M10 P11 L12 (v13 - x5) h) dX1_spans_52 gd_X1_323 hgd_X1_323 ⟨cx_le rfl, cx_le rfl⟩ (cd_bud hk) rfl (cx_le rfl) (fun M19 P20 L21 v22 r23 k24 n25 hk2 h => ?_)
    refine cd_addI (h rfl) (cd_bk hk hk2) (fun k26 n27 h hk => ?_)
    obtain ⟨hmr, h⟩ := h
    refine cd_cV [va_rf r23] [] (jLl_addLast_m H.1.1 (N := (N.1.1, N.2)) (bc := bc - k26) (bs := bs - n27) M19 P20 L21 x3 r23 h) (dG_Rc H.1.1.1.1 hmr dCl_J23) dX1_spans_55 gd_X1_329 hgd_X1_329 ⟨cx_le rfl, cx_le rfl⟩ (cd_bud hk) rfl (cx_le rfl) (fun M28 P29 L30 v31 r32 k33 n34 hk2 h => ?_)
    refine cd_addI (h rfl) (cd_bk hk hk2) (fun k35 n36 h hk => ?_)
    refine cq_aload 3 dX1_spans_58 rfl ?_
    refine cq_aload 3 dX1_spans_60 rfl ?_
    refine cq_iload 4 dX1_spans_62 rfl ?_
    obtain ⟨hmr, h⟩ := h
    refine cd_cV [.int x5] [.ref x4] (jBd_nextClearBitD_m H.1.1.1 (N := N.1.1) (bc := bc - k35) (bs := bs - n36) M28 P29 L30 x4 x5 h) (dG_Rc H.1.1.1.1 hmr dCl_J19) dX1_spans_64 gd_X1_320D hgd_X1_320D ⟨cx_le rfl, cx_le rfl⟩ (cd_bud hk) rfl (cx_le rfl) (fun M37 P38 L39 v40 r41 k42 n43 hk2 h => ?_)
    refine cd_addI (h rfl) (cd_bk hk hk2) (fun k44 n45 h hk => ?_)
    obtain ⟨hmr, h⟩ := h
    refine cd_cV [.int v40] [] (jBd_nextSetBitD_m H.1.1.1 (N := N.1.1) (bc := bc - k44) (bs := bs - n45) M37 P38 L39 x4 v40 h) (dG_Rc H.1.1.1.1 hmr dCl_J19) dX1_spans_67 gd_X1_317D hgd_X1_317D ⟨cx_le rfl, cx_le rfl⟩ (cd_bud hk) rfl (cx_le rfl) (fun M46 P47 L48 v49 r50 k51 n52 hk2 h => ?_)
    refine cd_addI (h rfl) (cd_bk hk hk2) (fun k53 n54 h hk => ?_)
    refine cq_istore [(5, .int v49), (1, .int x1), (2, .int x2), (3, .ref x3), (4, .ref x4)] dX1_spans_70 (cx_lt rfl) rfl ?_
    refine cq_goto 36 dX1_spans_72 rfl ?_
    refine cq_sub (lv' := [(1, .int x1), (2, .int x2), (3, .ref x3), (4, .ref x4), (5, .int v49)]) [1, 2, 3, 4, 0] rfl ?_
    exact hr_36 M46 P47 L48 k53 n54 x1 x2 x3 x4 v49 hk h
def dCc_spansD_36 (N : dNx) (bc bs : Nat) (Q : cd_Qt) : Nat → cx_M → dP → dL → Nat → Nat → Int32 → Int32 → Nat → Nat → Int32 → Prop :=
  cx_fix (fun _ _ _ _ _ _ _ _ _ _ => False) (fun r_36 => dCc_spansD_36b N bc bs Q r_36)
theorem dCc_spansD_36_v {l : Launch} {g : cx_G} {X : cx_X} {N : dNx} {bc bs : Nat} {Q : cd_Qt} (H : dX l g N.2 N.1) (hX : True) : ∀ (f : Nat) (M : cx_M) (P : dP) (L : dL) (k n : Nat) (x1 : Int32) (x2 : Int32) (x3 : Nat) (x4 : Nat) (x5 : Int32), (k ≤ bc ∧ n ≤ bs) → dCc_spansD_36 N bc bs Q f M P L k n x1 x2 x3 x4 x5 → cq_V l (dG g L P) X (esX1_spansD bc bs) cX1_spans 36 [(1, .int x1), (2, .int x2), (3, .ref x3), (4, .ref x4), (5, .int x5)] [] M k n (cd_finX g X (esX1_spansD bc bs) cd_rI Q) :=
  cx_fixI (fun (r : cx_M → dP → dL → Nat → Nat → Int32 → Int32 → Nat → Nat → Int32 → Prop) => ∀ (M : cx_M) (P : dP) (L : dL) (k n : Nat) (x1 : Int32) (x2 : Int32) (x3 : Nat) (x4 : Nat) (x5 : Int32), (k ≤ bc ∧ n ≤ bs) → r M P L k n x1 x2 x3 x4 x5 → cq_V l (dG g L P) X (esX1_spansD bc bs) cX1_spans 36 [(1, .int x1), (2, .int x2), (3, .ref x3), (4, .ref x4), (5, .int x5)] [] M k n (cd_finX g X (esX1_spansD bc bs) cd_rI Q)) (fun _ _ _ _ _ _ _ _ _ _ _ h => by cases h) (fun r hr M P L k n x1 x2 x3 x4 x5 hk h => dCc_spansD_36b_v H hX hr M P L k n x1 x2 x3 x4 x5 hk h)
def dCc_spansD_0 (N : dNx) (bc bs : Nat) (Q : cd_Qt) (M : cx_M) (P : dP) (L : dL) (k n : Nat) (x1 : Int32) (x2 : Int32) : Prop :=
  cq_cal (cCc_within N.1 M x1 1 128) fun M1 v2 =>
  cd_thr 2  (bc - k) (bs - n) M1 P L v2 (fun M3 P4 L5 v6 r7 e9 k8 n9 => (e9 ≠ 0 → Q M3 P4 L5 v6 none e9 (k + k8) (n + n9)) ∧ (e9 = 0 → cd_add k k8 n n9 fun k10 n11 =>
  cd_new bc bs k10 n11 4 (0, 22, 0) M3 P4 L5 fun a12 M13 P14 L15 k16 n17 =>
  jLl_init (N.1.1, N.2) (bc - k16) (bs - n17) M13 P14 L15 a12 (fun M18 P19 L20 v21 r22 e9 k23 n24 => e9 = 0 → cd_add k16 k23 n17 n24 fun k25 n26 =>
  dSt_lacksD N (bc - k25) (bs - n26) M18 P19 L20 1000 (fun M27 P28 L29 v30 r31 e9 k32 n33 => e9 = 0 → cd_add k25 k32 n26 n33 fun k34 n35 =>
  cd_nn r31 fun a36 =>
  (a36, (0, 21, 0)) ∈ L29 ∧
  jBd_nextSetBitD N.1.1 (bc - k34) (bs - n35) M27 P28 L29 a36 0 (fun M37 P38 L39 v40 r41 e9 k42 n43 => e9 = 0 → cd_add k34 k42 n35 n43 fun k44 n45 =>
  dCc_spansD_36 N bc bs Q N.1.1 M37 P38 L39 k44 n45 x1 x2 a12 a36 v40)))))
set_option maxRecDepth 100000 in
theorem dCc_spansD_0_v {l : Launch} {g : cx_G} {X : cx_X} {N : dNx} {bc bs : Nat} {Q : cd_Qt} (H : dX l g N.2 N.1) (hX : True) (M : cx_M) (P : dP) (L : dL) (k n : Nat) (x1 : Int32) (x2 : Int32) (hk : k ≤ bc ∧ n ≤ bs) (h : dCc_spansD_0 N bc bs Q M P L k n x1 x2) : cq_V l (dG g L P) X (esX1_spansD bc bs) cX1_spans 0 [(0, .ref (N.2 500)), (1, .int x1), (2, .int x2)] [] M k n (cd_finX g X (esX1_spansD bc bs) cd_rI Q) := by
  unfold dCc_spansD_0 at h
  refine cq_iload_n 1 dX1_spans_0 rfl ?_
  refine cq_iconst 1 dX1_spans_1 cx_ic_1 ?_
  refine cq_sipush 128 dX1_spans_2 cx_sp_128 ?_
  refine cq_cSi [.int x1, .int 1, .int 128] [] h (fun rs' h' => cCc_within_m (g := dG g L P) (N := N.1) (H.2.1 L P) M x1 1 128 rs' h') dX1_spans_5 g_X1_180 hg_X1_180 ⟨cx_le rfl, cx_le rfl⟩ rfl ⟨rfl, rfl⟩ hk rfl (cx_le rfl) (fun M1 v2 h => ?_)
  refine cd_xS [.int v2] [] (cc_right_m H.1.2.1 (bc := bc - k) (bs := bs - n) M1 P L v2 h) dX1_spans_8 gd_X1_137 hgd_X1_137 ⟨cx_le rfl, cx_le rfl⟩ (cd_bud hk) rfl (cx_le rfl) rfl (fun _ _ _ _ _ _ _ he h => h.1 he) (fun M3 P4 L5 v6 r7 k8 n9 hk2 h => ?_)
  refine cd_addI (h.2 rfl) (cd_bk hk hk2) (fun k10 n11 h hk => ?_)
  refine cd_newO H.1.1.1.1 h ⟨rfl, rfl⟩ dCl_J23 dDf_J23 q1823 q1824 q159 dX1_spans_11 (fun a12 M13 P14 L15 k16 n17 h hk => ?_)
  refine cq_dup dX1_spans_14 rfl ?_
  refine cd_cI [] [.ref a12] (jLl_init_m H.1.1 (N := (N.1.1, N.2)) (bc := bc - k16) (bs := bs - n17) M13 P14 L15 a12 h) dX1_spans_15 gd_X1_316 rfl q159 q1825 q1826 rfl hgd_X1_316 ⟨cx_le rfl, cx_le rfl⟩ (cd_bud hk) rfl (cx_le rfl) (fun M18 P19 L20 v21 r22 k23 n24 hk2 h => ?_)
  refine cd_addI (h rfl) (cd_bk hk hk2) (fun k25 n26 h hk => ?_)
  refine cq_astore_n [(3, .ref a12), (0, .ref (N.2 500)), (1, .int x1), (2, .int x2)] dX1_spans_18 (cx_lt rfl) rfl ?_
  refine cq_aload_n 1 dX1_spans_19 rfl ?_
  refine cq_getR (cCc_R3 (H.2.1 L20 P19)) q1020 dX1_spans_20 ?_
  refine cd_cV [] [] (dSt_lacksD_m H (N := N) (bc := bc - k25) (bs := bs - n26) M18 P19 L20 1000 (fun L P => cSt_i1000 (H.2.1 L P)) h) (cSt_rc (cSt_i1000 (H.2.1 L20 P19))) dX1_spans_23 gd_X1_304D hgd_X1_304D ⟨cx_le rfl, cx_le rfl⟩ (cd_bud hk) rfl (cx_le rfl) (fun M27 P28 L29 v30 r31 k32 n33 hk2 h => ?_)
  refine cd_addI (h rfl) (cd_bk hk hk2) (fun k34 n35 h hk => ?_)
  refine cd_astore (v := r31) (fun v => [(4, v), (3, .ref a12), (0, .ref (N.2 500)), (1, .int x1), (2, .int x2)]) dX1_spans_26 (cx_lt rfl) (fun v => rfl) ?_
  refine cd_aload (v := r31) 0 dX1_spans_28 rfl ?_
  refine cq_iconst 0 dX1_spans_30 cx_ic_0 ?_
  obtain ⟨a36, e9, h⟩ := cd_nn_some h
  subst e9
  obtain ⟨hmr, h⟩ := h
  refine cd_cV [.int 0] [] (jBd_nextSetBitD_m H.1.1.1 (N := N.1.1) (bc := bc - k34) (bs := bs - n35) M27 P28 L29 a36 0 h) (dG_Rc H.1.1.1.1 hmr dCl_J19) dX1_spans_31 gd_X1_317D hgd_X1_317D ⟨cx_le rfl, cx_le rfl⟩ (cd_bud hk) rfl (cx_le rfl) (fun M37 P38 L39 v40 r41 k42 n43 hk2 h => ?_)
  refine cd_addI (h rfl) (cd_bk hk hk2) (fun k44 n45 h hk => ?_)
  refine cq_istore [(5, .int v40), (4, .ref a36), (3, .ref a12), (0, .ref (N.2 500)), (1, .int x1), (2, .int x2)] dX1_spans_34 (cx_lt rfl) rfl ?_
  refine cq_sub (lv' := [(1, .int x1), (2, .int x2), (3, .ref a12), (4, .ref a36), (5, .int v40)]) [4, 5, 2, 1, 0] rfl ?_
  exact dCc_spansD_36_v H hX N.1.1 M37 P38 L39 k44 n45 x1 x2 a12 a36 v40 hk h
def dCc_spansD (N : dNx) (bc bs : Nat) (M : cx_M) (P : dP) (L : dL) (x1 : Int32) (x2 : Int32) (Q : cd_Qt) : Prop := dCc_spansD_0 N bc bs Q M P L 0 0 x1 x2
set_option maxRecDepth 100000 in
theorem dCc_spansD_m {l : Launch} {g : cx_G} {N : dNx} {bc bs : Nat} {Q : cd_Qt} (H : dX l g N.2 N.1) (M : cx_M) (P : dP) (L : dL) (x1 : Int32) (x2 : Int32) (h : dCc_spansD N bc bs M P L x1 x2 Q) : cd_MetX l g yX1_spans cX1_spans (esX1_spansD bc bs) cd_rI [.ref (N.2 500), .int x1, .int x2] M P L Q :=
  cd_metX (by decide +kernel) rfl rfl (lv := [(0, .ref (N.2 500)), (1, .int x1), (2, .int x2)]) rfl (cx_le rfl) (fun X hX => cq_sub (lv' := [(0, .ref (N.2 500)), (1, .int x1), (2, .int x2)]) [0, 1, 2] rfl (dCc_spansD_0_v H hX M P L 0 0 x1 x2 ⟨Nat.zero_le _, Nat.zero_le _⟩ h))

abbrev esX1_thenD (bc bs : Nat) : cx_S := (3, RX1, cx_rI, { frames := 906, cells := bc, slots := bs, locals := 30133 }, some .int, true)
def dCc_thenD_0 (N : dNx) (bc bs : Nat) (Q : cd_Qt) (M : cx_M) (P : dP) (L : dL) (k n : Nat) (x1 : Int32) (x2 : Int32) : Prop :=
  cq_cal (cCc_within N.1 M x2 0 5) fun M1 v2 =>
  cd_thr 1  (bc - k) (bs - n) M1 P L v2 (fun M3 P4 L5 v6 r7 e9 k8 n9 => (e9 ≠ 0 → Q M3 P4 L5 v6 none e9 (k + k8) (n + n9)) ∧ (e9 = 0 → cd_add k k8 n n9 fun k10 n11 =>
  dCc_soonD N (bc - k10) (bs - n11) M3 P4 L5 x1 0 (fun M12 P13 L14 v15 r16 e9 k17 n18 => (e9 ≠ 0 → Q M12 P13 L14 v15 none e9 (k10 + k17) (n11 + n18)) ∧ (e9 = 0 → cd_add k10 k17 n11 n18 fun k19 n20 =>
  cq_cal (cCc_tries N.1 M12 x1) fun M21 _ =>
  cq_ix x2 6 fun j22 =>
  cq_cal (cLk_at N.1 j22 1100 M21) fun M23 v24 =>
  Q M23 P13 L14 v24 none 0 k19 n20))))
set_option maxRecDepth 100000 in
theorem dCc_thenD_0_v {l : Launch} {g : cx_G} {X : cx_X} {N : dNx} {bc bs : Nat} {Q : cd_Qt} (H : dX l g N.2 N.1) (hX : True) (M : cx_M) (P : dP) (L : dL) (k n : Nat) (x1 : Int32) (x2 : Int32) (hk : k ≤ bc ∧ n ≤ bs) (h : dCc_thenD_0 N bc bs Q M P L k n x1 x2) : cq_V l (dG g L P) X (esX1_thenD bc bs) cX1_then 0 [(0, .ref (N.2 500)), (1, .int x1), (2, .int x2)] [] M k n (cd_finX g X (esX1_thenD bc bs) cd_rI Q) := by
  unfold dCc_thenD_0 at h
  refine cq_iload_n 2 dX1_then_0 rfl ?_
  refine cq_iconst 0 dX1_then_1 cx_ic_0 ?_
  refine cq_iconst 5 dX1_then_2 cx_ic_5 ?_
  refine cq_cSi [.int x2, .int 0, .int 5] [] h (fun rs' h' => cCc_within_m (g := dG g L P) (N := N.1) (H.2.1 L P) M x2 0 5 rs' h') dX1_then_3 g_X1_180 hg_X1_180 ⟨cx_le rfl, cx_le rfl⟩ rfl ⟨rfl, rfl⟩ hk rfl (cx_le rfl) (fun M1 v2 h => ?_)
  refine cd_xS [.int v2] [] (cc_there_m H.1.2.1 (bc := bc - k) (bs := bs - n) M1 P L v2 h) dX1_then_6 gd_X1_184 hgd_X1_184 ⟨cx_le rfl, cx_le rfl⟩ (cd_bud hk) rfl (cx_le rfl) rfl (fun _ _ _ _ _ _ _ he h => h.1 he) (fun M3 P4 L5 v6 r7 k8 n9 hk2 h => ?_)
  refine cd_addI (h.2 rfl) (cd_bk hk hk2) (fun k10 n11 h hk => ?_)
  refine cq_iload_n 1 dX1_then_9 rfl ?_
  refine cq_iconst 0 dX1_then_10 cx_ic_0 ?_
  refine cd_xS [.int x1, .int 0] [] (dCc_soonD_m H (N := N) (bc := bc - k10) (bs := bs - n11) M3 P4 L5 x1 0 h) dX1_then_11 gd_X1_407D hgd_X1_407D ⟨cx_le rfl, cx_le rfl⟩ (cd_bud hk) rfl (cx_le rfl) rfl (fun _ _ _ _ _ _ _ he h => h.1 he) (fun M12 P13 L14 v15 r16 k17 n18 hk2 h => ?_)
  refine cd_addI (h.2 rfl) (cd_bk hk hk2) (fun k19 n20 h hk => ?_)
  refine cq_aload_n 0 dX1_then_14 rfl ?_
  refine cq_iload_n 1 dX1_then_15 rfl ?_
  refine cq_cVv [.int x1] [] h (fun rs' h' => cCc_tries_m (g := dG g L14 P13) (N := N.1) (H.2.1 L14 P13) M12 x1 rs' h') (cCc_rc (H.2.1 L14 P13)) dX1_then_16 g_X1_411 hg_X1_411 ⟨cx_le rfl, cx_le rfl⟩ rfl ⟨rfl, rfl⟩ hk rfl (cx_le rfl) (fun M21 _ h => ?_)
  refine cq_aload_n 0 dX1_then_19 rfl ?_
  refine cq_getR (cCc_R6 (H.2.1 L14 P13)) q1023 dX1_then_20 ?_
  refine cq_iload_n 2 dX1_then_23 rfl ?_
  refine cqs_looks (H.2.1 L14 P13) h dX1_then_24 q1164 (cx_le rfl) (cx_le rfl) (cx_le rfl) hk.1 hk.2 (fun j22 hj22 h => ?_)
  refine cq_castR (cLs_loc (H.2.1 L14 P13) hj22) q980 dX1_then_27 ?_
  refine cq_getRN (cLs_lo (H.2.1 L14 P13) hj22) q995 dX1_then_30 ?_
  refine cq_aload_n 0 dX1_then_33 rfl ?_
  refine cq_getR (cCc_R4 (H.2.1 L14 P13)) q1021 dX1_then_34 ?_
  refine cqs_at (H.2.1 L14 P13) (Nat.lt_of_lt_of_le hj22 (cx_le rfl)) (cSt_i1100 (H.2.1 L14 P13)) h dX1_then_37 q2262 q2261 (cx_le rfl) (cx_le rfl) (cx_le rfl) hk.1 hk.2 (fun M23 v24 h => ?_)
  exact cd_toX (cd_iret hk h rfl dX1_then_42)
def dCc_thenD (N : dNx) (bc bs : Nat) (M : cx_M) (P : dP) (L : dL) (x1 : Int32) (x2 : Int32) (Q : cd_Qt) : Prop := dCc_thenD_0 N bc bs Q M P L 0 0 x1 x2
set_option maxRecDepth 100000 in
theorem dCc_thenD_m {l : Launch} {g : cx_G} {N : dNx} {bc bs : Nat} {Q : cd_Qt} (H : dX l g N.2 N.1) (M : cx_M) (P : dP) (L : dL) (x1 : Int32) (x2 : Int32) (h : dCc_thenD N bc bs M P L x1 x2 Q) : cd_MetX l g yX1_then cX1_then (esX1_thenD bc bs) cd_rI [.ref (N.2 500), .int x1, .int x2] M P L Q :=
  cd_metX (by decide +kernel) rfl rfl (lv := [(0, .ref (N.2 500)), (1, .int x1), (2, .int x2)]) rfl (cx_le rfl) (fun X hX => cq_sub (lv' := [(0, .ref (N.2 500)), (1, .int x1), (2, .int x2)]) [0, 1, 2] rfl (dCc_thenD_0_v H hX M P L 0 0 x1 x2 ⟨Nat.zero_le _, Nat.zero_le _⟩ h))

abbrev esX1_whenD (bc bs : Nat) : cx_S := (2, RX1, cx_rI, { frames := 907, cells := bc, slots := bs, locals := 30157 }, some .int, true)
def dCc_whenD_26 (N : dNx) (bc bs : Nat) (Q : cd_Qt) (M : cx_M) (P : dP) (L : dL) (k n : Nat) (x1 : Int32) : Prop :=
  cq_sw x1 0 [
      (cq_cal (cCc_waits N.1 6 0 M) fun M3 v4 =>
      Q M3 P L v4 none 0 k n),
      (cq_cal (cCc_waits N.1 7 1 M) fun M5 v6 =>
      Q M5 P L v6 none 0 k n),
      (cq_cal (cCc_waits N.1 8 2 M) fun M7 v8 =>
      Q M7 P L v8 none 0 k n)
    ] (
      cq_cal (cCc_waits N.1 9 3 M) fun M1 v2 =>
      Q M1 P L v2 none 0 k n)
set_option maxRecDepth 100000 in
theorem dCc_whenD_26_v {l : Launch} {g : cx_G} {X : cx_X} {N : dNx} {bc bs : Nat} {Q : cd_Qt} (H : dX l g N.2 N.1) (hX : X.2.2.1.methodNamed? yX1_when = some X.2.2.2.1) (M : cx_M) (P : dP) (L : dL) (k n : Nat) (x1 : Int32) (hk : k ≤ bc ∧ n ≤ bs) (h : dCc_whenD_26 N bc bs Q M P L k n x1) : cq_V l (dG g L P) X (esX1_whenD bc bs) cX1_when 26 [(0, .ref (N.2 500)), (1, .int x1)] [] M k n (cd_finX g X (esX1_whenD bc bs) cd_rI Q) := by
  unfold dCc_whenD_26 at h
  refine cq_iload_n 1 dX1_when_26 rfl ?_
  refine cq_table 103 [52, 69, 86] 3 h dX1_when_27 (by decide +kernel) rfl rfl rfl (by decide +kernel) (fun h => ?_) (cd_tabC ?_ (cd_tabC ?_ (cd_tabC ?_ cd_tabN)))
  · refine cq_aload_n 0 dX1_when_103 rfl ?_
    refine cq_indyC hX (fun U h => lmK_15 H.2.2 U h) dX1_when_104 (cx_le rfl) ?_
    refine cq_indyC hX (fun U h => lmK_16 H.2.2 U h) dX1_when_109 (cx_le rfl) ?_
    refine cq_cVi [.ref (N.2 9119), .ref (N.2 9133)] [] h (fun rs' h' => cCc_waits_m (g := dG g L P) (N := N.1) (H.2.1 L P) (by decide) (by decide) M rs' h') (cCc_rc (H.2.1 L P)) dX1_when_114 g_X1_433 hg_X1_433 ⟨cx_le rfl, cx_le rfl⟩ rfl ⟨rfl, rfl⟩ hk rfl (cx_le rfl) (fun M1 v2 h => ?_)
    exact cd_toX (cd_iret hk h rfl dX1_when_117)
  · intro h
    refine cq_at (pc2 := 52) rfl ?_
    refine cq_aload_n 0 dX1_when_52 rfl ?_
    refine cq_indyC hX (fun U h => lmK_9 H.2.2 U h) dX1_when_53 (cx_le rfl) ?_
    refine cq_indyC hX (fun U h => lmK_10 H.2.2 U h) dX1_when_58 (cx_le rfl) ?_
    refine cq_cVi [.ref (N.2 9116), .ref (N.2 9130)] [] h (fun rs' h' => cCc_waits_m (g := dG g L P) (N := N.1) (H.2.1 L P) (by decide) (by decide) M rs' h') (cCc_rc (H.2.1 L P)) dX1_when_63 g_X1_433 hg_X1_433 ⟨cx_le rfl, cx_le rfl⟩ rfl ⟨rfl, rfl⟩ hk rfl (cx_le rfl) (fun M3 v4 h => ?_)
    refine cq_goto 117 dX1_when_66 rfl ?_
    exact cd_toX (cd_iret hk h rfl dX1_when_117)
  · intro h
    refine cq_at (pc2 := 69) rfl ?_
    refine cq_aload_n 0 dX1_when_69 rfl ?_
    refine cq_indyC hX (fun U h => lmK_11 H.2.2 U h) dX1_when_70 (cx_le rfl) ?_
    refine cq_indyC hX (fun U h => lmK_12 H.2.2 U h) dX1_when_75 (cx_le rfl) ?_
    refine cq_cVi [.ref (N.2 9117), .ref (N.2 9131)] [] h (fun rs' h' => cCc_waits_m (g := dG g L P) (N := N.1) (H.2.1 L P) (by decide) (by decide) M rs' h') (cCc_rc (H.2.1 L P)) dX1_when_80 g_X1_433 hg_X1_433 ⟨cx_le rfl, cx_le rfl⟩ rfl ⟨rfl, rfl⟩ hk rfl (cx_le rfl) (fun M5 v6 h => ?_)
    refine cq_goto 117 dX1_when_83 rfl ?_
    exact cd_toX (cd_iret hk h rfl dX1_when_117)
  · intro h
    refine cq_at (pc2 := 86) rfl ?_
    refine cq_aload_n 0 dX1_when_86 rfl ?_
    refine cq_indyC hX (fun U h => lmK_13 H.2.2 U h) dX1_when_87 (cx_le rfl) ?_
    refine cq_indyC hX (fun U h => lmK_14 H.2.2 U h) dX1_when_92 (cx_le rfl) ?_
    refine cq_cVi [.ref (N.2 9118), .ref (N.2 9132)] [] h (fun rs' h' => cCc_waits_m (g := dG g L P) (N := N.1) (H.2.1 L P) (by decide) (by decide) M rs' h') (cCc_rc (H.2.1 L P)) dX1_when_97 g_X1_433 hg_X1_433 ⟨cx_le rfl, cx_le rfl⟩ rfl ⟨rfl, rfl⟩ hk rfl (cx_le rfl) (fun M7 v8 h => ?_)
    refine cq_goto 117 dX1_when_100 rfl ?_
    exact cd_toX (cd_iret hk h rfl dX1_when_117)
def dCc_whenD_0 (N : dNx) (bc bs : Nat) (Q : cd_Qt) (M : cx_M) (P : dP) (L : dL) (k n : Nat) (x1 : Int32) : Prop :=
  cq_cal (cCc_within N.1 M x1 0 3) fun M1 v2 =>
  cd_thr 1  (bc - k) (bs - n) M1 P L v2 (fun M3 P4 L5 v6 r7 e9 k8 n9 => (e9 ≠ 0 → Q M3 P4 L5 v6 none e9 (k + k8) (n + n9)) ∧ (e9 = 0 → cd_add k k8 n n9 fun k10 n11 =>
  if x1 = 0 then (
    cq_get M3 1000 8 fun v12 =>
    if v12 = 2 then (
      Q M3 P4 L5 0 none 0 k10 n11)
    else (
      dCc_whenD_26 N bc bs Q M3 P4 L5 k10 n11 x1))
  else (
    dCc_whenD_26 N bc bs Q M3 P4 L5 k10 n11 x1)))
set_option maxRecDepth 100000 in
theorem dCc_whenD_0_v {l : Launch} {g : cx_G} {X : cx_X} {N : dNx} {bc bs : Nat} {Q : cd_Qt} (H : dX l g N.2 N.1) (hX : X.2.2.1.methodNamed? yX1_when = some X.2.2.2.1) (M : cx_M) (P : dP) (L : dL) (k n : Nat) (x1 : Int32) (hk : k ≤ bc ∧ n ≤ bs) (h : dCc_whenD_0 N bc bs Q M P L k n x1) : cq_V l (dG g L P) X (esX1_whenD bc bs) cX1_when 0 [(0, .ref (N.2 500)), (1, .int x1)] [] M k n (cd_finX g X (esX1_whenD bc bs) cd_rI Q) := by
  unfold dCc_whenD_0 at h
  refine cq_iload_n 1 dX1_when_0 rfl ?_
  refine cq_iconst 0 dX1_when_1 cx_ic_0 ?_
  refine cq_iconst 3 dX1_when_2 cx_ic_3 ?_
  refine cq_cSi [.int x1, .int 0, .int 3] [] h (fun rs' h' => cCc_within_m (g := dG g L P) (N := N.1) (H.2.1 L P) M x1 0 3 rs' h') dX1_when_3 g_X1_180 hg_X1_180 ⟨cx_le rfl, cx_le rfl⟩ rfl ⟨rfl, rfl⟩ hk rfl (cx_le rfl) (fun M1 v2 h => ?_)
  refine cd_xS [.int v2] [] (cc_there_m H.1.2.1 (bc := bc - k) (bs := bs - n) M1 P L v2 h) dX1_when_6 gd_X1_184 hgd_X1_184 ⟨cx_le rfl, cx_le rfl⟩ (cd_bud hk) rfl (cx_le rfl) rfl (fun _ _ _ _ _ _ _ he h => h.1 he) (fun M3 P4 L5 v6 r7 k8 n9 hk2 h => ?_)
  refine cd_addI (h.2 rfl) (cd_bk hk hk2) (fun k10 n11 h hk => ?_)
  refine cq_iload_n 1 dX1_when_9 rfl ?_
  refine cq_if_ne 26 h dX1_when_10 rfl (fun h => ?_) (fun h => ?_)
  · exact dCc_whenD_26_v H hX M3 P4 L5 k10 n11 x1 hk h
  · refine cq_aload_n 0 dX1_when_13 rfl ?_
    refine cq_getR (cCc_R3 (H.2.1 L5 P4)) q1020 dX1_when_14 ?_
    refine cq_getIN h (cSt_F8 (cSt_i1000 (H.2.1 L5 P4))) q665 dX1_when_17 (fun v12 h => ?_)
    refine cq_iconst 2 dX1_when_20 cx_ic_2 ?_
    refine cq_icmp_ne 26 h dX1_when_21 rfl (fun h => ?_) (fun h => ?_)
    · exact dCc_whenD_26_v H hX M3 P4 L5 k10 n11 x1 hk h
    · refine cq_iconst 0 dX1_when_24 cx_ic_0 ?_
      exact cd_toX (cd_iret hk h rfl dX1_when_25)
def dCc_whenD (N : dNx) (bc bs : Nat) (M : cx_M) (P : dP) (L : dL) (x1 : Int32) (Q : cd_Qt) : Prop := dCc_whenD_0 N bc bs Q M P L 0 0 x1
set_option maxRecDepth 100000 in
theorem dCc_whenD_m {l : Launch} {g : cx_G} {N : dNx} {bc bs : Nat} {Q : cd_Qt} (H : dX l g N.2 N.1) (M : cx_M) (P : dP) (L : dL) (x1 : Int32) (h : dCc_whenD N bc bs M P L x1 Q) : cd_MetX l g yX1_when cX1_when (esX1_whenD bc bs) cd_rI [.ref (N.2 500), .int x1] M P L Q :=
  cd_metXN (by decide +kernel) rfl rfl (lv := [(0, .ref (N.2 500)), (1, .int x1)]) rfl (cx_le rfl) (fun X hX => cq_sub (lv' := [(0, .ref (N.2 500)), (1, .int x1)]) [0, 1] rfl (dCc_whenD_0_v H hX M P L 0 0 x1 ⟨Nat.zero_le _, Nat.zero_le _⟩ h))
