
theorem lw_U {own C owner : String} {idx : Nat} {x y : MethodName} {b : ByteArray} {L : Nat} {r : Option FieldType} (h1 : Cond.methodLink own idx x ∈ lw_all) (h2 : Cond.sameMethod x.cls owner x.name x.desc ∈ lw_all) (h3 : Cond.selects C x y ∈ lw_all) (h4 : Cond.instanceMethod y ∈ lw_all) (h5 : Cond.initialized y.cls ∈ lw_all) (h6 : Cond.code y b L r ∈ lw_all) : GoodIn lw_all (va_wsU own idx C owner x y (ws_ y b L r)) := by
  refine lw_app ?_ (lw_meth h6)
  intro w hw
  simp only [List.mem_cons, List.not_mem_nil, or_false] at hw
  rcases hw with e | e | e | e | e
  · rw [e]; exact h1
  · rw [e]; exact h2
  · rw [e]; exact h3
  · rw [e]; exact h4
  · rw [e]; exact h5
theorem lw_O {own C owner : String} {idx : Nat} {x y : MethodName} {b : ByteArray} {L : Nat} {r : Option FieldType} (h1 : Cond.methodLink own idx x ∈ lw_all) (h2 : Cond.sameMethod x.cls owner x.name x.desc ∈ lw_all) (h0 : Cond.instanceMethod ⟨owner, x.name, x.desc⟩ ∈ lw_all) (h3 : Cond.selects C x y ∈ lw_all) (h4 : Cond.instanceMethod y ∈ lw_all) (h5 : Cond.initialized y.cls ∈ lw_all) (h6 : Cond.code y b L r ∈ lw_all) : GoodIn lw_all (va_wsO own idx C owner x y (ws_ y b L r)) := by
  refine lw_app ?_ (lw_meth h6)
  intro w hw
  simp only [List.mem_cons, List.not_mem_nil, or_false] at hw
  rcases hw with e | e | e | e | e | e
  · rw [e]; exact h1
  · rw [e]; exact h2
  · rw [e]; exact h0
  · rw [e]; exact h3
  · rw [e]; exact h4
  · rw [e]; exact h5
theorem lw_SU {own : String} {idx : Nat} {y : MethodName} {b : ByteArray} {L : Nat} {r : Option FieldType} (h1 : Cond.methodLink own idx y ∈ lw_all) (h2 : Cond.sameMethod y.cls y.cls y.name y.desc ∈ lw_all) (h3 : Cond.superclass own y.cls ∈ lw_all) (h4 : Cond.instanceMethod y ∈ lw_all) (h5 : Cond.initialized y.cls ∈ lw_all) (h6 : Cond.code y b L r ∈ lw_all) : GoodIn lw_all (va_wsSU own idx y (ws_ y b L r)) := by
  refine lw_app ?_ (lw_meth h6)
  intro w hw
  simp only [List.mem_cons, List.not_mem_nil, or_false] at hw
  rcases hw with e | e | e | e | e
  · rw [e]; exact h1
  · rw [e]; exact h2
  · rw [e]; exact h3
  · rw [e]; exact h4
  · rw [e]; exact h5
theorem cqB_same : Cond.sameMethod "[B" "java/lang/Object" "clone" "()Ljava/lang/Object;" ∈ lw_all := q310
theorem cqB_nat : Cond.native ⟨"java/lang/Object", "clone", "()Ljava/lang/Object;"⟩ ∈ lw_all := q311
theorem cqB_cl : Cond.castable "[B" "java/lang/Cloneable" ∈ lw_tbl := q314
theorem dCl_J8 : cx_Cl 18 RJ8 TJ8 4 tyJ8 := ⟨rfl, in_J8, tyJ8_ok, nmJ8⟩
theorem dCl_J9 : cx_Cl 17 RJ9 TJ9 4 tyJ9 := ⟨rfl, in_J9, tyJ9_ok, nmJ9⟩
theorem dDf_J9 : ∀ j, j < 4 → defaultValue (tyJ9 j) = dFv 17 j (fun _ => 0) (fun _ => none) := by decide +kernel
theorem gd_J8_1 : GoodIn lw_all (ws_ yJ7_init cJ7_init 2 none) := lw_meth q250
theorem hgd_J8_1 : yJ7_init.cls ≠ "java/lang/invoke/MethodHandle" ∧ yJ7_init.cls ≠ "java/lang/invoke/VarHandle" ∧ (parseMethodDescriptor yJ7_init.desc).map (fun d => d.parameters.length) = some 1 := by decide +kernel
theorem gd_J8_343 : GoodIn lw_all (va_wsSU RJ8 343 yJ7_length (ws_ yJ7_length cJ7_length 1 (some .int))) := lw_SU q445 q441 q273 q440 q125 q446
theorem hgd_J8_343 : yJ7_length.name ≠ "<init>" ∧ (parseMethodDescriptor yJ7_length.desc).map (fun d => d.parameters.length) = some 0 := by decide +kernel
theorem gd_J7_114 : GoodIn lw_all (va_wsS RJ7 114 yJ11_newLength (ws_ yJ11_newLength cJ11_newLength 4 (some .int))) := lw_S q295 q296 q129 q297
theorem hgd_J7_114 : yJ11_newLength.cls ≠ "java/lang/invoke/MethodHandle" ∧ yJ11_newLength.cls ≠ "java/lang/invoke/VarHandle" ∧ (parseMethodDescriptor yJ11_newLength.desc).map (fun d => d.parameters.length) = some 3 := by decide +kernel
theorem gd_J13_343 : GoodIn lw_all (va_wsS RJ13 343 yJ13_checkLength (ws_ yJ13_checkLength cJ13_checkLength 2 none)) := lw_S q454 q455 q131 q456
theorem hgd_J13_343 : yJ13_checkLength.cls ≠ "java/lang/invoke/MethodHandle" ∧ yJ13_checkLength.cls ≠ "java/lang/invoke/VarHandle" ∧ (parseMethodDescriptor yJ13_checkLength.desc).map (fun d => d.parameters.length) = some 2 := by decide +kernel
theorem gd_J13_339 : GoodIn lw_all (va_wsS RJ13 339 yJ13_copyOfRangeByte (ws_ yJ13_copyOfRangeByte cJ13_copyOfRangeByte 5 (some (.array .byte)))) := lw_S q451 q452 q131 q453
theorem hgd_J13_339 : yJ13_copyOfRangeByte.cls ≠ "java/lang/invoke/MethodHandle" ∧ yJ13_copyOfRangeByte.cls ≠ "java/lang/invoke/VarHandle" ∧ (parseMethodDescriptor yJ13_copyOfRangeByte.desc).map (fun d => d.parameters.length) = some 3 := by decide +kernel
theorem gd_J7_104 : (Cond.methodLink RJ7 104 yJ7_newCapacity ∈ lw_all ∧ Cond.sameMethod yJ7_newCapacity.cls yJ7_newCapacity.cls yJ7_newCapacity.name yJ7_newCapacity.desc ∈ lw_all ∧ Cond.instanceMethod yJ7_newCapacity ∈ lw_all ∧ Cond.initialized yJ7_newCapacity.cls ∈ lw_all) ∧ GoodIn lw_all (ws_ yJ7_newCapacity cJ7_newCapacity 6 (some .int)) := ⟨⟨q291, q2953, q293, q125⟩, lw_meth q294⟩
theorem hgd_J7_104 : yJ7_newCapacity.cls ≠ "java/lang/invoke/MethodHandle" ∧ yJ7_newCapacity.cls ≠ "java/lang/invoke/VarHandle" ∧ (parseMethodDescriptor yJ7_newCapacity.desc).map (fun d => d.parameters.length) = some 1 := by decide +kernel
theorem gd_J7_108 : GoodIn lw_all (va_wsS RJ7 108 yJ13_copyOf (ws_ yJ13_copyOf cJ13_copyOf 3 (some (.array .byte)))) := lw_S q306 q307 q131 q308
theorem hgd_J7_108 : yJ13_copyOf.cls ≠ "java/lang/invoke/MethodHandle" ∧ yJ13_copyOf.cls ≠ "java/lang/invoke/VarHandle" ∧ (parseMethodDescriptor yJ13_copyOf.desc).map (fun d => d.parameters.length) = some 2 := by decide +kernel
theorem gd_J7_100 : (Cond.methodLink RJ7 100 yJ7_ensureCapacityInternal ∈ lw_all ∧ Cond.sameMethod yJ7_ensureCapacityInternal.cls yJ7_ensureCapacityInternal.cls yJ7_ensureCapacityInternal.name yJ7_ensureCapacityInternal.desc ∈ lw_all ∧ Cond.instanceMethod yJ7_ensureCapacityInternal ∈ lw_all ∧ Cond.initialized yJ7_ensureCapacityInternal.cls ∈ lw_all) ∧ GoodIn lw_all (ws_ yJ7_ensureCapacityInternal cJ7_ensureCapacityInternal 3 none) := ⟨⟨q287, q2952, q289, q125⟩, lw_meth q290⟩
theorem hgd_J7_100 : yJ7_ensureCapacityInternal.cls ≠ "java/lang/invoke/MethodHandle" ∧ yJ7_ensureCapacityInternal.cls ≠ "java/lang/invoke/VarHandle" ∧ (parseMethodDescriptor yJ7_ensureCapacityInternal.desc).map (fun d => d.parameters.length) = some 1 := by decide +kernel
theorem gd_J7_83 : GoodIn lw_all (va_wsU RJ7 83 RJ8 "java/lang/AbstractStringBuilder" ⟨"java/lang/AbstractStringBuilder", "isLatin1", "()Z"⟩ yJ7_isLatin1 (ws_ yJ7_isLatin1 cJ7_isLatin1 1 (some .boolean))) := lw_U q322 q324 q325 q323 q125 q326
theorem hgd_J7_83 : yJ7_isLatin1 = ⟨"java/lang/AbstractStringBuilder", "isLatin1", "()Z"⟩ ∧ "java/lang/AbstractStringBuilder" ≠ "java/lang/invoke/MethodHandle" ∧ "java/lang/AbstractStringBuilder" ≠ "java/lang/invoke/VarHandle" ∧ (parseMethodDescriptor "()Z").map (fun d => d.parameters.length) = some 0 := by refine ⟨rfl, ?_⟩; decide +kernel
theorem gd_J7_191 : GoodIn lw_all (va_wsS RJ7 191 yJ15_canEncode (ws_ yJ15_canEncode cJ15_canEncode 1 (some .boolean))) := lw_S q1410 q1411 q134 q1412
theorem hgd_J7_191 : yJ15_canEncode.cls ≠ "java/lang/invoke/MethodHandle" ∧ yJ15_canEncode.cls ≠ "java/lang/invoke/VarHandle" ∧ (parseMethodDescriptor yJ15_canEncode.desc).map (fun d => d.parameters.length) = some 1 := by decide +kernel
theorem gd_J8_50 : GoodIn lw_all (va_wsSU RJ8 50 yJ7_append_3 (ws_ yJ7_append_3 cJ7_append_3 2 (some (.object "java/lang/AbstractStringBuilder")))) := lw_SU q1407 q2959 q273 q1408 q125 q1409
theorem hgd_J8_50 : yJ7_append_3.name ≠ "<init>" ∧ (parseMethodDescriptor yJ7_append_3.desc).map (fun d => d.parameters.length) = some 1 := by decide +kernel
theorem gd_J9_552 : GoodIn lw_all (va_wsU RJ9 552 RJ8 "java/lang/AbstractStringBuilder" ⟨"java/lang/AbstractStringBuilder", "getValue", "()[B"⟩ yJ7_getValue (ws_ yJ7_getValue cJ7_getValue 1 (some (.array .byte)))) := lw_U q434 q436 q437 q435 q125 q438
theorem hgd_J9_552 : yJ7_getValue = ⟨"java/lang/AbstractStringBuilder", "getValue", "()[B"⟩ ∧ "java/lang/AbstractStringBuilder" ≠ "java/lang/invoke/MethodHandle" ∧ "java/lang/AbstractStringBuilder" ≠ "java/lang/invoke/VarHandle" ∧ (parseMethodDescriptor "()[B").map (fun d => d.parameters.length) = some 0 := by refine ⟨rfl, ?_⟩; decide +kernel
theorem gd_J9_549 : GoodIn lw_all (va_wsO RJ9 549 RJ8 "java/lang/AbstractStringBuilder" ⟨"java/lang/AbstractStringBuilder", "length", "()I"⟩ yJ8_length (ws_ yJ8_length cJ8_length 1 (some .int))) := lw_O q439 q441 q440 q442 q443 q126 q444
theorem hgd_J9_549 : Cond.code ⟨"java/lang/AbstractStringBuilder", "length", "()I"⟩ cJ7_length 1 (some .int) ∈ lw_all ∧ "java/lang/AbstractStringBuilder" ≠ "java/lang/invoke/MethodHandle" ∧ "java/lang/AbstractStringBuilder" ≠ "java/lang/invoke/VarHandle" ∧ (parseMethodDescriptor "()I").map (fun d => d.parameters.length) = some 0 := ⟨q446, by decide +kernel⟩
theorem gd_J9_1047 : GoodIn lw_all (va_wsU RJ9 1047 RJ8 "java/lang/AbstractStringBuilder" ⟨"java/lang/AbstractStringBuilder", "isLatin1", "()Z"⟩ yJ7_isLatin1 (ws_ yJ7_isLatin1 cJ7_isLatin1 1 (some .boolean))) := lw_U q447 q324 q325 q323 q125 q326
theorem hgd_J9_1047 : yJ7_isLatin1 = ⟨"java/lang/AbstractStringBuilder", "isLatin1", "()Z"⟩ ∧ "java/lang/AbstractStringBuilder" ≠ "java/lang/invoke/MethodHandle" ∧ "java/lang/AbstractStringBuilder" ≠ "java/lang/invoke/VarHandle" ∧ (parseMethodDescriptor "()Z").map (fun d => d.parameters.length) = some 0 := by refine ⟨rfl, ?_⟩; decide +kernel
theorem gd_J9_54 : GoodIn lw_all (va_wsS RJ9 54 yJ13_copyOfRange (ws_ yJ13_copyOfRange cJ13_copyOfRange 3 (some (.array .byte)))) := lw_S q448 q449 q131 q450
theorem hgd_J9_54 : yJ13_copyOfRange.cls ≠ "java/lang/invoke/MethodHandle" ∧ yJ13_copyOfRange.cls ≠ "java/lang/invoke/VarHandle" ∧ (parseMethodDescriptor yJ13_copyOfRange.desc).map (fun d => d.parameters.length) = some 3 := by decide +kernel
theorem gd_J9_489 : GoodIn lw_all (ws_ yJ9_init_2 cJ9_init_2 5 none) := lw_meth q432
theorem hgd_J9_489 : yJ9_init_2.cls ≠ "java/lang/invoke/MethodHandle" ∧ yJ9_init_2.cls ≠ "java/lang/invoke/VarHandle" ∧ (parseMethodDescriptor yJ9_init_2.desc).map (fun d => d.parameters.length) = some 2 := by decide +kernel
theorem gd_J8_137 : GoodIn lw_all (ws_ yJ9_init cJ9_init 2 none) := lw_meth q429
theorem hgd_J8_137 : yJ9_init.cls ≠ "java/lang/invoke/MethodHandle" ∧ yJ9_init.cls ≠ "java/lang/invoke/VarHandle" ∧ (parseMethodDescriptor yJ9_init.desc).map (fun d => d.parameters.length) = some 1 := by decide +kernel
theorem gd_J9_1015 : GoodIn lw_all (va_wsS RJ9 1015 yJ15_canEncode (ws_ yJ15_canEncode cJ15_canEncode 1 (some .boolean))) := lw_S q1441 q1411 q134 q1412
theorem hgd_J9_1015 : yJ15_canEncode.cls ≠ "java/lang/invoke/MethodHandle" ∧ yJ15_canEncode.cls ≠ "java/lang/invoke/VarHandle" ∧ (parseMethodDescriptor yJ15_canEncode.desc).map (fun d => d.parameters.length) = some 1 := by decide +kernel
theorem gd_J9_1018 : GoodIn lw_all (va_wsS RJ9 1018 yJ15_toBytes (ws_ yJ15_toBytes cJ15_toBytes 1 (some (.array .byte)))) := lw_S q1443 q1444 q134 q1445
theorem hgd_J9_1018 : yJ15_toBytes.cls ≠ "java/lang/invoke/MethodHandle" ∧ yJ15_toBytes.cls ≠ "java/lang/invoke/VarHandle" ∧ (parseMethodDescriptor yJ15_toBytes.desc).map (fun d => d.parameters.length) = some 1 := by decide +kernel
theorem gd_J9_209 : GoodIn lw_all (ws_ yJ9_init_3 cJ9_init_3 3 none) := lw_meth q1448
theorem hgd_J9_209 : yJ9_init_3.cls ≠ "java/lang/invoke/MethodHandle" ∧ yJ9_init_3.cls ≠ "java/lang/invoke/VarHandle" ∧ (parseMethodDescriptor yJ9_init_3.desc).map (fun d => d.parameters.length) = some 2 := by decide +kernel
theorem gd_J11_62 : GoodIn lw_all (va_wsS RJ11 62 yJ11_signedHashCode (ws_ yJ11_signedHashCode cJ11_signedHashCode 6 (some .int))) := lw_S q1532 q1533 q129 q1534
theorem hgd_J11_62 : yJ11_signedHashCode.cls ≠ "java/lang/invoke/MethodHandle" ∧ yJ11_signedHashCode.cls ≠ "java/lang/invoke/VarHandle" ∧ (parseMethodDescriptor yJ11_signedHashCode.desc).map (fun d => d.parameters.length) = some 4 := by decide +kernel
theorem gd_J15_84 : GoodIn lw_all (va_wsS RJ15 84 yJ11_vectorizedHashCode (ws_ yJ11_vectorizedHashCode cJ11_vectorizedHashCode 5 (some .int))) := lw_S q1528 q1529 q129 q1530
theorem hgd_J15_84 : yJ11_vectorizedHashCode.cls ≠ "java/lang/invoke/MethodHandle" ∧ yJ11_vectorizedHashCode.cls ≠ "java/lang/invoke/VarHandle" ∧ (parseMethodDescriptor yJ11_vectorizedHashCode.desc).map (fun d => d.parameters.length) = some 5 := by decide +kernel
theorem gd_J9_492 : GoodIn lw_all (wsV RJ9 492 RJ9 yJ9_isLatin1 (ws_ yJ9_isLatin1 cJ9_isLatin1 1 (some .boolean))) := lw_V q1521 q1522 q1523 q127 q1524
theorem hgd_J9_492 : yJ9_isLatin1.cls = RJ9 ∧ yJ9_isLatin1.cls ≠ "java/lang/invoke/MethodHandle" ∧ yJ9_isLatin1.cls ≠ "java/lang/invoke/VarHandle" ∧ (parseMethodDescriptor yJ9_isLatin1.desc).map (fun d => d.parameters.length) = some 0 := by decide +kernel
theorem gd_J9_628 : GoodIn lw_all (va_wsS RJ9 628 yJ15_hashCode (ws_ yJ15_hashCode cJ15_hashCode 1 (some .int))) := lw_S q1525 q1526 q134 q1527
theorem hgd_J9_628 : yJ15_hashCode.cls ≠ "java/lang/invoke/MethodHandle" ∧ yJ15_hashCode.cls ≠ "java/lang/invoke/VarHandle" ∧ (parseMethodDescriptor yJ15_hashCode.desc).map (fun d => d.parameters.length) = some 1 := by decide +kernel
abbrev esJ11_newLength (bc bs : Nat) : cx_S := (4, RJ11, cx_rI, { frames := 1, cells := bc, slots := bs, locals := 14 }, some .int, false)
def jX_newLength_0 (N : Nat) (bc bs : Nat) (Q : cd_Qt) (M : cx_M) (P : dP) (L : dL) (k n : Nat) (x0 : Int32) (x1 : Int32) (x2 : Int32) : Prop :=
  cq_let (x0 + (cx_max x1 x2)) fun v1 =>
  if v1 ≤ (0 : Int32) then (
    False)
  else (
    if 2147483639 < v1 then (
      False)
    else (
      Q M P L v1 none 0 k n))
set_option maxRecDepth 100000 in
theorem jX_newLength_0_v {l : Launch} {g : cx_G} {X : cx_X} {N : Nat} {bc bs : Nat} {Q : cd_Qt} (H : dH g) (hX : X.2.2.2.2.2.2.1.name = "newLength") (M : cx_M) (P : dP) (L : dL) (k n : Nat) (x0 : Int32) (x1 : Int32) (x2 : Int32) (hk : k ≤ bc ∧ n ≤ bs) (h : jX_newLength_0 N bc bs Q M P L k n x0 x1 x2) : cq_V l (dG g L P) X (esJ11_newLength bc bs) cJ11_newLength 0 [(0, .int x0), (1, .int x1), (2, .int x2)] [] M k n (cd_fin g X (esJ11_newLength bc bs) cd_rI Q) := by
  unfold jX_newLength_0 at h
  refine cq_iload_n 0 dJ11_newLength_0 rfl ?_
  refine cq_iload_n 1 dJ11_newLength_1 rfl ?_
  refine cq_iload_n 2 dJ11_newLength_2 rfl ?_
  refine cq_mmax dJ11_newLength_3 q298 (cx_le rfl) (cx_le rfl) hk.1 hk.2 ?_
  refine cq_iadd dJ11_newLength_6 ?_
  refine cq_letI h (fun v1 h => ?_)
  refine cq_istore_n [(3, .int v1), (0, .int x0), (1, .int x1), (2, .int x2)] dJ11_newLength_7 (cx_lt rfl) rfl ?_
  refine cq_iconst 0 dJ11_newLength_8 cx_ic_0 ?_
  refine cq_iload_n 0 dJ11_newLength_9 rfl ?_
  refine cq_icmp_ge 21 h dJ11_newLength_10 rfl (fun h => ?_) (fun h => ?_)
  · cases h
  · refine cq_iload_n 0 dJ11_newLength_13 rfl ?_
    refine cq_ldc 2147483639 dJ11_newLength_14 q301 ?_
    refine cq_icmp_gt 21 h dJ11_newLength_16 rfl (fun h => ?_) (fun h => ?_)
    · cases h
    · refine cq_iload_n 0 dJ11_newLength_19 rfl ?_
      exact cd_iret hk h rfl dJ11_newLength_20
def jX_newLength (N : Nat) (bc bs : Nat) (M : cx_M) (P : dP) (L : dL) (x0 : Int32) (x1 : Int32) (x2 : Int32) (Q : cd_Qt) : Prop := jX_newLength_0 N bc bs Q M P L 0 0 x0 x1 x2
set_option maxRecDepth 100000 in
theorem jX_newLength_m {l : Launch} {g : cx_G} {N : Nat} {bc bs : Nat} {Q : cd_Qt} (H : dH g) (M : cx_M) (P : dP) (L : dL) (x0 : Int32) (x1 : Int32) (x2 : Int32) (h : jX_newLength N bc bs M P L x0 x1 x2 Q) : cd_Met l g yJ11_newLength cJ11_newLength (esJ11_newLength bc bs) cd_rI [.int x0, .int x1, .int x2] M P L Q :=
  cd_met (by decide +kernel) rfl rfl (lv := [(0, .int x0), (1, .int x1), (2, .int x2)]) rfl (cx_le rfl) (fun X hX => cq_sub (lv' := [(0, .int x0), (1, .int x1), (2, .int x2)]) [0, 1, 2] rfl (jX_newLength_0_v H hX M P L 0 0 x0 x1 x2 ⟨Nat.zero_le _, Nat.zero_le _⟩ h))

abbrev esJ7_init (bc bs : Nat) : cx_S := (2, RJ7, cx_rI, { frames := 1, cells := bc, slots := bs, locals := 20 }, none, false)
def jA_init_0 (N : Nat) (bc bs : Nat) (Q : cd_Qt) (a0 : Nat) (M : cx_M) (P : dP) (L : dL) (k n : Nat) (x1 : Int32) : Prop :=
  cd_newa bc bs k n x1 (fun z => (1, 2, z)) M P L fun a1 M2 P3 L4 k5 n6 =>
  (a0, (0, 18, 0)) ∈ L4 ∧ cd_put P3 a0 0 (some a1) fun P7 =>
  (a0, (0, 18, 0)) ∈ L4 ∧ cq_put M2 (dc a0) 1 0 fun M8 =>
  Q M8 P7 L4 0 none 0 k5 n6
set_option maxRecDepth 100000 in
theorem jA_init_0_v {l : Launch} {g : cx_G} {X : cx_X} {N : Nat} {bc bs : Nat} {Q : cd_Qt} {a0 : Nat} (H : dH g) (hX : X.2.2.2.2.2.2.1.name = "<init>") (M : cx_M) (P : dP) (L : dL) (k n : Nat) (x1 : Int32) (hk : k ≤ bc ∧ n ≤ bs) (h : jA_init_0 N bc bs Q a0 M P L k n x1) : cq_V l (dG g L P) X (esJ7_init bc bs) cJ7_init 0 [(0, .ref a0), (1, .int x1)] [] M k n (cd_fin g X (esJ7_init bc bs) cd_rV Q) := by
  unfold jA_init_0 at h
  refine cq_aload_n 0 dJ7_init_0 rfl ?_
  refine cd_oinit q251 q176 q177 dJ7_init_1 (cx_le rfl) (cx_le rfl) ?_
  refine cq_gets (fun U k => (H.2.1 U k).1) q252 dJ7_init_4 ?_
  refine cq_if_eq 25 (A := False) (B := _) (by rw [if_neg (by decide)]; exact h) dJ7_init_7 rfl (fun h => by cases h) (fun h => ?_)
  refine cq_aload_n 0 dJ7_init_10 rfl ?_
  refine cq_iload_n 1 dJ7_init_11 rfl ?_
  refine cd_newI (atype := .byte) (ty := .byte) H.1 h ⟨rfl, rfl⟩ q274 rfl rfl (fun _ _ => rfl) (by decide) dJ7_init_12 (fun a1 M2 P3 L4 k5 n6 h hk => ?_)
  refine cq_nd H.1 (fun hn => cd_putR (v := (some a1)) H.1 hn h.1 h.2 dCl_J8 (cx_lt rfl) rfl rfl rfl cd_nfA rfl q261 dJ7_init_14 (fun P7 h => ?_))
  refine cq_aload_n 0 dJ7_init_17 rfl ?_
  refine cq_iconst 0 dJ7_init_18 cx_ic_0 ?_
  refine cq_nd H.1 (fun hn => cq_putI h.2 (dG_FI H.1 hn h.1 dCl_J8 (cx_lt rfl) rfl rfl rfl) (by decide +kernel) (by decide +kernel) rfl q262 dJ7_init_19 (fun M8 h => ?_))
  refine cq_goto 38 dJ7_init_22 rfl ?_
  exact cd_vret hk h rfl dJ7_init_38
def jA_init (N : Nat) (bc bs : Nat) (M : cx_M) (P : dP) (L : dL) (a0 : Nat) (x1 : Int32) (Q : cd_Qt) : Prop := jA_init_0 N bc bs Q a0 M P L 0 0 x1
set_option maxRecDepth 100000 in
theorem jA_init_m {l : Launch} {g : cx_G} {N : Nat} {bc bs : Nat} {Q : cd_Qt} (H : dH g) (M : cx_M) (P : dP) (L : dL) (a0 : Nat) (x1 : Int32) (h : jA_init N bc bs M P L a0 x1 Q) : cd_Met l g yJ7_init cJ7_init (esJ7_init bc bs) cd_rV [.ref a0, .int x1] M P L Q :=
  cd_met (by decide +kernel) rfl rfl (lv := [(0, .ref a0), (1, .int x1)]) rfl (cx_le rfl) (fun X hX => cq_sub (lv' := [(0, .ref a0), (1, .int x1)]) [0, 1] rfl (jA_init_0_v H hX M P L 0 0 x1 ⟨Nat.zero_le _, Nat.zero_le _⟩ h))

abbrev esJ7_isLatin1 (bc bs : Nat) : cx_S := (1, RJ7, cx_rI, { frames := 0, cells := bc, slots := bs, locals := 0 }, some .boolean, false)
def jA_isLatin1_0 (N : Nat) (bc bs : Nat) (Q : cd_Qt) (a0 : Nat) (M : cx_M) (P : dP) (L : dL) (k n : Nat) : Prop :=
  (a0, (0, 18, 0)) ∈ L ∧ cq_get M (dc a0) 1 fun v1 =>
  if v1 = 0 then (
    Q M P L 1 none 0 k n)
  else (
    Q M P L 0 none 0 k n)
set_option maxRecDepth 100000 in
theorem jA_isLatin1_0_v {l : Launch} {g : cx_G} {X : cx_X} {N : Nat} {bc bs : Nat} {Q : cd_Qt} {a0 : Nat} (H : dH g) (hX : X.2.2.2.2.2.2.1.name = "isLatin1") (M : cx_M) (P : dP) (L : dL) (k n : Nat) (hk : k ≤ bc ∧ n ≤ bs) (h : jA_isLatin1_0 N bc bs Q a0 M P L k n) : cq_V l (dG g L P) X (esJ7_isLatin1 bc bs) cJ7_isLatin1 0 [(0, .ref a0)] [] M k n (cd_fin g X (esJ7_isLatin1 bc bs) cd_rI Q) := by
  unfold jA_isLatin1_0 at h
  refine cq_gets (fun U k => (H.2.1 U k).1) q252 dJ7_isLatin1_0 ?_
  refine cq_if_eq 17 (A := False) (B := _) (by rw [if_neg (by decide)]; exact h) dJ7_isLatin1_3 rfl (fun h => by cases h) (fun h => ?_)
  refine cq_aload_n 0 dJ7_isLatin1_6 rfl ?_
  refine cq_nd H.1 (fun hn => cq_getI h.2 (dG_FI H.1 hn h.1 dCl_J8 (cx_lt rfl) rfl rfl rfl) q262 dJ7_isLatin1_7 (fun v1 h => ?_))
  refine cq_if_ne 17 h dJ7_isLatin1_10 rfl (fun h => ?_) (fun h => ?_)
  · refine cq_iconst 0 dJ7_isLatin1_17 cx_ic_0 ?_
    exact cd_zret hk h cx_z_0 rfl dJ7_isLatin1_18
  · refine cq_iconst 1 dJ7_isLatin1_13 cx_ic_1 ?_
    refine cq_goto 18 dJ7_isLatin1_14 rfl ?_
    exact cd_zret hk h cx_z_1 rfl dJ7_isLatin1_18
def jA_isLatin1 (N : Nat) (bc bs : Nat) (M : cx_M) (P : dP) (L : dL) (a0 : Nat) (Q : cd_Qt) : Prop := jA_isLatin1_0 N bc bs Q a0 M P L 0 0
set_option maxRecDepth 100000 in
theorem jA_isLatin1_m {l : Launch} {g : cx_G} {N : Nat} {bc bs : Nat} {Q : cd_Qt} (H : dH g) (M : cx_M) (P : dP) (L : dL) (a0 : Nat) (h : jA_isLatin1 N bc bs M P L a0 Q) : cd_Met l g yJ7_isLatin1 cJ7_isLatin1 (esJ7_isLatin1 bc bs) cd_rI [.ref a0] M P L Q :=
  cd_met (by decide +kernel) rfl rfl (lv := [(0, .ref a0)]) rfl (cx_le rfl) (fun X hX => cq_sub (lv' := [(0, .ref a0)]) [0] rfl (jA_isLatin1_0_v H hX M P L 0 0 ⟨Nat.zero_le _, Nat.zero_le _⟩ h))

abbrev esJ7_getValue (bc bs : Nat) : cx_S := (1, RJ7, cx_rI, { frames := 0, cells := bc, slots := bs, locals := 0 }, some (.array .byte), false)
def jA_getValue_0 (N : Nat) (bc bs : Nat) (Q : cd_Qt) (a0 : Nat) (M : cx_M) (P : dP) (L : dL) (k n : Nat) : Prop :=
  (a0, (0, 18, 0)) ∈ L ∧ cd_let (P a0 0) fun r1 =>
  Q M P L 0 r1 0 k n
set_option maxRecDepth 100000 in
theorem jA_getValue_0_v {l : Launch} {g : cx_G} {X : cx_X} {N : Nat} {bc bs : Nat} {Q : cd_Qt} {a0 : Nat} (H : dH g) (hX : X.2.2.2.2.2.2.1.name = "getValue") (M : cx_M) (P : dP) (L : dL) (k n : Nat) (hk : k ≤ bc ∧ n ≤ bs) (h : jA_getValue_0 N bc bs Q a0 M P L k n) : cq_V l (dG g L P) X (esJ7_getValue bc bs) cJ7_getValue 0 [(0, .ref a0)] [] M k n (cd_fin g X (esJ7_getValue bc bs) cd_rA Q) := by
  unfold jA_getValue_0 at h
  refine cq_aload_n 0 dJ7_getValue_0 rfl ?_
  refine cq_getR (dG_FR (k := 0) H.1 h.1 dCl_J8 (cx_lt rfl) rfl rfl) q261 dJ7_getValue_1 ?_
  refine cd_letI h.2 (fun r1 h => ?_)
  exact cd_aret (v := r1) hk h rfl (Or.inr ⟨_, rfl⟩) dJ7_getValue_4
def jA_getValue (N : Nat) (bc bs : Nat) (M : cx_M) (P : dP) (L : dL) (a0 : Nat) (Q : cd_Qt) : Prop := jA_getValue_0 N bc bs Q a0 M P L 0 0
set_option maxRecDepth 100000 in
theorem jA_getValue_m {l : Launch} {g : cx_G} {N : Nat} {bc bs : Nat} {Q : cd_Qt} (H : dH g) (M : cx_M) (P : dP) (L : dL) (a0 : Nat) (h : jA_getValue N bc bs M P L a0 Q) : cd_Met l g yJ7_getValue cJ7_getValue (esJ7_getValue bc bs) cd_rA [.ref a0] M P L Q :=
  cd_met (by decide +kernel) rfl rfl (lv := [(0, .ref a0)]) rfl (cx_le rfl) (fun X hX => cq_sub (lv' := [(0, .ref a0)]) [0] rfl (jA_getValue_0_v H hX M P L 0 0 ⟨Nat.zero_le _, Nat.zero_le _⟩ h))

abbrev esJ7_length (bc bs : Nat) : cx_S := (1, RJ7, cx_rI, { frames := 0, cells := bc, slots := bs, locals := 0 }, some .int, false)
def jA_length_0 (N : Nat) (bc bs : Nat) (Q : cd_Qt) (a0 : Nat) (M : cx_M) (P : dP) (L : dL) (k n : Nat) : Prop :=
  (a0, (0, 18, 0)) ∈ L ∧ cq_get M (dc a0) 3 fun v1 =>
  Q M P L v1 none 0 k n
set_option maxRecDepth 100000 in
theorem jA_length_0_v {l : Launch} {g : cx_G} {X : cx_X} {N : Nat} {bc bs : Nat} {Q : cd_Qt} {a0 : Nat} (H : dH g) (hX : X.2.2.2.2.2.2.1.name = "length") (M : cx_M) (P : dP) (L : dL) (k n : Nat) (hk : k ≤ bc ∧ n ≤ bs) (h : jA_length_0 N bc bs Q a0 M P L k n) : cq_V l (dG g L P) X (esJ7_length bc bs) cJ7_length 0 [(0, .ref a0)] [] M k n (cd_fin g X (esJ7_length bc bs) cd_rI Q) := by
  unfold jA_length_0 at h
  refine cq_aload_n 0 dJ7_length_0 rfl ?_
  refine cq_nd H.1 (fun hn => cq_getI h.2 (dG_FI H.1 hn h.1 dCl_J8 (cx_lt rfl) rfl rfl rfl) q264 dJ7_length_1 (fun v1 h => ?_))
  exact cd_iret hk h rfl dJ7_length_4
def jA_length (N : Nat) (bc bs : Nat) (M : cx_M) (P : dP) (L : dL) (a0 : Nat) (Q : cd_Qt) : Prop := jA_length_0 N bc bs Q a0 M P L 0 0
set_option maxRecDepth 100000 in
theorem jA_length_m {l : Launch} {g : cx_G} {N : Nat} {bc bs : Nat} {Q : cd_Qt} (H : dH g) (M : cx_M) (P : dP) (L : dL) (a0 : Nat) (h : jA_length N bc bs M P L a0 Q) : cd_Met l g yJ7_length cJ7_length (esJ7_length bc bs) cd_rI [.ref a0] M P L Q :=
  cd_met (by decide +kernel) rfl rfl (lv := [(0, .ref a0)]) rfl (cx_le rfl) (fun X hX => cq_sub (lv' := [(0, .ref a0)]) [0] rfl (jA_length_0_v H hX M P L 0 0 ⟨Nat.zero_le _, Nat.zero_le _⟩ h))

abbrev esJ8_init_2 (bc bs : Nat) : cx_S := (2, RJ8, cx_rI, { frames := 2, cells := bc, slots := bs, locals := 41 }, none, false)
def jB_init_2_0 (N : Nat) (bc bs : Nat) (Q : cd_Qt) (a0 : Nat) (M : cx_M) (P : dP) (L : dL) (k n : Nat) (x1 : Int32) : Prop :=
  jA_init N (bc - k) (bs - n) M P L a0 x1 (fun M1 P2 L3 v4 r5 e9 k6 n7 => e9 = 0 → cd_add k k6 n n7 fun k8 n9 =>
  Q M1 P2 L3 0 none 0 k8 n9)
set_option maxRecDepth 100000 in
theorem jB_init_2_0_v {l : Launch} {g : cx_G} {X : cx_X} {N : Nat} {bc bs : Nat} {Q : cd_Qt} {a0 : Nat} (H : dH g) (hX : X.2.2.2.2.2.2.1.name = "<init>") (M : cx_M) (P : dP) (L : dL) (k n : Nat) (x1 : Int32) (hk : k ≤ bc ∧ n ≤ bs) (h : jB_init_2_0 N bc bs Q a0 M P L k n x1) : cq_V l (dG g L P) X (esJ8_init_2 bc bs) cJ8_init_2 0 [(0, .ref a0), (1, .int x1)] [] M k n (cd_fin g X (esJ8_init_2 bc bs) cd_rV Q) := by
  unfold jB_init_2_0 at h
  refine cq_aload_n 0 dJ8_init_2_0 rfl ?_
  refine cq_iload_n 1 dJ8_init_2_1 rfl ?_
  refine cd_cI [.int x1] [] (jA_init_m H (N := N) (bc := bc - k) (bs := bs - n) M P L a0 x1 h) dJ8_init_2_2 gd_J8_1 rfl q125 q248 q249 rfl hgd_J8_1 ⟨cx_le rfl, cx_le rfl⟩ (cd_bud hk) rfl (cx_le rfl) (fun M1 P2 L3 v4 r5 k6 n7 hk2 h => ?_)
  refine cd_addI (h rfl) (cd_bk hk hk2) (fun k8 n9 h hk => ?_)
  exact cd_vret hk h rfl dJ8_init_2_5
def jB_init_2 (N : Nat) (bc bs : Nat) (M : cx_M) (P : dP) (L : dL) (a0 : Nat) (x1 : Int32) (Q : cd_Qt) : Prop := jB_init_2_0 N bc bs Q a0 M P L 0 0 x1
set_option maxRecDepth 100000 in
theorem jB_init_2_m {l : Launch} {g : cx_G} {N : Nat} {bc bs : Nat} {Q : cd_Qt} (H : dH g) (M : cx_M) (P : dP) (L : dL) (a0 : Nat) (x1 : Int32) (h : jB_init_2 N bc bs M P L a0 x1 Q) : cd_Met l g yJ8_init_2 cJ8_init_2 (esJ8_init_2 bc bs) cd_rV [.ref a0, .int x1] M P L Q :=
  cd_met (by decide +kernel) rfl rfl (lv := [(0, .ref a0), (1, .int x1)]) rfl (cx_le rfl) (fun X hX => cq_sub (lv' := [(0, .ref a0), (1, .int x1)]) [0, 1] rfl (jB_init_2_0_v H hX M P L 0 0 x1 ⟨Nat.zero_le _, Nat.zero_le _⟩ h))

abbrev esJ8_length (bc bs : Nat) : cx_S := (1, RJ8, cx_rI, { frames := 1, cells := bc, slots := bs, locals := 20 }, some .int, false)
def jB_length_0 (N : Nat) (bc bs : Nat) (Q : cd_Qt) (a0 : Nat) (M : cx_M) (P : dP) (L : dL) (k n : Nat) : Prop :=
  (a0, (0, 18, 0)) ∈ L ∧
  jA_length N (bc - k) (bs - n) M P L a0 (fun M1 P2 L3 v4 r5 e9 k6 n7 => e9 = 0 → cd_add k k6 n n7 fun k8 n9 =>
  Q M1 P2 L3 v4 none 0 k8 n9)
set_option maxRecDepth 100000 in
theorem jB_length_0_v {l : Launch} {g : cx_G} {X : cx_X} {N : Nat} {bc bs : Nat} {Q : cd_Qt} {a0 : Nat} (H : dH g) (hX : X.2.2.2.2.2.2.1.name = "length") (M : cx_M) (P : dP) (L : dL) (k n : Nat) (hk : k ≤ bc ∧ n ≤ bs) (h : jB_length_0 N bc bs Q a0 M P L k n) : cq_V l (dG g L P) X (esJ8_length bc bs) cJ8_length 0 [(0, .ref a0)] [] M k n (cd_fin g X (esJ8_length bc bs) cd_rI Q) := by
  unfold jB_length_0 at h
  refine cq_aload_n 0 dJ8_length_0 rfl ?_
  obtain ⟨hmr, h⟩ := h
  refine cd_cSU [] [] (jA_length_m H (N := N) (bc := bc - k) (bs := bs - n) M P L a0 h) (dG_Rc H.1 hmr dCl_J8) dCl_J8 dJ8_length_1 gd_J8_343 hgd_J8_343 ⟨cx_le rfl, cx_le rfl⟩ (cd_bud hk) rfl (cx_le rfl) (fun M1 P2 L3 v4 r5 k6 n7 hk2 h => ?_)
  refine cd_addI (h rfl) (cd_bk hk hk2) (fun k8 n9 h hk => ?_)
  exact cd_iret hk h rfl dJ8_length_4
def jB_length (N : Nat) (bc bs : Nat) (M : cx_M) (P : dP) (L : dL) (a0 : Nat) (Q : cd_Qt) : Prop := jB_length_0 N bc bs Q a0 M P L 0 0
set_option maxRecDepth 100000 in
theorem jB_length_m {l : Launch} {g : cx_G} {N : Nat} {bc bs : Nat} {Q : cd_Qt} (H : dH g) (M : cx_M) (P : dP) (L : dL) (a0 : Nat) (h : jB_length N bc bs M P L a0 Q) : cd_Met l g yJ8_length cJ8_length (esJ8_length bc bs) cd_rI [.ref a0] M P L Q :=
  cd_met (by decide +kernel) rfl rfl (lv := [(0, .ref a0)]) rfl (cx_le rfl) (fun X hX => cq_sub (lv' := [(0, .ref a0)]) [0] rfl (jB_length_0_v H hX M P L 0 0 ⟨Nat.zero_le _, Nat.zero_le _⟩ h))

abbrev esJ7_newCapacity (bc bs : Nat) : cx_S := (6, RJ7, cx_rI, { frames := 2, cells := bc, slots := bs, locals := 37 }, some .int, false)
def jA_newCapacity_0 (N : Nat) (bc bs : Nat) (Q : cd_Qt) (a0 : Nat) (M : cx_M) (P : dP) (L : dL) (k n : Nat) (x1 : Int32) : Prop :=
  (a0, (0, 18, 0)) ∈ L ∧ cd_let (P a0 0) fun r1 =>
  cd_nn r1 fun a2 =>
  ∃ z3, (a2, (1, 2, z3)) ∈ L ∧
  cq_let (nI z3) fun v4 =>
  (a0, (0, 18, 0)) ∈ L ∧ cq_get M (dc a0) 1 fun v5 =>
  cq_let (x1 <<< (v5 &&& 31)) fun v6 =>
  cq_let (v6 - v4) fun v7 =>
  (a0, (0, 18, 0)) ∈ L ∧ cq_get M (dc a0) 1 fun v8 =>
  jX_newLength N (bc - k) (bs - n) M P L v4 v7 (v4 + ((2 : Int32) <<< (v8 &&& 31))) (fun M9 P10 L11 v12 r13 e9 k14 n15 => e9 = 0 → cd_add k k14 n n15 fun k16 n17 =>
  if v12 = 2147483647 then (
    False)
  else (
    (a0, (0, 18, 0)) ∈ L11 ∧ cq_get M9 (dc a0) 1 fun v18 =>
    Q M9 P10 L11 (v12 >>> (v18 &&& 31)) none 0 k16 n17))
set_option maxRecDepth 100000 in
theorem jA_newCapacity_0_v {l : Launch} {g : cx_G} {X : cx_X} {N : Nat} {bc bs : Nat} {Q : cd_Qt} {a0 : Nat} (H : dH g) (hX : X.2.2.2.2.2.2.1.name = "newCapacity") (M : cx_M) (P : dP) (L : dL) (k n : Nat) (x1 : Int32) (hk : k ≤ bc ∧ n ≤ bs) (h : jA_newCapacity_0 N bc bs Q a0 M P L k n x1) : cq_V l (dG g L P) X (esJ7_newCapacity bc bs) cJ7_newCapacity 0 [(0, .ref a0), (1, .int x1)] [] M k n (cd_fin g X (esJ7_newCapacity bc bs) cd_rI Q) := by
  unfold jA_newCapacity_0 at h
  refine cq_aload_n 0 dJ7_newCapacity_0 rfl ?_
  refine cq_getR (dG_FR (k := 0) H.1 h.1 dCl_J8 (cx_lt rfl) rfl rfl) q261 dJ7_newCapacity_1 ?_
  refine cd_letI h.2 (fun r1 h => ?_)
  obtain ⟨a2, e9, h⟩ := cd_nn_some h
  subst e9
  obtain ⟨z3, hm, h⟩ := h
  refine cq_nd H.1 (fun hn => cq_alen (nI z3) (dG_AI H.1 hn hm rfl) rfl dJ7_newCapacity_4 ?_)
  refine cq_letI h (fun v4 h => ?_)
  refine cq_istore_n [(2, .int v4), (0, .ref a0), (1, .int x1)] dJ7_newCapacity_5 (cx_lt rfl) rfl ?_
  refine cq_iload_n 2 dJ7_newCapacity_6 rfl ?_
  refine cq_aload_n 1 dJ7_newCapacity_7 rfl ?_
  refine cq_nd H.1 (fun hn => cq_getI h.2 (dG_FI H.1 hn h.1 dCl_J8 (cx_lt rfl) rfl rfl rfl) q262 dJ7_newCapacity_8 (fun v5 h => ?_))
  refine cq_ishl dJ7_newCapacity_11 ?_
  refine cq_letI h (fun v6 h => ?_)
  refine cq_istore_n [(3, .int v6), (2, .int v4), (0, .ref a0), (1, .int x1)] dJ7_newCapacity_12 (cx_lt rfl) rfl ?_
  refine cq_iload_n 0 dJ7_newCapacity_13 rfl ?_
  refine cq_iload_n 1 dJ7_newCapacity_14 rfl ?_
  refine cq_isub dJ7_newCapacity_15 ?_
  refine cq_letI h (fun v7 h => ?_)
  refine cq_istore [(4, .int v7), (3, .int v6), (2, .int v4), (0, .ref a0), (1, .int x1)] dJ7_newCapacity_16 (cx_lt rfl) rfl ?_
  refine cq_iload_n 2 dJ7_newCapacity_18 rfl ?_
  refine cq_iload 0 dJ7_newCapacity_19 rfl ?_
  refine cq_iload_n 2 dJ7_newCapacity_21 rfl ?_
  refine cq_iconst 2 dJ7_newCapacity_22 cx_ic_2 ?_
  refine cq_aload_n 3 dJ7_newCapacity_23 rfl ?_
  refine cq_nd H.1 (fun hn => cq_getI h.2 (dG_FI H.1 hn h.1 dCl_J8 (cx_lt rfl) rfl rfl rfl) q262 dJ7_newCapacity_24 (fun v8 h => ?_))
  refine cq_ishl dJ7_newCapacity_27 ?_
  refine cq_iadd dJ7_newCapacity_28 ?_
  refine cd_cS [.int v4, .int v7, .int (v4 + ((2 : Int32) <<< (v8 &&& 31)))] [] (jX_newLength_m H (N := N) (bc := bc - k) (bs := bs - n) M P L v4 v7 (v4 + ((2 : Int32) <<< (v8 &&& 31))) h) dJ7_newCapacity_29 gd_J7_114 hgd_J7_114 ⟨cx_le rfl, cx_le rfl⟩ (cd_bud hk) rfl (cx_le rfl) (fun M9 P10 L11 v12 r13 k14 n15 hk2 h => ?_)
  refine cd_addI (h rfl) (cd_bk hk hk2) (fun k16 n17 h hk => ?_)
  refine cq_istore [(5, .int v12), (4, .int v7), (3, .int v6), (2, .int v4), (0, .ref a0), (1, .int x1)] dJ7_newCapacity_32 (cx_lt rfl) rfl ?_
  refine cq_iload 0 dJ7_newCapacity_34 rfl ?_
  refine cq_ldc 2147483647 dJ7_newCapacity_36 q305 ?_
  refine cq_icmp_ne 51 h dJ7_newCapacity_38 rfl (fun h => ?_) (fun h => ?_)
  · refine cq_iload 0 dJ7_newCapacity_51 rfl ?_
    refine cq_aload_n 4 dJ7_newCapacity_53 rfl ?_
    refine cq_nd H.1 (fun hn => cq_getI h.2 (dG_FI H.1 hn h.1 dCl_J8 (cx_lt rfl) rfl rfl rfl) q262 dJ7_newCapacity_54 (fun v18 h => ?_))
    refine cq_ishr dJ7_newCapacity_57 ?_
    exact cd_iret hk h rfl dJ7_newCapacity_58
  · cases h
def jA_newCapacity (N : Nat) (bc bs : Nat) (M : cx_M) (P : dP) (L : dL) (a0 : Nat) (x1 : Int32) (Q : cd_Qt) : Prop := jA_newCapacity_0 N bc bs Q a0 M P L 0 0 x1
set_option maxRecDepth 100000 in
theorem jA_newCapacity_m {l : Launch} {g : cx_G} {N : Nat} {bc bs : Nat} {Q : cd_Qt} (H : dH g) (M : cx_M) (P : dP) (L : dL) (a0 : Nat) (x1 : Int32) (h : jA_newCapacity N bc bs M P L a0 x1 Q) : cd_Met l g yJ7_newCapacity cJ7_newCapacity (esJ7_newCapacity bc bs) cd_rI [.ref a0, .int x1] M P L Q :=
  cd_met (by decide +kernel) rfl rfl (lv := [(0, .ref a0), (1, .int x1)]) rfl (cx_le rfl) (fun X hX => cq_sub (lv' := [(0, .ref a0), (1, .int x1)]) [0, 1] rfl (jA_newCapacity_0_v H hX M P L 0 0 x1 ⟨Nat.zero_le _, Nat.zero_le _⟩ h))

abbrev esJ13_copyOf (bc bs : Nat) : cx_S := (3, RJ13, cx_rI, { frames := 1, cells := bc, slots := bs, locals := 40 }, some (.array .byte), false)
def jR_copyOf_0 (N : Nat) (bc bs : Nat) (Q : cd_Qt) (M : cx_M) (P : dP) (L : dL) (k n : Nat) (x0 : Option Nat) (x1 : Int32) : Prop :=
  cd_nn x0 fun a1 =>
  ∃ z2, (a1, (1, 2, z2)) ∈ L ∧
  if x1 = (nI z2) then (
    ∃ z13, (a1, (1, 2, z13)) ∈ L ∧ cd_cloB bc bs k n z13 a1 (1, 2, z13) M P L fun a14 M15 P16 L17 k18 n19 =>
    ∃ z20, (a14, (1, 2, z20)) ∈ L17 ∧
    Q M15 P16 L17 0 (some a14) 0 k18 n19)
  else (
    cd_newa bc bs k n x1 (fun z => (1, 2, z)) M P L fun a3 M4 P5 L6 k7 n8 =>
    ∃ z9, (a1, (1, 2, z9)) ∈ L6 ∧
    ∃ z10 z11, (a1, (1, 2, z10)) ∈ L6 ∧ (a3, (1, 2, z11)) ∈ L6 ∧ cd_cpyB M4 (dc a1) z10 (dc a3) z11 0 0 (cx_min (nI z9) x1) fun M12 =>
    Q M12 P5 L6 0 (some a3) 0 k7 n8)
set_option maxRecDepth 100000 in
theorem jR_copyOf_0_v {l : Launch} {g : cx_G} {X : cx_X} {N : Nat} {bc bs : Nat} {Q : cd_Qt} (H : dH g) (hX : X.2.2.2.2.2.2.1.name = "copyOf") (M : cx_M) (P : dP) (L : dL) (k n : Nat) (x0 : Option Nat) (x1 : Int32) (hk : k ≤ bc ∧ n ≤ bs) (h : jR_copyOf_0 N bc bs Q M P L k n x0 x1) : cq_V l (dG g L P) X (esJ13_copyOf bc bs) cJ13_copyOf 0 [(0, va_rf x0), (1, .int x1)] [] M k n (cd_fin g X (esJ13_copyOf bc bs) cd_rA Q) := by
  unfold jR_copyOf_0 at h
  refine cq_iload_n 1 dJ13_copyOf_0 rfl ?_
  refine cd_aload_n (v := x0) 0 dJ13_copyOf_1 rfl ?_
  obtain ⟨a1, e9, h⟩ := cd_nn_some h
  subst e9
  obtain ⟨z2, hm, h⟩ := h
  refine cq_nd H.1 (fun hn => cq_alen (nI z2) (dG_AI H.1 hn hm rfl) rfl dJ13_copyOf_2 ?_)
  refine cq_icmp_ne 14 h dJ13_copyOf_3 rfl (fun h => ?_) (fun h => ?_)
  · refine cq_iload_n 1 dJ13_copyOf_14 rfl ?_
    refine cd_newI (atype := .byte) (ty := .byte) H.1 h ⟨rfl, rfl⟩ q274 rfl rfl (fun _ _ => rfl) (by decide) dJ13_copyOf_15 (fun a3 M4 P5 L6 k7 n8 h hk => ?_)
    refine cq_astore_n [(2, .ref a3), (0, .ref a1), (1, .int x1)] dJ13_copyOf_17 (cx_lt rfl) rfl ?_
    refine cq_aload_n 1 dJ13_copyOf_18 rfl ?_
    refine cq_iconst 0 dJ13_copyOf_19 cx_ic_0 ?_
    refine cq_aload_n 0 dJ13_copyOf_20 rfl ?_
    refine cq_iconst 0 dJ13_copyOf_21 cx_ic_0 ?_
    refine cq_aload_n 1 dJ13_copyOf_22 rfl ?_
    obtain ⟨z9, hm, h⟩ := h
    refine cq_nd H.1 (fun hn => cq_alen (nI z9) (dG_AI H.1 hn hm rfl) rfl dJ13_copyOf_23 ?_)
    refine cq_iload_n 2 dJ13_copyOf_24 rfl ?_
    refine cq_mmin dJ13_copyOf_25 q316 (cx_le rfl) (cx_le rfl) hk.1 hk.2 ?_
    obtain ⟨z10, z11, hm0, hm1, h⟩ := h
    refine cq_nd H.1 (fun hn => cd_copyB H.1 hn hm0 hm1 h dJ13_copyOf_28 q319 (cx_le rfl) (cx_le rfl) (fun M12 h => ?_))
    refine cq_aload_n 0 dJ13_copyOf_31 rfl ?_
    exact cd_aret (v := (some a3)) hk h rfl (Or.inr ⟨_, rfl⟩) dJ13_copyOf_32
  · refine cq_aload_n 0 dJ13_copyOf_6 rfl ?_
    obtain ⟨z13, hm, h⟩ := h
    refine cq_nd H.1 (fun hn => cd_cloneB H.1 hn hm h ⟨rfl, rfl⟩ q309 cqB_same cqB_nat q312 q313 cqB_cl (cx_le rfl) (cx_le rfl) dJ13_copyOf_7 (fun a14 M15 P16 L17 k18 n19 h hk => ?_))
    obtain ⟨z20, hm, h⟩ := h
    refine cq_nd H.1 (fun hn => cd_castAB H.1 hn hm q315 dJ13_copyOf_10 ?_)
    exact cd_aret (v := (some a14)) hk h rfl (Or.inr ⟨_, rfl⟩) dJ13_copyOf_13
def jR_copyOf (N : Nat) (bc bs : Nat) (M : cx_M) (P : dP) (L : dL) (x0 : Option Nat) (x1 : Int32) (Q : cd_Qt) : Prop := jR_copyOf_0 N bc bs Q M P L 0 0 x0 x1
set_option maxRecDepth 100000 in
theorem jR_copyOf_m {l : Launch} {g : cx_G} {N : Nat} {bc bs : Nat} {Q : cd_Qt} (H : dH g) (M : cx_M) (P : dP) (L : dL) (x0 : Option Nat) (x1 : Int32) (h : jR_copyOf N bc bs M P L x0 x1 Q) : cd_Met l g yJ13_copyOf cJ13_copyOf (esJ13_copyOf bc bs) cd_rA [va_rf x0, .int x1] M P L Q :=
  cd_met (by decide +kernel) rfl rfl (lv := [(0, va_rf x0), (1, .int x1)]) (by cases x0 <;> rfl) (by cases x0 <;> exact cx_le rfl) (fun X hX => cq_sub (lv' := [(0, va_rf x0), (1, .int x1)]) [0, 1] rfl (jR_copyOf_0_v H hX M P L 0 0 x0 x1 ⟨Nat.zero_le _, Nat.zero_le _⟩ h))

abbrev esJ13_checkLength (bc bs : Nat) : cx_S := (2, RJ13, cx_rI, { frames := 0, cells := bc, slots := bs, locals := 0 }, none, false)
def jR_checkLength_0 (N : Nat) (bc bs : Nat) (Q : cd_Qt) (M : cx_M) (P : dP) (L : dL) (k n : Nat) (x0 : Int32) (x1 : Int32) : Prop :=
  if x0 ≤ x1 then (
    Q M P L 0 none 0 k n)
  else (
    False)
set_option maxRecDepth 100000 in
theorem jR_checkLength_0_v {l : Launch} {g : cx_G} {X : cx_X} {N : Nat} {bc bs : Nat} {Q : cd_Qt} (H : dH g) (hX : X.2.2.2.2.2.2.1.name = "checkLength") (M : cx_M) (P : dP) (L : dL) (k n : Nat) (x0 : Int32) (x1 : Int32) (hk : k ≤ bc ∧ n ≤ bs) (h : jR_checkLength_0 N bc bs Q M P L k n x0 x1) : cq_V l (dG g L P) X (esJ13_checkLength bc bs) cJ13_checkLength 0 [(0, .int x0), (1, .int x1)] [] M k n (cd_fin g X (esJ13_checkLength bc bs) cd_rV Q) := by
  unfold jR_checkLength_0 at h
  refine cq_iload_n 1 dJ13_checkLength_0 rfl ?_
  refine cq_iload_n 0 dJ13_checkLength_1 rfl ?_
  refine cq_icmp_ge 37 h dJ13_checkLength_2 rfl (fun h => ?_) (fun h => ?_)
  · exact cd_vret hk h rfl dJ13_checkLength_37
  · cases h
def jR_checkLength (N : Nat) (bc bs : Nat) (M : cx_M) (P : dP) (L : dL) (x0 : Int32) (x1 : Int32) (Q : cd_Qt) : Prop := jR_checkLength_0 N bc bs Q M P L 0 0 x0 x1
set_option maxRecDepth 100000 in
theorem jR_checkLength_m {l : Launch} {g : cx_G} {N : Nat} {bc bs : Nat} {Q : cd_Qt} (H : dH g) (M : cx_M) (P : dP) (L : dL) (x0 : Int32) (x1 : Int32) (h : jR_checkLength N bc bs M P L x0 x1 Q) : cd_Met l g yJ13_checkLength cJ13_checkLength (esJ13_checkLength bc bs) cd_rV [.int x0, .int x1] M P L Q :=
  cd_met (by decide +kernel) rfl rfl (lv := [(0, .int x0), (1, .int x1)]) rfl (cx_le rfl) (fun X hX => cq_sub (lv' := [(0, .int x0), (1, .int x1)]) [0, 1] rfl (jR_checkLength_0_v H hX M P L 0 0 x0 x1 ⟨Nat.zero_le _, Nat.zero_le _⟩ h))

abbrev esJ13_copyOfRangeByte (bc bs : Nat) : cx_S := (5, RJ13, cx_rI, { frames := 1, cells := bc, slots := bs, locals := 40 }, some (.array .byte), false)
def jR_copyOfRangeByte_0 (N : Nat) (bc bs : Nat) (Q : cd_Qt) (M : cx_M) (P : dP) (L : dL) (k n : Nat) (x0 : Option Nat) (x1 : Int32) (x2 : Int32) : Prop :=
  jR_checkLength N (bc - k) (bs - n) M P L x1 x2 (fun M1 P2 L3 v4 r5 e9 k6 n7 => e9 = 0 → cd_add k k6 n n7 fun k8 n9 =>
  cq_let (x2 - x1) fun v10 =>
  cd_newa bc bs k8 n9 v10 (fun z => (1, 2, z)) M1 P2 L3 fun a11 M12 P13 L14 k15 n16 =>
  cd_nn x0 fun a17 =>
  ∃ z18, (a17, (1, 2, z18)) ∈ L14 ∧
  ∃ z19 z20, (a17, (1, 2, z19)) ∈ L14 ∧ (a11, (1, 2, z20)) ∈ L14 ∧ cd_cpyB M12 (dc a17) z19 (dc a11) z20 x1 0 (cx_min ((nI z18) - x1) v10) fun M21 =>
  Q M21 P13 L14 0 (some a11) 0 k15 n16)
set_option maxRecDepth 100000 in
theorem jR_copyOfRangeByte_0_v {l : Launch} {g : cx_G} {X : cx_X} {N : Nat} {bc bs : Nat} {Q : cd_Qt} (H : dH g) (hX : X.2.2.2.2.2.2.1.name = "copyOfRangeByte") (M : cx_M) (P : dP) (L : dL) (k n : Nat) (x0 : Option Nat) (x1 : Int32) (x2 : Int32) (hk : k ≤ bc ∧ n ≤ bs) (h : jR_copyOfRangeByte_0 N bc bs Q M P L k n x0 x1 x2) : cq_V l (dG g L P) X (esJ13_copyOfRangeByte bc bs) cJ13_copyOfRangeByte 0 [(0, va_rf x0), (1, .int x1), (2, .int x2)] [] M k n (cd_fin g X (esJ13_copyOfRangeByte bc bs) cd_rA Q) := by
  unfold jR_copyOfRangeByte_0 at h
  refine cq_iload_n 1 dJ13_copyOfRangeByte_0 rfl ?_
  refine cq_iload_n 2 dJ13_copyOfRangeByte_1 rfl ?_
  refine cd_cS [.int x1, .int x2] [] (jR_checkLength_m H (N := N) (bc := bc - k) (bs := bs - n) M P L x1 x2 h) dJ13_copyOfRangeByte_2 gd_J13_343 hgd_J13_343 ⟨cx_le rfl, cx_le rfl⟩ (cd_bud hk) rfl (cx_le rfl) (fun M1 P2 L3 v4 r5 k6 n7 hk2 h => ?_)
  refine cd_addI (h rfl) (cd_bk hk hk2) (fun k8 n9 h hk => ?_)
  refine cq_iload_n 2 dJ13_copyOfRangeByte_5 rfl ?_
  refine cq_iload_n 1 dJ13_copyOfRangeByte_6 rfl ?_
  refine cq_isub dJ13_copyOfRangeByte_7 ?_
  refine cq_letI h (fun v10 h => ?_)
  refine cq_istore_n [(3, .int v10), (0, va_rf x0), (1, .int x1), (2, .int x2)] dJ13_copyOfRangeByte_8 (cx_lt rfl) rfl ?_
  refine cq_iload_n 0 dJ13_copyOfRangeByte_9 rfl ?_
  refine cd_newI (atype := .byte) (ty := .byte) H.1 h ⟨rfl, rfl⟩ q274 rfl rfl (fun _ _ => rfl) (by decide) dJ13_copyOfRangeByte_10 (fun a11 M12 P13 L14 k15 n16 h hk => ?_)
  refine cq_astore [(4, .ref a11), (3, .int v10), (0, va_rf x0), (1, .int x1), (2, .int x2)] dJ13_copyOfRangeByte_12 (cx_lt rfl) rfl ?_
  refine cd_aload_n (v := x0) 2 dJ13_copyOfRangeByte_14 rfl ?_
  refine cq_iload_n 3 dJ13_copyOfRangeByte_15 rfl ?_
  refine cq_aload 0 dJ13_copyOfRangeByte_16 rfl ?_
  refine cq_iconst 0 dJ13_copyOfRangeByte_18 cx_ic_0 ?_
  refine cd_aload_n (v := x0) 2 dJ13_copyOfRangeByte_19 rfl ?_
  obtain ⟨a17, e9, h⟩ := cd_nn_some h
  subst e9
  obtain ⟨z18, hm, h⟩ := h
  refine cq_nd H.1 (fun hn => cq_alen (nI z18) (dG_AI H.1 hn hm rfl) rfl dJ13_copyOfRangeByte_20 ?_)
  refine cq_iload_n 3 dJ13_copyOfRangeByte_21 rfl ?_
  refine cq_isub dJ13_copyOfRangeByte_22 ?_
  refine cq_iload_n 1 dJ13_copyOfRangeByte_23 rfl ?_
  refine cq_mmin dJ13_copyOfRangeByte_24 q316 (cx_le rfl) (cx_le rfl) hk.1 hk.2 ?_
  obtain ⟨z19, z20, hm0, hm1, h⟩ := h
  refine cq_nd H.1 (fun hn => cd_copyB H.1 hn hm0 hm1 h dJ13_copyOfRangeByte_27 q319 (cx_le rfl) (cx_le rfl) (fun M21 h => ?_))
  refine cq_aload 0 dJ13_copyOfRangeByte_30 rfl ?_
  exact cd_aret (v := (some a11)) hk h rfl (Or.inr ⟨_, rfl⟩) dJ13_copyOfRangeByte_32
def jR_copyOfRangeByte (N : Nat) (bc bs : Nat) (M : cx_M) (P : dP) (L : dL) (x0 : Option Nat) (x1 : Int32) (x2 : Int32) (Q : cd_Qt) : Prop := jR_copyOfRangeByte_0 N bc bs Q M P L 0 0 x0 x1 x2
set_option maxRecDepth 100000 in
theorem jR_copyOfRangeByte_m {l : Launch} {g : cx_G} {N : Nat} {bc bs : Nat} {Q : cd_Qt} (H : dH g) (M : cx_M) (P : dP) (L : dL) (x0 : Option Nat) (x1 : Int32) (x2 : Int32) (h : jR_copyOfRangeByte N bc bs M P L x0 x1 x2 Q) : cd_Met l g yJ13_copyOfRangeByte cJ13_copyOfRangeByte (esJ13_copyOfRangeByte bc bs) cd_rA [va_rf x0, .int x1, .int x2] M P L Q :=
  cd_met (by decide +kernel) rfl rfl (lv := [(0, va_rf x0), (1, .int x1), (2, .int x2)]) (by cases x0 <;> rfl) (by cases x0 <;> exact cx_le rfl) (fun X hX => cq_sub (lv' := [(0, va_rf x0), (1, .int x1), (2, .int x2)]) [0, 1, 2] rfl (jR_copyOfRangeByte_0_v H hX M P L 0 0 x0 x1 x2 ⟨Nat.zero_le _, Nat.zero_le _⟩ h))

abbrev esJ13_copyOfRange (bc bs : Nat) : cx_S := (3, RJ13, cx_rI, { frames := 2, cells := bc, slots := bs, locals := 64 }, some (.array .byte), false)
def jR_copyOfRange_10 (N : Nat) (bc bs : Nat) (Q : cd_Qt) (M : cx_M) (P : dP) (L : dL) (k n : Nat) (x0 : Option Nat) (x1 : Int32) (x2 : Int32) : Prop :=
  jR_copyOfRangeByte N (bc - k) (bs - n) M P L x0 x1 x2 (fun M1 P2 L3 v4 r5 e9 k6 n7 => e9 = 0 → cd_add k k6 n n7 fun k8 n9 =>
  Q M1 P2 L3 0 r5 0 k8 n9)
set_option maxRecDepth 100000 in
theorem jR_copyOfRange_10_v {l : Launch} {g : cx_G} {X : cx_X} {N : Nat} {bc bs : Nat} {Q : cd_Qt} (H : dH g) (hX : X.2.2.2.2.2.2.1.name = "copyOfRange") (M : cx_M) (P : dP) (L : dL) (k n : Nat) (x0 : Option Nat) (x1 : Int32) (x2 : Int32) (hk : k ≤ bc ∧ n ≤ bs) (h : jR_copyOfRange_10 N bc bs Q M P L k n x0 x1 x2) : cq_V l (dG g L P) X (esJ13_copyOfRange bc bs) cJ13_copyOfRange 10 [(0, va_rf x0), (1, .int x1), (2, .int x2)] [] M k n (cd_fin g X (esJ13_copyOfRange bc bs) cd_rA Q) := by
  unfold jR_copyOfRange_10 at h
  refine cd_aload_n (v := x0) 0 dJ13_copyOfRange_10 rfl ?_
  refine cq_iload_n 1 dJ13_copyOfRange_11 rfl ?_
  refine cq_iload_n 2 dJ13_copyOfRange_12 rfl ?_
  refine cd_cS [va_rf x0, .int x1, .int x2] [] (jR_copyOfRangeByte_m H (N := N) (bc := bc - k) (bs := bs - n) M P L x0 x1 x2 h) dJ13_copyOfRange_13 gd_J13_339 hgd_J13_339 ⟨cx_le rfl, cx_le rfl⟩ (cd_bud hk) rfl (cx_le rfl) (fun M1 P2 L3 v4 r5 k6 n7 hk2 h => ?_)
  refine cd_addI (h rfl) (cd_bk hk hk2) (fun k8 n9 h hk => ?_)
  exact cd_aret (v := r5) hk h rfl (Or.inr ⟨_, rfl⟩) dJ13_copyOfRange_16
def jR_copyOfRange_0 (N : Nat) (bc bs : Nat) (Q : cd_Qt) (M : cx_M) (P : dP) (L : dL) (k n : Nat) (x0 : Option Nat) (x1 : Int32) (x2 : Int32) : Prop :=
  if x1 = 0 then (
    cd_nn x0 fun a1 =>
    ∃ z2, (a1, (1, 2, z2)) ∈ L ∧
    if x2 = (nI z2) then (
      ∃ z3, (a1, (1, 2, z3)) ∈ L ∧ cd_cloB bc bs k n z3 a1 (1, 2, z3) M P L fun a4 M5 P6 L7 k8 n9 =>
      ∃ z10, (a4, (1, 2, z10)) ∈ L7 ∧
      Q M5 P6 L7 0 (some a4) 0 k8 n9)
    else (
      jR_copyOfRange_10 N bc bs Q M P L k n ((some a1)) x1 x2))
  else (
    jR_copyOfRange_10 N bc bs Q M P L k n x0 x1 x2)
set_option maxRecDepth 100000 in
theorem jR_copyOfRange_0_v {l : Launch} {g : cx_G} {X : cx_X} {N : Nat} {bc bs : Nat} {Q : cd_Qt} (H : dH g) (hX : X.2.2.2.2.2.2.1.name = "copyOfRange") (M : cx_M) (P : dP) (L : dL) (k n : Nat) (x0 : Option Nat) (x1 : Int32) (x2 : Int32) (hk : k ≤ bc ∧ n ≤ bs) (h : jR_copyOfRange_0 N bc bs Q M P L k n x0 x1 x2) : cq_V l (dG g L P) X (esJ13_copyOfRange bc bs) cJ13_copyOfRange 0 [(0, va_rf x0), (1, .int x1), (2, .int x2)] [] M k n (cd_fin g X (esJ13_copyOfRange bc bs) cd_rA Q) := by
  unfold jR_copyOfRange_0 at h
  refine cq_iload_n 1 dJ13_copyOfRange_0 rfl ?_
  refine cq_if_ne 10 h dJ13_copyOfRange_1 rfl (fun h => ?_) (fun h => ?_)
  · exact jR_copyOfRange_10_v H hX M P L k n x0 x1 x2 hk h
  · refine cq_iload_n 2 dJ13_copyOfRange_4 rfl ?_
    refine cd_aload_n (v := x0) 0 dJ13_copyOfRange_5 rfl ?_
    obtain ⟨a1, e9, h⟩ := cd_nn_some h
    subst e9
    obtain ⟨z2, hm, h⟩ := h
    refine cq_nd H.1 (fun hn => cq_alen (nI z2) (dG_AI H.1 hn hm rfl) rfl dJ13_copyOfRange_6 ?_)
    refine cq_icmp_eq 17 h dJ13_copyOfRange_7 rfl (fun h => ?_) (fun h => ?_)
    · refine cq_aload_n 0 dJ13_copyOfRange_17 rfl ?_
      obtain ⟨z3, hm, h⟩ := h
      refine cq_nd H.1 (fun hn => cd_cloneB H.1 hn hm h ⟨rfl, rfl⟩ q309 cqB_same cqB_nat q312 q313 cqB_cl (cx_le rfl) (cx_le rfl) dJ13_copyOfRange_18 (fun a4 M5 P6 L7 k8 n9 h hk => ?_))
      obtain ⟨z10, hm, h⟩ := h
      refine cq_nd H.1 (fun hn => cd_castAB H.1 hn hm q315 dJ13_copyOfRange_21 ?_)
      exact cd_aret (v := (some a4)) hk h rfl (Or.inr ⟨_, rfl⟩) dJ13_copyOfRange_24
    · exact jR_copyOfRange_10_v H hX M P L k n ((some a1)) x1 x2 hk h
def jR_copyOfRange (N : Nat) (bc bs : Nat) (M : cx_M) (P : dP) (L : dL) (x0 : Option Nat) (x1 : Int32) (x2 : Int32) (Q : cd_Qt) : Prop := jR_copyOfRange_0 N bc bs Q M P L 0 0 x0 x1 x2
set_option maxRecDepth 100000 in
theorem jR_copyOfRange_m {l : Launch} {g : cx_G} {N : Nat} {bc bs : Nat} {Q : cd_Qt} (H : dH g) (M : cx_M) (P : dP) (L : dL) (x0 : Option Nat) (x1 : Int32) (x2 : Int32) (h : jR_copyOfRange N bc bs M P L x0 x1 x2 Q) : cd_Met l g yJ13_copyOfRange cJ13_copyOfRange (esJ13_copyOfRange bc bs) cd_rA [va_rf x0, .int x1, .int x2] M P L Q :=
  cd_met (by decide +kernel) rfl rfl (lv := [(0, va_rf x0), (1, .int x1), (2, .int x2)]) (by cases x0 <;> rfl) (by cases x0 <;> exact cx_le rfl) (fun X hX => cq_sub (lv' := [(0, va_rf x0), (1, .int x1), (2, .int x2)]) [0, 1, 2] rfl (jR_copyOfRange_0_v H hX M P L 0 0 x0 x1 x2 ⟨Nat.zero_le _, Nat.zero_le _⟩ h))

abbrev esJ7_ensureCapacityInternal (bc bs : Nat) : cx_S := (3, RJ7, cx_rI, { frames := 3, cells := bc, slots := bs, locals := 62 }, none, false)
def jA_ensureCapacityInternal_0 (N : Nat) (bc bs : Nat) (Q : cd_Qt) (a0 : Nat) (M : cx_M) (P : dP) (L : dL) (k n : Nat) (x1 : Int32) : Prop :=
  (a0, (0, 18, 0)) ∈ L ∧ cd_let (P a0 0) fun r1 =>
  cd_nn r1 fun a2 =>
  ∃ z3, (a2, (1, 2, z3)) ∈ L ∧
  (a0, (0, 18, 0)) ∈ L ∧ cq_get M (dc a0) 1 fun v4 =>
  cq_let ((nI z3) >>> (v4 &&& 31)) fun v5 =>
  if (x1 - v5) ≤ 0 then (
    Q M P L 0 none 0 k n)
  else (
    (a0, (0, 18, 0)) ∈ L ∧ cd_let (P a0 0) fun r6 =>
    (a0, (0, 18, 0)) ∈ L ∧
    jA_newCapacity N (bc - k) (bs - n) M P L a0 x1 (fun M7 P8 L9 v10 r11 e9 k12 n13 => e9 = 0 → cd_add k k12 n n13 fun k14 n15 =>
    (a0, (0, 18, 0)) ∈ L9 ∧ cq_get M7 (dc a0) 1 fun v16 =>
    jR_copyOf N (bc - k14) (bs - n15) M7 P8 L9 r6 (v10 <<< (v16 &&& 31)) (fun M17 P18 L19 v20 r21 e9 k22 n23 => e9 = 0 → cd_add k14 k22 n15 n23 fun k24 n25 =>
    (a0, (0, 18, 0)) ∈ L19 ∧ cd_put P18 a0 0 r21 fun P26 =>
    Q M17 P26 L19 0 none 0 k24 n25)))
set_option maxRecDepth 100000 in
theorem jA_ensureCapacityInternal_0_v {l : Launch} {g : cx_G} {X : cx_X} {N : Nat} {bc bs : Nat} {Q : cd_Qt} {a0 : Nat} (H : dH g) (hX : X.2.2.2.2.2.2.1.name = "ensureCapacityInternal") (M : cx_M) (P : dP) (L : dL) (k n : Nat) (x1 : Int32) (hk : k ≤ bc ∧ n ≤ bs) (h : jA_ensureCapacityInternal_0 N bc bs Q a0 M P L k n x1) : cq_V l (dG g L P) X (esJ7_ensureCapacityInternal bc bs) cJ7_ensureCapacityInternal 0 [(0, .ref a0), (1, .int x1)] [] M k n (cd_fin g X (esJ7_ensureCapacityInternal bc bs) cd_rV Q) := by
  unfold jA_ensureCapacityInternal_0 at h
  refine cq_aload_n 0 dJ7_ensureCapacityInternal_0 rfl ?_
  refine cq_getR (dG_FR (k := 0) H.1 h.1 dCl_J8 (cx_lt rfl) rfl rfl) q261 dJ7_ensureCapacityInternal_1 ?_
  refine cd_letI h.2 (fun r1 h => ?_)
  obtain ⟨a2, e9, h⟩ := cd_nn_some h
  subst e9
  obtain ⟨z3, hm, h⟩ := h
  refine cq_nd H.1 (fun hn => cq_alen (nI z3) (dG_AI H.1 hn hm rfl) rfl dJ7_ensureCapacityInternal_4 ?_)
  refine cq_aload_n 0 dJ7_ensureCapacityInternal_5 rfl ?_
  refine cq_nd H.1 (fun hn => cq_getI h.2 (dG_FI H.1 hn h.1 dCl_J8 (cx_lt rfl) rfl rfl rfl) q262 dJ7_ensureCapacityInternal_6 (fun v4 h => ?_))
  refine cq_ishr dJ7_ensureCapacityInternal_9 ?_
  refine cq_letI h (fun v5 h => ?_)
  refine cq_istore_n [(2, .int v5), (0, .ref a0), (1, .int x1)] dJ7_ensureCapacityInternal_10 (cx_lt rfl) rfl ?_
  refine cq_iload_n 2 dJ7_ensureCapacityInternal_11 rfl ?_
  refine cq_iload_n 0 dJ7_ensureCapacityInternal_12 rfl ?_
  refine cq_isub dJ7_ensureCapacityInternal_13 ?_
  refine cq_if_le 38 h dJ7_ensureCapacityInternal_14 rfl (fun h => ?_) (fun h => ?_)
  · exact cd_vret hk h rfl dJ7_ensureCapacityInternal_38
  · refine cq_aload_n 1 dJ7_ensureCapacityInternal_17 rfl ?_
    refine cq_aload_n 1 dJ7_ensureCapacityInternal_18 rfl ?_
    refine cq_getR (dG_FR (k := 0) H.1 h.1 dCl_J8 (cx_lt rfl) rfl rfl) q261 dJ7_ensureCapacityInternal_19 ?_
    refine cd_letI h.2 (fun r6 h => ?_)
    refine cq_aload_n 1 dJ7_ensureCapacityInternal_22 rfl ?_
    refine cq_iload_n 2 dJ7_ensureCapacityInternal_23 rfl ?_
    obtain ⟨hmr, h⟩ := h
    refine cd_cP (C := RJ8) [.int x1] [va_rf r6, .ref a0] (jA_newCapacity_m H (N := N) (bc := bc - k) (bs := bs - n) M P L a0 x1 h) (dG_Rc H.1 hmr dCl_J8) dJ7_ensureCapacityInternal_24 gd_J7_104 (fun U k => H.2.2.2.2 U k _ (by first | exact Or.inl rfl | exact Or.inr rfl)) hgd_J7_104 ⟨cx_le rfl, cx_le rfl⟩ (cd_bud hk) rfl (by simp only [List.map, va_rf_cat, List.sum_cons, List.sum_nil]; exact cx_le rfl) (fun M7 P8 L9 v10 r11 k12 n13 hk2 h => ?_)
    refine cd_addI (h rfl) (cd_bk hk hk2) (fun k14 n15 h hk => ?_)
    refine cq_aload_n 1 dJ7_ensureCapacityInternal_27 rfl ?_
    refine cq_nd H.1 (fun hn => cq_getI h.2 (dG_FI H.1 hn h.1 dCl_J8 (cx_lt rfl) rfl rfl rfl) q262 dJ7_ensureCapacityInternal_28 (fun v16 h => ?_))
    refine cq_ishl dJ7_ensureCapacityInternal_31 ?_
    refine cd_cS [va_rf r6, .int (v10 <<< (v16 &&& 31))] [.ref a0] (jR_copyOf_m H (N := N) (bc := bc - k14) (bs := bs - n15) M7 P8 L9 r6 (v10 <<< (v16 &&& 31)) h) dJ7_ensureCapacityInternal_32 gd_J7_108 hgd_J7_108 ⟨cx_le rfl, cx_le rfl⟩ (cd_bud hk) rfl (cx_le rfl) (fun M17 P18 L19 v20 r21 k22 n23 hk2 h => ?_)
    refine cd_addI (h rfl) (cd_bk hk hk2) (fun k24 n25 h hk => ?_)
    refine cq_nd H.1 (fun hn => cd_putR (v := r21) H.1 hn h.1 h.2 dCl_J8 (cx_lt rfl) rfl rfl rfl cd_nfA rfl q261 dJ7_ensureCapacityInternal_35 (fun P26 h => ?_))
    exact cd_vret hk h rfl dJ7_ensureCapacityInternal_38
def jA_ensureCapacityInternal (N : Nat) (bc bs : Nat) (M : cx_M) (P : dP) (L : dL) (a0 : Nat) (x1 : Int32) (Q : cd_Qt) : Prop := jA_ensureCapacityInternal_0 N bc bs Q a0 M P L 0 0 x1
set_option maxRecDepth 100000 in
theorem jA_ensureCapacityInternal_m {l : Launch} {g : cx_G} {N : Nat} {bc bs : Nat} {Q : cd_Qt} (H : dH g) (M : cx_M) (P : dP) (L : dL) (a0 : Nat) (x1 : Int32) (h : jA_ensureCapacityInternal N bc bs M P L a0 x1 Q) : cd_Met l g yJ7_ensureCapacityInternal cJ7_ensureCapacityInternal (esJ7_ensureCapacityInternal bc bs) cd_rV [.ref a0, .int x1] M P L Q :=
  cd_met (by decide +kernel) rfl rfl (lv := [(0, .ref a0), (1, .int x1)]) rfl (cx_le rfl) (fun X hX => cq_sub (lv' := [(0, .ref a0), (1, .int x1)]) [0, 1] rfl (jA_ensureCapacityInternal_0_v H hX M P L 0 0 x1 ⟨Nat.zero_le _, Nat.zero_le _⟩ h))

abbrev esJ15_canEncode (bc bs : Nat) : cx_S := (1, RJ15, cx_rI, { frames := 0, cells := bc, slots := bs, locals := 0 }, some .boolean, false)
def jL_canEncode_0 (N : Nat) (bc bs : Nat) (Q : cd_Qt) (M : cx_M) (P : dP) (L : dL) (k n : Nat) (x0 : Int32) : Prop :=
  if 255 < x0 then (
    Q M P L 0 none 0 k n)
  else (
    Q M P L 1 none 0 k n)
set_option maxRecDepth 100000 in
theorem jL_canEncode_0_v {l : Launch} {g : cx_G} {X : cx_X} {N : Nat} {bc bs : Nat} {Q : cd_Qt} (H : dH g) (hX : X.2.2.2.2.2.2.1.name = "canEncode") (M : cx_M) (P : dP) (L : dL) (k n : Nat) (x0 : Int32) (hk : k ≤ bc ∧ n ≤ bs) (h : jL_canEncode_0 N bc bs Q M P L k n x0) : cq_V l (dG g L P) X (esJ15_canEncode bc bs) cJ15_canEncode 0 [(0, .int x0)] [] M k n (cd_fin g X (esJ15_canEncode bc bs) cd_rI Q) := by
  unfold jL_canEncode_0 at h
  refine cq_iload_n 0 dJ15_canEncode_0 rfl ?_
  refine cq_sipush 255 dJ15_canEncode_1 cx_sp_255 ?_
  refine cq_icmp_gt 11 h dJ15_canEncode_4 rfl (fun h => ?_) (fun h => ?_)
  · refine cq_iconst 0 dJ15_canEncode_11 cx_ic_0 ?_
    exact cd_zret hk h cx_z_0 rfl dJ15_canEncode_12
  · refine cq_iconst 1 dJ15_canEncode_7 cx_ic_1 ?_
    refine cq_goto 12 dJ15_canEncode_8 rfl ?_
    exact cd_zret hk h cx_z_1 rfl dJ15_canEncode_12
def jL_canEncode (N : Nat) (bc bs : Nat) (M : cx_M) (P : dP) (L : dL) (x0 : Int32) (Q : cd_Qt) : Prop := jL_canEncode_0 N bc bs Q M P L 0 0 x0
set_option maxRecDepth 100000 in
theorem jL_canEncode_m {l : Launch} {g : cx_G} {N : Nat} {bc bs : Nat} {Q : cd_Qt} (H : dH g) (M : cx_M) (P : dP) (L : dL) (x0 : Int32) (h : jL_canEncode N bc bs M P L x0 Q) : cd_Met l g yJ15_canEncode cJ15_canEncode (esJ15_canEncode bc bs) cd_rI [.int x0] M P L Q :=
  cd_met (by decide +kernel) rfl rfl (lv := [(0, .int x0)]) rfl (cx_le rfl) (fun X hX => cq_sub (lv' := [(0, .int x0)]) [0] rfl (jL_canEncode_0_v H hX M P L 0 0 x0 ⟨Nat.zero_le _, Nat.zero_le _⟩ h))

abbrev esJ7_append_3 (bc bs : Nat) : cx_S := (2, RJ7, cx_rI, { frames := 4, cells := bc, slots := bs, locals := 84 }, some (.object "java/lang/AbstractStringBuilder"), false)
def jA_append_3_0 (N : Nat) (bc bs : Nat) (Q : cd_Qt) (a0 : Nat) (M : cx_M) (P : dP) (L : dL) (k n : Nat) (x1 : Int32) : Prop :=
  (a0, (0, 18, 0)) ∈ L ∧ cq_get M (dc a0) 3 fun v1 =>
  (a0, (0, 18, 0)) ∈ L ∧
  jA_ensureCapacityInternal N (bc - k) (bs - n) M P L a0 (v1 + 1) (fun M2 P3 L4 v5 r6 e9 k7 n8 => e9 = 0 → cd_add k k7 n n8 fun k9 n10 =>
  (a0, (0, 18, 0)) ∈ L4 ∧
  jA_isLatin1 N (bc - k9) (bs - n10) M2 P3 L4 a0 (fun M11 P12 L13 v14 r15 e9 k16 n17 => e9 = 0 → cd_add k9 k16 n10 n17 fun k18 n19 =>
  if v14 = 0 then (
    False)
  else (
    jL_canEncode N (bc - k18) (bs - n19) M11 P12 L13 x1 (fun M20 P21 L22 v23 r24 e9 k25 n26 => e9 = 0 → cd_add k18 k25 n19 n26 fun k27 n28 =>
    if v23 = 0 then (
      False)
    else (
      (a0, (0, 18, 0)) ∈ L22 ∧ cd_let (P21 a0 0) fun r29 =>
      (a0, (0, 18, 0)) ∈ L22 ∧ cq_get M20 (dc a0) 3 fun v30 =>
      (a0, (0, 18, 0)) ∈ L22 ∧ cq_put M20 (dc a0) 3 (v30 + 1) fun M31 =>
      cd_nn r29 fun a32 =>
      ∃ z34, (a32, (1, 2, z34)) ∈ L22 ∧ cq_st M31 (dc a32) z34 v30 (cx_nb (cx_byte x1)) fun M33 =>
      Q M33 P21 L22 0 (some a0) 0 k27 n28)))))
set_option maxRecDepth 100000 in
theorem jA_append_3_0_v {l : Launch} {g : cx_G} {X : cx_X} {N : Nat} {bc bs : Nat} {Q : cd_Qt} {a0 : Nat} (H : dH g) (hX : X.2.2.2.2.2.2.1.name = "append") (M : cx_M) (P : dP) (L : dL) (k n : Nat) (x1 : Int32) (hk : k ≤ bc ∧ n ≤ bs) (h : jA_append_3_0 N bc bs Q a0 M P L k n x1) : cq_V l (dG g L P) X (esJ7_append_3 bc bs) cJ7_append_3 0 [(0, .ref a0), (1, .int x1)] [] M k n (cd_fin g X (esJ7_append_3 bc bs) cd_rA Q) := by
  unfold jA_append_3_0 at h
  refine cq_aload_n 0 dJ7_append_3_0 rfl ?_
  refine cq_aload_n 0 dJ7_append_3_1 rfl ?_
  refine cq_nd H.1 (fun hn => cq_getI h.2 (dG_FI H.1 hn h.1 dCl_J8 (cx_lt rfl) rfl rfl rfl) q264 dJ7_append_3_2 (fun v1 h => ?_))
  refine cq_iconst 1 dJ7_append_3_5 cx_ic_1 ?_
  refine cq_iadd dJ7_append_3_6 ?_
  obtain ⟨hmr, h⟩ := h
  refine cd_cP (C := RJ8) [.int (v1 + 1)] [] (jA_ensureCapacityInternal_m H (N := N) (bc := bc - k) (bs := bs - n) M P L a0 (v1 + 1) h) (dG_Rc H.1 hmr dCl_J8) dJ7_append_3_7 gd_J7_100 (fun U k => H.2.2.2.2 U k _ (by first | exact Or.inl rfl | exact Or.inr rfl)) hgd_J7_100 ⟨cx_le rfl, cx_le rfl⟩ (cd_bud hk) rfl (cx_le rfl) (fun M2 P3 L4 v5 r6 k7 n8 hk2 h => ?_)
  refine cd_addI (h rfl) (cd_bk hk hk2) (fun k9 n10 h hk => ?_)
  refine cq_aload_n 0 dJ7_append_3_10 rfl ?_
  obtain ⟨hmr, h⟩ := h
  refine cd_cU (x := ⟨"java/lang/AbstractStringBuilder", "isLatin1", "()Z"⟩) [] [] (jA_isLatin1_m H (N := N) (bc := bc - k9) (bs := bs - n10) M2 P3 L4 a0 h) (dG_Rc H.1 hmr dCl_J8) dJ7_append_3_11 gd_J7_83 hgd_J7_83 ⟨cx_le rfl, cx_le rfl⟩ (cd_bud hk) rfl (cx_le rfl) (fun M11 P12 L13 v14 r15 k16 n17 hk2 h => ?_)
  refine cd_addI (h rfl) (cd_bk hk hk2) (fun k18 n19 h hk => ?_)
  refine cq_if_eq 45 h dJ7_append_3_14 rfl (fun h => ?_) (fun h => ?_)
  · cases h
  · refine cq_iload_n 1 dJ7_append_3_17 rfl ?_
    refine cd_cS [.int x1] [] (jL_canEncode_m H (N := N) (bc := bc - k18) (bs := bs - n19) M11 P12 L13 x1 h) dJ7_append_3_18 gd_J7_191 hgd_J7_191 ⟨cx_le rfl, cx_le rfl⟩ (cd_bud hk) rfl (cx_le rfl) (fun M20 P21 L22 v23 r24 k25 n26 hk2 h => ?_)
    refine cd_addI (h rfl) (cd_bk hk hk2) (fun k27 n28 h hk => ?_)
    refine cq_if_eq 45 h dJ7_append_3_21 rfl (fun h => ?_) (fun h => ?_)
    · cases h
    · refine cq_aload_n 0 dJ7_append_3_24 rfl ?_
      refine cq_getR (dG_FR (k := 0) H.1 h.1 dCl_J8 (cx_lt rfl) rfl rfl) q261 dJ7_append_3_25 ?_
      refine cd_letI h.2 (fun r29 h => ?_)
      refine cq_aload_n 0 dJ7_append_3_28 rfl ?_
      refine cq_dup dJ7_append_3_29 rfl ?_
      refine cq_nd H.1 (fun hn => cq_getI h.2 (dG_FI H.1 hn h.1 dCl_J8 (cx_lt rfl) rfl rfl rfl) q264 dJ7_append_3_30 (fun v30 h => ?_))
      refine cq_dup_x1 dJ7_append_3_33 rfl rfl ?_
      refine cq_iconst 1 dJ7_append_3_34 cx_ic_1 ?_
      refine cq_iadd dJ7_append_3_35 ?_
      refine cq_nd H.1 (fun hn => cq_putI h.2 (dG_FI H.1 hn h.1 dCl_J8 (cx_lt rfl) rfl rfl rfl) rfl rfl rfl q264 dJ7_append_3_36 (fun M31 h => ?_))
      refine cq_iload_n 1 dJ7_append_3_39 rfl ?_
      refine cq_i2b dJ7_append_3_40 ?_
      obtain ⟨a32, e9, h⟩ := cd_nn_some h
      subst e9
      obtain ⟨z34, hm, h⟩ := h
      refine cq_nd H.1 (fun hn => cq_stBy h (dG_AI H.1 hn hm rfl) dJ7_append_3_41 (fun M33 h => ?_))
      refine cq_goto 75 dJ7_append_3_42 rfl ?_
      refine cq_aload_n 0 dJ7_append_3_75 rfl ?_
      exact cd_aret (v := (some a0)) hk h rfl (Or.inl ⟨_, rfl⟩) dJ7_append_3_76
def jA_append_3 (N : Nat) (bc bs : Nat) (M : cx_M) (P : dP) (L : dL) (a0 : Nat) (x1 : Int32) (Q : cd_Qt) : Prop := jA_append_3_0 N bc bs Q a0 M P L 0 0 x1
set_option maxRecDepth 100000 in
theorem jA_append_3_m {l : Launch} {g : cx_G} {N : Nat} {bc bs : Nat} {Q : cd_Qt} (H : dH g) (M : cx_M) (P : dP) (L : dL) (a0 : Nat) (x1 : Int32) (h : jA_append_3 N bc bs M P L a0 x1 Q) : cd_Met l g yJ7_append_3 cJ7_append_3 (esJ7_append_3 bc bs) cd_rA [.ref a0, .int x1] M P L Q :=
  cd_met (by decide +kernel) rfl rfl (lv := [(0, .ref a0), (1, .int x1)]) rfl (cx_le rfl) (fun X hX => cq_sub (lv' := [(0, .ref a0), (1, .int x1)]) [0, 1] rfl (jA_append_3_0_v H hX M P L 0 0 x1 ⟨Nat.zero_le _, Nat.zero_le _⟩ h))

abbrev esJ8_append_3 (bc bs : Nat) : cx_S := (2, RJ8, cx_rI, { frames := 5, cells := bc, slots := bs, locals := 105 }, some (.object "java/lang/StringBuilder"), false)
def jB_append_3_0 (N : Nat) (bc bs : Nat) (Q : cd_Qt) (a0 : Nat) (M : cx_M) (P : dP) (L : dL) (k n : Nat) (x1 : Int32) : Prop :=
  (a0, (0, 18, 0)) ∈ L ∧
  jA_append_3 N (bc - k) (bs - n) M P L a0 x1 (fun M1 P2 L3 v4 r5 e9 k6 n7 => e9 = 0 → cd_add k k6 n n7 fun k8 n9 =>
  Q M1 P2 L3 0 (some a0) 0 k8 n9)
set_option maxRecDepth 100000 in
theorem jB_append_3_0_v {l : Launch} {g : cx_G} {X : cx_X} {N : Nat} {bc bs : Nat} {Q : cd_Qt} {a0 : Nat} (H : dH g) (hX : X.2.2.2.2.2.2.1.name = "append") (M : cx_M) (P : dP) (L : dL) (k n : Nat) (x1 : Int32) (hk : k ≤ bc ∧ n ≤ bs) (h : jB_append_3_0 N bc bs Q a0 M P L k n x1) : cq_V l (dG g L P) X (esJ8_append_3 bc bs) cJ8_append_3 0 [(0, .ref a0), (1, .int x1)] [] M k n (cd_fin g X (esJ8_append_3 bc bs) cd_rA Q) := by
  unfold jB_append_3_0 at h
  refine cq_aload_n 0 dJ8_append_3_0 rfl ?_
  refine cq_iload_n 1 dJ8_append_3_1 rfl ?_
  obtain ⟨hmr, h⟩ := h
  refine cd_cSU [.int x1] [] (jA_append_3_m H (N := N) (bc := bc - k) (bs := bs - n) M P L a0 x1 h) (dG_Rc H.1 hmr dCl_J8) dCl_J8 dJ8_append_3_2 gd_J8_50 hgd_J8_50 ⟨cx_le rfl, cx_le rfl⟩ (cd_bud hk) rfl (cx_le rfl) (fun M1 P2 L3 v4 r5 k6 n7 hk2 h => ?_)
  refine cd_addI (h rfl) (cd_bk hk hk2) (fun k8 n9 h hk => ?_)
  refine cq_pop dJ8_append_3_5 (va_rf_cat _) ?_
  refine cq_aload_n 0 dJ8_append_3_6 rfl ?_
  exact cd_aret (v := (some a0)) hk h rfl (Or.inl ⟨_, rfl⟩) dJ8_append_3_7
def jB_append_3 (N : Nat) (bc bs : Nat) (M : cx_M) (P : dP) (L : dL) (a0 : Nat) (x1 : Int32) (Q : cd_Qt) : Prop := jB_append_3_0 N bc bs Q a0 M P L 0 0 x1
set_option maxRecDepth 100000 in
theorem jB_append_3_m {l : Launch} {g : cx_G} {N : Nat} {bc bs : Nat} {Q : cd_Qt} (H : dH g) (M : cx_M) (P : dP) (L : dL) (a0 : Nat) (x1 : Int32) (h : jB_append_3 N bc bs M P L a0 x1 Q) : cd_Met l g yJ8_append_3 cJ8_append_3 (esJ8_append_3 bc bs) cd_rA [.ref a0, .int x1] M P L Q :=
  cd_met (by decide +kernel) rfl rfl (lv := [(0, .ref a0), (1, .int x1)]) rfl (cx_le rfl) (fun X hX => cq_sub (lv' := [(0, .ref a0), (1, .int x1)]) [0, 1] rfl (jB_append_3_0_v H hX M P L 0 0 x1 ⟨Nat.zero_le _, Nat.zero_le _⟩ h))

abbrev esJ9_init_2 (bc bs : Nat) : cx_S := (5, RJ9, cx_rI, { frames := 3, cells := bc, slots := bs, locals := 86 }, none, false)
def jS_init_2_0 (N : Nat) (bc bs : Nat) (Q : cd_Qt) (a0 : Nat) (M : cx_M) (P : dP) (L : dL) (k n : Nat) (x1 : Option Nat) : Prop :=
  cd_nn x1 fun a1 =>
  (a1, (0, 18, 0)) ∈ L ∧
  jA_getValue N (bc - k) (bs - n) M P L a1 (fun M2 P3 L4 v5 r6 e9 k7 n8 => e9 = 0 → cd_add k k7 n n8 fun k9 n10 =>
  (a1, (0, 18, 0)) ∈ L4 ∧
  jB_length N (bc - k9) (bs - n10) M2 P3 L4 a1 (fun M11 P12 L13 v14 r15 e9 k16 n17 => e9 = 0 → cd_add k9 k16 n10 n17 fun k18 n19 =>
  (a1, (0, 18, 0)) ∈ L13 ∧
  jA_isLatin1 N (bc - k18) (bs - n19) M11 P12 L13 a1 (fun M20 P21 L22 v23 r24 e9 k25 n26 => e9 = 0 → cd_add k18 k25 n19 n26 fun k27 n28 =>
  if v23 = 0 then (
    False)
  else (
    (a0, (0, 17, 0)) ∈ L22 ∧ cq_put M20 (dc a0) 1 0 fun M29 =>
    jR_copyOfRange N (bc - k27) (bs - n28) M29 P21 L22 r6 0 v14 (fun M30 P31 L32 v33 r34 e9 k35 n36 => e9 = 0 → cd_add k27 k35 n28 n36 fun k37 n38 =>
    (a0, (0, 17, 0)) ∈ L32 ∧ cd_put P31 a0 0 r34 fun P39 =>
    Q M30 P39 L32 0 none 0 k37 n38)))))
set_option maxRecDepth 100000 in
theorem jS_init_2_0_v {l : Launch} {g : cx_G} {X : cx_X} {N : Nat} {bc bs : Nat} {Q : cd_Qt} {a0 : Nat} (H : dH g) (hX : X.2.2.2.2.2.2.1.name = "<init>") (M : cx_M) (P : dP) (L : dL) (k n : Nat) (x1 : Option Nat) (hk : k ≤ bc ∧ n ≤ bs) (h : jS_init_2_0 N bc bs Q a0 M P L k n x1) : cq_V l (dG g L P) X (esJ9_init_2 bc bs) cJ9_init_2 0 [(0, .ref a0), (1, va_rf x1)] [] M k n (cd_fin g X (esJ9_init_2 bc bs) cd_rV Q) := by
  unfold jS_init_2_0 at h
  refine cq_aload_n 0 dJ9_init_2_0 rfl ?_
  refine cd_oinit q433 q176 q177 dJ9_init_2_1 (cx_le rfl) (cx_le rfl) ?_
  refine cd_aload_n (v := x1) 1 dJ9_init_2_4 rfl ?_
  obtain ⟨a1, e9, h⟩ := cd_nn_some h
  subst e9
  obtain ⟨hmr, h⟩ := h
  refine cd_cU (x := ⟨"java/lang/AbstractStringBuilder", "getValue", "()[B"⟩) [] [] (jA_getValue_m H (N := N) (bc := bc - k) (bs := bs - n) M P L a1 h) (dG_Rc H.1 hmr dCl_J8) dJ9_init_2_5 gd_J9_552 hgd_J9_552 ⟨cx_le rfl, cx_le rfl⟩ (cd_bud hk) rfl (cx_le rfl) (fun M2 P3 L4 v5 r6 k7 n8 hk2 h => ?_)
  refine cd_addI (h rfl) (cd_bk hk hk2) (fun k9 n10 h hk => ?_)
  refine cd_astore_n (v := r6) (fun v => [(3, v), (0, .ref a0), (1, .ref a1)]) dJ9_init_2_8 (cx_lt rfl) (fun v => rfl) ?_
  refine cq_aload_n 2 dJ9_init_2_9 rfl ?_
  obtain ⟨hmr, h⟩ := h
  refine cd_cO (x := ⟨"java/lang/AbstractStringBuilder", "length", "()I"⟩) [] [] (jB_length_m H (N := N) (bc := bc - k9) (bs := bs - n10) M2 P3 L4 a1 h) (dG_Rc H.1 hmr dCl_J8) dJ9_init_2_10 gd_J9_549 hgd_J9_549 ⟨cx_le rfl, cx_le rfl⟩ (cd_bud hk) rfl (cx_le rfl) (fun M11 P12 L13 v14 r15 k16 n17 hk2 h => ?_)
  refine cd_addI (h rfl) (cd_bk hk hk2) (fun k18 n19 h hk => ?_)
  refine cq_istore [(4, .int v14), (3, va_rf r6), (0, .ref a0), (1, .ref a1)] dJ9_init_2_13 (cx_lt rfl) (by cases r6 <;> rfl) ?_
  refine cq_aload_n 3 dJ9_init_2_15 rfl ?_
  obtain ⟨hmr, h⟩ := h
  refine cd_cU (x := ⟨"java/lang/AbstractStringBuilder", "isLatin1", "()Z"⟩) [] [] (jA_isLatin1_m H (N := N) (bc := bc - k18) (bs := bs - n19) M11 P12 L13 a1 h) (dG_Rc H.1 hmr dCl_J8) dJ9_init_2_16 gd_J9_1047 hgd_J9_1047 ⟨cx_le rfl, cx_le rfl⟩ (cd_bud hk) rfl (cx_le rfl) (fun M20 P21 L22 v23 r24 k25 n26 hk2 h => ?_)
  refine cd_addI (h rfl) (cd_bk hk hk2) (fun k27 n28 h hk => ?_)
  refine cq_if_eq 41 h dJ9_init_2_19 rfl (fun h => ?_) (fun h => ?_)
  · cases h
  · refine cq_aload_n 2 dJ9_init_2_22 rfl ?_
    refine cq_iconst 0 dJ9_init_2_23 cx_ic_0 ?_
    refine cq_nd H.1 (fun hn => cd_putIF hX rfl h.2 (dG_FI H.1 hn h.1 dCl_J9 (cx_lt rfl) rfl rfl rfl) (by decide +kernel) (by decide +kernel) rfl q503 dJ9_init_2_24 (fun M29 h => ?_))
    refine cq_aload_n 2 dJ9_init_2_27 rfl ?_
    refine cd_aload_n (v := r6) 1 dJ9_init_2_28 rfl ?_
    refine cq_iconst 0 dJ9_init_2_29 cx_ic_0 ?_
    refine cq_iload 0 dJ9_init_2_30 rfl ?_
    refine cd_cS [va_rf r6, .int 0, .int v14] [.ref a0] (jR_copyOfRange_m H (N := N) (bc := bc - k27) (bs := bs - n28) M29 P21 L22 r6 0 v14 h) dJ9_init_2_32 gd_J9_54 hgd_J9_54 ⟨cx_le rfl, cx_le rfl⟩ (cd_bud hk) rfl (cx_le rfl) (fun M30 P31 L32 v33 r34 k35 n36 hk2 h => ?_)
    refine cd_addI (h rfl) (cd_bk hk hk2) (fun k37 n38 h hk => ?_)
    refine cq_nd H.1 (fun hn => cd_putRF (v := r34) hX rfl H.1 hn h.1 h.2 dCl_J9 (cx_lt rfl) rfl rfl rfl cd_nfA rfl q502 dJ9_init_2_35 (fun P39 h => ?_))
    refine cq_goto 97 dJ9_init_2_38 rfl ?_
    exact cd_vret hk h rfl dJ9_init_2_97
def jS_init_2 (N : Nat) (bc bs : Nat) (M : cx_M) (P : dP) (L : dL) (a0 : Nat) (x1 : Option Nat) (x2 : Option Nat) (Q : cd_Qt) : Prop := jS_init_2_0 N bc bs Q a0 M P L 0 0 x1
set_option maxRecDepth 100000 in
theorem jS_init_2_m {l : Launch} {g : cx_G} {N : Nat} {bc bs : Nat} {Q : cd_Qt} (H : dH g) (M : cx_M) (P : dP) (L : dL) (a0 : Nat) (x1 : Option Nat) (x2 : Option Nat) (h : jS_init_2 N bc bs M P L a0 x1 x2 Q) : cd_Met l g yJ9_init_2 cJ9_init_2 (esJ9_init_2 bc bs) cd_rV [.ref a0, va_rf x1, va_rf x2] M P L Q :=
  cd_met (by decide +kernel) rfl rfl (lv := [(0, .ref a0), (1, va_rf x1), (2, va_rf x2)]) (by cases x1 <;> cases x2 <;> rfl) (by cases x1 <;> cases x2 <;> exact cx_le rfl) (fun X hX => cq_sub (lv' := [(0, .ref a0), (1, va_rf x1)]) [0, 1] rfl (jS_init_2_0_v H hX M P L 0 0 x1 ⟨Nat.zero_le _, Nat.zero_le _⟩ h))

abbrev esJ9_init (bc bs : Nat) : cx_S := (2, RJ9, cx_rI, { frames := 4, cells := bc, slots := bs, locals := 110 }, none, false)
def jS_init_0 (N : Nat) (bc bs : Nat) (Q : cd_Qt) (a0 : Nat) (M : cx_M) (P : dP) (L : dL) (k n : Nat) (x1 : Option Nat) : Prop :=
  jS_init_2 N (bc - k) (bs - n) M P L a0 x1 none (fun M1 P2 L3 v4 r5 e9 k6 n7 => e9 = 0 → cd_add k k6 n n7 fun k8 n9 =>
  Q M1 P2 L3 0 none 0 k8 n9)
set_option maxRecDepth 100000 in
theorem jS_init_0_v {l : Launch} {g : cx_G} {X : cx_X} {N : Nat} {bc bs : Nat} {Q : cd_Qt} {a0 : Nat} (H : dH g) (hX : X.2.2.2.2.2.2.1.name = "<init>") (M : cx_M) (P : dP) (L : dL) (k n : Nat) (x1 : Option Nat) (hk : k ≤ bc ∧ n ≤ bs) (h : jS_init_0 N bc bs Q a0 M P L k n x1) : cq_V l (dG g L P) X (esJ9_init bc bs) cJ9_init 0 [(0, .ref a0), (1, va_rf x1)] [] M k n (cd_fin g X (esJ9_init bc bs) cd_rV Q) := by
  unfold jS_init_0 at h
  refine cq_aload_n 0 dJ9_init_0 rfl ?_
  refine cd_aload_n (v := x1) 1 dJ9_init_1 rfl ?_
  refine cq_null dJ9_init_2 ?_
  refine cd_cI [va_rf x1, va_rf none] [] (jS_init_2_m H (N := N) (bc := bc - k) (bs := bs - n) M P L a0 x1 none h) dJ9_init_3 gd_J9_489 rfl q127 q430 q431 rfl hgd_J9_489 ⟨cx_le rfl, cx_le rfl⟩ (cd_bud hk) rfl (cx_le rfl) (fun M1 P2 L3 v4 r5 k6 n7 hk2 h => ?_)
  refine cd_addI (h rfl) (cd_bk hk hk2) (fun k8 n9 h hk => ?_)
  exact cd_vret hk h rfl dJ9_init_6
def jS_init (N : Nat) (bc bs : Nat) (M : cx_M) (P : dP) (L : dL) (a0 : Nat) (x1 : Option Nat) (Q : cd_Qt) : Prop := jS_init_0 N bc bs Q a0 M P L 0 0 x1
set_option maxRecDepth 100000 in
theorem jS_init_m {l : Launch} {g : cx_G} {N : Nat} {bc bs : Nat} {Q : cd_Qt} (H : dH g) (M : cx_M) (P : dP) (L : dL) (a0 : Nat) (x1 : Option Nat) (h : jS_init N bc bs M P L a0 x1 Q) : cd_Met l g yJ9_init cJ9_init (esJ9_init bc bs) cd_rV [.ref a0, va_rf x1] M P L Q :=
  cd_met (by decide +kernel) rfl rfl (lv := [(0, .ref a0), (1, va_rf x1)]) (by cases x1 <;> rfl) (by cases x1 <;> exact cx_le rfl) (fun X hX => cq_sub (lv' := [(0, .ref a0), (1, va_rf x1)]) [0, 1] rfl (jS_init_0_v H hX M P L 0 0 x1 ⟨Nat.zero_le _, Nat.zero_le _⟩ h))

abbrev esJ8_toString (bc bs : Nat) : cx_S := (1, RJ8, cx_rI, { frames := 5, cells := bc, slots := bs, locals := 131 }, some (.object "java/lang/String"), false)
def jB_toString_0 (N : Nat) (bc bs : Nat) (Q : cd_Qt) (a0 : Nat) (M : cx_M) (P : dP) (L : dL) (k n : Nat) : Prop :=
  cd_new bc bs k n 4 (0, 17, 0) M P L fun a1 M2 P3 L4 k5 n6 =>
  jS_init N (bc - k5) (bs - n6) M2 P3 L4 a1 (some a0) (fun M7 P8 L9 v10 r11 e9 k12 n13 => e9 = 0 → cd_add k5 k12 n6 n13 fun k14 n15 =>
  Q M7 P8 L9 0 (some a1) 0 k14 n15)
set_option maxRecDepth 100000 in
theorem jB_toString_0_v {l : Launch} {g : cx_G} {X : cx_X} {N : Nat} {bc bs : Nat} {Q : cd_Qt} {a0 : Nat} (H : dH g) (hX : X.2.2.2.2.2.2.1.name = "toString") (M : cx_M) (P : dP) (L : dL) (k n : Nat) (hk : k ≤ bc ∧ n ≤ bs) (h : jB_toString_0 N bc bs Q a0 M P L k n) : cq_V l (dG g L P) X (esJ8_toString bc bs) cJ8_toString 0 [(0, .ref a0)] [] M k n (cd_fin g X (esJ8_toString bc bs) cd_rA Q) := by
  unfold jB_toString_0 at h
  refine cd_newO H.1 h ⟨rfl, rfl⟩ dCl_J9 dDf_J9 q425 q426 q127 dJ8_toString_0 (fun a1 M2 P3 L4 k5 n6 h hk => ?_)
  refine cq_dup dJ8_toString_3 rfl ?_
  refine cq_aload_n 0 dJ8_toString_4 rfl ?_
  refine cd_cI [va_rf (some a0)] [.ref a1] (jS_init_m H (N := N) (bc := bc - k5) (bs := bs - n6) M2 P3 L4 a1 (some a0) h) dJ8_toString_5 gd_J8_137 rfl q127 q427 q428 rfl hgd_J8_137 ⟨cx_le rfl, cx_le rfl⟩ (cd_bud hk) rfl (cx_le rfl) (fun M7 P8 L9 v10 r11 k12 n13 hk2 h => ?_)
  refine cd_addI (h rfl) (cd_bk hk hk2) (fun k14 n15 h hk => ?_)
  exact cd_aret (v := (some a1)) hk h rfl (Or.inl ⟨_, rfl⟩) dJ8_toString_8
def jB_toString (N : Nat) (bc bs : Nat) (M : cx_M) (P : dP) (L : dL) (a0 : Nat) (Q : cd_Qt) : Prop := jB_toString_0 N bc bs Q a0 M P L 0 0
set_option maxRecDepth 100000 in
theorem jB_toString_m {l : Launch} {g : cx_G} {N : Nat} {bc bs : Nat} {Q : cd_Qt} (H : dH g) (M : cx_M) (P : dP) (L : dL) (a0 : Nat) (h : jB_toString N bc bs M P L a0 Q) : cd_Met l g yJ8_toString cJ8_toString (esJ8_toString bc bs) cd_rA [.ref a0] M P L Q :=
  cd_met (by decide +kernel) rfl rfl (lv := [(0, .ref a0)]) rfl (cx_le rfl) (fun X hX => cq_sub (lv' := [(0, .ref a0)]) [0] rfl (jB_toString_0_v H hX M P L 0 0 ⟨Nat.zero_le _, Nat.zero_le _⟩ h))

abbrev esJ9_init_3 (bc bs : Nat) : cx_S := (3, RJ9, cx_rI, { frames := 1, cells := bc, slots := bs, locals := 20 }, none, false)
def jS_init_3_0 (N : Nat) (bc bs : Nat) (Q : cd_Qt) (a0 : Nat) (M : cx_M) (P : dP) (L : dL) (k n : Nat) (x1 : Option Nat) (x2 : Int32) : Prop :=
  (a0, (0, 17, 0)) ∈ L ∧ cd_put P a0 0 x1 fun P1 =>
  cd_br x2 <|
  (a0, (0, 17, 0)) ∈ L ∧ cq_put M (dc a0) 1 x2 fun M2 =>
  Q M2 P1 L 0 none 0 k n
set_option maxRecDepth 100000 in
theorem jS_init_3_0_v {l : Launch} {g : cx_G} {X : cx_X} {N : Nat} {bc bs : Nat} {Q : cd_Qt} {a0 : Nat} (H : dH g) (hX : X.2.2.2.2.2.2.1.name = "<init>") (M : cx_M) (P : dP) (L : dL) (k n : Nat) (x1 : Option Nat) (x2 : Int32) (hk : k ≤ bc ∧ n ≤ bs) (h : jS_init_3_0 N bc bs Q a0 M P L k n x1 x2) : cq_V l (dG g L P) X (esJ9_init_3 bc bs) cJ9_init_3 0 [(0, .ref a0), (1, va_rf x1), (2, .int x2)] [] M k n (cd_fin g X (esJ9_init_3 bc bs) cd_rV Q) := by
  unfold jS_init_3_0 at h
  refine cq_aload_n 0 dJ9_init_3_0 rfl ?_
  refine cd_oinit q433 q176 q177 dJ9_init_3_1 (cx_le rfl) (cx_le rfl) ?_
  refine cq_aload_n 0 dJ9_init_3_4 rfl ?_
  refine cd_aload_n (v := x1) 1 dJ9_init_3_5 rfl ?_
  refine cq_nd H.1 (fun hn => cd_putRF (v := x1) hX rfl H.1 hn h.1 h.2 dCl_J9 (cx_lt rfl) rfl rfl rfl cd_nfA rfl q502 dJ9_init_3_6 (fun P1 h => ?_))
  refine cq_aload_n 0 dJ9_init_3_9 rfl ?_
  refine cq_iload_n 2 dJ9_init_3_10 rfl ?_
  refine cd_brG h (fun hz h => ?_)
  refine cq_nd H.1 (fun hn => cd_putIF hX rfl h.2 (dG_FI H.1 hn h.1 dCl_J9 (cx_lt rfl) rfl rfl rfl) hz.1 hz.2 rfl q503 dJ9_init_3_11 (fun M2 h => ?_))
  exact cd_vret hk h rfl dJ9_init_3_14
def jS_init_3 (N : Nat) (bc bs : Nat) (M : cx_M) (P : dP) (L : dL) (a0 : Nat) (x1 : Option Nat) (x2 : Int32) (Q : cd_Qt) : Prop := jS_init_3_0 N bc bs Q a0 M P L 0 0 x1 x2
set_option maxRecDepth 100000 in
theorem jS_init_3_m {l : Launch} {g : cx_G} {N : Nat} {bc bs : Nat} {Q : cd_Qt} (H : dH g) (M : cx_M) (P : dP) (L : dL) (a0 : Nat) (x1 : Option Nat) (x2 : Int32) (h : jS_init_3 N bc bs M P L a0 x1 x2 Q) : cd_Met l g yJ9_init_3 cJ9_init_3 (esJ9_init_3 bc bs) cd_rV [.ref a0, va_rf x1, .int x2] M P L Q :=
  cd_met (by decide +kernel) rfl rfl (lv := [(0, .ref a0), (1, va_rf x1), (2, .int x2)]) (by cases x1 <;> rfl) (by cases x1 <;> exact cx_le rfl) (fun X hX => cq_sub (lv' := [(0, .ref a0), (1, va_rf x1), (2, .int x2)]) [0, 1, 2] rfl (jS_init_3_0_v H hX M P L 0 0 x1 x2 ⟨Nat.zero_le _, Nat.zero_le _⟩ h))

abbrev esJ15_toBytes (bc bs : Nat) : cx_S := (1, RJ15, cx_rI, { frames := 0, cells := bc, slots := bs, locals := 0 }, some (.array .byte), false)
def jL_toBytes_0 (N : Nat) (bc bs : Nat) (Q : cd_Qt) (M : cx_M) (P : dP) (L : dL) (k n : Nat) (x0 : Int32) : Prop :=
  cd_newa bc bs k n 1 (fun z => (1, 2, z)) M P L fun a1 M2 P3 L4 k5 n6 =>
  ∃ z8, (a1, (1, 2, z8)) ∈ L4 ∧ cq_st M2 (dc a1) z8 0 (cx_nb (cx_byte x0)) fun M7 =>
  Q M7 P3 L4 0 (some a1) 0 k5 n6
set_option maxRecDepth 100000 in
theorem jL_toBytes_0_v {l : Launch} {g : cx_G} {X : cx_X} {N : Nat} {bc bs : Nat} {Q : cd_Qt} (H : dH g) (hX : X.2.2.2.2.2.2.1.name = "toBytes") (M : cx_M) (P : dP) (L : dL) (k n : Nat) (x0 : Int32) (hk : k ≤ bc ∧ n ≤ bs) (h : jL_toBytes_0 N bc bs Q M P L k n x0) : cq_V l (dG g L P) X (esJ15_toBytes bc bs) cJ15_toBytes 0 [(0, .int x0)] [] M k n (cd_fin g X (esJ15_toBytes bc bs) cd_rA Q) := by
  unfold jL_toBytes_0 at h
  refine cq_iconst 1 dJ15_toBytes_0 cx_ic_1 ?_
  refine cd_newI (atype := .byte) (ty := .byte) H.1 h ⟨rfl, rfl⟩ q274 rfl rfl (fun _ _ => rfl) (by decide) dJ15_toBytes_1 (fun a1 M2 P3 L4 k5 n6 h hk => ?_)
  refine cq_dup dJ15_toBytes_3 rfl ?_
  refine cq_iconst 0 dJ15_toBytes_4 cx_ic_0 ?_
  refine cq_iload_n 0 dJ15_toBytes_5 rfl ?_
  refine cq_i2b dJ15_toBytes_6 ?_
  obtain ⟨z8, hm, h⟩ := h
  refine cq_nd H.1 (fun hn => cq_stBy h (dG_AI H.1 hn hm rfl) dJ15_toBytes_7 (fun M7 h => ?_))
  exact cd_aret (v := (some a1)) hk h rfl (Or.inr ⟨_, rfl⟩) dJ15_toBytes_8
def jL_toBytes (N : Nat) (bc bs : Nat) (M : cx_M) (P : dP) (L : dL) (x0 : Int32) (Q : cd_Qt) : Prop := jL_toBytes_0 N bc bs Q M P L 0 0 x0
set_option maxRecDepth 100000 in
theorem jL_toBytes_m {l : Launch} {g : cx_G} {N : Nat} {bc bs : Nat} {Q : cd_Qt} (H : dH g) (M : cx_M) (P : dP) (L : dL) (x0 : Int32) (h : jL_toBytes N bc bs M P L x0 Q) : cd_Met l g yJ15_toBytes cJ15_toBytes (esJ15_toBytes bc bs) cd_rA [.int x0] M P L Q :=
  cd_met (by decide +kernel) rfl rfl (lv := [(0, .int x0)]) rfl (cx_le rfl) (fun X hX => cq_sub (lv' := [(0, .int x0)]) [0] rfl (jL_toBytes_0_v H hX M P L 0 0 x0 ⟨Nat.zero_le _, Nat.zero_le _⟩ h))

abbrev esJ9_valueOf (bc bs : Nat) : cx_S := (1, RJ9, cx_rI, { frames := 2, cells := bc, slots := bs, locals := 42 }, some (.object "java/lang/String"), false)
def jS_valueOf_0 (N : Nat) (bc bs : Nat) (Q : cd_Qt) (M : cx_M) (P : dP) (L : dL) (k n : Nat) (x0 : Int32) : Prop :=
  jL_canEncode N (bc - k) (bs - n) M P L x0 (fun M1 P2 L3 v4 r5 e9 k6 n7 => e9 = 0 → cd_add k k6 n n7 fun k8 n9 =>
  if v4 = 0 then (
    False)
  else (
    cd_new bc bs k8 n9 4 (0, 17, 0) M1 P2 L3 fun a10 M11 P12 L13 k14 n15 =>
    jL_toBytes N (bc - k14) (bs - n15) M11 P12 L13 x0 (fun M16 P17 L18 v19 r20 e9 k21 n22 => e9 = 0 → cd_add k14 k21 n15 n22 fun k23 n24 =>
    jS_init_3 N (bc - k23) (bs - n24) M16 P17 L18 a10 r20 0 (fun M25 P26 L27 v28 r29 e9 k30 n31 => e9 = 0 → cd_add k23 k30 n24 n31 fun k32 n33 =>
    Q M25 P26 L27 0 (some a10) 0 k32 n33))))
set_option maxRecDepth 100000 in
theorem jS_valueOf_0_v {l : Launch} {g : cx_G} {X : cx_X} {N : Nat} {bc bs : Nat} {Q : cd_Qt} (H : dH g) (hX : X.2.2.2.2.2.2.1.name = "valueOf") (M : cx_M) (P : dP) (L : dL) (k n : Nat) (x0 : Int32) (hk : k ≤ bc ∧ n ≤ bs) (h : jS_valueOf_0 N bc bs Q M P L k n x0) : cq_V l (dG g L P) X (esJ9_valueOf bc bs) cJ9_valueOf 0 [(0, .int x0)] [] M k n (cd_fin g X (esJ9_valueOf bc bs) cd_rA Q) := by
  unfold jS_valueOf_0 at h
  refine cq_gets (fun U k => (H.2.1 U k).1) q361 dJ9_valueOf_0 ?_
  refine cq_if_eq 26 (A := False) (B := _) (by rw [if_neg (by decide)]; exact h) dJ9_valueOf_3 rfl (fun h => by cases h) (fun h => ?_)
  refine cq_iload_n 0 dJ9_valueOf_6 rfl ?_
  refine cd_cS [.int x0] [] (jL_canEncode_m H (N := N) (bc := bc - k) (bs := bs - n) M P L x0 h) dJ9_valueOf_7 gd_J9_1015 hgd_J9_1015 ⟨cx_le rfl, cx_le rfl⟩ (cd_bud hk) rfl (cx_le rfl) (fun M1 P2 L3 v4 r5 k6 n7 hk2 h => ?_)
  refine cd_addI (h rfl) (cd_bk hk hk2) (fun k8 n9 h hk => ?_)
  refine cq_if_eq 26 h dJ9_valueOf_10 rfl (fun h => ?_) (fun h => ?_)
  · cases h
  · refine cd_newO H.1 h ⟨rfl, rfl⟩ dCl_J9 dDf_J9 q1442 q426 q127 dJ9_valueOf_13 (fun a10 M11 P12 L13 k14 n15 h hk => ?_)
    refine cq_dup dJ9_valueOf_16 rfl ?_
    refine cq_iload_n 0 dJ9_valueOf_17 rfl ?_
    refine cd_cS [.int x0] [.ref a10, .ref a10] (jL_toBytes_m H (N := N) (bc := bc - k14) (bs := bs - n15) M11 P12 L13 x0 h) dJ9_valueOf_18 gd_J9_1018 hgd_J9_1018 ⟨cx_le rfl, cx_le rfl⟩ (cd_bud hk) rfl (cx_le rfl) (fun M16 P17 L18 v19 r20 k21 n22 hk2 h => ?_)
    refine cd_addI (h rfl) (cd_bk hk hk2) (fun k23 n24 h hk => ?_)
    refine cq_iconst 0 dJ9_valueOf_21 cx_ic_0 ?_
    refine cd_cI [va_rf r20, .int 0] [.ref a10] (jS_init_3_m H (N := N) (bc := bc - k23) (bs := bs - n24) M16 P17 L18 a10 r20 0 h) dJ9_valueOf_22 gd_J9_209 rfl q127 q1446 q1447 rfl hgd_J9_209 ⟨cx_le rfl, cx_le rfl⟩ (cd_bud hk) rfl (cx_le rfl) (fun M25 P26 L27 v28 r29 k30 n31 hk2 h => ?_)
    refine cd_addI (h rfl) (cd_bk hk hk2) (fun k32 n33 h hk => ?_)
    exact cd_aret (v := (some a10)) hk h rfl (Or.inl ⟨_, rfl⟩) dJ9_valueOf_25
def jS_valueOf (N : Nat) (bc bs : Nat) (M : cx_M) (P : dP) (L : dL) (x0 : Int32) (Q : cd_Qt) : Prop := jS_valueOf_0 N bc bs Q M P L 0 0 x0
set_option maxRecDepth 100000 in
theorem jS_valueOf_m {l : Launch} {g : cx_G} {N : Nat} {bc bs : Nat} {Q : cd_Qt} (H : dH g) (M : cx_M) (P : dP) (L : dL) (x0 : Int32) (h : jS_valueOf N bc bs M P L x0 Q) : cd_Met l g yJ9_valueOf cJ9_valueOf (esJ9_valueOf bc bs) cd_rA [.int x0] M P L Q :=
  cd_met (by decide +kernel) rfl rfl (lv := [(0, .int x0)]) rfl (cx_le rfl) (fun X hX => cq_sub (lv' := [(0, .int x0)]) [0] rfl (jS_valueOf_0_v H hX M P L 0 0 x0 ⟨Nat.zero_le _, Nat.zero_le _⟩ h))

abbrev esJ11_signedHashCode (bc bs : Nat) : cx_S := (6, RJ11, cx_rI, { frames := 0, cells := bc, slots := bs, locals := 0 }, some .int, false)
def jX_signedHashCode_8b (N : Nat) (bc bs : Nat) (Q : cd_Qt) (r_8 : cx_M → dP → dL → Nat → Nat → Int32 → Option Nat → Int32 → Int32 → Prop) (M : cx_M) (P : dP) (L : dL) (k n : Nat) (x0 : Int32) (x1 : Option Nat) (x4 : Int32) (x5 : Int32) : Prop :=
  if x4 ≤ x5 then (
    Q M P L x0 none 0 k n)
  else (
    cd_nn x1 fun a1 =>
    ∃ z3, (a1, (1, 2, z3)) ∈ L ∧ cq_ld M (dc a1) z3 x5 fun v2 =>
    cq_let (((31 : Int32) * x0) + (v2 &&& 255)) fun v4 =>
    cq_let (x5 + 1) fun v5 =>
    r_8 M P L k n v4 ((some a1)) x4 v5)
set_option maxRecDepth 100000 in
theorem jX_signedHashCode_8b_v {l : Launch} {g : cx_G} {X : cx_X} {N : Nat} {bc bs : Nat} {Q : cd_Qt} {r_8 : cx_M → dP → dL → Nat → Nat → Int32 → Option Nat → Int32 → Int32 → Prop} (H : dH g) (hX : X.2.2.2.2.2.2.1.name = "signedHashCode") (hr_8 : ∀ (M : cx_M) (P : dP) (L : dL) (k n : Nat) (x0 : Int32) (x1 : Option Nat) (x4 : Int32) (x5 : Int32), (k ≤ bc ∧ n ≤ bs) → r_8 M P L k n x0 x1 x4 x5 → cq_V l (dG g L P) X (esJ11_signedHashCode bc bs) cJ11_signedHashCode 8 [(0, .int x0), (1, va_rf x1), (4, .int x4), (5, .int x5)] [] M k n (cd_fin g X (esJ11_signedHashCode bc bs) cd_rI Q)) (M : cx_M) (P : dP) (L : dL) (k n : Nat) (x0 : Int32) (x1 : Option Nat) (x4 : Int32) (x5 : Int32) (hk : k ≤ bc ∧ n ≤ bs) (h : jX_signedHashCode_8b N bc bs Q r_8 M P L k n x0 x1 x4 x5) : cq_V l (dG g L P) X (esJ11_signedHashCode bc bs) cJ11_signedHashCode 8 [(0, .int x0), (1, va_rf x1), (4, .int x4), (5, .int x5)] [] M k n (cd_fin g X (esJ11_signedHashCode bc bs) cd_rI Q) := by
  unfold jX_signedHashCode_8b at h
  refine cq_iload 3 dJ11_signedHashCode_8 rfl ?_
  refine cq_iload 2 dJ11_signedHashCode_10 rfl ?_
  refine cq_icmp_ge 35 h dJ11_signedHashCode_12 rfl (fun h => ?_) (fun h => ?_)
  · refine cq_iload_n 0 dJ11_signedHashCode_35 rfl ?_
    exact cd_iret hk h rfl dJ11_signedHashCode_36
  · refine cq_bipush 31 dJ11_signedHashCode_15 cx_bp_31 ?_
    refine cq_iload_n 0 dJ11_signedHashCode_17 rfl ?_
    refine cq_imul dJ11_signedHashCode_18 ?_
    refine cd_aload_n (v := x1) 1 dJ11_signedHashCode_19 rfl ?_
    refine cq_iload 3 dJ11_signedHashCode_20 rfl ?_
    obtain ⟨a1, e9, h⟩ := cd_nn_some h
    subst e9
    obtain ⟨z3, hm, h⟩ := h
    refine cq_nd H.1 (fun hn => cq_ldBy h (dG_AI H.1 hn hm rfl) dJ11_signedHashCode_22 (fun v2 h => ?_))
    refine cq_sipush 255 dJ11_signedHashCode_23 cx_sp_255 ?_
    refine cq_iand dJ11_signedHashCode_26 ?_
    refine cq_iadd dJ11_signedHashCode_27 ?_
    refine cq_letI h (fun v4 h => ?_)
    refine cq_istore_n [(0, .int v4), (1, .ref a1), (4, .int x4), (5, .int x5)] dJ11_signedHashCode_28 (cx_lt rfl) rfl ?_
    refine cq_iinc 3 1 (fun v5 => [(5, .int v5), (0, .int v4), (1, .ref a1), (4, .int x4)]) h dJ11_signedHashCode_29 rfl cx_ic_1 (cx_lt rfl) (fun _ => rfl) (fun v5 h => ?_)
    refine cq_goto 8 dJ11_signedHashCode_32 rfl ?_
    refine cq_sub (lv' := [(0, .int v4), (1, va_rf (some a1)), (4, .int x4), (5, .int v5)]) [1, 2, 3, 0] rfl ?_
    exact hr_8 M P L k n v4 ((some a1)) x4 v5 hk h
def jX_signedHashCode_8 (N : Nat) (bc bs : Nat) (Q : cd_Qt) : Nat → cx_M → dP → dL → Nat → Nat → Int32 → Option Nat → Int32 → Int32 → Prop :=
  cx_fix (fun _ _ _ _ _ _ _ _ _ => False) (fun r_8 => jX_signedHashCode_8b N bc bs Q r_8)
theorem jX_signedHashCode_8_v {l : Launch} {g : cx_G} {X : cx_X} {N : Nat} {bc bs : Nat} {Q : cd_Qt} (H : dH g) (hX : X.2.2.2.2.2.2.1.name = "signedHashCode") : ∀ (f : Nat) (M : cx_M) (P : dP) (L : dL) (k n : Nat) (x0 : Int32) (x1 : Option Nat) (x4 : Int32) (x5 : Int32), (k ≤ bc ∧ n ≤ bs) → jX_signedHashCode_8 N bc bs Q f M P L k n x0 x1 x4 x5 → cq_V l (dG g L P) X (esJ11_signedHashCode bc bs) cJ11_signedHashCode 8 [(0, .int x0), (1, va_rf x1), (4, .int x4), (5, .int x5)] [] M k n (cd_fin g X (esJ11_signedHashCode bc bs) cd_rI Q) :=
  cx_fixI (fun (r : cx_M → dP → dL → Nat → Nat → Int32 → Option Nat → Int32 → Int32 → Prop) => ∀ (M : cx_M) (P : dP) (L : dL) (k n : Nat) (x0 : Int32) (x1 : Option Nat) (x4 : Int32) (x5 : Int32), (k ≤ bc ∧ n ≤ bs) → r M P L k n x0 x1 x4 x5 → cq_V l (dG g L P) X (esJ11_signedHashCode bc bs) cJ11_signedHashCode 8 [(0, .int x0), (1, va_rf x1), (4, .int x4), (5, .int x5)] [] M k n (cd_fin g X (esJ11_signedHashCode bc bs) cd_rI Q)) (fun _ _ _ _ _ _ _ _ _ _ h => by cases h) (fun r hr M P L k n x0 x1 x4 x5 hk h => jX_signedHashCode_8b_v H hX hr M P L k n x0 x1 x4 x5 hk h)
def jX_signedHashCode_0 (N : Nat) (bc bs : Nat) (Q : cd_Qt) (M : cx_M) (P : dP) (L : dL) (k n : Nat) (x0 : Int32) (x1 : Option Nat) (x2 : Int32) (x3 : Int32) : Prop :=
  cq_let (x2 + x3) fun v1 =>
  jX_signedHashCode_8 N bc bs Q N M P L k n x0 x1 v1 x2
set_option maxRecDepth 100000 in
theorem jX_signedHashCode_0_v {l : Launch} {g : cx_G} {X : cx_X} {N : Nat} {bc bs : Nat} {Q : cd_Qt} (H : dH g) (hX : X.2.2.2.2.2.2.1.name = "signedHashCode") (M : cx_M) (P : dP) (L : dL) (k n : Nat) (x0 : Int32) (x1 : Option Nat) (x2 : Int32) (x3 : Int32) (hk : k ≤ bc ∧ n ≤ bs) (h : jX_signedHashCode_0 N bc bs Q M P L k n x0 x1 x2 x3) : cq_V l (dG g L P) X (esJ11_signedHashCode bc bs) cJ11_signedHashCode 0 [(0, .int x0), (1, va_rf x1), (2, .int x2), (3, .int x3)] [] M k n (cd_fin g X (esJ11_signedHashCode bc bs) cd_rI Q) := by
  unfold jX_signedHashCode_0 at h
  refine cq_iload_n 2 dJ11_signedHashCode_0 rfl ?_
  refine cq_iload_n 3 dJ11_signedHashCode_1 rfl ?_
  refine cq_iadd dJ11_signedHashCode_2 ?_
  refine cq_letI h (fun v1 h => ?_)
  refine cq_istore [(4, .int v1), (0, .int x0), (1, va_rf x1), (2, .int x2), (3, .int x3)] dJ11_signedHashCode_3 (cx_lt rfl) rfl ?_
  refine cq_iload_n 3 dJ11_signedHashCode_5 rfl ?_
  refine cq_istore [(5, .int x2), (4, .int v1), (0, .int x0), (1, va_rf x1), (2, .int x2), (3, .int x3)] dJ11_signedHashCode_6 (cx_lt rfl) rfl ?_
  refine cq_sub (lv' := [(0, .int x0), (1, va_rf x1), (4, .int v1), (5, .int x2)]) [2, 3, 1, 0] rfl ?_
  exact jX_signedHashCode_8_v H hX N M P L k n x0 x1 v1 x2 hk h
def jX_signedHashCode (N : Nat) (bc bs : Nat) (M : cx_M) (P : dP) (L : dL) (x0 : Int32) (x1 : Option Nat) (x2 : Int32) (x3 : Int32) (Q : cd_Qt) : Prop := jX_signedHashCode_0 N bc bs Q M P L 0 0 x0 x1 x2 x3
set_option maxRecDepth 100000 in
theorem jX_signedHashCode_m {l : Launch} {g : cx_G} {N : Nat} {bc bs : Nat} {Q : cd_Qt} (H : dH g) (M : cx_M) (P : dP) (L : dL) (x0 : Int32) (x1 : Option Nat) (x2 : Int32) (x3 : Int32) (h : jX_signedHashCode N bc bs M P L x0 x1 x2 x3 Q) : cd_Met l g yJ11_signedHashCode cJ11_signedHashCode (esJ11_signedHashCode bc bs) cd_rI [.int x0, va_rf x1, .int x2, .int x3] M P L Q :=
  cd_met (by decide +kernel) rfl rfl (lv := [(0, .int x0), (1, va_rf x1), (2, .int x2), (3, .int x3)]) (by cases x1 <;> rfl) (by cases x1 <;> exact cx_le rfl) (fun X hX => cq_sub (lv' := [(0, .int x0), (1, va_rf x1), (2, .int x2), (3, .int x3)]) [0, 1, 2, 3] rfl (jX_signedHashCode_0_v H hX M P L 0 0 x0 x1 x2 x3 ⟨Nat.zero_le _, Nat.zero_le _⟩ h))

abbrev esJ11_vectorizedHashCode (bc bs : Nat) : cx_S := (5, RJ11, cx_rI, { frames := 1, cells := bc, slots := bs, locals := 25 }, some .int, false)
def jX_vectorizedHashCode_0 (N : Nat) (bc bs : Nat) (Q : cd_Qt) (b0 : Nat) (M : cx_M) (P : dP) (L : dL) (k n : Nat) (x1 : Int32) (x2 : Int32) (x3 : Int32) (x4 : Int32) : Prop :=
  cq_sw x4 4 [
      (∃ z1, (b0, (1, 2, z1)) ∈ L ∧
      jX_signedHashCode N (bc - k) (bs - n) M P L x3 (some b0) x1 x2 (fun M2 P3 L4 v5 r6 e9 k7 n8 => e9 = 0 → cd_add k k7 n n8 fun k9 n10 =>
      Q M2 P3 L4 v5 none 0 k9 n10)),
      (False),
      (False),
      (False),
      (False),
      (False),
      (False)
    ] (
      False)
set_option maxRecDepth 100000 in
theorem jX_vectorizedHashCode_0_v {l : Launch} {g : cx_G} {X : cx_X} {N : Nat} {bc bs : Nat} {Q : cd_Qt} {b0 : Nat} (H : dH g) (hX : X.2.2.2.2.2.2.1.name = "vectorizedHashCode") (M : cx_M) (P : dP) (L : dL) (k n : Nat) (x1 : Int32) (x2 : Int32) (x3 : Int32) (x4 : Int32) (hk : k ≤ bc ∧ n ≤ bs) (h : jX_vectorizedHashCode_0 N bc bs Q b0 M P L k n x1 x2 x3 x4) : cq_V l (dG g L P) X (esJ11_vectorizedHashCode bc bs) cJ11_vectorizedHashCode 0 [(0, .ref b0), (1, .int x1), (2, .int x2), (3, .int x3), (4, .int x4)] [] M k n (cd_fin g X (esJ11_vectorizedHashCode bc bs) cd_rI Q) := by
  unfold jX_vectorizedHashCode_0 at h
  refine cq_iload 4 dJ11_vectorizedHashCode_0 rfl ?_
  refine cq_table 129 [44, 57, 129, 129, 90, 103, 116] 7 h dJ11_vectorizedHashCode_2 (by decide +kernel) rfl rfl rfl (by decide +kernel) (fun h => ?_) (cd_tabC ?_ (cd_tabC ?_ (cd_tabC ?_ (cd_tabC ?_ (cd_tabC ?_ (cd_tabC ?_ (cd_tabC ?_ cd_tabN)))))))
  · cases h
  · intro h
    refine cq_at (pc2 := 44) rfl ?_
    refine cq_iload_n 3 dJ11_vectorizedHashCode_44 rfl ?_
    refine cq_aload_n 0 dJ11_vectorizedHashCode_45 rfl ?_
    obtain ⟨z1, hm, h⟩ := h
    refine cq_nd H.1 (fun hn => cd_castAB H.1 hn hm q1531 dJ11_vectorizedHashCode_46 ?_)
    refine cq_iload_n 1 dJ11_vectorizedHashCode_49 rfl ?_
    refine cq_iload_n 2 dJ11_vectorizedHashCode_50 rfl ?_
    refine cd_cS [.int x3, va_rf (some b0), .int x1, .int x2] [] (jX_signedHashCode_m H (N := N) (bc := bc - k) (bs := bs - n) M P L x3 (some b0) x1 x2 h) dJ11_vectorizedHashCode_51 gd_J11_62 hgd_J11_62 ⟨cx_le rfl, cx_le rfl⟩ (cd_bud hk) rfl (cx_le rfl) (fun M2 P3 L4 v5 r6 k7 n8 hk2 h => ?_)
    refine cd_addI (h rfl) (cd_bk hk hk2) (fun k9 n10 h hk => ?_)
    refine cq_goto 157 dJ11_vectorizedHashCode_54 rfl ?_
    exact cd_iret hk h rfl dJ11_vectorizedHashCode_157
  · intro h
    refine cq_at (pc2 := 57) rfl ?_
    cases h
  · intro h
    refine cq_at (pc2 := 129) rfl ?_
    cases h
  · intro h
    refine cq_at (pc2 := 129) rfl ?_
    cases h
  · intro h
    refine cq_at (pc2 := 90) rfl ?_
    cases h
  · intro h
    refine cq_at (pc2 := 103) rfl ?_
    cases h
  · intro h
    refine cq_at (pc2 := 116) rfl ?_
    cases h
def jX_vectorizedHashCode (N : Nat) (bc bs : Nat) (M : cx_M) (P : dP) (L : dL) (b0 : Nat) (x1 : Int32) (x2 : Int32) (x3 : Int32) (x4 : Int32) (Q : cd_Qt) : Prop := jX_vectorizedHashCode_0 N bc bs Q b0 M P L 0 0 x1 x2 x3 x4
set_option maxRecDepth 100000 in
theorem jX_vectorizedHashCode_m {l : Launch} {g : cx_G} {N : Nat} {bc bs : Nat} {Q : cd_Qt} (H : dH g) (M : cx_M) (P : dP) (L : dL) (b0 : Nat) (x1 : Int32) (x2 : Int32) (x3 : Int32) (x4 : Int32) (h : jX_vectorizedHashCode N bc bs M P L b0 x1 x2 x3 x4 Q) : cd_Met l g yJ11_vectorizedHashCode cJ11_vectorizedHashCode (esJ11_vectorizedHashCode bc bs) cd_rI [.ref b0, .int x1, .int x2, .int x3, .int x4] M P L Q :=
  cd_met (by decide +kernel) rfl rfl (lv := [(0, .ref b0), (1, .int x1), (2, .int x2), (3, .int x3), (4, .int x4)]) rfl (cx_le rfl) (fun X hX => cq_sub (lv' := [(0, .ref b0), (1, .int x1), (2, .int x2), (3, .int x3), (4, .int x4)]) [0, 1, 2, 3, 4] rfl (jX_vectorizedHashCode_0_v H hX M P L 0 0 x1 x2 x3 x4 ⟨Nat.zero_le _, Nat.zero_le _⟩ h))

abbrev esJ15_hashCode (bc bs : Nat) : cx_S := (1, RJ15, cx_rI, { frames := 2, cells := bc, slots := bs, locals := 49 }, some .int, false)
def jL_hashCode_0 (N : Nat) (bc bs : Nat) (Q : cd_Qt) (M : cx_M) (P : dP) (L : dL) (k n : Nat) (x0 : Option Nat) : Prop :=
  cd_nn x0 fun a1 =>
  ∃ z2, (a1, (1, 2, z2)) ∈ L ∧
  cd_lsw (nI z2) [
      (0, Q M P L 0 none 0 k n),
      (1, ∃ z14, (a1, (1, 2, z14)) ∈ L ∧ cq_ld M (dc a1) z14 0 fun v13 =>
      Q M P L (v13 &&& 255) none 0 k n)
    ] (
      ∃ z3, (a1, (1, 2, z3)) ∈ L ∧
      jX_vectorizedHashCode N (bc - k) (bs - n) M P L a1 0 (nI z3) 0 4 (fun M4 P5 L6 v7 r8 e9 k9 n10 => e9 = 0 → cd_add k k9 n n10 fun k11 n12 =>
      Q M4 P5 L6 v7 none 0 k11 n12))
set_option maxRecDepth 100000 in
theorem jL_hashCode_0_v {l : Launch} {g : cx_G} {X : cx_X} {N : Nat} {bc bs : Nat} {Q : cd_Qt} (H : dH g) (hX : X.2.2.2.2.2.2.1.name = "hashCode") (M : cx_M) (P : dP) (L : dL) (k n : Nat) (x0 : Option Nat) (hk : k ≤ bc ∧ n ≤ bs) (h : jL_hashCode_0 N bc bs Q M P L k n x0) : cq_V l (dG g L P) X (esJ15_hashCode bc bs) cJ15_hashCode 0 [(0, va_rf x0)] [] M k n (cd_fin g X (esJ15_hashCode bc bs) cd_rI Q) := by
  unfold jL_hashCode_0 at h
  refine cd_aload_n (v := x0) 0 dJ15_hashCode_0 rfl ?_
  obtain ⟨a1, e9, h⟩ := cd_nn_some h
  subst e9
  obtain ⟨z2, hm, h⟩ := h
  refine cq_nd H.1 (fun hn => cq_alen (nI z2) (dG_AI H.1 hn hm rfl) rfl dJ15_hashCode_1 ?_)
  refine cd_lookup 42 [(0, 28), (1, 32)] h dJ15_hashCode_2 rfl (by decide +kernel) (fun h => ?_) (cd_tabC ?_ (cd_tabC ?_ cd_tabN))
  · refine cq_aload_n 0 dJ15_hashCode_42 rfl ?_
    refine cq_iconst 0 dJ15_hashCode_43 cx_ic_0 ?_
    refine cq_aload_n 0 dJ15_hashCode_44 rfl ?_
    obtain ⟨z3, hm, h⟩ := h
    refine cq_nd H.1 (fun hn => cq_alen (nI z3) (dG_AI H.1 hn hm rfl) rfl dJ15_hashCode_45 ?_)
    refine cq_iconst 0 dJ15_hashCode_46 cx_ic_0 ?_
    refine cq_iconst 4 dJ15_hashCode_47 cx_ic_4 ?_
    refine cd_cS [.ref a1, .int 0, .int (nI z3), .int 0, .int 4] [] (jX_vectorizedHashCode_m H (N := N) (bc := bc - k) (bs := bs - n) M P L a1 0 (nI z3) 0 4 h) dJ15_hashCode_48 gd_J15_84 hgd_J15_84 ⟨cx_le rfl, cx_le rfl⟩ (cd_bud hk) rfl (cx_le rfl) (fun M4 P5 L6 v7 r8 k9 n10 hk2 h => ?_)
    refine cd_addI (h rfl) (cd_bk hk hk2) (fun k11 n12 h hk => ?_)
    exact cd_iret hk h rfl dJ15_hashCode_51
  · intro h
    refine cq_at (pc2 := 28) rfl ?_
    refine cq_iconst 0 dJ15_hashCode_28 cx_ic_0 ?_
    refine cq_goto 51 dJ15_hashCode_29 rfl ?_
    exact cd_iret hk h rfl dJ15_hashCode_51
  · intro h
    refine cq_at (pc2 := 32) rfl ?_
    refine cq_aload_n 0 dJ15_hashCode_32 rfl ?_
    refine cq_iconst 0 dJ15_hashCode_33 cx_ic_0 ?_
    obtain ⟨z14, hm, h⟩ := h
    refine cq_nd H.1 (fun hn => cq_ldBy h (dG_AI H.1 hn hm rfl) dJ15_hashCode_34 (fun v13 h => ?_))
    refine cq_sipush 255 dJ15_hashCode_35 cx_sp_255 ?_
    refine cq_iand dJ15_hashCode_38 ?_
    refine cq_goto 51 dJ15_hashCode_39 rfl ?_
    exact cd_iret hk h rfl dJ15_hashCode_51
def jL_hashCode (N : Nat) (bc bs : Nat) (M : cx_M) (P : dP) (L : dL) (x0 : Option Nat) (Q : cd_Qt) : Prop := jL_hashCode_0 N bc bs Q M P L 0 0 x0
set_option maxRecDepth 100000 in
theorem jL_hashCode_m {l : Launch} {g : cx_G} {N : Nat} {bc bs : Nat} {Q : cd_Qt} (H : dH g) (M : cx_M) (P : dP) (L : dL) (x0 : Option Nat) (h : jL_hashCode N bc bs M P L x0 Q) : cd_Met l g yJ15_hashCode cJ15_hashCode (esJ15_hashCode bc bs) cd_rI [va_rf x0] M P L Q :=
  cd_met (by decide +kernel) rfl rfl (lv := [(0, va_rf x0)]) (by cases x0 <;> rfl) (by cases x0 <;> exact cx_le rfl) (fun X hX => cq_sub (lv' := [(0, va_rf x0)]) [0] rfl (jL_hashCode_0_v H hX M P L 0 0 x0 ⟨Nat.zero_le _, Nat.zero_le _⟩ h))

abbrev esJ9_isLatin1 (bc bs : Nat) : cx_S := (1, RJ9, cx_rI, { frames := 0, cells := bc, slots := bs, locals := 0 }, some .boolean, false)
def jS_isLatin1_0 (N : Nat) (bc bs : Nat) (Q : cd_Qt) (a0 : Nat) (M : cx_M) (P : dP) (L : dL) (k n : Nat) : Prop :=
  (a0, (0, 17, 0)) ∈ L ∧ cq_get M (dc a0) 1 fun v1 =>
  if v1 = 0 then (
    Q M P L 1 none 0 k n)
  else (
    Q M P L 0 none 0 k n)
set_option maxRecDepth 100000 in
theorem jS_isLatin1_0_v {l : Launch} {g : cx_G} {X : cx_X} {N : Nat} {bc bs : Nat} {Q : cd_Qt} {a0 : Nat} (H : dH g) (hX : X.2.2.2.2.2.2.1.name = "isLatin1") (M : cx_M) (P : dP) (L : dL) (k n : Nat) (hk : k ≤ bc ∧ n ≤ bs) (h : jS_isLatin1_0 N bc bs Q a0 M P L k n) : cq_V l (dG g L P) X (esJ9_isLatin1 bc bs) cJ9_isLatin1 0 [(0, .ref a0)] [] M k n (cd_fin g X (esJ9_isLatin1 bc bs) cd_rI Q) := by
  unfold jS_isLatin1_0 at h
  refine cq_gets (fun U k => (H.2.1 U k).1) q361 dJ9_isLatin1_0 ?_
  refine cq_if_eq 17 (A := False) (B := _) (by rw [if_neg (by decide)]; exact h) dJ9_isLatin1_3 rfl (fun h => by cases h) (fun h => ?_)
  refine cq_aload_n 0 dJ9_isLatin1_6 rfl ?_
  refine cq_nd H.1 (fun hn => cq_getI h.2 (dG_FI H.1 hn h.1 dCl_J9 (cx_lt rfl) rfl rfl rfl) q503 dJ9_isLatin1_7 (fun v1 h => ?_))
  refine cq_if_ne 17 h dJ9_isLatin1_10 rfl (fun h => ?_) (fun h => ?_)
  · refine cq_iconst 0 dJ9_isLatin1_17 cx_ic_0 ?_
    exact cd_zret hk h cx_z_0 rfl dJ9_isLatin1_18
  · refine cq_iconst 1 dJ9_isLatin1_13 cx_ic_1 ?_
    refine cq_goto 18 dJ9_isLatin1_14 rfl ?_
    exact cd_zret hk h cx_z_1 rfl dJ9_isLatin1_18
def jS_isLatin1 (N : Nat) (bc bs : Nat) (M : cx_M) (P : dP) (L : dL) (a0 : Nat) (Q : cd_Qt) : Prop := jS_isLatin1_0 N bc bs Q a0 M P L 0 0
set_option maxRecDepth 100000 in
theorem jS_isLatin1_m {l : Launch} {g : cx_G} {N : Nat} {bc bs : Nat} {Q : cd_Qt} (H : dH g) (M : cx_M) (P : dP) (L : dL) (a0 : Nat) (h : jS_isLatin1 N bc bs M P L a0 Q) : cd_Met l g yJ9_isLatin1 cJ9_isLatin1 (esJ9_isLatin1 bc bs) cd_rI [.ref a0] M P L Q :=
  cd_met (by decide +kernel) rfl rfl (lv := [(0, .ref a0)]) rfl (cx_le rfl) (fun X hX => cq_sub (lv' := [(0, .ref a0)]) [0] rfl (jS_isLatin1_0_v H hX M P L 0 0 ⟨Nat.zero_le _, Nat.zero_le _⟩ h))

abbrev esJ9_hashCode (bc bs : Nat) : cx_S := (2, RJ9, cx_rI, { frames := 3, cells := bc, slots := bs, locals := 69 }, some .int, false)
def jS_hashCode_40 (N : Nat) (bc bs : Nat) (Q : cd_Qt) (a0 : Nat) (M : cx_M) (P : dP) (L : dL) (k n : Nat) (z0 : Int32) : Prop :=
  if z0 = 0 then (
    (a0, (0, 17, 0)) ∈ L ∧ cq_put M (dc a0) 3 1 fun M2 =>
    Q M2 P L z0 none 0 k n)
  else (
    (a0, (0, 17, 0)) ∈ L ∧ cq_put M (dc a0) 2 z0 fun M1 =>
    Q M1 P L z0 none 0 k n)
set_option maxRecDepth 100000 in
theorem jS_hashCode_40_v {l : Launch} {g : cx_G} {X : cx_X} {N : Nat} {bc bs : Nat} {Q : cd_Qt} {a0 : Nat} (H : dH g) (hX : X.2.2.2.2.2.2.1.name = "hashCode") (M : cx_M) (P : dP) (L : dL) (k n : Nat) (z0 : Int32) (hk : k ≤ bc ∧ n ≤ bs) (h : jS_hashCode_40 N bc bs Q a0 M P L k n z0) : cq_V l (dG g L P) X (esJ9_hashCode bc bs) cJ9_hashCode 40 [(0, .ref a0)] [.int z0] M k n (cd_fin g X (esJ9_hashCode bc bs) cd_rI Q) := by
  unfold jS_hashCode_40 at h
  refine cq_istore_n [(1, .int z0), (0, .ref a0)] dJ9_hashCode_40 (cx_lt rfl) rfl ?_
  refine cq_iload_n 0 dJ9_hashCode_41 rfl ?_
  refine cq_if_ne 53 h dJ9_hashCode_42 rfl (fun h => ?_) (fun h => ?_)
  · refine cq_aload_n 1 dJ9_hashCode_53 rfl ?_
    refine cq_iload_n 0 dJ9_hashCode_54 rfl ?_
    refine cq_nd H.1 (fun hn => cq_putI h.2 (dG_FI H.1 hn h.1 dCl_J9 (cx_lt rfl) rfl rfl rfl) rfl rfl rfl q504 dJ9_hashCode_55 (fun M1 h => ?_))
    refine cq_iload_n 0 dJ9_hashCode_58 rfl ?_
    exact cd_iret hk h rfl dJ9_hashCode_59
  · refine cq_aload_n 1 dJ9_hashCode_45 rfl ?_
    refine cq_iconst 1 dJ9_hashCode_46 cx_ic_1 ?_
    refine cq_nd H.1 (fun hn => cq_putI h.2 (dG_FI H.1 hn h.1 dCl_J9 (cx_lt rfl) rfl rfl rfl) cx_z_1 cx_f_1 rfl q505 dJ9_hashCode_47 (fun M2 h => ?_))
    refine cq_goto 58 dJ9_hashCode_50 rfl ?_
    refine cq_iload_n 0 dJ9_hashCode_58 rfl ?_
    exact cd_iret hk h rfl dJ9_hashCode_59
def jS_hashCode_0 (N : Nat) (bc bs : Nat) (Q : cd_Qt) (a0 : Nat) (M : cx_M) (P : dP) (L : dL) (k n : Nat) : Prop :=
  (a0, (0, 17, 0)) ∈ L ∧ cq_get M (dc a0) 2 fun v1 =>
  if v1 = 0 then (
    (a0, (0, 17, 0)) ∈ L ∧ cq_get M (dc a0) 3 fun v2 =>
    if v2 = 0 then (
      (a0, (0, 17, 0)) ∈ L ∧
      jS_isLatin1 N (bc - k) (bs - n) M P L a0 (fun M3 P4 L5 v6 r7 e9 k8 n9 => e9 = 0 → cd_add k k8 n n9 fun k10 n11 =>
      if v6 = 0 then (
        False)
      else (
        (a0, (0, 17, 0)) ∈ L5 ∧ cd_let (P4 a0 0) fun r12 =>
        jL_hashCode N (bc - k10) (bs - n11) M3 P4 L5 r12 (fun M13 P14 L15 v16 r17 e9 k18 n19 => e9 = 0 → cd_add k10 k18 n11 n19 fun k20 n21 =>
        jS_hashCode_40 N bc bs Q a0 M13 P14 L15 k20 n21 v16))))
    else (
      Q M P L v1 none 0 k n))
  else (
    Q M P L v1 none 0 k n)
set_option maxRecDepth 100000 in
theorem jS_hashCode_0_v {l : Launch} {g : cx_G} {X : cx_X} {N : Nat} {bc bs : Nat} {Q : cd_Qt} {a0 : Nat} (H : dH g) (hX : X.2.2.2.2.2.2.1.name = "hashCode") (M : cx_M) (P : dP) (L : dL) (k n : Nat) (hk : k ≤ bc ∧ n ≤ bs) (h : jS_hashCode_0 N bc bs Q a0 M P L k n) : cq_V l (dG g L P) X (esJ9_hashCode bc bs) cJ9_hashCode 0 [(0, .ref a0)] [] M k n (cd_fin g X (esJ9_hashCode bc bs) cd_rI Q) := by
  unfold jS_hashCode_0 at h
  refine cq_aload_n 0 dJ9_hashCode_0 rfl ?_
  refine cq_nd H.1 (fun hn => cq_getI h.2 (dG_FI H.1 hn h.1 dCl_J9 (cx_lt rfl) rfl rfl rfl) q504 dJ9_hashCode_1 (fun v1 h => ?_))
  refine cq_istore_n [(1, .int v1), (0, .ref a0)] dJ9_hashCode_4 (cx_lt rfl) rfl ?_
  refine cq_iload_n 0 dJ9_hashCode_5 rfl ?_
  refine cq_if_ne 58 h dJ9_hashCode_6 rfl (fun h => ?_) (fun h => ?_)
  · refine cq_iload_n 0 dJ9_hashCode_58 rfl ?_
    exact cd_iret hk h rfl dJ9_hashCode_59
  · refine cq_aload_n 1 dJ9_hashCode_9 rfl ?_
    refine cq_nd H.1 (fun hn => cq_getI h.2 (dG_FI H.1 hn h.1 dCl_J9 (cx_lt rfl) rfl rfl rfl) q505 dJ9_hashCode_10 (fun v2 h => ?_))
    refine cq_if_ne 58 h dJ9_hashCode_13 rfl (fun h => ?_) (fun h => ?_)
    · refine cq_iload_n 0 dJ9_hashCode_58 rfl ?_
      exact cd_iret hk h rfl dJ9_hashCode_59
    · refine cq_aload_n 1 dJ9_hashCode_16 rfl ?_
      obtain ⟨hmr, h⟩ := h
      refine cd_cV [] [] (jS_isLatin1_m H (N := N) (bc := bc - k) (bs := bs - n) M P L a0 h) (dG_Rc H.1 hmr dCl_J9) dJ9_hashCode_17 gd_J9_492 hgd_J9_492 ⟨cx_le rfl, cx_le rfl⟩ (cd_bud hk) rfl (cx_le rfl) (fun M3 P4 L5 v6 r7 k8 n9 hk2 h => ?_)
      refine cd_addI (h rfl) (cd_bk hk hk2) (fun k10 n11 h hk => ?_)
      refine cq_if_eq 33 h dJ9_hashCode_20 rfl (fun h => ?_) (fun h => ?_)
      · cases h
      · refine cq_aload_n 1 dJ9_hashCode_23 rfl ?_
        refine cq_getR (dG_FR (k := 0) H.1 h.1 dCl_J9 (cx_lt rfl) rfl rfl) q502 dJ9_hashCode_24 ?_
        refine cd_letI h.2 (fun r12 h => ?_)
        refine cd_cS [va_rf r12] [] (jL_hashCode_m H (N := N) (bc := bc - k10) (bs := bs - n11) M3 P4 L5 r12 h) dJ9_hashCode_27 gd_J9_628 hgd_J9_628 ⟨cx_le rfl, cx_le rfl⟩ (cd_bud hk) rfl (cx_le rfl) (fun M13 P14 L15 v16 r17 k18 n19 hk2 h => ?_)
        refine cd_addI (h rfl) (cd_bk hk hk2) (fun k20 n21 h hk => ?_)
        refine cq_goto 40 dJ9_hashCode_30 rfl ?_
        refine cq_sub (lv' := [(0, .ref a0)]) [1] rfl ?_
        exact jS_hashCode_40_v H hX M13 P14 L15 k20 n21 v16 hk h
def jS_hashCode (N : Nat) (bc bs : Nat) (M : cx_M) (P : dP) (L : dL) (a0 : Nat) (Q : cd_Qt) : Prop := jS_hashCode_0 N bc bs Q a0 M P L 0 0
set_option maxRecDepth 100000 in
theorem jS_hashCode_m {l : Launch} {g : cx_G} {N : Nat} {bc bs : Nat} {Q : cd_Qt} (H : dH g) (M : cx_M) (P : dP) (L : dL) (a0 : Nat) (h : jS_hashCode N bc bs M P L a0 Q) : cd_Met l g yJ9_hashCode cJ9_hashCode (esJ9_hashCode bc bs) cd_rI [.ref a0] M P L Q :=
  cd_met (by decide +kernel) rfl rfl (lv := [(0, .ref a0)]) rfl (cx_le rfl) (fun X hX => cq_sub (lv' := [(0, .ref a0)]) [0] rfl (jS_hashCode_0_v H hX M P L 0 0 ⟨Nat.zero_le _, Nat.zero_le _⟩ h))
