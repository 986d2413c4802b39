section CQE
variable {l : Launch} {g : cx_G} {L : dL} {P : dP} {X : cx_X} {S : cx_S} {cc : ByteArray} {pc : Nat} {lv : List (Nat × Value)} {st : List Value} {M : cx_M} {k n : Nat} {Q : State → Prop}
theorem cq_ixor {x y : Int32} (d : decode cc pc = .ok (.ixor, 1)) (K : cq_V l g X S cc (pc + 1) lv (.int (x ^^^ y) :: st) M k n Q) : cq_V l g X S cc pc lv (.int y :: .int x :: st) M k n Q := fun hk H locs ls hw hS hl => lv_ixor hk.1 hk.2.1 d (K hk H locs ls hw hS hl)
end CQE
theorem cx_ic_16 : Int32.ofInt 16 = 16 := by decide +kernel
theorem cx_ic_8 : Int32.ofInt 8 = 8 := by decide +kernel
theorem dCl_J19 : cx_Cl 21 RJ19 TJ19 3 tyJ19 := ⟨rfl, in_J19, tyJ19_ok, nmJ19⟩
theorem gd_J24_311D : GoodIn lw_all (va_wsS RJ24 311 yJ17_numberOfTrailingZeros (ws_ yJ17_numberOfTrailingZeros cJ17_numberOfTrailingZeros 2 (some .int))) := lw_S q1851 q1852 q136 q1853
theorem hgd_J24_311D : yJ17_numberOfTrailingZeros.cls ≠ "java/lang/invoke/MethodHandle" ∧ yJ17_numberOfTrailingZeros.cls ≠ "java/lang/invoke/VarHandle" ∧ (parseMethodDescriptor yJ17_numberOfTrailingZeros.desc).map (fun d => d.parameters.length) = some 1 := by decide +kernel
theorem gd_J19_52D : GoodIn lw_all (va_wsS RJ19 52 yJ19_wordIndex (ws_ yJ19_wordIndex cJ19_wordIndex 1 (some .int))) := lw_S q634 q635 q142 q636
theorem hgd_J19_52D : yJ19_wordIndex.cls ≠ "java/lang/invoke/MethodHandle" ∧ yJ19_wordIndex.cls ≠ "java/lang/invoke/VarHandle" ∧ (parseMethodDescriptor yJ19_wordIndex.desc).map (fun d => d.parameters.length) = some 1 := by decide +kernel
theorem gd_J19_27D : GoodIn lw_all (wsV RJ19 27 RJ19 yJ19_initWords (ws_ yJ19_initWords cJ19_initWords 2 none)) := lw_V q630 q632 qs1 q142 q633
theorem hgd_J19_27D : yJ19_initWords.cls = RJ19 ∧ yJ19_initWords.cls ≠ "java/lang/invoke/MethodHandle" ∧ yJ19_initWords.cls ≠ "java/lang/invoke/VarHandle" ∧ (parseMethodDescriptor yJ19_initWords.desc).map (fun d => d.parameters.length) = some 1 := by decide +kernel
theorem gd_J19_139D : GoodIn lw_all (wsV RJ19 139 RJ19 yJ19_ensureCapacity (ws_ yJ19_ensureCapacity cJ19_ensureCapacity 3 none)) := lw_V q1136 q1138 qs11 q142 q1139
theorem hgd_J19_139D : yJ19_ensureCapacity.cls = RJ19 ∧ yJ19_ensureCapacity.cls ≠ "java/lang/invoke/MethodHandle" ∧ yJ19_ensureCapacity.cls ≠ "java/lang/invoke/VarHandle" ∧ (parseMethodDescriptor yJ19_ensureCapacity.desc).map (fun d => d.parameters.length) = some 1 := by decide +kernel
theorem gd_J19_155D : GoodIn lw_all (wsV RJ19 155 RJ19 yJ19_expandTo (ws_ yJ19_expandTo cJ19_expandTo 3 none)) := lw_V q1289 q1291 qs24 q142 q1292
theorem hgd_J19_155D : yJ19_expandTo.cls = RJ19 ∧ yJ19_expandTo.cls ≠ "java/lang/invoke/MethodHandle" ∧ yJ19_expandTo.cls ≠ "java/lang/invoke/VarHandle" ∧ (parseMethodDescriptor yJ19_expandTo.desc).map (fun d => d.parameters.length) = some 1 := by decide +kernel
theorem gd_J19_56D : GoodIn lw_all (wsV RJ19 56 RJ19 yJ19_checkInvariants (ws_ yJ19_checkInvariants cJ19_checkInvariants 1 none)) := lw_V q1150 q1152 qs12 q142 q1153
theorem hgd_J19_56D : yJ19_checkInvariants.cls = RJ19 ∧ yJ19_checkInvariants.cls ≠ "java/lang/invoke/MethodHandle" ∧ yJ19_checkInvariants.cls ≠ "java/lang/invoke/VarHandle" ∧ (parseMethodDescriptor yJ19_checkInvariants.desc).map (fun d => d.parameters.length) = some 0 := by decide +kernel
theorem gd_J19_182D : GoodIn lw_all (va_wsS RJ19 182 yJ24_numberOfTrailingZeros (ws_ yJ24_numberOfTrailingZeros cJ24_numberOfTrailingZeros 3 (some .int))) := lw_S q1848 q1849 q160 q1850
theorem hgd_J19_182D : yJ24_numberOfTrailingZeros.cls ≠ "java/lang/invoke/MethodHandle" ∧ yJ24_numberOfTrailingZeros.cls ≠ "java/lang/invoke/VarHandle" ∧ (parseMethodDescriptor yJ24_numberOfTrailingZeros.desc).map (fun d => d.parameters.length) = some 1 := by decide +kernel
abbrev esJ17_numberOfTrailingZerosD (bc bs : Nat) : cx_S := (2, RJ17, cx_rI, { frames := 0, cells := bc, slots := bs, locals := 0 }, some .int, false)
def jI_numberOfTrailingZerosD_74 (N : Nat) (bc bs : Nat) (Q : cd_Qt) (M : cx_M) (P : dP) (L : dL) (k n : Nat) (x0 : Int32) (x1 : Int32) : Prop :=
  Q M P L (x1 + (cx_ushr x0 1)) none 0 k n
set_option maxRecDepth 100000 in
theorem jI_numberOfTrailingZerosD_74_v {l : Launch} {g : cx_G} {X : cx_X} {N : Nat} {bc bs : Nat} {Q : cd_Qt} (H : dH g) (hX : X.2.2.2.2.2.2.1.name = "numberOfTrailingZeros") (M : cx_M) (P : dP) (L : dL) (k n : Nat) (x0 : Int32) (x1 : Int32) (hk : k ≤ bc ∧ n ≤ bs) (h : jI_numberOfTrailingZerosD_74 N bc bs Q M P L k n x0 x1) : cq_V l (dG g L P) X (esJ17_numberOfTrailingZerosD bc bs) cJ17_numberOfTrailingZeros 74 [(0, .int x0), (1, .int x1)] [] M k n (cd_fin g X (esJ17_numberOfTrailingZerosD bc bs) cd_rI Q) := by
  unfold jI_numberOfTrailingZerosD_74 at h
  refine cq_iload_n 1 dJ17_numberOfTrailingZeros_74 rfl ?_
  refine cq_iload_n 0 dJ17_numberOfTrailingZeros_75 rfl ?_
  refine cq_iconst 1 dJ17_numberOfTrailingZeros_76 cx_ic_1 ?_
  refine cq_iushr dJ17_numberOfTrailingZeros_77 ?_
  refine cq_iadd dJ17_numberOfTrailingZeros_78 ?_
  exact cd_iret hk h rfl dJ17_numberOfTrailingZeros_79
def jI_numberOfTrailingZerosD_62 (N : Nat) (bc bs : Nat) (Q : cd_Qt) (M : cx_M) (P : dP) (L : dL) (k n : Nat) (x0 : Int32) (x1 : Int32) : Prop :=
  if x0 ≤ 4 then (
    jI_numberOfTrailingZerosD_74 N bc bs Q M P L k n x0 x1)
  else (
    cq_let (x1 + 2) fun v1 =>
    cq_let (cx_ushr x0 2) fun v2 =>
    jI_numberOfTrailingZerosD_74 N bc bs Q M P L k n v2 v1)
set_option maxRecDepth 100000 in
theorem jI_numberOfTrailingZerosD_62_v {l : Launch} {g : cx_G} {X : cx_X} {N : Nat} {bc bs : Nat} {Q : cd_Qt} (H : dH g) (hX : X.2.2.2.2.2.2.1.name = "numberOfTrailingZeros") (M : cx_M) (P : dP) (L : dL) (k n : Nat) (x0 : Int32) (x1 : Int32) (hk : k ≤ bc ∧ n ≤ bs) (h : jI_numberOfTrailingZerosD_62 N bc bs Q M P L k n x0 x1) : cq_V l (dG g L P) X (esJ17_numberOfTrailingZerosD bc bs) cJ17_numberOfTrailingZeros 62 [(0, .int x0), (1, .int x1)] [] M k n (cd_fin g X (esJ17_numberOfTrailingZerosD bc bs) cd_rI Q) := by
  unfold jI_numberOfTrailingZerosD_62 at h
  refine cq_iload_n 0 dJ17_numberOfTrailingZeros_62 rfl ?_
  refine cq_iconst 4 dJ17_numberOfTrailingZeros_63 cx_ic_4 ?_
  refine cq_icmp_le 74 h dJ17_numberOfTrailingZeros_64 rfl (fun h => ?_) (fun h => ?_)
  · exact jI_numberOfTrailingZerosD_74_v H hX M P L k n x0 x1 hk h
  · refine cq_iinc 1 2 (fun v1 => [(1, .int v1), (0, .int x0)]) h dJ17_numberOfTrailingZeros_67 rfl cx_ic_2 (cx_lt rfl) (fun _ => rfl) (fun v1 h => ?_)
    refine cq_iload_n 1 dJ17_numberOfTrailingZeros_70 rfl ?_
    refine cq_iconst 2 dJ17_numberOfTrailingZeros_71 cx_ic_2 ?_
    refine cq_iushr dJ17_numberOfTrailingZeros_72 ?_
    refine cq_letI h (fun v2 h => ?_)
    refine cq_istore_n [(0, .int v2), (1, .int v1)] dJ17_numberOfTrailingZeros_73 (cx_lt rfl) rfl ?_
    exact jI_numberOfTrailingZerosD_74_v H hX M P L k n v2 v1 hk h
def jI_numberOfTrailingZerosD_49 (N : Nat) (bc bs : Nat) (Q : cd_Qt) (M : cx_M) (P : dP) (L : dL) (k n : Nat) (x0 : Int32) (x1 : Int32) : Prop :=
  if x0 ≤ 16 then (
    jI_numberOfTrailingZerosD_62 N bc bs Q M P L k n x0 x1)
  else (
    cq_let (x1 + 4) fun v1 =>
    cq_let (cx_ushr x0 4) fun v2 =>
    jI_numberOfTrailingZerosD_62 N bc bs Q M P L k n v2 v1)
set_option maxRecDepth 100000 in
theorem jI_numberOfTrailingZerosD_49_v {l : Launch} {g : cx_G} {X : cx_X} {N : Nat} {bc bs : Nat} {Q : cd_Qt} (H : dH g) (hX : X.2.2.2.2.2.2.1.name = "numberOfTrailingZeros") (M : cx_M) (P : dP) (L : dL) (k n : Nat) (x0 : Int32) (x1 : Int32) (hk : k ≤ bc ∧ n ≤ bs) (h : jI_numberOfTrailingZerosD_49 N bc bs Q M P L k n x0 x1) : cq_V l (dG g L P) X (esJ17_numberOfTrailingZerosD bc bs) cJ17_numberOfTrailingZeros 49 [(0, .int x0), (1, .int x1)] [] M k n (cd_fin g X (esJ17_numberOfTrailingZerosD bc bs) cd_rI Q) := by
  unfold jI_numberOfTrailingZerosD_49 at h
  refine cq_iload_n 0 dJ17_numberOfTrailingZeros_49 rfl ?_
  refine cq_bipush 16 dJ17_numberOfTrailingZeros_50 cx_bp_16 ?_
  refine cq_icmp_le 62 h dJ17_numberOfTrailingZeros_52 rfl (fun h => ?_) (fun h => ?_)
  · exact jI_numberOfTrailingZerosD_62_v H hX M P L k n x0 x1 hk h
  · refine cq_iinc 1 4 (fun v1 => [(1, .int v1), (0, .int x0)]) h dJ17_numberOfTrailingZeros_55 rfl cx_ic_4 (cx_lt rfl) (fun _ => rfl) (fun v1 h => ?_)
    refine cq_iload_n 1 dJ17_numberOfTrailingZeros_58 rfl ?_
    refine cq_iconst 4 dJ17_numberOfTrailingZeros_59 cx_ic_4 ?_
    refine cq_iushr dJ17_numberOfTrailingZeros_60 ?_
    refine cq_letI h (fun v2 h => ?_)
    refine cq_istore_n [(0, .int v2), (1, .int v1)] dJ17_numberOfTrailingZeros_61 (cx_lt rfl) rfl ?_
    exact jI_numberOfTrailingZerosD_62_v H hX M P L k n v2 v1 hk h
def jI_numberOfTrailingZerosD_34 (N : Nat) (bc bs : Nat) (Q : cd_Qt) (M : cx_M) (P : dP) (L : dL) (k n : Nat) (x0 : Int32) (x1 : Int32) : Prop :=
  if x0 ≤ 256 then (
    jI_numberOfTrailingZerosD_49 N bc bs Q M P L k n x0 x1)
  else (
    cq_let (x1 + 8) fun v1 =>
    cq_let (cx_ushr x0 8) fun v2 =>
    jI_numberOfTrailingZerosD_49 N bc bs Q M P L k n v2 v1)
set_option maxRecDepth 100000 in
theorem jI_numberOfTrailingZerosD_34_v {l : Launch} {g : cx_G} {X : cx_X} {N : Nat} {bc bs : Nat} {Q : cd_Qt} (H : dH g) (hX : X.2.2.2.2.2.2.1.name = "numberOfTrailingZeros") (M : cx_M) (P : dP) (L : dL) (k n : Nat) (x0 : Int32) (x1 : Int32) (hk : k ≤ bc ∧ n ≤ bs) (h : jI_numberOfTrailingZerosD_34 N bc bs Q M P L k n x0 x1) : cq_V l (dG g L P) X (esJ17_numberOfTrailingZerosD bc bs) cJ17_numberOfTrailingZeros 34 [(0, .int x0), (1, .int x1)] [] M k n (cd_fin g X (esJ17_numberOfTrailingZerosD bc bs) cd_rI Q) := by
  unfold jI_numberOfTrailingZerosD_34 at h
  refine cq_iload_n 0 dJ17_numberOfTrailingZeros_34 rfl ?_
  refine cq_sipush 256 dJ17_numberOfTrailingZeros_35 cx_sp_256 ?_
  refine cq_icmp_le 49 h dJ17_numberOfTrailingZeros_38 rfl (fun h => ?_) (fun h => ?_)
  · exact jI_numberOfTrailingZerosD_49_v H hX M P L k n x0 x1 hk h
  · refine cq_iinc 1 8 (fun v1 => [(1, .int v1), (0, .int x0)]) h dJ17_numberOfTrailingZeros_41 rfl cx_ic_8 (cx_lt rfl) (fun _ => rfl) (fun v1 h => ?_)
    refine cq_iload_n 1 dJ17_numberOfTrailingZeros_44 rfl ?_
    refine cq_bipush 8 dJ17_numberOfTrailingZeros_45 cx_bp_8 ?_
    refine cq_iushr dJ17_numberOfTrailingZeros_47 ?_
    refine cq_letI h (fun v2 h => ?_)
    refine cq_istore_n [(0, .int v2), (1, .int v1)] dJ17_numberOfTrailingZeros_48 (cx_lt rfl) rfl ?_
    exact jI_numberOfTrailingZerosD_49_v H hX M P L k n v2 v1 hk h
def jI_numberOfTrailingZerosD_0 (N : Nat) (bc bs : Nat) (Q : cd_Qt) (M : cx_M) (P : dP) (L : dL) (k n : Nat) (x0 : Int32) : Prop :=
  cq_let ((x0 ^^^ (-1)) &&& (x0 - 1)) fun v1 =>
  if 0 < v1 then (
    if v1 ≤ 65536 then (
      jI_numberOfTrailingZerosD_34 N bc bs Q M P L k n v1 1)
    else (
      cq_let ((1 : Int32) + 16) fun v2 =>
      cq_let (cx_ushr v1 16) fun v3 =>
      jI_numberOfTrailingZerosD_34 N bc bs Q M P L k n v3 v2))
  else (
    Q M P L (v1 &&& 32) none 0 k n)
set_option maxRecDepth 100000 in
theorem jI_numberOfTrailingZerosD_0_v {l : Launch} {g : cx_G} {X : cx_X} {N : Nat} {bc bs : Nat} {Q : cd_Qt} (H : dH g) (hX : X.2.2.2.2.2.2.1.name = "numberOfTrailingZeros") (M : cx_M) (P : dP) (L : dL) (k n : Nat) (x0 : Int32) (hk : k ≤ bc ∧ n ≤ bs) (h : jI_numberOfTrailingZerosD_0 N bc bs Q M P L k n x0) : cq_V l (dG g L P) X (esJ17_numberOfTrailingZerosD bc bs) cJ17_numberOfTrailingZeros 0 [(0, .int x0)] [] M k n (cd_fin g X (esJ17_numberOfTrailingZerosD bc bs) cd_rI Q) := by
  unfold jI_numberOfTrailingZerosD_0 at h
  refine cq_iload_n 0 dJ17_numberOfTrailingZeros_0 rfl ?_
  refine cq_iconst (-1) dJ17_numberOfTrailingZeros_1 cx_ic_m1 ?_
  refine cq_ixor dJ17_numberOfTrailingZeros_2 ?_
  refine cq_iload_n 0 dJ17_numberOfTrailingZeros_3 rfl ?_
  refine cq_iconst 1 dJ17_numberOfTrailingZeros_4 cx_ic_1 ?_
  refine cq_isub dJ17_numberOfTrailingZeros_5 ?_
  refine cq_iand dJ17_numberOfTrailingZeros_6 ?_
  refine cq_letI h (fun v1 h => ?_)
  refine cq_istore_n [(0, .int v1)] dJ17_numberOfTrailingZeros_7 (cx_lt rfl) rfl ?_
  refine cq_iload_n 0 dJ17_numberOfTrailingZeros_8 rfl ?_
  refine cq_if_gt 17 h dJ17_numberOfTrailingZeros_9 rfl (fun h => ?_) (fun h => ?_)
  · refine cq_iconst 1 dJ17_numberOfTrailingZeros_17 cx_ic_1 ?_
    refine cq_istore_n [(1, .int 1), (0, .int v1)] dJ17_numberOfTrailingZeros_18 (cx_lt rfl) rfl ?_
    refine cq_iload_n 1 dJ17_numberOfTrailingZeros_19 rfl ?_
    refine cq_ldcw 65536 dJ17_numberOfTrailingZeros_20 q1854 ?_
    refine cq_icmp_le 34 h dJ17_numberOfTrailingZeros_23 rfl (fun h => ?_) (fun h => ?_)
    · refine cq_sub (lv' := [(0, .int v1), (1, .int 1)]) [1, 0] rfl ?_
      exact jI_numberOfTrailingZerosD_34_v H hX M P L k n v1 1 hk h
    · refine cq_iinc 0 16 (fun v2 => [(1, .int v2), (0, .int v1)]) h dJ17_numberOfTrailingZeros_26 rfl cx_ic_16 (cx_lt rfl) (fun _ => rfl) (fun v2 h => ?_)
      refine cq_iload_n 1 dJ17_numberOfTrailingZeros_29 rfl ?_
      refine cq_bipush 16 dJ17_numberOfTrailingZeros_30 cx_bp_16 ?_
      refine cq_iushr dJ17_numberOfTrailingZeros_32 ?_
      refine cq_letI h (fun v3 h => ?_)
      refine cq_istore_n [(0, .int v3), (1, .int v2)] dJ17_numberOfTrailingZeros_33 (cx_lt rfl) rfl ?_
      exact jI_numberOfTrailingZerosD_34_v H hX M P L k n v3 v2 hk h
  · refine cq_iload_n 0 dJ17_numberOfTrailingZeros_12 rfl ?_
    refine cq_bipush 32 dJ17_numberOfTrailingZeros_13 cx_bp_32 ?_
    refine cq_iand dJ17_numberOfTrailingZeros_15 ?_
    exact cd_iret hk h rfl dJ17_numberOfTrailingZeros_16
def jI_numberOfTrailingZerosD (N : Nat) (bc bs : Nat) (M : cx_M) (P : dP) (L : dL) (x0 : Int32) (Q : cd_Qt) : Prop := jI_numberOfTrailingZerosD_0 N bc bs Q M P L 0 0 x0
set_option maxRecDepth 100000 in
theorem jI_numberOfTrailingZerosD_m {l : Launch} {g : cx_G} {N : Nat} {bc bs : Nat} {Q : cd_Qt} (H : dH g) (M : cx_M) (P : dP) (L : dL) (x0 : Int32) (h : jI_numberOfTrailingZerosD N bc bs M P L x0 Q) : cd_Met l g yJ17_numberOfTrailingZeros cJ17_numberOfTrailingZeros (esJ17_numberOfTrailingZerosD bc bs) cd_rI [.int x0] M P L Q :=
  cd_met (by decide +kernel) rfl rfl (lv := [(0, .int x0)]) rfl (cx_le rfl) (fun X hX => cq_sub (lv' := [(0, .int x0)]) [0] rfl (jI_numberOfTrailingZerosD_0_v H hX M P L 0 0 x0 ⟨Nat.zero_le _, Nat.zero_le _⟩ h))

abbrev esJ24_numberOfTrailingZerosD (bc bs : Nat) : cx_S := (3, RJ24, cx_rI, { frames := 1, cells := bc, slots := bs, locals := 21 }, some .int, false)
def jLo_numberOfTrailingZerosD_0 (N : Nat) (bc bs : Nat) (Q : cd_Qt) (M : cx_M) (P : dP) (L : dL) (k n : Nat) (x0 : Int64) : Prop :=
  cq_let (Int64.toInt32 x0) fun v1 =>
  if v1 = 0 then (
    jI_numberOfTrailingZerosD N (bc - k) (bs - n) M P L (Int64.toInt32 (cx_ushr64 x0 32)) (fun M11 P12 L13 v14 r15 e9 k16 n17 => e9 = 0 → cd_add k k16 n n17 fun k18 n19 =>
    Q M11 P12 L13 ((32 : Int32) + v14) none 0 k18 n19))
  else (
    jI_numberOfTrailingZerosD N (bc - k) (bs - n) M P L v1 (fun M2 P3 L4 v5 r6 e9 k7 n8 => e9 = 0 → cd_add k k7 n n8 fun k9 n10 =>
    Q M2 P3 L4 v5 none 0 k9 n10))
set_option maxRecDepth 100000 in
theorem jLo_numberOfTrailingZerosD_0_v {l : Launch} {g : cx_G} {X : cx_X} {N : Nat} {bc bs : Nat} {Q : cd_Qt} (H : dH g) (hX : X.2.2.2.2.2.2.1.name = "numberOfTrailingZeros") (M : cx_M) (P : dP) (L : dL) (k n : Nat) (x0 : Int64) (hk : k ≤ bc ∧ n ≤ bs) (h : jLo_numberOfTrailingZerosD_0 N bc bs Q M P L k n x0) : cq_V l (dG g L P) X (esJ24_numberOfTrailingZerosD bc bs) cJ24_numberOfTrailingZeros 0 [(0, .long x0)] [] M k n (cd_fin g X (esJ24_numberOfTrailingZerosD bc bs) cd_rI Q) := by
  unfold jLo_numberOfTrailingZerosD_0 at h
  refine cq_lload_n 0 dJ24_numberOfTrailingZeros_0 rfl ?_
  refine cq_l2i dJ24_numberOfTrailingZeros_1 ?_
  refine cq_letI h (fun v1 h => ?_)
  refine cq_istore_n [(2, .int v1), (0, .long x0)] dJ24_numberOfTrailingZeros_2 (cx_lt rfl) rfl ?_
  refine cq_iload_n 0 dJ24_numberOfTrailingZeros_3 rfl ?_
  refine cq_if_ne 21 h dJ24_numberOfTrailingZeros_4 rfl (fun h => ?_) (fun h => ?_)
  · refine cq_iload_n 0 dJ24_numberOfTrailingZeros_21 rfl ?_
    refine cd_cS [.int v1] [] (jI_numberOfTrailingZerosD_m H (N := N) (bc := bc - k) (bs := bs - n) M P L v1 h) dJ24_numberOfTrailingZeros_22 gd_J24_311D hgd_J24_311D ⟨cx_le rfl, cx_le rfl⟩ (cd_bud hk) rfl (cx_le rfl) (fun M2 P3 L4 v5 r6 k7 n8 hk2 h => ?_)
    refine cd_addI (h rfl) (cd_bk hk hk2) (fun k9 n10 h hk => ?_)
    exact cd_iret hk h rfl dJ24_numberOfTrailingZeros_25
  · refine cq_bipush 32 dJ24_numberOfTrailingZeros_7 cx_bp_32 ?_
    refine cq_lload_n 1 dJ24_numberOfTrailingZeros_9 rfl ?_
    refine cq_bipush 32 dJ24_numberOfTrailingZeros_10 cx_bp_32 ?_
    refine cq_lushr dJ24_numberOfTrailingZeros_12 ?_
    refine cq_l2i dJ24_numberOfTrailingZeros_13 ?_
    refine cd_cS [.int (Int64.toInt32 (cx_ushr64 x0 32))] [.int 32] (jI_numberOfTrailingZerosD_m H (N := N) (bc := bc - k) (bs := bs - n) M P L (Int64.toInt32 (cx_ushr64 x0 32)) h) dJ24_numberOfTrailingZeros_14 gd_J24_311D hgd_J24_311D ⟨cx_le rfl, cx_le rfl⟩ (cd_bud hk) rfl (cx_le rfl) (fun M11 P12 L13 v14 r15 k16 n17 hk2 h => ?_)
    refine cd_addI (h rfl) (cd_bk hk hk2) (fun k18 n19 h hk => ?_)
    refine cq_iadd dJ24_numberOfTrailingZeros_17 ?_
    refine cq_goto 25 dJ24_numberOfTrailingZeros_18 rfl ?_
    exact cd_iret hk h rfl dJ24_numberOfTrailingZeros_25
def jLo_numberOfTrailingZerosD (N : Nat) (bc bs : Nat) (M : cx_M) (P : dP) (L : dL) (x0 : Int64) (Q : cd_Qt) : Prop := jLo_numberOfTrailingZerosD_0 N bc bs Q M P L 0 0 x0
set_option maxRecDepth 100000 in
theorem jLo_numberOfTrailingZerosD_m {l : Launch} {g : cx_G} {N : Nat} {bc bs : Nat} {Q : cd_Qt} (H : dH g) (M : cx_M) (P : dP) (L : dL) (x0 : Int64) (h : jLo_numberOfTrailingZerosD N bc bs M P L x0 Q) : cd_Met l g yJ24_numberOfTrailingZeros cJ24_numberOfTrailingZeros (esJ24_numberOfTrailingZerosD bc bs) cd_rI [.long x0] M P L Q :=
  cd_met (by decide +kernel) rfl rfl (lv := [(0, .long x0)]) rfl (cx_le rfl) (fun X hX => cq_sub (lv' := [(0, .long x0)]) [0] rfl (jLo_numberOfTrailingZerosD_0_v H hX M P L 0 0 x0 ⟨Nat.zero_le _, Nat.zero_le _⟩ h))

abbrev esJ19_wordIndexD (bc bs : Nat) : cx_S := (1, RJ19, cx_rI, { frames := 0, cells := bc, slots := bs, locals := 0 }, some .int, false)
def jBd_wordIndexD_0 (N : Nat) (bc bs : Nat) (Q : cd_Qt) (M : cx_M) (P : dP) (L : dL) (k n : Nat) (x0 : Int32) : Prop :=
  Q M P L (x0 >>> (6 &&& 31)) none 0 k n
set_option maxRecDepth 100000 in
theorem jBd_wordIndexD_0_v {l : Launch} {g : cx_G} {X : cx_X} {N : Nat} {bc bs : Nat} {Q : cd_Qt} (H : dH g) (hX : X.2.2.2.2.2.2.1.name = "wordIndex") (M : cx_M) (P : dP) (L : dL) (k n : Nat) (x0 : Int32) (hk : k ≤ bc ∧ n ≤ bs) (h : jBd_wordIndexD_0 N bc bs Q M P L k n x0) : cq_V l (dG g L P) X (esJ19_wordIndexD bc bs) cJ19_wordIndex 0 [(0, .int x0)] [] M k n (cd_fin g X (esJ19_wordIndexD bc bs) cd_rI Q) := by
  unfold jBd_wordIndexD_0 at h
  refine cq_iload_n 0 dJ19_wordIndex_0 rfl ?_
  refine cq_bipush 6 dJ19_wordIndex_1 cx_bp_6 ?_
  refine cq_ishr dJ19_wordIndex_3 ?_
  exact cd_iret hk h rfl dJ19_wordIndex_4
def jBd_wordIndexD (N : Nat) (bc bs : Nat) (M : cx_M) (P : dP) (L : dL) (x0 : Int32) (Q : cd_Qt) : Prop := jBd_wordIndexD_0 N bc bs Q M P L 0 0 x0
set_option maxRecDepth 100000 in
theorem jBd_wordIndexD_m {l : Launch} {g : cx_G} {N : Nat} {bc bs : Nat} {Q : cd_Qt} (H : dH g) (M : cx_M) (P : dP) (L : dL) (x0 : Int32) (h : jBd_wordIndexD N bc bs M P L x0 Q) : cd_Met l g yJ19_wordIndex cJ19_wordIndex (esJ19_wordIndexD bc bs) cd_rI [.int x0] M P L Q :=
  cd_met (by decide +kernel) rfl rfl (lv := [(0, .int x0)]) rfl (cx_le rfl) (fun X hX => cq_sub (lv' := [(0, .int x0)]) [0] rfl (jBd_wordIndexD_0_v H hX M P L 0 0 x0 ⟨Nat.zero_le _, Nat.zero_le _⟩ h))

abbrev esJ19_checkInvariantsD (bc bs : Nat) : cx_S := (1, RJ19, cx_rI, { frames := 0, cells := bc, slots := bs, locals := 0 }, none, false)
def jBd_checkInvariantsD_70 (N : Nat) (bc bs : Nat) (Q : cd_Qt) (a0 : Nat) (M : cx_M) (P : dP) (L : dL) (k n : Nat) : Prop :=
  Q M P L 0 none 0 k n
set_option maxRecDepth 100000 in
theorem jBd_checkInvariantsD_70_v {l : Launch} {g : cx_G} {X : cx_X} {N : Nat} {bc bs : Nat} {Q : cd_Qt} {a0 : Nat} (H : dH g) (hX : X.2.2.2.2.2.2.1.name = "checkInvariants") (M : cx_M) (P : dP) (L : dL) (k n : Nat) (hk : k ≤ bc ∧ n ≤ bs) (h : jBd_checkInvariantsD_70 N bc bs Q a0 M P L k n) : cq_V l (dG g L P) X (esJ19_checkInvariantsD bc bs) cJ19_checkInvariants 70 [(0, .ref a0)] [] M k n (cd_fin g X (esJ19_checkInvariantsD bc bs) cd_rV Q) := by
  unfold jBd_checkInvariantsD_70 at h
  refine cq_gets H.2.2.2.1 q1154 dJ19_checkInvariants_70 ?_
  refine cq_if_ne 110 (A := False) (B := _) (by rw [if_neg (by decide)]; exact h) dJ19_checkInvariants_73 rfl (fun h => ?_) (fun h => by cases h)
  exact cd_vret hk h rfl dJ19_checkInvariants_110
def jBd_checkInvariantsD_37 (N : Nat) (bc bs : Nat) (Q : cd_Qt) (a0 : Nat) (M : cx_M) (P : dP) (L : dL) (k n : Nat) : Prop :=
  jBd_checkInvariantsD_70 N bc bs Q a0 M P L k n
set_option maxRecDepth 100000 in
theorem jBd_checkInvariantsD_37_v {l : Launch} {g : cx_G} {X : cx_X} {N : Nat} {bc bs : Nat} {Q : cd_Qt} {a0 : Nat} (H : dH g) (hX : X.2.2.2.2.2.2.1.name = "checkInvariants") (M : cx_M) (P : dP) (L : dL) (k n : Nat) (hk : k ≤ bc ∧ n ≤ bs) (h : jBd_checkInvariantsD_37 N bc bs Q a0 M P L k n) : cq_V l (dG g L P) X (esJ19_checkInvariantsD bc bs) cJ19_checkInvariants 37 [(0, .ref a0)] [] M k n (cd_fin g X (esJ19_checkInvariantsD bc bs) cd_rV Q) := by
  unfold jBd_checkInvariantsD_37 at h
  refine cq_gets H.2.2.2.1 q1154 dJ19_checkInvariants_37 ?_
  refine cq_if_ne 70 (A := False) (B := _) (by rw [if_neg (by decide)]; exact h) dJ19_checkInvariants_40 rfl (fun h => ?_) (fun h => by cases h)
  exact jBd_checkInvariantsD_70_v H hX M P L k n hk h
def jBd_checkInvariantsD_0 (N : Nat) (bc bs : Nat) (Q : cd_Qt) (a0 : Nat) (M : cx_M) (P : dP) (L : dL) (k n : Nat) : Prop :=
  jBd_checkInvariantsD_37 N bc bs Q a0 M P L k n
set_option maxRecDepth 100000 in
theorem jBd_checkInvariantsD_0_v {l : Launch} {g : cx_G} {X : cx_X} {N : Nat} {bc bs : Nat} {Q : cd_Qt} {a0 : Nat} (H : dH g) (hX : X.2.2.2.2.2.2.1.name = "checkInvariants") (M : cx_M) (P : dP) (L : dL) (k n : Nat) (hk : k ≤ bc ∧ n ≤ bs) (h : jBd_checkInvariantsD_0 N bc bs Q a0 M P L k n) : cq_V l (dG g L P) X (esJ19_checkInvariantsD bc bs) cJ19_checkInvariants 0 [(0, .ref a0)] [] M k n (cd_fin g X (esJ19_checkInvariantsD bc bs) cd_rV Q) := by
  unfold jBd_checkInvariantsD_0 at h
  refine cq_gets H.2.2.2.1 q1154 dJ19_checkInvariants_0 ?_
  refine cq_if_ne 37 (A := False) (B := _) (by rw [if_neg (by decide)]; exact h) dJ19_checkInvariants_3 rfl (fun h => ?_) (fun h => by cases h)
  exact jBd_checkInvariantsD_37_v H hX M P L k n hk h
def jBd_checkInvariantsD (N : Nat) (bc bs : Nat) (M : cx_M) (P : dP) (L : dL) (a0 : Nat) (Q : cd_Qt) : Prop := jBd_checkInvariantsD_0 N bc bs Q a0 M P L 0 0
set_option maxRecDepth 100000 in
theorem jBd_checkInvariantsD_m {l : Launch} {g : cx_G} {N : Nat} {bc bs : Nat} {Q : cd_Qt} (H : dH g) (M : cx_M) (P : dP) (L : dL) (a0 : Nat) (h : jBd_checkInvariantsD N bc bs M P L a0 Q) : cd_Met l g yJ19_checkInvariants cJ19_checkInvariants (esJ19_checkInvariantsD bc bs) cd_rV [.ref a0] M P L Q :=
  cd_met (by decide +kernel) rfl rfl (lv := [(0, .ref a0)]) rfl (cx_le rfl) (fun X hX => cq_sub (lv' := [(0, .ref a0)]) [0] rfl (jBd_checkInvariantsD_0_v H hX M P L 0 0 ⟨Nat.zero_le _, Nat.zero_le _⟩ h))

abbrev esJ19_initWordsD (bc bs : Nat) : cx_S := (2, RJ19, cx_rI, { frames := 1, cells := bc, slots := bs, locals := 20 }, none, false)
def jBd_initWordsD_0 (N : Nat) (bc bs : Nat) (Q : cd_Qt) (a0 : Nat) (M : cx_M) (P : dP) (L : dL) (k n : Nat) (x1 : Int32) : Prop :=
  jBd_wordIndexD N (bc - k) (bs - n) M P L (x1 - 1) (fun M1 P2 L3 v4 r5 e9 k6 n7 => e9 = 0 → cd_add k k6 n n7 fun k8 n9 =>
  cd_newa bc bs k8 n9 (v4 + 1) (fun z => (2, 0, z)) M1 P2 L3 fun a10 M11 P12 L13 k14 n15 =>
  (a0, (0, 21, 0)) ∈ L13 ∧ cd_put P12 a0 0 (some a10) fun P16 =>
  Q M11 P16 L13 0 none 0 k14 n15)
set_option maxRecDepth 100000 in
theorem jBd_initWordsD_0_v {l : Launch} {g : cx_G} {X : cx_X} {N : Nat} {bc bs : Nat} {Q : cd_Qt} {a0 : Nat} (H : dH g) (hX : X.2.2.2.2.2.2.1.name = "initWords") (M : cx_M) (P : dP) (L : dL) (k n : Nat) (x1 : Int32) (hk : k ≤ bc ∧ n ≤ bs) (h : jBd_initWordsD_0 N bc bs Q a0 M P L k n x1) : cq_V l (dG g L P) X (esJ19_initWordsD bc bs) cJ19_initWords 0 [(0, .ref a0), (1, .int x1)] [] M k n (cd_fin g X (esJ19_initWordsD bc bs) cd_rV Q) := by
  unfold jBd_initWordsD_0 at h
  refine cq_aload_n 0 dJ19_initWords_0 rfl ?_
  refine cq_iload_n 1 dJ19_initWords_1 rfl ?_
  refine cq_iconst 1 dJ19_initWords_2 cx_ic_1 ?_
  refine cq_isub dJ19_initWords_3 ?_
  refine cd_cS [.int (x1 - 1)] [.ref a0] (jBd_wordIndexD_m H (N := N) (bc := bc - k) (bs := bs - n) M P L (x1 - 1) h) dJ19_initWords_4 gd_J19_52D hgd_J19_52D ⟨cx_le rfl, cx_le rfl⟩ (cd_bud hk) rfl (cx_le rfl) (fun M1 P2 L3 v4 r5 k6 n7 hk2 h => ?_)
  refine cd_addI (h rfl) (cd_bk hk hk2) (fun k8 n9 h hk => ?_)
  refine cq_iconst 1 dJ19_initWords_7 cx_ic_1 ?_
  refine cq_iadd dJ19_initWords_8 ?_
  refine cd_newL H.1 h ⟨rfl, rfl⟩ q647 dJ19_initWords_9 (fun a10 M11 P12 L13 k14 n15 h hk => ?_)
  refine cq_nd H.1 (fun hn => cd_putR (v := (some a10)) H.1 hn h.1 h.2 dCl_J19 (cx_lt rfl) rfl rfl rfl cd_nfA rfl q637 dJ19_initWords_11 (fun P16 h => ?_))
  exact cd_vret hk h rfl dJ19_initWords_14
def jBd_initWordsD (N : Nat) (bc bs : Nat) (M : cx_M) (P : dP) (L : dL) (a0 : Nat) (x1 : Int32) (Q : cd_Qt) : Prop := jBd_initWordsD_0 N bc bs Q a0 M P L 0 0 x1
set_option maxRecDepth 100000 in
theorem jBd_initWordsD_m {l : Launch} {g : cx_G} {N : Nat} {bc bs : Nat} {Q : cd_Qt} (H : dH g) (M : cx_M) (P : dP) (L : dL) (a0 : Nat) (x1 : Int32) (h : jBd_initWordsD N bc bs M P L a0 x1 Q) : cd_Met l g yJ19_initWords cJ19_initWords (esJ19_initWordsD bc bs) cd_rV [.ref a0, .int x1] M P L Q :=
  cd_met (by decide +kernel) rfl rfl (lv := [(0, .ref a0), (1, .int x1)]) rfl (cx_le rfl) (fun X hX => cq_sub (lv' := [(0, .ref a0), (1, .int x1)]) [0, 1] rfl (jBd_initWordsD_0_v H hX M P L 0 0 x1 ⟨Nat.zero_le _, Nat.zero_le _⟩ h))

abbrev esJ19_init_2D (bc bs : Nat) : cx_S := (1, RJ19, cx_rI, { frames := 2, cells := bc, slots := bs, locals := 41 }, none, false)
def jBd_init_2D_0 (N : Nat) (bc bs : Nat) (Q : cd_Qt) (a0 : Nat) (M : cx_M) (P : dP) (L : dL) (k n : Nat) : Prop :=
  (a0, (0, 21, 0)) ∈ L ∧ cq_put M (dc a0) 1 0 fun M1 =>
  (a0, (0, 21, 0)) ∈ L ∧ cq_put M1 (dc a0) 2 0 fun M2 =>
  (a0, (0, 21, 0)) ∈ L ∧
  jBd_initWordsD N (bc - k) (bs - n) M2 P L a0 64 (fun M3 P4 L5 v6 r7 e9 k8 n9 => e9 = 0 → cd_add k k8 n n9 fun k10 n11 =>
  (a0, (0, 21, 0)) ∈ L5 ∧ cq_put M3 (dc a0) 2 0 fun M12 =>
  Q M12 P4 L5 0 none 0 k10 n11)
set_option maxRecDepth 100000 in
theorem jBd_init_2D_0_v {l : Launch} {g : cx_G} {X : cx_X} {N : Nat} {bc bs : Nat} {Q : cd_Qt} {a0 : Nat} (H : dH g) (hX : X.2.2.2.2.2.2.1.name = "<init>") (M : cx_M) (P : dP) (L : dL) (k n : Nat) (hk : k ≤ bc ∧ n ≤ bs) (h : jBd_init_2D_0 N bc bs Q a0 M P L k n) : cq_V l (dG g L P) X (esJ19_init_2D bc bs) cJ19_init_2 0 [(0, .ref a0)] [] M k n (cd_fin g X (esJ19_init_2D bc bs) cd_rV Q) := by
  unfold jBd_init_2D_0 at h
  refine cq_aload_n 0 dJ19_init_2_0 rfl ?_
  refine cd_oinit q629 q176 q177 dJ19_init_2_1 (cx_le rfl) (cx_le rfl) ?_
  refine cq_aload_n 0 dJ19_init_2_4 rfl ?_
  refine cq_iconst 0 dJ19_init_2_5 cx_ic_0 ?_
  refine cq_nd H.1 (fun hn => cq_putI h.2 (dG_FI H.1 hn h.1 dCl_J19 (cx_lt rfl) rfl rfl rfl) rfl rfl rfl q638 dJ19_init_2_6 (fun M1 h => ?_))
  refine cq_aload_n 0 dJ19_init_2_9 rfl ?_
  refine cq_iconst 0 dJ19_init_2_10 cx_ic_0 ?_
  refine cq_nd H.1 (fun hn => cq_putI h.2 (dG_FI H.1 hn h.1 dCl_J19 (cx_lt rfl) rfl rfl rfl) cx_z_0 cx_f_0 rfl q639 dJ19_init_2_11 (fun M2 h => ?_))
  refine cq_aload_n 0 dJ19_init_2_14 rfl ?_
  refine cq_bipush 64 dJ19_init_2_15 cx_bp_64 ?_
  obtain ⟨hmr, h⟩ := h
  refine cd_cV [.int 64] [] (jBd_initWordsD_m H (N := N) (bc := bc - k) (bs := bs - n) M2 P L a0 64 h) (dG_Rc H.1 hmr dCl_J19) dJ19_init_2_17 gd_J19_27D hgd_J19_27D ⟨cx_le rfl, cx_le rfl⟩ (cd_bud hk) rfl (cx_le rfl) (fun M3 P4 L5 v6 r7 k8 n9 hk2 h => ?_)
  refine cd_addI (h rfl) (cd_bk hk hk2) (fun k10 n11 h hk => ?_)
  refine cq_aload_n 0 dJ19_init_2_20 rfl ?_
  refine cq_iconst 0 dJ19_init_2_21 cx_ic_0 ?_
  refine cq_nd H.1 (fun hn => cq_putI h.2 (dG_FI H.1 hn h.1 dCl_J19 (cx_lt rfl) rfl rfl rfl) cx_z_0 cx_f_0 rfl q639 dJ19_init_2_22 (fun M12 h => ?_))
  exact cd_vret hk h rfl dJ19_init_2_25
def jBd_init_2D (N : Nat) (bc bs : Nat) (M : cx_M) (P : dP) (L : dL) (a0 : Nat) (Q : cd_Qt) : Prop := jBd_init_2D_0 N bc bs Q a0 M P L 0 0
set_option maxRecDepth 100000 in
theorem jBd_init_2D_m {l : Launch} {g : cx_G} {N : Nat} {bc bs : Nat} {Q : cd_Qt} (H : dH g) (M : cx_M) (P : dP) (L : dL) (a0 : Nat) (h : jBd_init_2D N bc bs M P L a0 Q) : cd_Met l g yJ19_init_2 cJ19_init_2 (esJ19_init_2D bc bs) cd_rV [.ref a0] M P L Q :=
  cd_met (by decide +kernel) rfl rfl (lv := [(0, .ref a0)]) rfl (cx_le rfl) (fun X hX => cq_sub (lv' := [(0, .ref a0)]) [0] rfl (jBd_init_2D_0_v H hX M P L 0 0 ⟨Nat.zero_le _, Nat.zero_le _⟩ h))

abbrev esJ19_initD (bc bs : Nat) : cx_S := (2, RJ19, cx_rI, { frames := 2, cells := bc, slots := bs, locals := 41 }, none, false)
def jBd_initD_0 (N : Nat) (bc bs : Nat) (Q : cd_Qt) (a0 : Nat) (M : cx_M) (P : dP) (L : dL) (k n : Nat) (x1 : Int32) : Prop :=
  (a0, (0, 21, 0)) ∈ L ∧ cq_put M (dc a0) 1 0 fun M1 =>
  (a0, (0, 21, 0)) ∈ L ∧ cq_put M1 (dc a0) 2 0 fun M2 =>
  if 0 ≤ x1 then (
    (a0, (0, 21, 0)) ∈ L ∧
    jBd_initWordsD N (bc - k) (bs - n) M2 P L a0 x1 (fun M3 P4 L5 v6 r7 e9 k8 n9 => e9 = 0 → cd_add k k8 n n9 fun k10 n11 =>
    (a0, (0, 21, 0)) ∈ L5 ∧ cq_put M3 (dc a0) 2 1 fun M12 =>
    Q M12 P4 L5 0 none 0 k10 n11))
  else (
    False)
set_option maxRecDepth 100000 in
theorem jBd_initD_0_v {l : Launch} {g : cx_G} {X : cx_X} {N : Nat} {bc bs : Nat} {Q : cd_Qt} {a0 : Nat} (H : dH g) (hX : X.2.2.2.2.2.2.1.name = "<init>") (M : cx_M) (P : dP) (L : dL) (k n : Nat) (x1 : Int32) (hk : k ≤ bc ∧ n ≤ bs) (h : jBd_initD_0 N bc bs Q a0 M P L k n x1) : cq_V l (dG g L P) X (esJ19_initD bc bs) cJ19_init 0 [(0, .ref a0), (1, .int x1)] [] M k n (cd_fin g X (esJ19_initD bc bs) cd_rV Q) := by
  unfold jBd_initD_0 at h
  refine cq_aload_n 0 dJ19_init_0 rfl ?_
  refine cd_oinit q629 q176 q177 dJ19_init_1 (cx_le rfl) (cx_le rfl) ?_
  refine cq_aload_n 0 dJ19_init_4 rfl ?_
  refine cq_iconst 0 dJ19_init_5 cx_ic_0 ?_
  refine cq_nd H.1 (fun hn => cq_putI h.2 (dG_FI H.1 hn h.1 dCl_J19 (cx_lt rfl) rfl rfl rfl) rfl rfl rfl q638 dJ19_init_6 (fun M1 h => ?_))
  refine cq_aload_n 0 dJ19_init_9 rfl ?_
  refine cq_iconst 0 dJ19_init_10 cx_ic_0 ?_
  refine cq_nd H.1 (fun hn => cq_putI h.2 (dG_FI H.1 hn h.1 dCl_J19 (cx_lt rfl) rfl rfl rfl) cx_z_0 cx_f_0 rfl q639 dJ19_init_11 (fun M2 h => ?_))
  refine cq_iload_n 1 dJ19_init_14 rfl ?_
  refine cq_if_ge 45 h dJ19_init_15 rfl (fun h => ?_) (fun h => ?_)
  · refine cq_aload_n 0 dJ19_init_45 rfl ?_
    refine cq_iload_n 1 dJ19_init_46 rfl ?_
    obtain ⟨hmr, h⟩ := h
    refine cd_cV [.int x1] [] (jBd_initWordsD_m H (N := N) (bc := bc - k) (bs := bs - n) M2 P L a0 x1 h) (dG_Rc H.1 hmr dCl_J19) dJ19_init_47 gd_J19_27D hgd_J19_27D ⟨cx_le rfl, cx_le rfl⟩ (cd_bud hk) rfl (cx_le rfl) (fun M3 P4 L5 v6 r7 k8 n9 hk2 h => ?_)
    refine cd_addI (h rfl) (cd_bk hk hk2) (fun k10 n11 h hk => ?_)
    refine cq_aload_n 0 dJ19_init_50 rfl ?_
    refine cq_iconst 1 dJ19_init_51 cx_ic_1 ?_
    refine cq_nd H.1 (fun hn => cq_putI h.2 (dG_FI H.1 hn h.1 dCl_J19 (cx_lt rfl) rfl rfl rfl) cx_z_1 cx_f_1 rfl q639 dJ19_init_52 (fun M12 h => ?_))
    exact cd_vret hk h rfl dJ19_init_55
  · cases h
def jBd_initD (N : Nat) (bc bs : Nat) (M : cx_M) (P : dP) (L : dL) (a0 : Nat) (x1 : Int32) (Q : cd_Qt) : Prop := jBd_initD_0 N bc bs Q a0 M P L 0 0 x1
set_option maxRecDepth 100000 in
theorem jBd_initD_m {l : Launch} {g : cx_G} {N : Nat} {bc bs : Nat} {Q : cd_Qt} (H : dH g) (M : cx_M) (P : dP) (L : dL) (a0 : Nat) (x1 : Int32) (h : jBd_initD N bc bs M P L a0 x1 Q) : cd_Met l g yJ19_init cJ19_init (esJ19_initD bc bs) cd_rV [.ref a0, .int x1] M P L Q :=
  cd_met (by decide +kernel) rfl rfl (lv := [(0, .ref a0), (1, .int x1)]) rfl (cx_le rfl) (fun X hX => cq_sub (lv' := [(0, .ref a0), (1, .int x1)]) [0, 1] rfl (jBd_initD_0_v H hX M P L 0 0 x1 ⟨Nat.zero_le _, Nat.zero_le _⟩ h))

abbrev esJ19_ensureCapacityD (bc bs : Nat) : cx_S := (3, RJ19, cx_rI, { frames := 0, cells := bc, slots := bs, locals := 0 }, none, false)
def jBd_ensureCapacityD_0 (N : Nat) (bc bs : Nat) (Q : cd_Qt) (a0 : Nat) (M : cx_M) (P : dP) (L : dL) (k n : Nat) (x1 : Int32) : Prop :=
  (a0, (0, 21, 0)) ∈ L ∧ cd_let (P a0 0) fun r1 =>
  cd_nn r1 fun a2 =>
  ∃ z3, (a2, (2, 0, z3)) ∈ L ∧
  if x1 ≤ (nI z3) then (
    Q M P L 0 none 0 k n)
  else (
    False)
set_option maxRecDepth 100000 in
theorem jBd_ensureCapacityD_0_v {l : Launch} {g : cx_G} {X : cx_X} {N : Nat} {bc bs : Nat} {Q : cd_Qt} {a0 : Nat} (H : dH g) (hX : X.2.2.2.2.2.2.1.name = "ensureCapacity") (M : cx_M) (P : dP) (L : dL) (k n : Nat) (x1 : Int32) (hk : k ≤ bc ∧ n ≤ bs) (h : jBd_ensureCapacityD_0 N bc bs Q a0 M P L k n x1) : cq_V l (dG g L P) X (esJ19_ensureCapacityD bc bs) cJ19_ensureCapacity 0 [(0, .ref a0), (1, .int x1)] [] M k n (cd_fin g X (esJ19_ensureCapacityD bc bs) cd_rV Q) := by
  unfold jBd_ensureCapacityD_0 at h
  refine cq_aload_n 0 dJ19_ensureCapacity_0 rfl ?_
  refine cq_getR (dG_FR (k := 0) H.1 h.1 dCl_J19 (cx_lt rfl) rfl rfl) q637 dJ19_ensureCapacity_1 ?_
  refine cd_letI h.2 (fun r1 h => ?_)
  obtain ⟨a2, e9, h⟩ := cd_nn_some h
  subst e9
  obtain ⟨z3, hm, h⟩ := h
  refine cq_nd H.1 (fun hn => cq_alenW (nI z3) (dG_LI H.1 hn hm) rfl dJ19_ensureCapacity_4 ?_)
  refine cq_iload_n 1 dJ19_ensureCapacity_5 rfl ?_
  refine cq_icmp_ge 38 h dJ19_ensureCapacity_6 rfl (fun h => ?_) (fun h => ?_)
  · exact cd_vret hk h rfl dJ19_ensureCapacity_38
  · cases h
def jBd_ensureCapacityD (N : Nat) (bc bs : Nat) (M : cx_M) (P : dP) (L : dL) (a0 : Nat) (x1 : Int32) (Q : cd_Qt) : Prop := jBd_ensureCapacityD_0 N bc bs Q a0 M P L 0 0 x1
set_option maxRecDepth 100000 in
theorem jBd_ensureCapacityD_m {l : Launch} {g : cx_G} {N : Nat} {bc bs : Nat} {Q : cd_Qt} (H : dH g) (M : cx_M) (P : dP) (L : dL) (a0 : Nat) (x1 : Int32) (h : jBd_ensureCapacityD N bc bs M P L a0 x1 Q) : cd_Met l g yJ19_ensureCapacity cJ19_ensureCapacity (esJ19_ensureCapacityD bc bs) cd_rV [.ref a0, .int x1] M P L Q :=
  cd_met (by decide +kernel) rfl rfl (lv := [(0, .ref a0), (1, .int x1)]) rfl (cx_le rfl) (fun X hX => cq_sub (lv' := [(0, .ref a0), (1, .int x1)]) [0, 1] rfl (jBd_ensureCapacityD_0_v H hX M P L 0 0 x1 ⟨Nat.zero_le _, Nat.zero_le _⟩ h))

abbrev esJ19_expandToD (bc bs : Nat) : cx_S := (3, RJ19, cx_rI, { frames := 1, cells := bc, slots := bs, locals := 22 }, none, false)
def jBd_expandToD_0 (N : Nat) (bc bs : Nat) (Q : cd_Qt) (a0 : Nat) (M : cx_M) (P : dP) (L : dL) (k n : Nat) (x1 : Int32) : Prop :=
  cq_let (x1 + 1) fun v1 =>
  (a0, (0, 21, 0)) ∈ L ∧ cq_get M (dc a0) 1 fun v2 =>
  if v1 ≤ v2 then (
    Q M P L 0 none 0 k n)
  else (
    (a0, (0, 21, 0)) ∈ L ∧
    jBd_ensureCapacityD N (bc - k) (bs - n) M P L a0 v1 (fun M3 P4 L5 v6 r7 e9 k8 n9 => e9 = 0 → cd_add k k8 n n9 fun k10 n11 =>
    (a0, (0, 21, 0)) ∈ L5 ∧ cq_put M3 (dc a0) 1 v1 fun M12 =>
    Q M12 P4 L5 0 none 0 k10 n11))
set_option maxRecDepth 100000 in
theorem jBd_expandToD_0_v {l : Launch} {g : cx_G} {X : cx_X} {N : Nat} {bc bs : Nat} {Q : cd_Qt} {a0 : Nat} (H : dH g) (hX : X.2.2.2.2.2.2.1.name = "expandTo") (M : cx_M) (P : dP) (L : dL) (k n : Nat) (x1 : Int32) (hk : k ≤ bc ∧ n ≤ bs) (h : jBd_expandToD_0 N bc bs Q a0 M P L k n x1) : cq_V l (dG g L P) X (esJ19_expandToD bc bs) cJ19_expandTo 0 [(0, .ref a0), (1, .int x1)] [] M k n (cd_fin g X (esJ19_expandToD bc bs) cd_rV Q) := by
  unfold jBd_expandToD_0 at h
  refine cq_iload_n 1 dJ19_expandTo_0 rfl ?_
  refine cq_iconst 1 dJ19_expandTo_1 cx_ic_1 ?_
  refine cq_iadd dJ19_expandTo_2 ?_
  refine cq_letI h (fun v1 h => ?_)
  refine cq_istore_n [(2, .int v1), (0, .ref a0), (1, .int x1)] dJ19_expandTo_3 (cx_lt rfl) rfl ?_
  refine cq_aload_n 1 dJ19_expandTo_4 rfl ?_
  refine cq_nd H.1 (fun hn => cq_getI h.2 (dG_FI H.1 hn h.1 dCl_J19 (cx_lt rfl) rfl rfl rfl) q638 dJ19_expandTo_5 (fun v2 h => ?_))
  refine cq_iload_n 0 dJ19_expandTo_8 rfl ?_
  refine cq_icmp_ge 22 h dJ19_expandTo_9 rfl (fun h => ?_) (fun h => ?_)
  · exact cd_vret hk h rfl dJ19_expandTo_22
  · refine cq_aload_n 1 dJ19_expandTo_12 rfl ?_
    refine cq_iload_n 0 dJ19_expandTo_13 rfl ?_
    obtain ⟨hmr, h⟩ := h
    refine cd_cV [.int v1] [] (jBd_ensureCapacityD_m H (N := N) (bc := bc - k) (bs := bs - n) M P L a0 v1 h) (dG_Rc H.1 hmr dCl_J19) dJ19_expandTo_14 gd_J19_139D hgd_J19_139D ⟨cx_le rfl, cx_le rfl⟩ (cd_bud hk) rfl (cx_le rfl) (fun M3 P4 L5 v6 r7 k8 n9 hk2 h => ?_)
    refine cd_addI (h rfl) (cd_bk hk hk2) (fun k10 n11 h hk => ?_)
    refine cq_aload_n 1 dJ19_expandTo_17 rfl ?_
    refine cq_iload_n 0 dJ19_expandTo_18 rfl ?_
    refine cq_nd H.1 (fun hn => cq_putI h.2 (dG_FI H.1 hn h.1 dCl_J19 (cx_lt rfl) rfl rfl rfl) rfl rfl rfl q638 dJ19_expandTo_19 (fun M12 h => ?_))
    exact cd_vret hk h rfl dJ19_expandTo_22
def jBd_expandToD (N : Nat) (bc bs : Nat) (M : cx_M) (P : dP) (L : dL) (a0 : Nat) (x1 : Int32) (Q : cd_Qt) : Prop := jBd_expandToD_0 N bc bs Q a0 M P L 0 0 x1
set_option maxRecDepth 100000 in
theorem jBd_expandToD_m {l : Launch} {g : cx_G} {N : Nat} {bc bs : Nat} {Q : cd_Qt} (H : dH g) (M : cx_M) (P : dP) (L : dL) (a0 : Nat) (x1 : Int32) (h : jBd_expandToD N bc bs M P L a0 x1 Q) : cd_Met l g yJ19_expandTo cJ19_expandTo (esJ19_expandToD bc bs) cd_rV [.ref a0, .int x1] M P L Q :=
  cd_met (by decide +kernel) rfl rfl (lv := [(0, .ref a0), (1, .int x1)]) rfl (cx_le rfl) (fun X hX => cq_sub (lv' := [(0, .ref a0), (1, .int x1)]) [0, 1] rfl (jBd_expandToD_0_v H hX M P L 0 0 x1 ⟨Nat.zero_le _, Nat.zero_le _⟩ h))

abbrev esJ19_set_2D (bc bs : Nat) : cx_S := (3, RJ19, cx_rI, { frames := 2, cells := bc, slots := bs, locals := 44 }, none, false)
def jBd_set_2D_0 (N : Nat) (bc bs : Nat) (Q : cd_Qt) (a0 : Nat) (M : cx_M) (P : dP) (L : dL) (k n : Nat) (x1 : Int32) : Prop :=
  if 0 ≤ x1 then (
    jBd_wordIndexD N (bc - k) (bs - n) M P L x1 (fun M1 P2 L3 v4 r5 e9 k6 n7 => e9 = 0 → cd_add k k6 n n7 fun k8 n9 =>
    (a0, (0, 21, 0)) ∈ L3 ∧
    jBd_expandToD N (bc - k8) (bs - n9) M1 P2 L3 a0 v4 (fun M10 P11 L12 v13 r14 e9 k15 n16 => e9 = 0 → cd_add k8 k15 n9 n16 fun k17 n18 =>
    (a0, (0, 21, 0)) ∈ L12 ∧ cd_let (P11 a0 0) fun r19 =>
    cd_nn r19 fun a20 =>
    ∃ z22, (a20, (2, 0, z22)) ∈ L12 ∧ cq_ldw M10 (dc a20) z22 v4 fun w21 =>
    ∃ z24, (a20, (2, 0, z24)) ∈ L12 ∧ cq_stw M10 (dc a20) z24 v4 (w21 ||| (cx_shl64 1 x1)) fun M23 =>
    (a0, (0, 21, 0)) ∈ L12 ∧
    jBd_checkInvariantsD N (bc - k17) (bs - n18) M23 P11 L12 a0 (fun M25 P26 L27 v28 r29 e9 k30 n31 => e9 = 0 → cd_add k17 k30 n18 n31 fun k32 n33 =>
    Q M25 P26 L27 0 none 0 k32 n33))))
  else (
    False)
set_option maxRecDepth 100000 in
theorem jBd_set_2D_0_v {l : Launch} {g : cx_G} {X : cx_X} {N : Nat} {bc bs : Nat} {Q : cd_Qt} {a0 : Nat} (H : dH g) (hX : X.2.2.2.2.2.2.1.name = "set") (M : cx_M) (P : dP) (L : dL) (k n : Nat) (x1 : Int32) (hk : k ≤ bc ∧ n ≤ bs) (h : jBd_set_2D_0 N bc bs Q a0 M P L k n x1) : cq_V l (dG g L P) X (esJ19_set_2D bc bs) cJ19_set_2 0 [(0, .ref a0), (1, .int x1)] [] M k n (cd_fin g X (esJ19_set_2D bc bs) cd_rV Q) := by
  unfold jBd_set_2D_0 at h
  refine cq_iload_n 1 dJ19_set_2_0 rfl ?_
  refine cq_if_ge 31 h dJ19_set_2_1 rfl (fun h => ?_) (fun h => ?_)
  · refine cq_iload_n 1 dJ19_set_2_31 rfl ?_
    refine cd_cS [.int x1] [] (jBd_wordIndexD_m H (N := N) (bc := bc - k) (bs := bs - n) M P L x1 h) dJ19_set_2_32 gd_J19_52D hgd_J19_52D ⟨cx_le rfl, cx_le rfl⟩ (cd_bud hk) rfl (cx_le rfl) (fun M1 P2 L3 v4 r5 k6 n7 hk2 h => ?_)
    refine cd_addI (h rfl) (cd_bk hk hk2) (fun k8 n9 h hk => ?_)
    refine cq_istore_n [(2, .int v4), (0, .ref a0), (1, .int x1)] dJ19_set_2_35 (cx_lt rfl) rfl ?_
    refine cq_aload_n 1 dJ19_set_2_36 rfl ?_
    refine cq_iload_n 0 dJ19_set_2_37 rfl ?_
    obtain ⟨hmr, h⟩ := h
    refine cd_cV [.int v4] [] (jBd_expandToD_m H (N := N) (bc := bc - k8) (bs := bs - n9) M1 P2 L3 a0 v4 h) (dG_Rc H.1 hmr dCl_J19) dJ19_set_2_38 gd_J19_155D hgd_J19_155D ⟨cx_le rfl, cx_le rfl⟩ (cd_bud hk) rfl (cx_le rfl) (fun M10 P11 L12 v13 r14 k15 n16 hk2 h => ?_)
    refine cd_addI (h rfl) (cd_bk hk hk2) (fun k17 n18 h hk => ?_)
    refine cq_aload_n 1 dJ19_set_2_41 rfl ?_
    refine cq_getR (dG_FR (k := 0) H.1 h.1 dCl_J19 (cx_lt rfl) rfl rfl) q637 dJ19_set_2_42 ?_
    refine cd_letI h.2 (fun r19 h => ?_)
    refine cq_iload_n 0 dJ19_set_2_45 rfl ?_
    refine cq_dup2 dJ19_set_2_46 rfl (va_rf_cat _) ?_
    obtain ⟨a20, e9, h⟩ := cd_nn_some h
    subst e9
    obtain ⟨z22, hm, h⟩ := h
    refine cq_nd H.1 (fun hn => cq_ldW h (dG_LI H.1 hn hm) dJ19_set_2_47 (fun w21 h => ?_))
    refine cq_lconst 1 dJ19_set_2_48 cx_lc_1 ?_
    refine cq_iload_n 2 dJ19_set_2_49 rfl ?_
    refine cq_lshl dJ19_set_2_50 ?_
    refine cq_lor dJ19_set_2_51 ?_
    obtain ⟨z24, hm, h⟩ := h
    refine cq_nd H.1 (fun hn => cq_stW h (dG_LI H.1 hn hm) dJ19_set_2_52 (fun M23 h => ?_))
    refine cq_aload_n 1 dJ19_set_2_53 rfl ?_
    obtain ⟨hmr, h⟩ := h
    refine cd_cV [] [] (jBd_checkInvariantsD_m H (N := N) (bc := bc - k17) (bs := bs - n18) M23 P11 L12 a0 h) (dG_Rc H.1 hmr dCl_J19) dJ19_set_2_54 gd_J19_56D hgd_J19_56D ⟨cx_le rfl, cx_le rfl⟩ (cd_bud hk) rfl (cx_le rfl) (fun M25 P26 L27 v28 r29 k30 n31 hk2 h => ?_)
    refine cd_addI (h rfl) (cd_bk hk hk2) (fun k32 n33 h hk => ?_)
    exact cd_vret hk h rfl dJ19_set_2_57
  · cases h
def jBd_set_2D (N : Nat) (bc bs : Nat) (M : cx_M) (P : dP) (L : dL) (a0 : Nat) (x1 : Int32) (Q : cd_Qt) : Prop := jBd_set_2D_0 N bc bs Q a0 M P L 0 0 x1
set_option maxRecDepth 100000 in
theorem jBd_set_2D_m {l : Launch} {g : cx_G} {N : Nat} {bc bs : Nat} {Q : cd_Qt} (H : dH g) (M : cx_M) (P : dP) (L : dL) (a0 : Nat) (x1 : Int32) (h : jBd_set_2D N bc bs M P L a0 x1 Q) : cd_Met l g yJ19_set_2 cJ19_set_2 (esJ19_set_2D bc bs) cd_rV [.ref a0, .int x1] M P L Q :=
  cd_met (by decide +kernel) rfl rfl (lv := [(0, .ref a0), (1, .int x1)]) rfl (cx_le rfl) (fun X hX => cq_sub (lv' := [(0, .ref a0), (1, .int x1)]) [0, 1] rfl (jBd_set_2D_0_v H hX M P L 0 0 x1 ⟨Nat.zero_le _, Nat.zero_le _⟩ h))

abbrev esJ19_getD (bc bs : Nat) : cx_S := (3, RJ19, cx_rI, { frames := 1, cells := bc, slots := bs, locals := 20 }, some .boolean, false)
def jBd_getD_0 (N : Nat) (bc bs : Nat) (Q : cd_Qt) (a0 : Nat) (M : cx_M) (P : dP) (L : dL) (k n : Nat) (x1 : Int32) : Prop :=
  if 0 ≤ x1 then (
    (a0, (0, 21, 0)) ∈ L ∧
    jBd_checkInvariantsD N (bc - k) (bs - n) M P L a0 (fun M1 P2 L3 v4 r5 e9 k6 n7 => e9 = 0 → cd_add k k6 n n7 fun k8 n9 =>
    jBd_wordIndexD N (bc - k8) (bs - n9) M1 P2 L3 x1 (fun M10 P11 L12 v13 r14 e9 k15 n16 => e9 = 0 → cd_add k8 k15 n9 n16 fun k17 n18 =>
    (a0, (0, 21, 0)) ∈ L12 ∧ cq_get M10 (dc a0) 1 fun v19 =>
    if v19 ≤ v13 then (
      Q M10 P11 L12 0 none 0 k17 n18)
    else (
      (a0, (0, 21, 0)) ∈ L12 ∧ cd_let (P11 a0 0) fun r20 =>
      cd_nn r20 fun a21 =>
      ∃ z23, (a21, (2, 0, z23)) ∈ L12 ∧ cq_ldw M10 (dc a21) z23 v13 fun w22 =>
      if (lg_cmp (w22 &&& (cx_shl64 1 x1)) 0) = 0 then (
        Q M10 P11 L12 0 none 0 k17 n18)
      else (
        Q M10 P11 L12 1 none 0 k17 n18)))))
  else (
    False)
set_option maxRecDepth 100000 in
theorem jBd_getD_0_v {l : Launch} {g : cx_G} {X : cx_X} {N : Nat} {bc bs : Nat} {Q : cd_Qt} {a0 : Nat} (H : dH g) (hX : X.2.2.2.2.2.2.1.name = "get") (M : cx_M) (P : dP) (L : dL) (k n : Nat) (x1 : Int32) (hk : k ≤ bc ∧ n ≤ bs) (h : jBd_getD_0 N bc bs Q a0 M P L k n x1) : cq_V l (dG g L P) X (esJ19_getD bc bs) cJ19_get 0 [(0, .ref a0), (1, .int x1)] [] M k n (cd_fin g X (esJ19_getD bc bs) cd_rI Q) := by
  unfold jBd_getD_0 at h
  refine cq_iload_n 1 dJ19_get_0 rfl ?_
  refine cq_if_ge 31 h dJ19_get_1 rfl (fun h => ?_) (fun h => ?_)
  · refine cq_aload_n 0 dJ19_get_31 rfl ?_
    obtain ⟨hmr, h⟩ := h
    refine cd_cV [] [] (jBd_checkInvariantsD_m H (N := N) (bc := bc - k) (bs := bs - n) M P L a0 h) (dG_Rc H.1 hmr dCl_J19) dJ19_get_32 gd_J19_56D hgd_J19_56D ⟨cx_le rfl, cx_le rfl⟩ (cd_bud hk) rfl (cx_le rfl) (fun M1 P2 L3 v4 r5 k6 n7 hk2 h => ?_)
    refine cd_addI (h rfl) (cd_bk hk hk2) (fun k8 n9 h hk => ?_)
    refine cq_iload_n 1 dJ19_get_35 rfl ?_
    refine cd_cS [.int x1] [] (jBd_wordIndexD_m H (N := N) (bc := bc - k8) (bs := bs - n9) M1 P2 L3 x1 h) dJ19_get_36 gd_J19_52D hgd_J19_52D ⟨cx_le rfl, cx_le rfl⟩ (cd_bud hk) rfl (cx_le rfl) (fun M10 P11 L12 v13 r14 k15 n16 hk2 h => ?_)
    refine cd_addI (h rfl) (cd_bk hk hk2) (fun k17 n18 h hk => ?_)
    refine cq_istore_n [(2, .int v13), (0, .ref a0), (1, .int x1)] dJ19_get_39 (cx_lt rfl) rfl ?_
    refine cq_iload_n 0 dJ19_get_40 rfl ?_
    refine cq_aload_n 1 dJ19_get_41 rfl ?_
    refine cq_nd H.1 (fun hn => cq_getI h.2 (dG_FI H.1 hn h.1 dCl_J19 (cx_lt rfl) rfl rfl rfl) q638 dJ19_get_42 (fun v19 h => ?_))
    refine cq_icmp_ge 67 h dJ19_get_45 rfl (fun h => ?_) (fun h => ?_)
    · refine cq_iconst 0 dJ19_get_67 cx_ic_0 ?_
      exact cd_zret hk h cx_z_0 rfl dJ19_get_68
    · refine cq_aload_n 1 dJ19_get_48 rfl ?_
      refine cq_getR (dG_FR (k := 0) H.1 h.1 dCl_J19 (cx_lt rfl) rfl rfl) q637 dJ19_get_49 ?_
      refine cd_letI h.2 (fun r20 h => ?_)
      refine cq_iload_n 0 dJ19_get_52 rfl ?_
      obtain ⟨a21, e9, h⟩ := cd_nn_some h
      subst e9
      obtain ⟨z23, hm, h⟩ := h
      refine cq_nd H.1 (fun hn => cq_ldW h (dG_LI H.1 hn hm) dJ19_get_53 (fun w22 h => ?_))
      refine cq_lconst 1 dJ19_get_54 cx_lc_1 ?_
      refine cq_iload_n 2 dJ19_get_55 rfl ?_
      refine cq_lshl dJ19_get_56 ?_
      refine cq_land dJ19_get_57 ?_
      refine cq_lconst 0 dJ19_get_58 cx_lc_0 ?_
      refine cq_lcmp dJ19_get_59 ?_
      refine cq_if_eq 67 h dJ19_get_60 rfl (fun h => ?_) (fun h => ?_)
      · refine cq_iconst 0 dJ19_get_67 cx_ic_0 ?_
        exact cd_zret hk h cx_z_0 rfl dJ19_get_68
      · refine cq_iconst 1 dJ19_get_63 cx_ic_1 ?_
        refine cq_goto 68 dJ19_get_64 rfl ?_
        exact cd_zret hk h cx_z_1 rfl dJ19_get_68
  · cases h
def jBd_getD (N : Nat) (bc bs : Nat) (M : cx_M) (P : dP) (L : dL) (a0 : Nat) (x1 : Int32) (Q : cd_Qt) : Prop := jBd_getD_0 N bc bs Q a0 M P L 0 0 x1
set_option maxRecDepth 100000 in
theorem jBd_getD_m {l : Launch} {g : cx_G} {N : Nat} {bc bs : Nat} {Q : cd_Qt} (H : dH g) (M : cx_M) (P : dP) (L : dL) (a0 : Nat) (x1 : Int32) (h : jBd_getD N bc bs M P L a0 x1 Q) : cd_Met l g yJ19_get cJ19_get (esJ19_getD bc bs) cd_rI [.ref a0, .int x1] M P L Q :=
  cd_met (by decide +kernel) rfl rfl (lv := [(0, .ref a0), (1, .int x1)]) rfl (cx_le rfl) (fun X hX => cq_sub (lv' := [(0, .ref a0), (1, .int x1)]) [0, 1] rfl (jBd_getD_0_v H hX M P L 0 0 x1 ⟨Nat.zero_le _, Nat.zero_le _⟩ h))

abbrev esJ19_nextSetBitD (bc bs : Nat) : cx_S := (5, RJ19, cx_rI, { frames := 2, cells := bc, slots := bs, locals := 43 }, some .int, false)
def jBd_nextSetBitD_63b (N : Nat) (bc bs : Nat) (Q : cd_Qt) (a0 : Nat) (r_63 : cx_M → dP → dL → Nat → Nat → Int32 → Int64 → Prop) (M : cx_M) (P : dP) (L : dL) (k n : Nat) (x2 : Int32) (x3 : Int64) : Prop :=
  if (lg_cmp x3 0) = 0 then (
    cq_let (x2 + 1) fun v1 =>
    (a0, (0, 21, 0)) ∈ L ∧ cq_get M (dc a0) 1 fun v2 =>
    if v1 = v2 then (
      Q M P L (-1) none 0 k n)
    else (
      (a0, (0, 21, 0)) ∈ L ∧ cd_let (P a0 0) fun r3 =>
      cd_nn r3 fun a4 =>
      ∃ z6, (a4, (2, 0, z6)) ∈ L ∧ cq_ldw M (dc a4) z6 v1 fun w5 =>
      r_63 M P L k n v1 w5))
  else (
    jLo_numberOfTrailingZerosD N (bc - k) (bs - n) M P L x3 (fun M7 P8 L9 v10 r11 e9 k12 n13 => e9 = 0 → cd_add k k12 n n13 fun k14 n15 =>
    Q M7 P8 L9 ((x2 * 64) + v10) none 0 k14 n15))
set_option maxRecDepth 100000 in
theorem jBd_nextSetBitD_63b_v {l : Launch} {g : cx_G} {X : cx_X} {N : Nat} {bc bs : Nat} {Q : cd_Qt} {a0 : Nat} {r_63 : cx_M → dP → dL → Nat → Nat → Int32 → Int64 → Prop} (H : dH g) (hX : X.2.2.2.2.2.2.1.name = "nextSetBit") (hr_63 : ∀ (M : cx_M) (P : dP) (L : dL) (k n : Nat) (x2 : Int32) (x3 : Int64), (k ≤ bc ∧ n ≤ bs) → r_63 M P L k n x2 x3 → cq_V l (dG g L P) X (esJ19_nextSetBitD bc bs) cJ19_nextSetBit 63 [(0, .ref a0), (2, .int x2), (3, .long x3)] [] M k n (cd_fin g X (esJ19_nextSetBitD bc bs) cd_rI Q)) (M : cx_M) (P : dP) (L : dL) (k n : Nat) (x2 : Int32) (x3 : Int64) (hk : k ≤ bc ∧ n ≤ bs) (h : jBd_nextSetBitD_63b N bc bs Q a0 r_63 M P L k n x2 x3) : cq_V l (dG g L P) X (esJ19_nextSetBitD bc bs) cJ19_nextSetBit 63 [(0, .ref a0), (2, .int x2), (3, .long x3)] [] M k n (cd_fin g X (esJ19_nextSetBitD bc bs) cd_rI Q) := by
  unfold jBd_nextSetBitD_63b at h
  refine cq_lload_n 2 dJ19_nextSetBit_63 rfl ?_
  refine cq_lconst 0 dJ19_nextSetBit_64 cx_lc_0 ?_
  refine cq_lcmp dJ19_nextSetBit_65 ?_
  refine cq_if_eq 79 h dJ19_nextSetBit_66 rfl (fun h => ?_) (fun h => ?_)
  · refine cq_iinc 1 1 (fun v1 => [(2, .int v1), (0, .ref a0), (3, .long x3)]) h dJ19_nextSetBit_79 rfl cx_ic_1 (cx_lt rfl) (fun _ => rfl) (fun v1 h => ?_)
    refine cq_iload_n 0 dJ19_nextSetBit_82 rfl ?_
    refine cq_aload_n 1 dJ19_nextSetBit_83 rfl ?_
    refine cq_nd H.1 (fun hn => cq_getI h.2 (dG_FI H.1 hn h.1 dCl_J19 (cx_lt rfl) rfl rfl rfl) q638 dJ19_nextSetBit_84 (fun v2 h => ?_))
    refine cq_icmp_ne 92 h dJ19_nextSetBit_87 rfl (fun h => ?_) (fun h => ?_)
    · refine cq_aload_n 1 dJ19_nextSetBit_92 rfl ?_
      refine cq_getR (dG_FR (k := 0) H.1 h.1 dCl_J19 (cx_lt rfl) rfl rfl) q637 dJ19_nextSetBit_93 ?_
      refine cd_letI h.2 (fun r3 h => ?_)
      refine cq_iload_n 0 dJ19_nextSetBit_96 rfl ?_
      obtain ⟨a4, e9, h⟩ := cd_nn_some h
      subst e9
      obtain ⟨z6, hm, h⟩ := h
      refine cq_nd H.1 (fun hn => cq_ldW h (dG_LI H.1 hn hm) dJ19_nextSetBit_97 (fun w5 h => ?_))
      refine cq_lstore_n [(3, .long w5), (2, .int v1), (0, .ref a0)] dJ19_nextSetBit_98 (cx_lt rfl) rfl ?_
      refine cq_goto 63 dJ19_nextSetBit_99 rfl ?_
      refine cq_sub (lv' := [(0, .ref a0), (2, .int v1), (3, .long w5)]) [2, 1, 0] rfl ?_
      exact hr_63 M P L k n v1 w5 hk h
    · refine cq_iconst (-1) dJ19_nextSetBit_90 cx_ic_m1 ?_
      exact cd_iret hk h rfl dJ19_nextSetBit_91
  · refine cq_iload_n 1 dJ19_nextSetBit_69 rfl ?_
    refine cq_bipush 64 dJ19_nextSetBit_70 cx_bp_64 ?_
    refine cq_imul dJ19_nextSetBit_72 ?_
    refine cq_lload_n 2 dJ19_nextSetBit_73 rfl ?_
    refine cd_cS [.long x3] [.int (x2 * 64)] (jLo_numberOfTrailingZerosD_m H (N := N) (bc := bc - k) (bs := bs - n) M P L x3 h) dJ19_nextSetBit_74 gd_J19_182D hgd_J19_182D ⟨cx_le rfl, cx_le rfl⟩ (cd_bud hk) rfl (cx_le rfl) (fun M7 P8 L9 v10 r11 k12 n13 hk2 h => ?_)
    refine cd_addI (h rfl) (cd_bk hk hk2) (fun k14 n15 h hk => ?_)
    refine cq_iadd dJ19_nextSetBit_77 ?_
    exact cd_iret hk h rfl dJ19_nextSetBit_78
def jBd_nextSetBitD_63 (N : Nat) (bc bs : Nat) (Q : cd_Qt) (a0 : Nat) : Nat → cx_M → dP → dL → Nat → Nat → Int32 → Int64 → Prop :=
  cx_fix (fun _ _ _ _ _ _ _ => False) (fun r_63 => jBd_nextSetBitD_63b N bc bs Q a0 r_63)
theorem jBd_nextSetBitD_63_v {l : Launch} {g : cx_G} {X : cx_X} {N : Nat} {bc bs : Nat} {Q : cd_Qt} {a0 : Nat} (H : dH g) (hX : X.2.2.2.2.2.2.1.name = "nextSetBit") : ∀ (f : Nat) (M : cx_M) (P : dP) (L : dL) (k n : Nat) (x2 : Int32) (x3 : Int64), (k ≤ bc ∧ n ≤ bs) → jBd_nextSetBitD_63 N bc bs Q a0 f M P L k n x2 x3 → cq_V l (dG g L P) X (esJ19_nextSetBitD bc bs) cJ19_nextSetBit 63 [(0, .ref a0), (2, .int x2), (3, .long x3)] [] M k n (cd_fin g X (esJ19_nextSetBitD bc bs) cd_rI Q) :=
  cx_fixI (fun (r : cx_M → dP → dL → Nat → Nat → Int32 → Int64 → Prop) => ∀ (M : cx_M) (P : dP) (L : dL) (k n : Nat) (x2 : Int32) (x3 : Int64), (k ≤ bc ∧ n ≤ bs) → r M P L k n x2 x3 → cq_V l (dG g L P) X (esJ19_nextSetBitD bc bs) cJ19_nextSetBit 63 [(0, .ref a0), (2, .int x2), (3, .long x3)] [] M k n (cd_fin g X (esJ19_nextSetBitD bc bs) cd_rI Q)) (fun _ _ _ _ _ _ _ _ h => by cases h) (fun r hr M P L k n x2 x3 hk h => jBd_nextSetBitD_63b_v H hX hr M P L k n x2 x3 hk h)
def jBd_nextSetBitD_0 (N : Nat) (bc bs : Nat) (Q : cd_Qt) (a0 : Nat) (M : cx_M) (P : dP) (L : dL) (k n : Nat) (x1 : Int32) : Prop :=
  if 0 ≤ x1 then (
    (a0, (0, 21, 0)) ∈ L ∧
    jBd_checkInvariantsD N (bc - k) (bs - n) M P L a0 (fun M1 P2 L3 v4 r5 e9 k6 n7 => e9 = 0 → cd_add k k6 n n7 fun k8 n9 =>
    jBd_wordIndexD N (bc - k8) (bs - n9) M1 P2 L3 x1 (fun M10 P11 L12 v13 r14 e9 k15 n16 => e9 = 0 → cd_add k8 k15 n9 n16 fun k17 n18 =>
    (a0, (0, 21, 0)) ∈ L12 ∧ cq_get M10 (dc a0) 1 fun v19 =>
    if v13 < v19 then (
      (a0, (0, 21, 0)) ∈ L12 ∧ cd_let (P11 a0 0) fun r20 =>
      cd_nn r20 fun a21 =>
      ∃ z23, (a21, (2, 0, z23)) ∈ L12 ∧ cq_ldw M10 (dc a21) z23 v13 fun w22 =>
      cq_let64 (w22 &&& (cx_shl64 (-1) x1)) fun w24 =>
      jBd_nextSetBitD_63 N bc bs Q a0 N M10 P11 L12 k17 n18 v13 w24)
    else (
      Q M10 P11 L12 (-1) none 0 k17 n18))))
  else (
    False)
set_option maxRecDepth 100000 in
theorem jBd_nextSetBitD_0_v {l : Launch} {g : cx_G} {X : cx_X} {N : Nat} {bc bs : Nat} {Q : cd_Qt} {a0 : Nat} (H : dH g) (hX : X.2.2.2.2.2.2.1.name = "nextSetBit") (M : cx_M) (P : dP) (L : dL) (k n : Nat) (x1 : Int32) (hk : k ≤ bc ∧ n ≤ bs) (h : jBd_nextSetBitD_0 N bc bs Q a0 M P L k n x1) : cq_V l (dG g L P) X (esJ19_nextSetBitD bc bs) cJ19_nextSetBit 0 [(0, .ref a0), (1, .int x1)] [] M k n (cd_fin g X (esJ19_nextSetBitD bc bs) cd_rI Q) := by
  unfold jBd_nextSetBitD_0 at h
  refine cq_iload_n 1 dJ19_nextSetBit_0 rfl ?_
  refine cq_if_ge 31 h dJ19_nextSetBit_1 rfl (fun h => ?_) (fun h => ?_)
  · refine cq_aload_n 0 dJ19_nextSetBit_31 rfl ?_
    obtain ⟨hmr, h⟩ := h
    refine cd_cV [] [] (jBd_checkInvariantsD_m H (N := N) (bc := bc - k) (bs := bs - n) M P L a0 h) (dG_Rc H.1 hmr dCl_J19) dJ19_nextSetBit_32 gd_J19_56D hgd_J19_56D ⟨cx_le rfl, cx_le rfl⟩ (cd_bud hk) rfl (cx_le rfl) (fun M1 P2 L3 v4 r5 k6 n7 hk2 h => ?_)
    refine cd_addI (h rfl) (cd_bk hk hk2) (fun k8 n9 h hk => ?_)
    refine cq_iload_n 1 dJ19_nextSetBit_35 rfl ?_
    refine cd_cS [.int x1] [] (jBd_wordIndexD_m H (N := N) (bc := bc - k8) (bs := bs - n9) M1 P2 L3 x1 h) dJ19_nextSetBit_36 gd_J19_52D hgd_J19_52D ⟨cx_le rfl, cx_le rfl⟩ (cd_bud hk) rfl (cx_le rfl) (fun M10 P11 L12 v13 r14 k15 n16 hk2 h => ?_)
    refine cd_addI (h rfl) (cd_bk hk hk2) (fun k17 n18 h hk => ?_)
    refine cq_istore_n [(2, .int v13), (0, .ref a0), (1, .int x1)] dJ19_nextSetBit_39 (cx_lt rfl) rfl ?_
    refine cq_iload_n 0 dJ19_nextSetBit_40 rfl ?_
    refine cq_aload_n 1 dJ19_nextSetBit_41 rfl ?_
    refine cq_nd H.1 (fun hn => cq_getI h.2 (dG_FI H.1 hn h.1 dCl_J19 (cx_lt rfl) rfl rfl rfl) q638 dJ19_nextSetBit_42 (fun v19 h => ?_))
    refine cq_icmp_lt 50 h dJ19_nextSetBit_45 rfl (fun h => ?_) (fun h => ?_)
    · refine cq_aload_n 1 dJ19_nextSetBit_50 rfl ?_
      refine cq_getR (dG_FR (k := 0) H.1 h.1 dCl_J19 (cx_lt rfl) rfl rfl) q637 dJ19_nextSetBit_51 ?_
      refine cd_letI h.2 (fun r20 h => ?_)
      refine cq_iload_n 0 dJ19_nextSetBit_54 rfl ?_
      obtain ⟨a21, e9, h⟩ := cd_nn_some h
      subst e9
      obtain ⟨z23, hm, h⟩ := h
      refine cq_nd H.1 (fun hn => cq_ldW h (dG_LI H.1 hn hm) dJ19_nextSetBit_55 (fun w22 h => ?_))
      refine cq_ldc2 (-1) dJ19_nextSetBit_56 q1297 ?_
      refine cq_iload_n 2 dJ19_nextSetBit_59 rfl ?_
      refine cq_lshl dJ19_nextSetBit_60 ?_
      refine cq_land dJ19_nextSetBit_61 ?_
      refine cq_letJ h (fun w24 h => ?_)
      refine cq_lstore_n [(3, .long w24), (2, .int v13), (0, .ref a0), (1, .int x1)] dJ19_nextSetBit_62 (cx_lt rfl) rfl ?_
      refine cq_sub (lv' := [(0, .ref a0), (2, .int v13), (3, .long w24)]) [2, 1, 0] rfl ?_
      exact jBd_nextSetBitD_63_v H hX N M10 P11 L12 k17 n18 v13 w24 hk h
    · refine cq_iconst (-1) dJ19_nextSetBit_48 cx_ic_m1 ?_
      exact cd_iret hk h rfl dJ19_nextSetBit_49
  · cases h
def jBd_nextSetBitD (N : Nat) (bc bs : Nat) (M : cx_M) (P : dP) (L : dL) (a0 : Nat) (x1 : Int32) (Q : cd_Qt) : Prop := jBd_nextSetBitD_0 N bc bs Q a0 M P L 0 0 x1
set_option maxRecDepth 100000 in
theorem jBd_nextSetBitD_m {l : Launch} {g : cx_G} {N : Nat} {bc bs : Nat} {Q : cd_Qt} (H : dH g) (M : cx_M) (P : dP) (L : dL) (a0 : Nat) (x1 : Int32) (h : jBd_nextSetBitD N bc bs M P L a0 x1 Q) : cd_Met l g yJ19_nextSetBit cJ19_nextSetBit (esJ19_nextSetBitD bc bs) cd_rI [.ref a0, .int x1] M P L Q :=
  cd_met (by decide +kernel) rfl rfl (lv := [(0, .ref a0), (1, .int x1)]) rfl (cx_le rfl) (fun X hX => cq_sub (lv' := [(0, .ref a0), (1, .int x1)]) [0, 1] rfl (jBd_nextSetBitD_0_v H hX M P L 0 0 x1 ⟨Nat.zero_le _, Nat.zero_le _⟩ h))

abbrev esJ19_nextClearBitD (bc bs : Nat) : cx_S := (5, RJ19, cx_rI, { frames := 2, cells := bc, slots := bs, locals := 43 }, some .int, false)
def jBd_nextClearBitD_67b (N : Nat) (bc bs : Nat) (Q : cd_Qt) (a0 : Nat) (r_67 : cx_M → dP → dL → Nat → Nat → Int32 → Int64 → Prop) (M : cx_M) (P : dP) (L : dL) (k n : Nat) (x2 : Int32) (x3 : Int64) : Prop :=
  if (lg_cmp x3 0) = 0 then (
    cq_let (x2 + 1) fun v1 =>
    (a0, (0, 21, 0)) ∈ L ∧ cq_get M (dc a0) 1 fun v2 =>
    if v1 = v2 then (
      (a0, (0, 21, 0)) ∈ L ∧ cq_get M (dc a0) 1 fun v8 =>
      Q M P L (v8 * 64) none 0 k n)
    else (
      (a0, (0, 21, 0)) ∈ L ∧ cd_let (P a0 0) fun r3 =>
      cd_nn r3 fun a4 =>
      ∃ z6, (a4, (2, 0, z6)) ∈ L ∧ cq_ldw M (dc a4) z6 v1 fun w5 =>
      cq_let64 (w5 ^^^ (-1)) fun w7 =>
      r_67 M P L k n v1 w7))
  else (
    jLo_numberOfTrailingZerosD N (bc - k) (bs - n) M P L x3 (fun M9 P10 L11 v12 r13 e9 k14 n15 => e9 = 0 → cd_add k k14 n n15 fun k16 n17 =>
    Q M9 P10 L11 ((x2 * 64) + v12) none 0 k16 n17))
set_option maxRecDepth 100000 in
theorem jBd_nextClearBitD_67b_v {l : Launch} {g : cx_G} {X : cx_X} {N : Nat} {bc bs : Nat} {Q : cd_Qt} {a0 : Nat} {r_67 : cx_M → dP → dL → Nat → Nat → Int32 → Int64 → Prop} (H : dH g) (hX : X.2.2.2.2.2.2.1.name = "nextClearBit") (hr_67 : ∀ (M : cx_M) (P : dP) (L : dL) (k n : Nat) (x2 : Int32) (x3 : Int64), (k ≤ bc ∧ n ≤ bs) → r_67 M P L k n x2 x3 → cq_V l (dG g L P) X (esJ19_nextClearBitD bc bs) cJ19_nextClearBit 67 [(0, .ref a0), (2, .int x2), (3, .long x3)] [] M k n (cd_fin g X (esJ19_nextClearBitD bc bs) cd_rI Q)) (M : cx_M) (P : dP) (L : dL) (k n : Nat) (x2 : Int32) (x3 : Int64) (hk : k ≤ bc ∧ n ≤ bs) (h : jBd_nextClearBitD_67b N bc bs Q a0 r_67 M P L k n x2 x3) : cq_V l (dG g L P) X (esJ19_nextClearBitD bc bs) cJ19_nextClearBit 67 [(0, .ref a0), (2, .int x2), (3, .long x3)] [] M k n (cd_fin g X (esJ19_nextClearBitD bc bs) cd_rI Q) := by
  unfold jBd_nextClearBitD_67b at h
  refine cq_lload_n 2 dJ19_nextClearBit_67 rfl ?_
  refine cq_lconst 0 dJ19_nextClearBit_68 cx_lc_0 ?_
  refine cq_lcmp dJ19_nextClearBit_69 ?_
  refine cq_if_eq 83 h dJ19_nextClearBit_70 rfl (fun h => ?_) (fun h => ?_)
  · refine cq_iinc 1 1 (fun v1 => [(2, .int v1), (0, .ref a0), (3, .long x3)]) h dJ19_nextClearBit_83 rfl cx_ic_1 (cx_lt rfl) (fun _ => rfl) (fun v1 h => ?_)
    refine cq_iload_n 0 dJ19_nextClearBit_86 rfl ?_
    refine cq_aload_n 1 dJ19_nextClearBit_87 rfl ?_
    refine cq_nd H.1 (fun hn => cq_getI h.2 (dG_FI H.1 hn h.1 dCl_J19 (cx_lt rfl) rfl rfl rfl) q638 dJ19_nextClearBit_88 (fun v2 h => ?_))
    refine cq_icmp_ne 102 h dJ19_nextClearBit_91 rfl (fun h => ?_) (fun h => ?_)
    · refine cq_aload_n 1 dJ19_nextClearBit_102 rfl ?_
      refine cq_getR (dG_FR (k := 0) H.1 h.1 dCl_J19 (cx_lt rfl) rfl rfl) q637 dJ19_nextClearBit_103 ?_
      refine cd_letI h.2 (fun r3 h => ?_)
      refine cq_iload_n 0 dJ19_nextClearBit_106 rfl ?_
      obtain ⟨a4, e9, h⟩ := cd_nn_some h
      subst e9
      obtain ⟨z6, hm, h⟩ := h
      refine cq_nd H.1 (fun hn => cq_ldW h (dG_LI H.1 hn hm) dJ19_nextClearBit_107 (fun w5 h => ?_))
      refine cq_ldc2 (-1) dJ19_nextClearBit_108 q1297 ?_
      refine cq_lxor dJ19_nextClearBit_111 ?_
      refine cq_letJ h (fun w7 h => ?_)
      refine cq_lstore_n [(3, .long w7), (2, .int v1), (0, .ref a0)] dJ19_nextClearBit_112 (cx_lt rfl) rfl ?_
      refine cq_goto 67 dJ19_nextClearBit_113 rfl ?_
      refine cq_sub (lv' := [(0, .ref a0), (2, .int v1), (3, .long w7)]) [2, 1, 0] rfl ?_
      exact hr_67 M P L k n v1 w7 hk h
    · refine cq_aload_n 1 dJ19_nextClearBit_94 rfl ?_
      refine cq_nd H.1 (fun hn => cq_getI h.2 (dG_FI H.1 hn h.1 dCl_J19 (cx_lt rfl) rfl rfl rfl) q638 dJ19_nextClearBit_95 (fun v8 h => ?_))
      refine cq_bipush 64 dJ19_nextClearBit_98 cx_bp_64 ?_
      refine cq_imul dJ19_nextClearBit_100 ?_
      exact cd_iret hk h rfl dJ19_nextClearBit_101
  · refine cq_iload_n 1 dJ19_nextClearBit_73 rfl ?_
    refine cq_bipush 64 dJ19_nextClearBit_74 cx_bp_64 ?_
    refine cq_imul dJ19_nextClearBit_76 ?_
    refine cq_lload_n 2 dJ19_nextClearBit_77 rfl ?_
    refine cd_cS [.long x3] [.int (x2 * 64)] (jLo_numberOfTrailingZerosD_m H (N := N) (bc := bc - k) (bs := bs - n) M P L x3 h) dJ19_nextClearBit_78 gd_J19_182D hgd_J19_182D ⟨cx_le rfl, cx_le rfl⟩ (cd_bud hk) rfl (cx_le rfl) (fun M9 P10 L11 v12 r13 k14 n15 hk2 h => ?_)
    refine cd_addI (h rfl) (cd_bk hk hk2) (fun k16 n17 h hk => ?_)
    refine cq_iadd dJ19_nextClearBit_81 ?_
    exact cd_iret hk h rfl dJ19_nextClearBit_82
def jBd_nextClearBitD_67 (N : Nat) (bc bs : Nat) (Q : cd_Qt) (a0 : Nat) : Nat → cx_M → dP → dL → Nat → Nat → Int32 → Int64 → Prop :=
  cx_fix (fun _ _ _ _ _ _ _ => False) (fun r_67 => jBd_nextClearBitD_67b N bc bs Q a0 r_67)
theorem jBd_nextClearBitD_67_v {l : Launch} {g : cx_G} {X : cx_X} {N : Nat} {bc bs : Nat} {Q : cd_Qt} {a0 : Nat} (H : dH g) (hX : X.2.2.2.2.2.2.1.name = "nextClearBit") : ∀ (f : Nat) (M : cx_M) (P : dP) (L : dL) (k n : Nat) (x2 : Int32) (x3 : Int64), (k ≤ bc ∧ n ≤ bs) → jBd_nextClearBitD_67 N bc bs Q a0 f M P L k n x2 x3 → cq_V l (dG g L P) X (esJ19_nextClearBitD bc bs) cJ19_nextClearBit 67 [(0, .ref a0), (2, .int x2), (3, .long x3)] [] M k n (cd_fin g X (esJ19_nextClearBitD bc bs) cd_rI Q) :=
  cx_fixI (fun (r : cx_M → dP → dL → Nat → Nat → Int32 → Int64 → Prop) => ∀ (M : cx_M) (P : dP) (L : dL) (k n : Nat) (x2 : Int32) (x3 : Int64), (k ≤ bc ∧ n ≤ bs) → r M P L k n x2 x3 → cq_V l (dG g L P) X (esJ19_nextClearBitD bc bs) cJ19_nextClearBit 67 [(0, .ref a0), (2, .int x2), (3, .long x3)] [] M k n (cd_fin g X (esJ19_nextClearBitD bc bs) cd_rI Q)) (fun _ _ _ _ _ _ _ _ h => by cases h) (fun r hr M P L k n x2 x3 hk h => jBd_nextClearBitD_67b_v H hX hr M P L k n x2 x3 hk h)
def jBd_nextClearBitD_0 (N : Nat) (bc bs : Nat) (Q : cd_Qt) (a0 : Nat) (M : cx_M) (P : dP) (L : dL) (k n : Nat) (x1 : Int32) : Prop :=
  if 0 ≤ x1 then (
    (a0, (0, 21, 0)) ∈ L ∧
    jBd_checkInvariantsD N (bc - k) (bs - n) M P L a0 (fun M1 P2 L3 v4 r5 e9 k6 n7 => e9 = 0 → cd_add k k6 n n7 fun k8 n9 =>
    jBd_wordIndexD N (bc - k8) (bs - n9) M1 P2 L3 x1 (fun M10 P11 L12 v13 r14 e9 k15 n16 => e9 = 0 → cd_add k8 k15 n9 n16 fun k17 n18 =>
    (a0, (0, 21, 0)) ∈ L12 ∧ cq_get M10 (dc a0) 1 fun v19 =>
    if v13 < v19 then (
      (a0, (0, 21, 0)) ∈ L12 ∧ cd_let (P11 a0 0) fun r20 =>
      cd_nn r20 fun a21 =>
      ∃ z23, (a21, (2, 0, z23)) ∈ L12 ∧ cq_ldw M10 (dc a21) z23 v13 fun w22 =>
      cq_let64 ((w22 ^^^ (-1)) &&& (cx_shl64 (-1) x1)) fun w24 =>
      jBd_nextClearBitD_67 N bc bs Q a0 N M10 P11 L12 k17 n18 v13 w24)
    else (
      Q M10 P11 L12 x1 none 0 k17 n18))))
  else (
    False)
set_option maxRecDepth 100000 in
theorem jBd_nextClearBitD_0_v {l : Launch} {g : cx_G} {X : cx_X} {N : Nat} {bc bs : Nat} {Q : cd_Qt} {a0 : Nat} (H : dH g) (hX : X.2.2.2.2.2.2.1.name = "nextClearBit") (M : cx_M) (P : dP) (L : dL) (k n : Nat) (x1 : Int32) (hk : k ≤ bc ∧ n ≤ bs) (h : jBd_nextClearBitD_0 N bc bs Q a0 M P L k n x1) : cq_V l (dG g L P) X (esJ19_nextClearBitD bc bs) cJ19_nextClearBit 0 [(0, .ref a0), (1, .int x1)] [] M k n (cd_fin g X (esJ19_nextClearBitD bc bs) cd_rI Q) := by
  unfold jBd_nextClearBitD_0 at h
  refine cq_iload_n 1 dJ19_nextClearBit_0 rfl ?_
  refine cq_if_ge 31 h dJ19_nextClearBit_1 rfl (fun h => ?_) (fun h => ?_)
  · refine cq_aload_n 0 dJ19_nextClearBit_31 rfl ?_
    obtain ⟨hmr, h⟩ := h
    refine cd_cV [] [] (jBd_checkInvariantsD_m H (N := N) (bc := bc - k) (bs := bs - n) M P L a0 h) (dG_Rc H.1 hmr dCl_J19) dJ19_nextClearBit_32 gd_J19_56D hgd_J19_56D ⟨cx_le rfl, cx_le rfl⟩ (cd_bud hk) rfl (cx_le rfl) (fun M1 P2 L3 v4 r5 k6 n7 hk2 h => ?_)
    refine cd_addI (h rfl) (cd_bk hk hk2) (fun k8 n9 h hk => ?_)
    refine cq_iload_n 1 dJ19_nextClearBit_35 rfl ?_
    refine cd_cS [.int x1] [] (jBd_wordIndexD_m H (N := N) (bc := bc - k8) (bs := bs - n9) M1 P2 L3 x1 h) dJ19_nextClearBit_36 gd_J19_52D hgd_J19_52D ⟨cx_le rfl, cx_le rfl⟩ (cd_bud hk) rfl (cx_le rfl) (fun M10 P11 L12 v13 r14 k15 n16 hk2 h => ?_)
    refine cd_addI (h rfl) (cd_bk hk hk2) (fun k17 n18 h hk => ?_)
    refine cq_istore_n [(2, .int v13), (0, .ref a0), (1, .int x1)] dJ19_nextClearBit_39 (cx_lt rfl) rfl ?_
    refine cq_iload_n 0 dJ19_nextClearBit_40 rfl ?_
    refine cq_aload_n 1 dJ19_nextClearBit_41 rfl ?_
    refine cq_nd H.1 (fun hn => cq_getI h.2 (dG_FI H.1 hn h.1 dCl_J19 (cx_lt rfl) rfl rfl rfl) q638 dJ19_nextClearBit_42 (fun v19 h => ?_))
    refine cq_icmp_lt 50 h dJ19_nextClearBit_45 rfl (fun h => ?_) (fun h => ?_)
    · refine cq_aload_n 1 dJ19_nextClearBit_50 rfl ?_
      refine cq_getR (dG_FR (k := 0) H.1 h.1 dCl_J19 (cx_lt rfl) rfl rfl) q637 dJ19_nextClearBit_51 ?_
      refine cd_letI h.2 (fun r20 h => ?_)
      refine cq_iload_n 0 dJ19_nextClearBit_54 rfl ?_
      obtain ⟨a21, e9, h⟩ := cd_nn_some h
      subst e9
      obtain ⟨z23, hm, h⟩ := h
      refine cq_nd H.1 (fun hn => cq_ldW h (dG_LI H.1 hn hm) dJ19_nextClearBit_55 (fun w22 h => ?_))
      refine cq_ldc2 (-1) dJ19_nextClearBit_56 q1297 ?_
      refine cq_lxor dJ19_nextClearBit_59 ?_
      refine cq_ldc2 (-1) dJ19_nextClearBit_60 q1297 ?_
      refine cq_iload_n 2 dJ19_nextClearBit_63 rfl ?_
      refine cq_lshl dJ19_nextClearBit_64 ?_
      refine cq_land dJ19_nextClearBit_65 ?_
      refine cq_letJ h (fun w24 h => ?_)
      refine cq_lstore_n [(3, .long w24), (2, .int v13), (0, .ref a0), (1, .int x1)] dJ19_nextClearBit_66 (cx_lt rfl) rfl ?_
      refine cq_sub (lv' := [(0, .ref a0), (2, .int v13), (3, .long w24)]) [2, 1, 0] rfl ?_
      exact jBd_nextClearBitD_67_v H hX N M10 P11 L12 k17 n18 v13 w24 hk h
    · refine cq_iload_n 2 dJ19_nextClearBit_48 rfl ?_
      exact cd_iret hk h rfl dJ19_nextClearBit_49
  · cases h
def jBd_nextClearBitD (N : Nat) (bc bs : Nat) (M : cx_M) (P : dP) (L : dL) (a0 : Nat) (x1 : Int32) (Q : cd_Qt) : Prop := jBd_nextClearBitD_0 N bc bs Q a0 M P L 0 0 x1
set_option maxRecDepth 100000 in
theorem jBd_nextClearBitD_m {l : Launch} {g : cx_G} {N : Nat} {bc bs : Nat} {Q : cd_Qt} (H : dH g) (M : cx_M) (P : dP) (L : dL) (a0 : Nat) (x1 : Int32) (h : jBd_nextClearBitD N bc bs M P L a0 x1 Q) : cd_Met l g yJ19_nextClearBit cJ19_nextClearBit (esJ19_nextClearBitD bc bs) cd_rI [.ref a0, .int x1] M P L Q :=
  cd_met (by decide +kernel) rfl rfl (lv := [(0, .ref a0), (1, .int x1)]) rfl (cx_le rfl) (fun X hX => cq_sub (lv' := [(0, .ref a0), (1, .int x1)]) [0, 1] rfl (jBd_nextClearBitD_0_v H hX M P L 0 0 x1 ⟨Nat.zero_le _, Nat.zero_le _⟩ h))
