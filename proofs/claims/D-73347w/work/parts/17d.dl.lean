theorem cx_bp_m128 : (Int8.ofInt (-128)).toInt32 = (-128) := by decide +kernel
abbrev dNt : Type := Nat × (Nat → Nat)
def dia (adr : Nat → Nat) : Nat → Nat := fun j => adr (2000000 + j)
/-- what a base says of Integers, arrays of Objects, iterators -/
def dI (g : cx_G) (adr : Nat → Nat) : Prop := dH g ∧ dIc g (dia adr) (adr 2000999) ∧ (∀ U, cx_K g U → va_Mi "[Ljava/lang/Object;" (adr 2000998) U) ∧ (∀ U, cx_K g U → va_Fw "java/util/LinkedList$ListItr" ⟨"java/util/Iterator", "hasNext", "()Z"⟩ yJ29_hasNext U ∧ va_Fw "java/util/LinkedList$ListItr" ⟨"java/util/Iterator", "next", "()Ljava/lang/Object;"⟩ yJ29_next U ∧ va_Fw "java/util/LinkedList$ListItr" ⟨"java/util/Iterator", "remove", "()V"⟩ yJ29_remove U)
theorem d16 : ∃ T9 N9, vwCl[16]? = some ("java/lang/Integer", T9, N9) := ⟨_, _, rfl⟩
theorem lw_F {own C : String} {idx : Nat} {x y : MethodName} {b : ByteArray} {L : Nat} {r : Option FieldType} (h1 : Cond.methodLink own idx x ∈ lw_all) (h3 : Cond.selects C x y ∈ lw_all) (h4 : Cond.instanceMethod y ∈ lw_all) (h5 : Cond.initialized y.cls ∈ lw_all) (h6 : Cond.code y b L r ∈ lw_all) : GoodIn lw_all (va_wsF own idx C x y (ws_ y b L r)) := by
  refine lw_app ?_ (lw_meth h6)
  intro w hw
  simp only [List.mem_cons, List.not_mem_nil, or_false] at hw
  rcases hw with e | e | e | e
  · rw [e]; exact h1
  · rw [e]; exact h3
  · rw [e]; exact h4
  · rw [e]; exact h5
theorem dCast : ∀ ci, ci < 26 → ∃ C T N, vwCl[ci]? = some (C, T, N) ∧ Cond.castable C "java/lang/Object" ∈ lw_tbl := by
  intro ci h
  match ci, h with
  | 0, _ => exact ⟨_, _, _, rfl, q2979⟩
  | 1, _ => exact ⟨_, _, _, rfl, q2966⟩
  | 2, _ => exact ⟨_, _, _, rfl, q2972⟩
  | 3, _ => exact ⟨_, _, _, rfl, q2987⟩
  | 4, _ => exact ⟨_, _, _, rfl, q2976⟩
  | 5, _ => exact ⟨_, _, _, rfl, q2982⟩
  | 6, _ => exact ⟨_, _, _, rfl, q2977⟩
  | 7, _ => exact ⟨_, _, _, rfl, q2967⟩
  | 8, _ => exact ⟨_, _, _, rfl, q2978⟩
  | 9, _ => exact ⟨_, _, _, rfl, q2988⟩
  | 10, _ => exact ⟨_, _, _, rfl, q2980⟩
  | 11, _ => exact ⟨_, _, _, rfl, q2986⟩
  | 12, _ => exact ⟨_, _, _, rfl, q2973⟩
  | 13, _ => exact ⟨_, _, _, rfl, q2985⟩
  | 14, _ => exact ⟨_, _, _, rfl, q2971⟩
  | 15, _ => exact ⟨_, _, _, rfl, q2969⟩
  | 16, _ => exact ⟨_, _, _, rfl, q2984⟩
  | 17, _ => exact ⟨_, _, _, rfl, q2965⟩
  | 18, _ => exact ⟨_, _, _, rfl, q2970⟩
  | 19, _ => exact ⟨_, _, _, rfl, q2975⟩
  | 20, _ => exact ⟨_, _, _, rfl, q2968⟩
  | 21, _ => exact ⟨_, _, _, rfl, q2974⟩
  | 22, _ => exact ⟨_, _, _, rfl, q2990⟩
  | 23, _ => exact ⟨_, _, _, rfl, q2994⟩
  | 24, _ => exact ⟨_, _, _, rfl, q2991⟩
  | 25, _ => exact ⟨_, _, _, rfl, q2989⟩
  | n + 26, h => exact absurd h (by omega)
theorem dCl_J17 : cx_Cl 16 RJ17 TJ17 1 tyJ17 := ⟨rfl, in_J17, tyJ17_ok, nmJ17⟩
theorem dDf_J17 : ∀ j, j < 1 → defaultValue (tyJ17 j) = dFv 16 j (fun _ => 0) (fun _ => none) := by decide +kernel
theorem dCl_J2 : cx_Cl 20 RJ2 TJ2 3 tyJ2 := ⟨rfl, in_J2, tyJ2_ok, nmJ2⟩
theorem dCl_J23 : cx_Cl 22 RJ23 TJ23 4 tyJ23 := ⟨rfl, in_J23, tyJ23_ok, nmJ23⟩
theorem dCl_J25 : cx_Cl 24 RJ25 TJ25 3 tyJ25 := ⟨rfl, in_J25, tyJ25_ok, nmJ25⟩
theorem dDf_J25 : ∀ j, j < 3 → defaultValue (tyJ25 j) = dFv 24 j (fun _ => 0) (fun _ => none) := by decide +kernel
theorem dCl_J29 : cx_Cl 23 RJ29 TJ29 5 tyJ29 := ⟨rfl, in_J29, tyJ29_ok, nmJ29⟩
theorem dDf_J29 : ∀ j, j < 5 → defaultValue (tyJ29 j) = dFv 23 j (fun _ => 0) (fun _ => none) := by decide +kernel
theorem dCl_J20 : cx_Cl 19 RJ20 TJ20 3 tyJ20 := ⟨rfl, in_J20, tyJ20_ok, nmJ20⟩
theorem gd_J17_202 : GoodIn lw_all (ws_ yJ16_init cJ16_init 1 none) := lw_meth q1627
theorem hgd_J17_202 : yJ16_init.cls ≠ "java/lang/invoke/MethodHandle" ∧ yJ16_init.cls ≠ "java/lang/invoke/VarHandle" ∧ (parseMethodDescriptor yJ16_init.desc).map (fun d => d.parameters.length) = some 0 := by decide +kernel
theorem gd_J17_199 : GoodIn lw_all (ws_ yJ17_init cJ17_init 2 none) := lw_meth q1624
theorem hgd_J17_199 : yJ17_init.cls ≠ "java/lang/invoke/MethodHandle" ∧ yJ17_init.cls ≠ "java/lang/invoke/VarHandle" ∧ (parseMethodDescriptor yJ17_init.desc).map (fun d => d.parameters.length) = some 1 := by decide +kernel
theorem gd_J13_300 : GoodIn lw_all (va_wsS RJ13 300 yJ13_copyOf_3 (ws_ yJ13_copyOf_3 cJ13_copyOf_3 4 (some (.array (.object "java/lang/Object"))))) := lw_S q885 q886 q131 q887
theorem hgd_J13_300 : yJ13_copyOf_3.cls ≠ "java/lang/invoke/MethodHandle" ∧ yJ13_copyOf_3.cls ≠ "java/lang/invoke/VarHandle" ∧ (parseMethodDescriptor yJ13_copyOf_3.desc).map (fun d => d.parameters.length) = some 3 := by decide +kernel
theorem gd_J1_1A : GoodIn lw_all (ws_ yJ0_init cJ0_init 1 none) := lw_meth q194
theorem hgd_J1_1A : yJ0_init.cls ≠ "java/lang/invoke/MethodHandle" ∧ yJ0_init.cls ≠ "java/lang/invoke/VarHandle" ∧ (parseMethodDescriptor yJ0_init.desc).map (fun d => d.parameters.length) = some 0 := by decide +kernel
theorem gd_J2_1A : GoodIn lw_all (ws_ yJ1_init cJ1_init 1 none) := lw_meth q191
theorem hgd_J2_1A : yJ1_init.cls ≠ "java/lang/invoke/MethodHandle" ∧ yJ1_init.cls ≠ "java/lang/invoke/VarHandle" ∧ (parseMethodDescriptor yJ1_init.desc).map (fun d => d.parameters.length) = some 0 := by decide +kernel
theorem gd_J2_73 : GoodIn lw_all (va_wsS RJ2 73 yJ11_newLength (ws_ yJ11_newLength cJ11_newLength 4 (some .int))) := lw_S q844 q296 q129 q297
theorem hgd_J2_73 : yJ11_newLength.cls ≠ "java/lang/invoke/MethodHandle" ∧ yJ11_newLength.cls ≠ "java/lang/invoke/VarHandle" ∧ (parseMethodDescriptor yJ11_newLength.desc).map (fun d => d.parameters.length) = some 3 := by decide +kernel
theorem gd_J2_66 : GoodIn lw_all (va_wsS RJ2 66 yJ13_copyOf_2 (ws_ yJ13_copyOf_2 cJ13_copyOf_2 2 (some (.array (.object "java/lang/Object"))))) := lw_S q845 q846 q131 q847
theorem hgd_J2_66 : yJ13_copyOf_2.cls ≠ "java/lang/invoke/MethodHandle" ∧ yJ13_copyOf_2.cls ≠ "java/lang/invoke/VarHandle" ∧ (parseMethodDescriptor yJ13_copyOf_2.desc).map (fun d => d.parameters.length) = some 2 := by decide +kernel
theorem gd_J2_69 : GoodIn lw_all (wsV RJ2 69 RJ2 yJ2_grow_2 (ws_ yJ2_grow_2 cJ2_grow_2 4 (some (.array (.object "java/lang/Object"))))) := lw_V q838 q840 qs4 q120 q841
theorem hgd_J2_69 : yJ2_grow_2.cls = RJ2 ∧ yJ2_grow_2.cls ≠ "java/lang/invoke/MethodHandle" ∧ yJ2_grow_2.cls ≠ "java/lang/invoke/VarHandle" ∧ (parseMethodDescriptor yJ2_grow_2.desc).map (fun d => d.parameters.length) = some 1 := by decide +kernel
theorem gd_J2_129 : GoodIn lw_all (wsV RJ2 129 RJ2 yJ2_grow (ws_ yJ2_grow cJ2_grow 1 (some (.array (.object "java/lang/Object"))))) := lw_V q834 q836 qs3 q120 q837
theorem hgd_J2_129 : yJ2_grow.cls = RJ2 ∧ yJ2_grow.cls ≠ "java/lang/invoke/MethodHandle" ∧ yJ2_grow.cls ≠ "java/lang/invoke/VarHandle" ∧ (parseMethodDescriptor yJ2_grow.desc).map (fun d => d.parameters.length) = some 0 := by decide +kernel
theorem gd_J2_131 : GoodIn lw_all (wsV RJ2 131 RJ2 yJ2_add_2 (ws_ yJ2_add_2 cJ2_add_2 4 none)) := lw_V q830 q832 qs2 q120 q833
theorem hgd_J2_131 : yJ2_add_2.cls = RJ2 ∧ yJ2_add_2.cls ≠ "java/lang/invoke/MethodHandle" ∧ yJ2_add_2.cls ≠ "java/lang/invoke/VarHandle" ∧ (parseMethodDescriptor yJ2_add_2.desc).map (fun d => d.parameters.length) = some 3 := by decide +kernel
theorem gd_J30_105D : GoodIn lw_all (va_wsS RJ30 105 yJ14_checkIndex (ws_ yJ14_checkIndex cJ14_checkIndex 3 (some .int))) := lw_S q1103 q1104 q133 q1105
theorem hgd_J30_105D : yJ14_checkIndex.cls ≠ "java/lang/invoke/MethodHandle" ∧ yJ14_checkIndex.cls ≠ "java/lang/invoke/VarHandle" ∧ (parseMethodDescriptor yJ14_checkIndex.desc).map (fun d => d.parameters.length) = some 3 := by decide +kernel
theorem gd_J2_118 : GoodIn lw_all (va_wsS RJ2 118 yJ30_checkIndex (ws_ yJ30_checkIndex cJ30_checkIndex 2 (some .int))) := lw_S q1100 q1101 q167 q1102
theorem hgd_J2_118 : yJ30_checkIndex.cls ≠ "java/lang/invoke/MethodHandle" ∧ yJ30_checkIndex.cls ≠ "java/lang/invoke/VarHandle" ∧ (parseMethodDescriptor yJ30_checkIndex.desc).map (fun d => d.parameters.length) = some 2 := by decide +kernel
theorem gd_J2_123 : GoodIn lw_all (wsV RJ2 123 RJ2 yJ2_elementData (ws_ yJ2_elementData cJ2_elementData 2 (some (.object "java/lang/Object")))) := lw_V q1115 q1116 q1117 q120 q1118
theorem hgd_J2_123 : yJ2_elementData.cls = RJ2 ∧ yJ2_elementData.cls ≠ "java/lang/invoke/MethodHandle" ∧ yJ2_elementData.cls ≠ "java/lang/invoke/VarHandle" ∧ (parseMethodDescriptor yJ2_elementData.desc).map (fun d => d.parameters.length) = some 1 := by decide +kernel
theorem gd_J1_1L : GoodIn lw_all (ws_ yJ0_init cJ0_init 1 none) := lw_meth q194
theorem hgd_J1_1L : yJ0_init.cls ≠ "java/lang/invoke/MethodHandle" ∧ yJ0_init.cls ≠ "java/lang/invoke/VarHandle" ∧ (parseMethodDescriptor yJ0_init.desc).map (fun d => d.parameters.length) = some 0 := by decide +kernel
theorem gd_J22_1L : GoodIn lw_all (ws_ yJ1_init cJ1_init 1 none) := lw_meth q191
theorem hgd_J22_1L : yJ1_init.cls ≠ "java/lang/invoke/MethodHandle" ∧ yJ1_init.cls ≠ "java/lang/invoke/VarHandle" ∧ (parseMethodDescriptor yJ1_init.desc).map (fun d => d.parameters.length) = some 0 := by decide +kernel
theorem gd_J23_1 : GoodIn lw_all (ws_ yJ22_init cJ22_init 1 none) := lw_meth q1830
theorem hgd_J23_1 : yJ22_init.cls ≠ "java/lang/invoke/MethodHandle" ∧ yJ22_init.cls ≠ "java/lang/invoke/VarHandle" ∧ (parseMethodDescriptor yJ22_init.desc).map (fun d => d.parameters.length) = some 0 := by decide +kernel
theorem gd_J23_24 : GoodIn lw_all (ws_ yJ25_init cJ25_init 4 none) := lw_meth q1872
theorem hgd_J23_24 : yJ25_init.cls ≠ "java/lang/invoke/MethodHandle" ∧ yJ25_init.cls ≠ "java/lang/invoke/VarHandle" ∧ (parseMethodDescriptor yJ25_init.desc).map (fun d => d.parameters.length) = some 3 := by decide +kernel
theorem gd_J23_57 : GoodIn lw_all (wsV RJ23 57 RJ23 yJ23_linkLast (ws_ yJ23_linkLast cJ23_linkLast 4 none)) := lw_V q1864 q1865 q1866 q159 q1867
theorem hgd_J23_57 : yJ23_linkLast.cls = RJ23 ∧ yJ23_linkLast.cls ≠ "java/lang/invoke/MethodHandle" ∧ yJ23_linkLast.cls ≠ "java/lang/invoke/VarHandle" ∧ (parseMethodDescriptor yJ23_linkLast.desc).map (fun d => d.parameters.length) = some 1 := by decide +kernel
theorem gd_J23_115 : GoodIn lw_all (wsV RJ23 115 RJ23 yJ23_isElementIndex (ws_ yJ23_isElementIndex cJ23_isElementIndex 2 (some .boolean))) := lw_V q2030 q2032 qs47 q159 q2033
theorem hgd_J23_115 : yJ23_isElementIndex.cls = RJ23 ∧ yJ23_isElementIndex.cls ≠ "java/lang/invoke/MethodHandle" ∧ yJ23_isElementIndex.cls ≠ "java/lang/invoke/VarHandle" ∧ (parseMethodDescriptor yJ23_isElementIndex.desc).map (fun d => d.parameters.length) = some 1 := by decide +kernel
theorem gd_J23_128 : GoodIn lw_all (wsV RJ23 128 RJ23 yJ23_isPositionIndex (ws_ yJ23_isPositionIndex cJ23_isPositionIndex 2 (some .boolean))) := lw_V q1945 q1947 qs45 q159 q1948
theorem hgd_J23_128 : yJ23_isPositionIndex.cls = RJ23 ∧ yJ23_isPositionIndex.cls ≠ "java/lang/invoke/MethodHandle" ∧ yJ23_isPositionIndex.cls ≠ "java/lang/invoke/VarHandle" ∧ (parseMethodDescriptor yJ23_isPositionIndex.desc).map (fun d => d.parameters.length) = some 1 := by decide +kernel
theorem gd_J23_90 : GoodIn lw_all (wsV RJ23 90 RJ23 yJ23_checkElementIndex (ws_ yJ23_checkElementIndex cJ23_checkElementIndex 2 none)) := lw_V q2026 q2028 qs46 q159 q2029
theorem hgd_J23_90 : yJ23_checkElementIndex.cls = RJ23 ∧ yJ23_checkElementIndex.cls ≠ "java/lang/invoke/MethodHandle" ∧ yJ23_checkElementIndex.cls ≠ "java/lang/invoke/VarHandle" ∧ (parseMethodDescriptor yJ23_checkElementIndex.desc).map (fun d => d.parameters.length) = some 1 := by decide +kernel
theorem gd_J23_86 : GoodIn lw_all (wsV RJ23 86 RJ23 yJ23_node (ws_ yJ23_node cJ23_node 4 (some (.object "java/util/LinkedList$Node")))) := lw_V q2034 q1956 q1957 q159 q1958
theorem hgd_J23_86 : yJ23_node.cls = RJ23 ∧ yJ23_node.cls ≠ "java/lang/invoke/MethodHandle" ∧ yJ23_node.cls ≠ "java/lang/invoke/VarHandle" ∧ (parseMethodDescriptor yJ23_node.desc).map (fun d => d.parameters.length) = some 1 := by decide +kernel
theorem gd_J29_25 : GoodIn lw_all (wsV RJ29 25 RJ23 yJ23_node (ws_ yJ23_node cJ23_node 4 (some (.object "java/util/LinkedList$Node")))) := lw_V q1955 q1956 q1957 q159 q1958
theorem hgd_J29_25 : yJ23_node.cls = RJ23 ∧ yJ23_node.cls ≠ "java/lang/invoke/MethodHandle" ∧ yJ23_node.cls ≠ "java/lang/invoke/VarHandle" ∧ (parseMethodDescriptor yJ23_node.desc).map (fun d => d.parameters.length) = some 1 := by decide +kernel
theorem gd_J29_36 : GoodIn lw_all (wsV RJ29 36 RJ29 yJ29_checkForComodification (ws_ yJ29_checkForComodification cJ29_checkForComodification 1 none)) := lw_V q2098 q2099 q2100 q166 q2101
theorem hgd_J29_36 : yJ29_checkForComodification.cls = RJ29 ∧ yJ29_checkForComodification.cls ≠ "java/lang/invoke/MethodHandle" ∧ yJ29_checkForComodification.cls ≠ "java/lang/invoke/VarHandle" ∧ (parseMethodDescriptor yJ29_checkForComodification.desc).map (fun d => d.parameters.length) = some 0 := by decide +kernel
theorem gd_J29_39 : GoodIn lw_all (wsV RJ29 39 RJ29 yJ29_hasNext (ws_ yJ29_hasNext cJ29_hasNext 1 (some .boolean))) := lw_V q2102 q2002 q2960 q166 q2004
theorem hgd_J29_39 : yJ29_hasNext.cls = RJ29 ∧ yJ29_hasNext.cls ≠ "java/lang/invoke/MethodHandle" ∧ yJ29_hasNext.cls ≠ "java/lang/invoke/VarHandle" ∧ (parseMethodDescriptor yJ29_hasNext.desc).map (fun d => d.parameters.length) = some 0 := by decide +kernel
theorem gd_J29_68 : GoodIn lw_all (wsV RJ29 68 RJ23 yJ23_unlink (ws_ yJ23_unlink cJ23_unlink 5 (some (.object "java/lang/Object")))) := lw_V q2171 q2139 q2140 q159 q2141
theorem hgd_J29_68 : yJ23_unlink.cls = RJ23 ∧ yJ23_unlink.cls ≠ "java/lang/invoke/MethodHandle" ∧ yJ23_unlink.cls ≠ "java/lang/invoke/VarHandle" ∧ (parseMethodDescriptor yJ23_unlink.desc).map (fun d => d.parameters.length) = some 1 := by decide +kernel
theorem gd_J23_76 : GoodIn lw_all (wsV RJ23 76 RJ23 yJ23_checkPositionIndex (ws_ yJ23_checkPositionIndex cJ23_checkPositionIndex 2 none)) := lw_V q1941 q1943 qs44 q159 q1944
theorem hgd_J23_76 : yJ23_checkPositionIndex.cls = RJ23 ∧ yJ23_checkPositionIndex.cls ≠ "java/lang/invoke/MethodHandle" ∧ yJ23_checkPositionIndex.cls ≠ "java/lang/invoke/VarHandle" ∧ (parseMethodDescriptor yJ23_checkPositionIndex.desc).map (fun d => d.parameters.length) = some 1 := by decide +kernel
theorem gd_J23_152 : GoodIn lw_all (ws_ yJ29_init cJ29_init 3 none) := lw_meth q1953
theorem hgd_J23_152 : yJ29_init.cls ≠ "java/lang/invoke/MethodHandle" ∧ yJ29_init.cls ≠ "java/lang/invoke/VarHandle" ∧ (parseMethodDescriptor yJ29_init.desc).map (fun d => d.parameters.length) = some 2 := by decide +kernel
theorem gd_J1_47 : GoodIn lw_all (va_wsU RJ1 47 RJ23 "java/util/AbstractList" ⟨"java/util/AbstractList", "listIterator", "(I)Ljava/util/ListIterator;"⟩ yJ23_listIterator (ws_ yJ23_listIterator cJ23_listIterator 2 (some (.object "java/util/ListIterator")))) := lw_U q1901 q1903 q1938 q1939 q159 q1940
theorem hgd_J1_47 : Cond.declares ⟨"java/util/AbstractList", "listIterator", "(I)Ljava/util/ListIterator;"⟩ ∈ lw_tbl ∧ "java/util/AbstractList" ≠ "java/lang/invoke/MethodHandle" ∧ "java/util/AbstractList" ≠ "java/lang/invoke/VarHandle" ∧ (parseMethodDescriptor "(I)Ljava/util/ListIterator;").map (fun d => d.parameters.length) = some 1 := ⟨q1975, by decide +kernel⟩
theorem gd_J22_65 : GoodIn lw_all (va_wsU RJ22 65 RJ23 "java/util/AbstractList" ⟨"java/util/AbstractSequentialList", "listIterator", "()Ljava/util/ListIterator;"⟩ yJ1_listIterator (ws_ yJ1_listIterator cJ1_listIterator 1 (some (.object "java/util/ListIterator")))) := lw_U q1895 q1896 q1898 q1899 q119 q1900
theorem hgd_J22_65 : yJ1_listIterator = ⟨"java/util/AbstractList", "listIterator", "()Ljava/util/ListIterator;"⟩ ∧ "java/util/AbstractList" ≠ "java/lang/invoke/MethodHandle" ∧ "java/util/AbstractList" ≠ "java/lang/invoke/VarHandle" ∧ (parseMethodDescriptor "()Ljava/util/ListIterator;").map (fun d => d.parameters.length) = some 0 := by refine ⟨rfl, ?_⟩; decide +kernel
theorem gd_J20_42Q : GoodIn lw_all (ws_ yJ0_init cJ0_init 1 none) := lw_meth q194
theorem hgd_J20_42Q : yJ0_init.cls ≠ "java/lang/invoke/MethodHandle" ∧ yJ0_init.cls ≠ "java/lang/invoke/VarHandle" ∧ (parseMethodDescriptor yJ0_init.desc).map (fun d => d.parameters.length) = some 0 := by decide +kernel
theorem gd_J20_181 : GoodIn lw_all (va_wsS RJ20 181 yJ20_circularClear (ws_ yJ20_circularClear cJ20_circularClear 4 none)) := lw_S q2196 q2197 q143 q2198
theorem hgd_J20_181 : yJ20_circularClear.cls ≠ "java/lang/invoke/MethodHandle" ∧ yJ20_circularClear.cls ≠ "java/lang/invoke/VarHandle" ∧ (parseMethodDescriptor yJ20_circularClear.desc).map (fun d => d.parameters.length) = some 3 := by decide +kernel
theorem gd_J20_14 : GoodIn lw_all (va_wsS RJ20 14 yJ13_copyOf_2 (ws_ yJ13_copyOf_2 cJ13_copyOf_2 2 (some (.array (.object "java/lang/Object"))))) := lw_S q2234 q846 q131 q847
theorem hgd_J20_14 : yJ13_copyOf_2.cls ≠ "java/lang/invoke/MethodHandle" ∧ yJ13_copyOf_2.cls ≠ "java/lang/invoke/VarHandle" ∧ (parseMethodDescriptor yJ13_copyOf_2.desc).map (fun d => d.parameters.length) = some 2 := by decide +kernel
theorem gd_J20_68 : GoodIn lw_all (va_wsS RJ20 68 yJ20_dec (ws_ yJ20_dec cJ20_dec 2 (some .int))) := lw_S q2207 q2208 q143 q2209
theorem hgd_J20_68 : yJ20_dec.cls ≠ "java/lang/invoke/MethodHandle" ∧ yJ20_dec.cls ≠ "java/lang/invoke/VarHandle" ∧ (parseMethodDescriptor yJ20_dec.desc).map (fun d => d.parameters.length) = some 2 := by decide +kernel
theorem gd_J20_103 : GoodIn lw_all (va_wsS RJ20 103 yJ20_elementAt (ws_ yJ20_elementAt cJ20_elementAt 2 (some (.object "java/lang/Object")))) := lw_S q2210 q2211 q143 q2212
theorem hgd_J20_103 : yJ20_elementAt.cls ≠ "java/lang/invoke/MethodHandle" ∧ yJ20_elementAt.cls ≠ "java/lang/invoke/VarHandle" ∧ (parseMethodDescriptor yJ20_elementAt.desc).map (fun d => d.parameters.length) = some 2 := by decide +kernel
theorem gd_J20_74 : GoodIn lw_all (va_wsS RJ20 74 yJ20_inc (ws_ yJ20_inc cJ20_inc 2 (some .int))) := lw_S q2221 q2222 q143 q2223
theorem hgd_J20_74 : yJ20_inc.cls ≠ "java/lang/invoke/MethodHandle" ∧ yJ20_inc.cls ≠ "java/lang/invoke/VarHandle" ∧ (parseMethodDescriptor yJ20_inc.desc).map (fun d => d.parameters.length) = some 2 := by decide +kernel
theorem gd_J20_71 : GoodIn lw_all (wsV RJ20 71 RJ20 yJ20_grow (ws_ yJ20_grow cJ20_grow 9 none)) := lw_V q2224 q2226 qs48 q143 q2227
theorem hgd_J20_71 : yJ20_grow.cls = RJ20 ∧ yJ20_grow.cls ≠ "java/lang/invoke/MethodHandle" ∧ yJ20_grow.cls ≠ "java/lang/invoke/VarHandle" ∧ (parseMethodDescriptor yJ20_grow.desc).map (fun d => d.parameters.length) = some 1 := by decide +kernel
abbrev esJ16_init (bc bs : Nat) : cx_S := (1, RJ16, cx_rI, { frames := 1, cells := bc, slots := bs, locals := 20 }, none, false)
def jNu_init_0 (N : dNt) (bc bs : Nat) (Q : cd_Qt) (a0 : Nat) (M : cx_M) (P : dP) (L : dL) (k n : Nat) : Prop :=
  Q M P L 0 none 0 k n
set_option maxRecDepth 100000 in
theorem jNu_init_0_v {l : Launch} {g : cx_G} {X : cx_X} {N : dNt} {bc bs : Nat} {Q : cd_Qt} {a0 : Nat} (H : dI g N.2) (hX : X.2.2.2.2.2.2.1.name = "<init>") (M : cx_M) (P : dP) (L : dL) (k n : Nat) (hk : k ≤ bc ∧ n ≤ bs) (h : jNu_init_0 N bc bs Q a0 M P L k n) : cq_V l (dG g L P) X (esJ16_init bc bs) cJ16_init 0 [(0, .ref a0)] [] M k n (cd_fin g X (esJ16_init bc bs) cd_rV Q) := by
  unfold jNu_init_0 at h
  refine cq_aload_n 0 dJ16_init_0 rfl ?_
  refine cd_oinit q1628 q176 q177 dJ16_init_1 (cx_le rfl) (cx_le rfl) ?_
  exact cd_vret hk h rfl dJ16_init_4
def jNu_init (N : dNt) (bc bs : Nat) (M : cx_M) (P : dP) (L : dL) (a0 : Nat) (Q : cd_Qt) : Prop := jNu_init_0 N bc bs Q a0 M P L 0 0
set_option maxRecDepth 100000 in
theorem jNu_init_m {l : Launch} {g : cx_G} {N : dNt} {bc bs : Nat} {Q : cd_Qt} (H : dI g N.2) (M : cx_M) (P : dP) (L : dL) (a0 : Nat) (h : jNu_init N bc bs M P L a0 Q) : cd_Met l g yJ16_init cJ16_init (esJ16_init bc bs) cd_rV [.ref a0] M P L Q :=
  cd_met (by decide +kernel) rfl rfl (lv := [(0, .ref a0)]) rfl (cx_le rfl) (fun X hX => cq_sub (lv' := [(0, .ref a0)]) [0] rfl (jNu_init_0_v H hX M P L 0 0 ⟨Nat.zero_le _, Nat.zero_le _⟩ h))

abbrev esJ17_init (bc bs : Nat) : cx_S := (2, RJ17, cx_rI, { frames := 2, cells := bc, slots := bs, locals := 40 }, none, false)
def jI_init_0 (N : dNt) (bc bs : Nat) (Q : cd_Qt) (a0 : Nat) (M : cx_M) (P : dP) (L : dL) (k n : Nat) (x1 : Int32) : Prop :=
  jNu_init N (bc - k) (bs - n) M P L a0 (fun M1 P2 L3 v4 r5 e9 k6 n7 => e9 = 0 → cd_add k k6 n n7 fun k8 n9 =>
  (a0, (0, 16, 0)) ∈ L3 ∧ cd_putn P2 a0 0 x1 fun P10 =>
  Q M1 P10 L3 0 none 0 k8 n9)
set_option maxRecDepth 100000 in
theorem jI_init_0_v {l : Launch} {g : cx_G} {X : cx_X} {N : dNt} {bc bs : Nat} {Q : cd_Qt} {a0 : Nat} (H : dI g N.2) (hX : X.2.2.2.2.2.2.1.name = "<init>") (M : cx_M) (P : dP) (L : dL) (k n : Nat) (x1 : Int32) (hk : k ≤ bc ∧ n ≤ bs) (h : jI_init_0 N bc bs Q a0 M P L k n x1) : cq_V l (dG g L P) X (esJ17_init bc bs) cJ17_init 0 [(0, .ref a0), (1, .int x1)] [] M k n (cd_fin g X (esJ17_init bc bs) cd_rV Q) := by
  unfold jI_init_0 at h
  refine cq_aload_n 0 dJ17_init_0 rfl ?_
  refine cd_cI [] [] (jNu_init_m H (N := N) (bc := bc - k) (bs := bs - n) M P L a0 h) dJ17_init_1 gd_J17_202 rfl q135 q1625 q1626 rfl hgd_J17_202 ⟨cx_le rfl, cx_le rfl⟩ (cd_bud hk) rfl (cx_le rfl) (fun M1 P2 L3 v4 r5 k6 n7 hk2 h => ?_)
  refine cd_addI (h rfl) (cd_bk hk hk2) (fun k8 n9 h hk => ?_)
  refine cq_aload_n 0 dJ17_init_4 rfl ?_
  refine cq_iload_n 1 dJ17_init_5 rfl ?_
  refine cq_nd H.1.1 (fun hn => cd_putNF hX rfl H.1.1 hn h.1 h.2 dCl_J17 (cx_lt rfl) rfl rfl rfl ⟨rfl, rfl⟩ rfl q1629 dJ17_init_6 (fun P10 h => ?_))
  exact cd_vret hk h rfl dJ17_init_9
def jI_init (N : dNt) (bc bs : Nat) (M : cx_M) (P : dP) (L : dL) (a0 : Nat) (x1 : Int32) (Q : cd_Qt) : Prop := jI_init_0 N bc bs Q a0 M P L 0 0 x1
set_option maxRecDepth 100000 in
theorem jI_init_m {l : Launch} {g : cx_G} {N : dNt} {bc bs : Nat} {Q : cd_Qt} (H : dI g N.2) (M : cx_M) (P : dP) (L : dL) (a0 : Nat) (x1 : Int32) (h : jI_init N bc bs M P L a0 x1 Q) : cd_Met l g yJ17_init cJ17_init (esJ17_init bc bs) cd_rV [.ref a0, .int x1] M P L Q :=
  cd_met (by decide +kernel) rfl rfl (lv := [(0, .ref a0), (1, .int x1)]) rfl (cx_le rfl) (fun X hX => cq_sub (lv' := [(0, .ref a0), (1, .int x1)]) [0, 1] rfl (jI_init_0_v H hX M P L 0 0 x1 ⟨Nat.zero_le _, Nat.zero_le _⟩ h))

abbrev esJ17_intValue (bc bs : Nat) : cx_S := (1, RJ17, cx_rI, { frames := 0, cells := bc, slots := bs, locals := 0 }, some .int, false)
def jI_intValue_0 (N : dNt) (bc bs : Nat) (Q : cd_Qt) (a0 : Nat) (M : cx_M) (P : dP) (L : dL) (k n : Nat) : Prop :=
  cd_box (dia N.2) L P a0 fun v1 =>
  Q M P L v1 none 0 k n
set_option maxRecDepth 100000 in
theorem jI_intValue_0_v {l : Launch} {g : cx_G} {X : cx_X} {N : dNt} {bc bs : Nat} {Q : cd_Qt} {a0 : Nat} (H : dI g N.2) (hX : X.2.2.2.2.2.2.1.name = "intValue") (M : cx_M) (P : dP) (L : dL) (k n : Nat) (hk : k ≤ bc ∧ n ≤ bs) (h : jI_intValue_0 N bc bs Q a0 M P L k n) : cq_V l (dG g L P) X (esJ17_intValue bc bs) cJ17_intValue 0 [(0, .ref a0)] [] M k n (cd_fin g X (esJ17_intValue bc bs) cd_rI Q) := by
  unfold jI_intValue_0 at h
  refine cq_aload_n 0 dJ17_intValue_0 rfl ?_
  refine cd_getBox h H.1.1 H.2.1 dCl_J17 (cx_lt rfl) rfl ⟨rfl, rfl, rfl⟩ q1629 dJ17_intValue_1 (fun v1 h => ?_)
  exact cd_iret hk h rfl dJ17_intValue_4
def jI_intValue (N : dNt) (bc bs : Nat) (M : cx_M) (P : dP) (L : dL) (a0 : Nat) (Q : cd_Qt) : Prop := jI_intValue_0 N bc bs Q a0 M P L 0 0
set_option maxRecDepth 100000 in
theorem jI_intValue_m {l : Launch} {g : cx_G} {N : dNt} {bc bs : Nat} {Q : cd_Qt} (H : dI g N.2) (M : cx_M) (P : dP) (L : dL) (a0 : Nat) (h : jI_intValue N bc bs M P L a0 Q) : cd_Met l g yJ17_intValue cJ17_intValue (esJ17_intValue bc bs) cd_rI [.ref a0] M P L Q :=
  cd_met (by decide +kernel) rfl rfl (lv := [(0, .ref a0)]) rfl (cx_le rfl) (fun X hX => cq_sub (lv' := [(0, .ref a0)]) [0] rfl (jI_intValue_0_v H hX M P L 0 0 ⟨Nat.zero_le _, Nat.zero_le _⟩ h))

abbrev esJ17_valueOf (bc bs : Nat) : cx_S := (1, RJ17, cx_rI, { frames := 3, cells := bc, slots := bs, locals := 61 }, some (.object "java/lang/Integer"), false)
def jI_valueOf_23 (N : dNt) (bc bs : Nat) (Q : cd_Qt) (M : cx_M) (P : dP) (L : dL) (k n : Nat) (x0 : Int32) : Prop :=
  cd_new bc bs k n 1 (0, 16, 0) M P L fun a1 M2 P3 L4 k5 n6 =>
  jI_init N (bc - k5) (bs - n6) M2 P3 L4 a1 x0 (fun M7 P8 L9 v10 r11 e9 k12 n13 => e9 = 0 → cd_add k5 k12 n6 n13 fun k14 n15 =>
  Q M7 P8 L9 0 (some a1) 0 k14 n15)
set_option maxRecDepth 100000 in
theorem jI_valueOf_23_v {l : Launch} {g : cx_G} {X : cx_X} {N : dNt} {bc bs : Nat} {Q : cd_Qt} (H : dI g N.2) (hX : X.2.2.2.2.2.2.1.name = "valueOf") (M : cx_M) (P : dP) (L : dL) (k n : Nat) (x0 : Int32) (hk : k ≤ bc ∧ n ≤ bs) (h : jI_valueOf_23 N bc bs Q M P L k n x0) : cq_V l (dG g L P) X (esJ17_valueOf bc bs) cJ17_valueOf 23 [(0, .int x0)] [] M k n (cd_fin g X (esJ17_valueOf bc bs) cd_rA Q) := by
  unfold jI_valueOf_23 at h
  refine cd_newO H.1.1 h ⟨rfl, rfl⟩ dCl_J17 dDf_J17 q1620 q1621 q136 dJ17_valueOf_23 (fun a1 M2 P3 L4 k5 n6 h hk => ?_)
  refine cq_dup dJ17_valueOf_26 rfl ?_
  refine cq_iload_n 0 dJ17_valueOf_27 rfl ?_
  refine cd_cI [.int x0] [.ref a1] (jI_init_m H (N := N) (bc := bc - k5) (bs := bs - n6) M2 P3 L4 a1 x0 h) dJ17_valueOf_28 gd_J17_199 rfl q136 q1622 q1623 rfl hgd_J17_199 ⟨cx_le rfl, cx_le rfl⟩ (cd_bud hk) rfl (cx_le rfl) (fun M7 P8 L9 v10 r11 k12 n13 hk2 h => ?_)
  refine cd_addI (h rfl) (cd_bk hk hk2) (fun k14 n15 h hk => ?_)
  exact cd_aret (v := (some a1)) hk h rfl (Or.inl ⟨_, rfl⟩) dJ17_valueOf_31
def jI_valueOf_0 (N : dNt) (bc bs : Nat) (Q : cd_Qt) (M : cx_M) (P : dP) (L : dL) (k n : Nat) (x0 : Int32) : Prop :=
  if x0 < (-128) then (
    jI_valueOf_23 N bc bs Q M P L k n x0)
  else (
    if 127 < x0 then (
      jI_valueOf_23 N bc bs Q M P L k n x0)
    else (
      cq_ix (x0 + 128) 256 fun r1 =>
      Q M P L 0 (some ((dia N.2 r1))) 0 k n))
set_option maxRecDepth 100000 in
theorem jI_valueOf_0_v {l : Launch} {g : cx_G} {X : cx_X} {N : dNt} {bc bs : Nat} {Q : cd_Qt} (H : dI g N.2) (hX : X.2.2.2.2.2.2.1.name = "valueOf") (M : cx_M) (P : dP) (L : dL) (k n : Nat) (x0 : Int32) (hk : k ≤ bc ∧ n ≤ bs) (h : jI_valueOf_0 N bc bs Q M P L k n x0) : cq_V l (dG g L P) X (esJ17_valueOf bc bs) cJ17_valueOf 0 [(0, .int x0)] [] M k n (cd_fin g X (esJ17_valueOf bc bs) cd_rA Q) := by
  unfold jI_valueOf_0 at h
  refine cq_iload_n 0 dJ17_valueOf_0 rfl ?_
  refine cq_bipush (-128) dJ17_valueOf_1 cx_bp_m128 ?_
  refine cq_icmp_lt 23 h dJ17_valueOf_3 rfl (fun h => ?_) (fun h => ?_)
  · exact jI_valueOf_23_v H hX M P L k n x0 hk h
  · refine cq_iload_n 0 dJ17_valueOf_6 rfl ?_
    refine cq_gets (fun U k => (H.2.1 U k).1) q1616 dJ17_valueOf_7 ?_
    refine cq_icmp_gt 23 h dJ17_valueOf_10 rfl (fun h => ?_) (fun h => ?_)
    · exact jI_valueOf_23_v H hX M P L k n x0 hk h
    · refine cq_gets (fun U k => (H.2.1 U k).2.1) q1618 dJ17_valueOf_13 ?_
      refine cq_iload_n 0 dJ17_valueOf_16 rfl ?_
      refine cq_sipush 128 dJ17_valueOf_17 cx_sp_128 ?_
      refine cq_iadd dJ17_valueOf_20 ?_
      refine cd_ldIc H.2.1 h dJ17_valueOf_21 (fun r1 hj h => ?_)
      exact cd_aret (v := (some ((dia N.2 r1)))) hk h rfl (Or.inl ⟨_, rfl⟩) dJ17_valueOf_22
def jI_valueOf (N : dNt) (bc bs : Nat) (M : cx_M) (P : dP) (L : dL) (x0 : Int32) (Q : cd_Qt) : Prop := jI_valueOf_0 N bc bs Q M P L 0 0 x0
set_option maxRecDepth 100000 in
theorem jI_valueOf_m {l : Launch} {g : cx_G} {N : dNt} {bc bs : Nat} {Q : cd_Qt} (H : dI g N.2) (M : cx_M) (P : dP) (L : dL) (x0 : Int32) (h : jI_valueOf N bc bs M P L x0 Q) : cd_Met l g yJ17_valueOf cJ17_valueOf (esJ17_valueOf bc bs) cd_rA [.int x0] M P L Q :=
  cd_met (by decide +kernel) rfl rfl (lv := [(0, .int x0)]) rfl (cx_le rfl) (fun X hX => cq_sub (lv' := [(0, .int x0)]) [0] rfl (jI_valueOf_0_v H hX M P L 0 0 x0 ⟨Nat.zero_le _, Nat.zero_le _⟩ h))

abbrev esJ13_copyOf_3 (bc bs : Nat) : cx_S := (4, RJ13, cx_rI, { frames := 1, cells := bc, slots := bs, locals := 40 }, some (.array (.object "java/lang/Object")), false)
def jR_copyOf_3_24 (N : dNt) (bc bs : Nat) (Q : cd_Qt) (b0 : Nat) (M : cx_M) (P : dP) (L : dL) (k n : Nat) (x1 : Int32) (z0 : Nat) : Prop :=
  ∃ z1, (b0, (3, 4, z1)) ∈ L ∧
  ∃ z2 z3, (b0, (3, 4, z2)) ∈ L ∧ (z0, (3, 4, z3)) ∈ L ∧ cd_cpyR (dia N.2) L P b0 z2 z0 z3 0 0 (cx_min (nI z1) x1) fun P4 =>
  Q M P4 L 0 (some z0) 0 k n
set_option maxRecDepth 100000 in
theorem jR_copyOf_3_24_v {l : Launch} {g : cx_G} {X : cx_X} {N : dNt} {bc bs : Nat} {Q : cd_Qt} {b0 : Nat} (H : dI g N.2) (hX : X.2.2.2.2.2.2.1.name = "copyOf") (M : cx_M) (P : dP) (L : dL) (k n : Nat) (x1 : Int32) (z0 : Nat) (hk : k ≤ bc ∧ n ≤ bs) (h : jR_copyOf_3_24 N bc bs Q b0 M P L k n x1 z0) : cq_V l (dG g L P) X (esJ13_copyOf_3 bc bs) cJ13_copyOf_3 24 [(0, .ref b0), (1, .int x1)] [.ref z0] M k n (cd_fin g X (esJ13_copyOf_3 bc bs) cd_rA Q) := by
  unfold jR_copyOf_3_24 at h
  refine cq_astore_n [(3, .ref z0), (0, .ref b0), (1, .int x1)] dJ13_copyOf_3_24 (cx_lt rfl) rfl ?_
  refine cq_aload_n 1 dJ13_copyOf_3_25 rfl ?_
  refine cq_iconst 0 dJ13_copyOf_3_26 cx_ic_0 ?_
  refine cq_aload_n 0 dJ13_copyOf_3_27 rfl ?_
  refine cq_iconst 0 dJ13_copyOf_3_28 cx_ic_0 ?_
  refine cq_aload_n 1 dJ13_copyOf_3_29 rfl ?_
  obtain ⟨z1, hm, h⟩ := h
  refine cd_alenR H.1.1 hm rfl dJ13_copyOf_3_30 ?_
  refine cq_iload_n 2 dJ13_copyOf_3_31 rfl ?_
  refine cq_mmin dJ13_copyOf_3_32 q316 (cx_le rfl) (cx_le rfl) hk.1 hk.2 ?_
  obtain ⟨z2, z3, hm0, hm1, h⟩ := h
  refine cq_nd H.1.1 (fun hn => cd_copyR H.1.1 H.2.1 hn hm0 hm1 h d16 dCast dJ13_copyOf_3_35 q319 (cx_le rfl) (cx_le rfl) (fun P4 h => ?_))
  refine cq_aload_n 0 dJ13_copyOf_3_38 rfl ?_
  exact cd_aret (v := (some z0)) hk h rfl (Or.inr ⟨_, rfl⟩) dJ13_copyOf_3_39
def jR_copyOf_3_0 (N : dNt) (bc bs : Nat) (Q : cd_Qt) (b0 : Nat) (M : cx_M) (P : dP) (L : dL) (k n : Nat) (x1 : Int32) : Prop :=
  cd_newa bc bs k n x1 (fun z => (3, 4, z)) M P L fun a1 M2 P3 L4 k5 n6 =>
  jR_copyOf_3_24 N bc bs Q b0 M2 P3 L4 k5 n6 x1 a1
set_option maxRecDepth 100000 in
theorem jR_copyOf_3_0_v {l : Launch} {g : cx_G} {X : cx_X} {N : dNt} {bc bs : Nat} {Q : cd_Qt} {b0 : Nat} (H : dI g N.2) (hX : X.2.2.2.2.2.2.1.name = "copyOf") (M : cx_M) (P : dP) (L : dL) (k n : Nat) (x1 : Int32) (hk : k ≤ bc ∧ n ≤ bs) (h : jR_copyOf_3_0 N bc bs Q b0 M P L k n x1) : cq_V l (dG g L P) X (esJ13_copyOf_3 bc bs) cJ13_copyOf_3 0 [(0, .ref b0), (1, .int x1), (2, .ref (N.2 2000998))] [] M k n (cd_fin g X (esJ13_copyOf_3 bc bs) cd_rA Q) := by
  unfold jR_copyOf_3_0 at h
  refine cq_aload_n 2 dJ13_copyOf_3_0 rfl ?_
  refine cd_ldcM (C := "[Ljava/lang/Object;") (fun U k => H.2.2.1 U k) q888 dJ13_copyOf_3_1 ?_
  refine cd_acmpEA 13 dJ13_copyOf_3_3 rfl ?_
  refine cq_iload_n 1 dJ13_copyOf_3_6 rfl ?_
  refine cd_newR H.1.1 h ⟨rfl, rfl⟩ q889 (H.1.2.2.1) rfl dJ13_copyOf_3_7 (fun a1 M2 P3 L4 k5 n6 h hk => ?_)
  refine cq_goto 24 dJ13_copyOf_3_10 rfl ?_
  refine cq_sub (lv' := [(0, .ref b0), (1, .int x1)]) [0, 1] rfl ?_
  exact jR_copyOf_3_24_v H hX M2 P3 L4 k5 n6 x1 a1 hk h
def jR_copyOf_3 (N : dNt) (bc bs : Nat) (M : cx_M) (P : dP) (L : dL) (b0 : Nat) (x1 : Int32) (Q : cd_Qt) : Prop := jR_copyOf_3_0 N bc bs Q b0 M P L 0 0 x1
set_option maxRecDepth 100000 in
theorem jR_copyOf_3_m {l : Launch} {g : cx_G} {N : dNt} {bc bs : Nat} {Q : cd_Qt} (H : dI g N.2) (M : cx_M) (P : dP) (L : dL) (b0 : Nat) (x1 : Int32) (h : jR_copyOf_3 N bc bs M P L b0 x1 Q) : cd_Met l g yJ13_copyOf_3 cJ13_copyOf_3 (esJ13_copyOf_3 bc bs) cd_rA [.ref b0, .int x1, .ref (N.2 2000998)] M P L Q :=
  cd_met (by decide +kernel) rfl rfl (lv := [(0, .ref b0), (1, .int x1), (2, .ref (N.2 2000998))]) rfl (cx_le rfl) (fun X hX => cq_sub (lv' := [(0, .ref b0), (1, .int x1), (2, .ref (N.2 2000998))]) [0, 1, 2] rfl (jR_copyOf_3_0_v H hX M P L 0 0 x1 ⟨Nat.zero_le _, Nat.zero_le _⟩ h))

abbrev esJ13_copyOf_2 (bc bs : Nat) : cx_S := (2, RJ13, cx_rI, { frames := 2, cells := bc, slots := bs, locals := 63 }, some (.array (.object "java/lang/Object")), false)
def jR_copyOf_2_0 (N : dNt) (bc bs : Nat) (Q : cd_Qt) (b0 : Nat) (M : cx_M) (P : dP) (L : dL) (k n : Nat) (x1 : Int32) : Prop :=
  ∃ z1, (b0, (3, 4, z1)) ∈ L ∧
  jR_copyOf_3 N (bc - k) (bs - n) M P L b0 x1 (fun M2 P3 L4 v5 r6 e9 k7 n8 => e9 = 0 → cd_add k k7 n n8 fun k9 n10 =>
  Q M2 P3 L4 0 r6 0 k9 n10)
set_option maxRecDepth 100000 in
theorem jR_copyOf_2_0_v {l : Launch} {g : cx_G} {X : cx_X} {N : dNt} {bc bs : Nat} {Q : cd_Qt} {b0 : Nat} (H : dI g N.2) (hX : X.2.2.2.2.2.2.1.name = "copyOf") (M : cx_M) (P : dP) (L : dL) (k n : Nat) (x1 : Int32) (hk : k ≤ bc ∧ n ≤ bs) (h : jR_copyOf_2_0 N bc bs Q b0 M P L k n x1) : cq_V l (dG g L P) X (esJ13_copyOf_2 bc bs) cJ13_copyOf_2 0 [(0, .ref b0), (1, .int x1)] [] M k n (cd_fin g X (esJ13_copyOf_2 bc bs) cd_rA Q) := by
  unfold jR_copyOf_2_0 at h
  refine cq_aload_n 0 dJ13_copyOf_2_0 rfl ?_
  refine cq_iload_n 1 dJ13_copyOf_2_1 rfl ?_
  refine cq_aload_n 0 dJ13_copyOf_2_2 rfl ?_
  obtain ⟨z1, hm, h⟩ := h
  refine cd_getC H.1.1 hm (fun U k => H.2.2.1 U k) q848 q3000 q2999 q849 q884 (cx_le rfl) (cx_le rfl) dJ13_copyOf_2_3 ?_
  refine cd_cS [.ref b0, .int x1, .ref (N.2 2000998)] [] (jR_copyOf_3_m H (N := N) (bc := bc - k) (bs := bs - n) M P L b0 x1 h) dJ13_copyOf_2_6 gd_J13_300 hgd_J13_300 ⟨cx_le rfl, cx_le rfl⟩ (cd_bud hk) rfl (cx_le rfl) (fun M2 P3 L4 v5 r6 k7 n8 hk2 h => ?_)
  refine cd_addI (h rfl) (cd_bk hk hk2) (fun k9 n10 h hk => ?_)
  exact cd_aret (v := r6) hk h rfl (Or.inr ⟨_, rfl⟩) dJ13_copyOf_2_9
def jR_copyOf_2 (N : dNt) (bc bs : Nat) (M : cx_M) (P : dP) (L : dL) (b0 : Nat) (x1 : Int32) (Q : cd_Qt) : Prop := jR_copyOf_2_0 N bc bs Q b0 M P L 0 0 x1
set_option maxRecDepth 100000 in
theorem jR_copyOf_2_m {l : Launch} {g : cx_G} {N : dNt} {bc bs : Nat} {Q : cd_Qt} (H : dI g N.2) (M : cx_M) (P : dP) (L : dL) (b0 : Nat) (x1 : Int32) (h : jR_copyOf_2 N bc bs M P L b0 x1 Q) : cd_Met l g yJ13_copyOf_2 cJ13_copyOf_2 (esJ13_copyOf_2 bc bs) cd_rA [.ref b0, .int x1] M P L Q :=
  cd_met (by decide +kernel) rfl rfl (lv := [(0, .ref b0), (1, .int x1)]) rfl (cx_le rfl) (fun X hX => cq_sub (lv' := [(0, .ref b0), (1, .int x1)]) [0, 1] rfl (jR_copyOf_2_0_v H hX M P L 0 0 x1 ⟨Nat.zero_le _, Nat.zero_le _⟩ h))

abbrev esJ0_initA (bc bs : Nat) : cx_S := (1, RJ0, cx_rI, { frames := 1, cells := bc, slots := bs, locals := 20 }, none, false)
def jAbc_initA_0 (N : dNt) (bc bs : Nat) (Q : cd_Qt) (a0 : Nat) (M : cx_M) (P : dP) (L : dL) (k n : Nat) : Prop :=
  Q M P L 0 none 0 k n
set_option maxRecDepth 100000 in
theorem jAbc_initA_0_v {l : Launch} {g : cx_G} {X : cx_X} {N : dNt} {bc bs : Nat} {Q : cd_Qt} {a0 : Nat} (H : dI g N.2) (hX : X.2.2.2.2.2.2.1.name = "<init>") (M : cx_M) (P : dP) (L : dL) (k n : Nat) (hk : k ≤ bc ∧ n ≤ bs) (h : jAbc_initA_0 N bc bs Q a0 M P L k n) : cq_V l (dG g L P) X (esJ0_initA bc bs) cJ0_init 0 [(0, .ref a0)] [] M k n (cd_fin g X (esJ0_initA bc bs) cd_rV Q) := by
  unfold jAbc_initA_0 at h
  refine cq_aload_n 0 dJ0_init_0 rfl ?_
  refine cd_oinit q195 q176 q177 dJ0_init_1 (cx_le rfl) (cx_le rfl) ?_
  exact cd_vret hk h rfl dJ0_init_4
def jAbc_initA (N : dNt) (bc bs : Nat) (M : cx_M) (P : dP) (L : dL) (a0 : Nat) (Q : cd_Qt) : Prop := jAbc_initA_0 N bc bs Q a0 M P L 0 0
set_option maxRecDepth 100000 in
theorem jAbc_initA_m {l : Launch} {g : cx_G} {N : dNt} {bc bs : Nat} {Q : cd_Qt} (H : dI g N.2) (M : cx_M) (P : dP) (L : dL) (a0 : Nat) (h : jAbc_initA N bc bs M P L a0 Q) : cd_Met l g yJ0_init cJ0_init (esJ0_initA bc bs) cd_rV [.ref a0] M P L Q :=
  cd_met (by decide +kernel) rfl rfl (lv := [(0, .ref a0)]) rfl (cx_le rfl) (fun X hX => cq_sub (lv' := [(0, .ref a0)]) [0] rfl (jAbc_initA_0_v H hX M P L 0 0 ⟨Nat.zero_le _, Nat.zero_le _⟩ h))

abbrev esJ1_initA (bc bs : Nat) : cx_S := (1, RJ1, cx_rI, { frames := 2, cells := bc, slots := bs, locals := 40 }, none, false)
def jAbl_initA_0 (N : dNt) (bc bs : Nat) (Q : cd_Qt) (a0 : Nat) (M : cx_M) (P : dP) (L : dL) (k n : Nat) : Prop :=
  jAbc_initA N (bc - k) (bs - n) M P L a0 (fun M1 P2 L3 v4 r5 e9 k6 n7 => e9 = 0 → cd_add k k6 n n7 fun k8 n9 =>
  (a0, (0, 20, 0)) ∈ L3 ∧ cq_put M1 (dc a0) 0 0 fun M10 =>
  Q M10 P2 L3 0 none 0 k8 n9)
set_option maxRecDepth 100000 in
theorem jAbl_initA_0_v {l : Launch} {g : cx_G} {X : cx_X} {N : dNt} {bc bs : Nat} {Q : cd_Qt} {a0 : Nat} (H : dI g N.2) (hX : X.2.2.2.2.2.2.1.name = "<init>") (M : cx_M) (P : dP) (L : dL) (k n : Nat) (hk : k ≤ bc ∧ n ≤ bs) (h : jAbl_initA_0 N bc bs Q a0 M P L k n) : cq_V l (dG g L P) X (esJ1_initA bc bs) cJ1_init 0 [(0, .ref a0)] [] M k n (cd_fin g X (esJ1_initA bc bs) cd_rV Q) := by
  unfold jAbl_initA_0 at h
  refine cq_aload_n 0 dJ1_init_0 rfl ?_
  refine cd_cI [] [] (jAbc_initA_m H (N := N) (bc := bc - k) (bs := bs - n) M P L a0 h) dJ1_init_1 gd_J1_1A rfl q118 q192 q193 rfl hgd_J1_1A ⟨cx_le rfl, cx_le rfl⟩ (cd_bud hk) rfl (cx_le rfl) (fun M1 P2 L3 v4 r5 k6 n7 hk2 h => ?_)
  refine cd_addI (h rfl) (cd_bk hk hk2) (fun k8 n9 h hk => ?_)
  refine cq_aload_n 0 dJ1_init_4 rfl ?_
  refine cq_iconst 0 dJ1_init_5 cx_ic_0 ?_
  refine cq_nd H.1.1 (fun hn => cq_putI h.2 (dG_FI H.1.1 hn h.1 dCl_J2 (cx_lt rfl) rfl rfl rfl) rfl rfl rfl q520 dJ1_init_6 (fun M10 h => ?_))
  exact cd_vret hk h rfl dJ1_init_9
def jAbl_initA (N : dNt) (bc bs : Nat) (M : cx_M) (P : dP) (L : dL) (a0 : Nat) (Q : cd_Qt) : Prop := jAbl_initA_0 N bc bs Q a0 M P L 0 0
set_option maxRecDepth 100000 in
theorem jAbl_initA_m {l : Launch} {g : cx_G} {N : dNt} {bc bs : Nat} {Q : cd_Qt} (H : dI g N.2) (M : cx_M) (P : dP) (L : dL) (a0 : Nat) (h : jAbl_initA N bc bs M P L a0 Q) : cd_Met l g yJ1_init cJ1_init (esJ1_initA bc bs) cd_rV [.ref a0] M P L Q :=
  cd_met (by decide +kernel) rfl rfl (lv := [(0, .ref a0)]) rfl (cx_le rfl) (fun X hX => cq_sub (lv' := [(0, .ref a0)]) [0] rfl (jAbl_initA_0_v H hX M P L 0 0 ⟨Nat.zero_le _, Nat.zero_le _⟩ h))

abbrev esJ2_init (bc bs : Nat) : cx_S := (2, RJ2, cx_rI, { frames := 3, cells := bc, slots := bs, locals := 60 }, none, false)
def jAl_init_0 (N : dNt) (bc bs : Nat) (Q : cd_Qt) (a0 : Nat) (M : cx_M) (P : dP) (L : dL) (k n : Nat) (x1 : Int32) : Prop :=
  jAbl_initA N (bc - k) (bs - n) M P L a0 (fun M1 P2 L3 v4 r5 e9 k6 n7 => e9 = 0 → cd_add k k6 n n7 fun k8 n9 =>
  if x1 ≤ 0 then (
    False)
  else (
    cd_newa bc bs k8 n9 x1 (fun z => (3, 4, z)) M1 P2 L3 fun a10 M11 P12 L13 k14 n15 =>
    (a0, (0, 20, 0)) ∈ L13 ∧ cd_put P12 a0 1 (some a10) fun P16 =>
    Q M11 P16 L13 0 none 0 k14 n15))
set_option maxRecDepth 100000 in
theorem jAl_init_0_v {l : Launch} {g : cx_G} {X : cx_X} {N : dNt} {bc bs : Nat} {Q : cd_Qt} {a0 : Nat} (H : dI g N.2) (hX : X.2.2.2.2.2.2.1.name = "<init>") (M : cx_M) (P : dP) (L : dL) (k n : Nat) (x1 : Int32) (hk : k ≤ bc ∧ n ≤ bs) (h : jAl_init_0 N bc bs Q a0 M P L k n x1) : cq_V l (dG g L P) X (esJ2_init bc bs) cJ2_init 0 [(0, .ref a0), (1, .int x1)] [] M k n (cd_fin g X (esJ2_init bc bs) cd_rV Q) := by
  unfold jAl_init_0 at h
  refine cq_aload_n 0 dJ2_init_0 rfl ?_
  refine cd_cI [] [] (jAbl_initA_m H (N := N) (bc := bc - k) (bs := bs - n) M P L a0 h) dJ2_init_1 gd_J2_1A rfl q119 q189 q190 rfl hgd_J2_1A ⟨cx_le rfl, cx_le rfl⟩ (cd_bud hk) rfl (cx_le rfl) (fun M1 P2 L3 v4 r5 k6 n7 hk2 h => ?_)
  refine cd_addI (h rfl) (cd_bk hk hk2) (fun k8 n9 h hk => ?_)
  refine cq_iload_n 1 dJ2_init_4 rfl ?_
  refine cq_if_le 19 h dJ2_init_5 rfl (fun h => ?_) (fun h => ?_)
  · cases h
  · refine cq_aload_n 0 dJ2_init_8 rfl ?_
    refine cq_iload_n 1 dJ2_init_9 rfl ?_
    refine cd_newR H.1.1 h ⟨rfl, rfl⟩ q196 (H.1.2.2.1) rfl dJ2_init_10 (fun a10 M11 P12 L13 k14 n15 h hk => ?_)
    refine cq_nd H.1.1 (fun hn => cd_putR (v := (some a10)) H.1.1 hn h.1 h.2 dCl_J2 (cx_lt rfl) rfl rfl rfl cd_nfA rfl q516 dJ2_init_13 (fun P16 h => ?_))
    refine cq_goto 60 dJ2_init_16 rfl ?_
    exact cd_vret hk h rfl dJ2_init_60
def jAl_init (N : dNt) (bc bs : Nat) (M : cx_M) (P : dP) (L : dL) (a0 : Nat) (x1 : Int32) (Q : cd_Qt) : Prop := jAl_init_0 N bc bs Q a0 M P L 0 0 x1
set_option maxRecDepth 100000 in
theorem jAl_init_m {l : Launch} {g : cx_G} {N : dNt} {bc bs : Nat} {Q : cd_Qt} (H : dI g N.2) (M : cx_M) (P : dP) (L : dL) (a0 : Nat) (x1 : Int32) (h : jAl_init N bc bs M P L a0 x1 Q) : cd_Met l g yJ2_init cJ2_init (esJ2_init bc bs) cd_rV [.ref a0, .int x1] M P L Q :=
  cd_met (by decide +kernel) rfl rfl (lv := [(0, .ref a0), (1, .int x1)]) rfl (cx_le rfl) (fun X hX => cq_sub (lv' := [(0, .ref a0), (1, .int x1)]) [0, 1] rfl (jAl_init_0_v H hX M P L 0 0 x1 ⟨Nat.zero_le _, Nat.zero_le _⟩ h))

abbrev esJ2_grow_2 (bc bs : Nat) : cx_S := (4, RJ2, cx_rI, { frames := 3, cells := bc, slots := bs, locals := 84 }, some (.array (.object "java/lang/Object")), false)
def jAl_grow_2_20 (N : dNt) (bc bs : Nat) (Q : cd_Qt) (a0 : Nat) (M : cx_M) (P : dP) (L : dL) (k n : Nat) (x1 : Int32) (x2 : Int32) : Prop :=
  jX_newLength N.1 (bc - k) (bs - n) M P L x2 (x1 - x2) (x2 >>> (1 &&& 31)) (fun M1 P2 L3 v4 r5 e9 k6 n7 => e9 = 0 → cd_add k k6 n n7 fun k8 n9 =>
  (a0, (0, 20, 0)) ∈ L3 ∧ cd_let (P2 a0 1) fun r10 =>
  cd_nn r10 fun a11 =>
  jR_copyOf_2 N (bc - k8) (bs - n9) M1 P2 L3 a11 v4 (fun M12 P13 L14 v15 r16 e9 k17 n18 => e9 = 0 → cd_add k8 k17 n9 n18 fun k19 n20 =>
  (a0, (0, 20, 0)) ∈ L14 ∧ cd_put P13 a0 1 r16 fun P21 =>
  Q M12 P21 L14 0 r16 0 k19 n20))
set_option maxRecDepth 100000 in
theorem jAl_grow_2_20_v {l : Launch} {g : cx_G} {X : cx_X} {N : dNt} {bc bs : Nat} {Q : cd_Qt} {a0 : Nat} (H : dI g N.2) (hX : X.2.2.2.2.2.2.1.name = "grow") (M : cx_M) (P : dP) (L : dL) (k n : Nat) (x1 : Int32) (x2 : Int32) (hk : k ≤ bc ∧ n ≤ bs) (h : jAl_grow_2_20 N bc bs Q a0 M P L k n x1 x2) : cq_V l (dG g L P) X (esJ2_grow_2 bc bs) cJ2_grow_2 20 [(0, .ref a0), (1, .int x1), (2, .int x2)] [] M k n (cd_fin g X (esJ2_grow_2 bc bs) cd_rA Q) := by
  unfold jAl_grow_2_20 at h
  refine cq_iload_n 2 dJ2_grow_2_20 rfl ?_
  refine cq_iload_n 1 dJ2_grow_2_21 rfl ?_
  refine cq_iload_n 2 dJ2_grow_2_22 rfl ?_
  refine cq_isub dJ2_grow_2_23 ?_
  refine cq_iload_n 2 dJ2_grow_2_24 rfl ?_
  refine cq_iconst 1 dJ2_grow_2_25 cx_ic_1 ?_
  refine cq_ishr dJ2_grow_2_26 ?_
  refine cd_cS [.int x2, .int (x1 - x2), .int (x2 >>> (1 &&& 31))] [] (jX_newLength_m H.1 (N := N.1) (bc := bc - k) (bs := bs - n) M P L x2 (x1 - x2) (x2 >>> (1 &&& 31)) h) dJ2_grow_2_27 gd_J2_73 hgd_J2_73 ⟨cx_le rfl, cx_le rfl⟩ (cd_bud hk) rfl (cx_le rfl) (fun M1 P2 L3 v4 r5 k6 n7 hk2 h => ?_)
  refine cd_addI (h rfl) (cd_bk hk hk2) (fun k8 n9 h hk => ?_)
  refine cq_istore_n [(3, .int v4), (0, .ref a0), (1, .int x1), (2, .int x2)] dJ2_grow_2_30 (cx_lt rfl) rfl ?_
  refine cq_aload_n 1 dJ2_grow_2_31 rfl ?_
  refine cq_aload_n 1 dJ2_grow_2_32 rfl ?_
  refine cq_getR (dG_FR (k := 1) H.1.1 h.1 dCl_J2 (cx_lt rfl) rfl rfl) q516 dJ2_grow_2_33 ?_
  refine cd_letI h.2 (fun r10 h => ?_)
  refine cq_iload_n 0 dJ2_grow_2_36 rfl ?_
  obtain ⟨a11, e9, h⟩ := cd_nn_some h
  subst e9
  refine cd_cS [.ref a11, .int v4] [.ref a0] (jR_copyOf_2_m H (N := N) (bc := bc - k8) (bs := bs - n9) M1 P2 L3 a11 v4 h) dJ2_grow_2_37 gd_J2_66 hgd_J2_66 ⟨cx_le rfl, cx_le rfl⟩ (cd_bud hk) rfl (cx_le rfl) (fun M12 P13 L14 v15 r16 k17 n18 hk2 h => ?_)
  refine cd_addI (h rfl) (cd_bk hk hk2) (fun k19 n20 h hk => ?_)
  refine cq_dup_x1 dJ2_grow_2_40 (va_rf_cat _) rfl ?_
  refine cq_nd H.1.1 (fun hn => cd_putR (v := r16) H.1.1 hn h.1 h.2 dCl_J2 (cx_lt rfl) rfl rfl rfl cd_nfA rfl q516 dJ2_grow_2_41 (fun P21 h => ?_))
  exact cd_aret (v := r16) hk h rfl (Or.inr ⟨_, rfl⟩) dJ2_grow_2_44
def jAl_grow_2_0 (N : dNt) (bc bs : Nat) (Q : cd_Qt) (a0 : Nat) (M : cx_M) (P : dP) (L : dL) (k n : Nat) (x1 : Int32) : Prop :=
  (a0, (0, 20, 0)) ∈ L ∧ cd_let (P a0 1) fun r1 =>
  cd_nn r1 fun a2 =>
  ∃ z3, (a2, (3, 4, z3)) ∈ L ∧
  cq_let (nI z3) fun v4 =>
  if 0 < v4 then (
    jAl_grow_2_20 N bc bs Q a0 M P L k n x1 v4)
  else (
    False)
set_option maxRecDepth 100000 in
theorem jAl_grow_2_0_v {l : Launch} {g : cx_G} {X : cx_X} {N : dNt} {bc bs : Nat} {Q : cd_Qt} {a0 : Nat} (H : dI g N.2) (hX : X.2.2.2.2.2.2.1.name = "grow") (M : cx_M) (P : dP) (L : dL) (k n : Nat) (x1 : Int32) (hk : k ≤ bc ∧ n ≤ bs) (h : jAl_grow_2_0 N bc bs Q a0 M P L k n x1) : cq_V l (dG g L P) X (esJ2_grow_2 bc bs) cJ2_grow_2 0 [(0, .ref a0), (1, .int x1)] [] M k n (cd_fin g X (esJ2_grow_2 bc bs) cd_rA Q) := by
  unfold jAl_grow_2_0 at h
  refine cq_aload_n 0 dJ2_grow_2_0 rfl ?_
  refine cq_getR (dG_FR (k := 1) H.1.1 h.1 dCl_J2 (cx_lt rfl) rfl rfl) q516 dJ2_grow_2_1 ?_
  refine cd_letI h.2 (fun r1 h => ?_)
  obtain ⟨a2, e9, h⟩ := cd_nn_some h
  subst e9
  obtain ⟨z3, hm, h⟩ := h
  refine cd_alenR H.1.1 hm rfl dJ2_grow_2_4 ?_
  refine cq_letI h (fun v4 h => ?_)
  refine cq_istore_n [(2, .int v4), (0, .ref a0), (1, .int x1)] dJ2_grow_2_5 (cx_lt rfl) rfl ?_
  refine cq_iload_n 0 dJ2_grow_2_6 rfl ?_
  refine cq_if_gt 20 h dJ2_grow_2_7 rfl (fun h => ?_) (fun h => ?_)
  · refine cq_sub (lv' := [(0, .ref a0), (1, .int x1), (2, .int v4)]) [1, 2, 0] rfl ?_
    exact jAl_grow_2_20_v H hX M P L k n x1 v4 hk h
  · cases h
def jAl_grow_2 (N : dNt) (bc bs : Nat) (M : cx_M) (P : dP) (L : dL) (a0 : Nat) (x1 : Int32) (Q : cd_Qt) : Prop := jAl_grow_2_0 N bc bs Q a0 M P L 0 0 x1
set_option maxRecDepth 100000 in
theorem jAl_grow_2_m {l : Launch} {g : cx_G} {N : dNt} {bc bs : Nat} {Q : cd_Qt} (H : dI g N.2) (M : cx_M) (P : dP) (L : dL) (a0 : Nat) (x1 : Int32) (h : jAl_grow_2 N bc bs M P L a0 x1 Q) : cd_Met l g yJ2_grow_2 cJ2_grow_2 (esJ2_grow_2 bc bs) cd_rA [.ref a0, .int x1] M P L Q :=
  cd_met (by decide +kernel) rfl rfl (lv := [(0, .ref a0), (1, .int x1)]) rfl (cx_le rfl) (fun X hX => cq_sub (lv' := [(0, .ref a0), (1, .int x1)]) [0, 1] rfl (jAl_grow_2_0_v H hX M P L 0 0 x1 ⟨Nat.zero_le _, Nat.zero_le _⟩ h))

abbrev esJ2_grow (bc bs : Nat) : cx_S := (1, RJ2, cx_rI, { frames := 4, cells := bc, slots := bs, locals := 107 }, some (.array (.object "java/lang/Object")), false)
def jAl_grow_0 (N : dNt) (bc bs : Nat) (Q : cd_Qt) (a0 : Nat) (M : cx_M) (P : dP) (L : dL) (k n : Nat) : Prop :=
  (a0, (0, 20, 0)) ∈ L ∧ cq_get M (dc a0) 2 fun v1 =>
  (a0, (0, 20, 0)) ∈ L ∧
  jAl_grow_2 N (bc - k) (bs - n) M P L a0 (v1 + 1) (fun M2 P3 L4 v5 r6 e9 k7 n8 => e9 = 0 → cd_add k k7 n n8 fun k9 n10 =>
  Q M2 P3 L4 0 r6 0 k9 n10)
set_option maxRecDepth 100000 in
theorem jAl_grow_0_v {l : Launch} {g : cx_G} {X : cx_X} {N : dNt} {bc bs : Nat} {Q : cd_Qt} {a0 : Nat} (H : dI g N.2) (hX : X.2.2.2.2.2.2.1.name = "grow") (M : cx_M) (P : dP) (L : dL) (k n : Nat) (hk : k ≤ bc ∧ n ≤ bs) (h : jAl_grow_0 N bc bs Q a0 M P L k n) : cq_V l (dG g L P) X (esJ2_grow bc bs) cJ2_grow 0 [(0, .ref a0)] [] M k n (cd_fin g X (esJ2_grow bc bs) cd_rA Q) := by
  unfold jAl_grow_0 at h
  refine cq_aload_n 0 dJ2_grow_0 rfl ?_
  refine cq_aload_n 0 dJ2_grow_1 rfl ?_
  refine cq_nd H.1.1 (fun hn => cq_getI h.2 (dG_FI H.1.1 hn h.1 dCl_J2 (cx_lt rfl) rfl rfl rfl) q519 dJ2_grow_2 (fun v1 h => ?_))
  refine cq_iconst 1 dJ2_grow_5 cx_ic_1 ?_
  refine cq_iadd dJ2_grow_6 ?_
  obtain ⟨hmr, h⟩ := h
  refine cd_cV [.int (v1 + 1)] [] (jAl_grow_2_m H (N := N) (bc := bc - k) (bs := bs - n) M P L a0 (v1 + 1) h) (dG_Rc H.1.1 hmr dCl_J2) dJ2_grow_7 gd_J2_69 hgd_J2_69 ⟨cx_le rfl, cx_le rfl⟩ (cd_bud hk) rfl (cx_le rfl) (fun M2 P3 L4 v5 r6 k7 n8 hk2 h => ?_)
  refine cd_addI (h rfl) (cd_bk hk hk2) (fun k9 n10 h hk => ?_)
  exact cd_aret (v := r6) hk h rfl (Or.inr ⟨_, rfl⟩) dJ2_grow_10
def jAl_grow (N : dNt) (bc bs : Nat) (M : cx_M) (P : dP) (L : dL) (a0 : Nat) (Q : cd_Qt) : Prop := jAl_grow_0 N bc bs Q a0 M P L 0 0
set_option maxRecDepth 100000 in
theorem jAl_grow_m {l : Launch} {g : cx_G} {N : dNt} {bc bs : Nat} {Q : cd_Qt} (H : dI g N.2) (M : cx_M) (P : dP) (L : dL) (a0 : Nat) (h : jAl_grow N bc bs M P L a0 Q) : cd_Met l g yJ2_grow cJ2_grow (esJ2_grow bc bs) cd_rA [.ref a0] M P L Q :=
  cd_met (by decide +kernel) rfl rfl (lv := [(0, .ref a0)]) rfl (cx_le rfl) (fun X hX => cq_sub (lv' := [(0, .ref a0)]) [0] rfl (jAl_grow_0_v H hX M P L 0 0 ⟨Nat.zero_le _, Nat.zero_le _⟩ h))

abbrev esJ2_add_2 (bc bs : Nat) : cx_S := (4, RJ2, cx_rI, { frames := 5, cells := bc, slots := bs, locals := 127 }, none, false)
def jAl_add_2_11 (N : dNt) (bc bs : Nat) (Q : cd_Qt) (a0 : Nat) (M : cx_M) (P : dP) (L : dL) (k n : Nat) (x1 : Option Nat) (x2 : Option Nat) (x3 : Int32) : Prop :=
  cd_nn x2 fun a1 =>
  ∃ z2, (a1, (3, 4, z2)) ∈ L ∧ cd_ais (dia N.2) L x1 ∧ cd_stR P a1 z2 x3 x1 fun P3 =>
  (a0, (0, 20, 0)) ∈ L ∧ cq_put M (dc a0) 2 (x3 + 1) fun M4 =>
  Q M4 P3 L 0 none 0 k n
set_option maxRecDepth 100000 in
theorem jAl_add_2_11_v {l : Launch} {g : cx_G} {X : cx_X} {N : dNt} {bc bs : Nat} {Q : cd_Qt} {a0 : Nat} (H : dI g N.2) (hX : X.2.2.2.2.2.2.1.name = "add") (M : cx_M) (P : dP) (L : dL) (k n : Nat) (x1 : Option Nat) (x2 : Option Nat) (x3 : Int32) (hk : k ≤ bc ∧ n ≤ bs) (h : jAl_add_2_11 N bc bs Q a0 M P L k n x1 x2 x3) : cq_V l (dG g L P) X (esJ2_add_2 bc bs) cJ2_add_2 11 [(0, .ref a0), (1, va_rf x1), (2, va_rf x2), (3, .int x3)] [] M k n (cd_fin g X (esJ2_add_2 bc bs) cd_rV Q) := by
  unfold jAl_add_2_11 at h
  refine cd_aload_n (v := x2) 2 dJ2_add_2_11 rfl ?_
  refine cq_iload_n 3 dJ2_add_2_12 rfl ?_
  refine cd_aload_n (v := x1) 1 dJ2_add_2_13 rfl ?_
  obtain ⟨a1, e9, h⟩ := cd_nn_some h
  subst e9
  obtain ⟨z2, hm, hai, h⟩ := h
  refine cq_nd H.1.1 (fun hn => cd_aast (v := x1) H.1.1 H.2.1 hn hm hai h rfl d16 dCast dJ2_add_2_14 (fun P3 h => ?_))
  refine cq_aload_n 0 dJ2_add_2_15 rfl ?_
  refine cq_iload_n 3 dJ2_add_2_16 rfl ?_
  refine cq_iconst 1 dJ2_add_2_17 cx_ic_1 ?_
  refine cq_iadd dJ2_add_2_18 ?_
  refine cq_nd H.1.1 (fun hn => cq_putI h.2 (dG_FI H.1.1 hn h.1 dCl_J2 (cx_lt rfl) rfl rfl rfl) rfl rfl rfl q519 dJ2_add_2_19 (fun M4 h => ?_))
  exact cd_vret hk h rfl dJ2_add_2_22
def jAl_add_2_0 (N : dNt) (bc bs : Nat) (Q : cd_Qt) (a0 : Nat) (M : cx_M) (P : dP) (L : dL) (k n : Nat) (x1 : Option Nat) (x2 : Option Nat) (x3 : Int32) : Prop :=
  cd_nn x2 fun a1 =>
  ∃ z2, (a1, (3, 4, z2)) ∈ L ∧
  if x3 = (nI z2) then (
    (a0, (0, 20, 0)) ∈ L ∧
    jAl_grow N (bc - k) (bs - n) M P L a0 (fun M3 P4 L5 v6 r7 e9 k8 n9 => e9 = 0 → cd_add k k8 n n9 fun k10 n11 =>
    jAl_add_2_11 N bc bs Q a0 M3 P4 L5 k10 n11 x1 r7 x3))
  else (
    jAl_add_2_11 N bc bs Q a0 M P L k n x1 ((some a1)) x3)
set_option maxRecDepth 100000 in
theorem jAl_add_2_0_v {l : Launch} {g : cx_G} {X : cx_X} {N : dNt} {bc bs : Nat} {Q : cd_Qt} {a0 : Nat} (H : dI g N.2) (hX : X.2.2.2.2.2.2.1.name = "add") (M : cx_M) (P : dP) (L : dL) (k n : Nat) (x1 : Option Nat) (x2 : Option Nat) (x3 : Int32) (hk : k ≤ bc ∧ n ≤ bs) (h : jAl_add_2_0 N bc bs Q a0 M P L k n x1 x2 x3) : cq_V l (dG g L P) X (esJ2_add_2 bc bs) cJ2_add_2 0 [(0, .ref a0), (1, va_rf x1), (2, va_rf x2), (3, .int x3)] [] M k n (cd_fin g X (esJ2_add_2 bc bs) cd_rV Q) := by
  unfold jAl_add_2_0 at h
  refine cq_iload_n 3 dJ2_add_2_0 rfl ?_
  refine cd_aload_n (v := x2) 2 dJ2_add_2_1 rfl ?_
  obtain ⟨a1, e9, h⟩ := cd_nn_some h
  subst e9
  obtain ⟨z2, hm, h⟩ := h
  refine cd_alenR H.1.1 hm rfl dJ2_add_2_2 ?_
  refine cq_icmp_ne 11 h dJ2_add_2_3 rfl (fun h => ?_) (fun h => ?_)
  · exact jAl_add_2_11_v H hX M P L k n x1 ((some a1)) x3 hk h
  · refine cq_aload_n 0 dJ2_add_2_6 rfl ?_
    obtain ⟨hmr, h⟩ := h
    refine cd_cV [] [] (jAl_grow_m H (N := N) (bc := bc - k) (bs := bs - n) M P L a0 h) (dG_Rc H.1.1 hmr dCl_J2) dJ2_add_2_7 gd_J2_129 hgd_J2_129 ⟨cx_le rfl, cx_le rfl⟩ (cd_bud hk) rfl (cx_le rfl) (fun M3 P4 L5 v6 r7 k8 n9 hk2 h => ?_)
    refine cd_addI (h rfl) (cd_bk hk hk2) (fun k10 n11 h hk => ?_)
    refine cd_astore_n (v := r7) (fun v => [(2, v), (0, .ref a0), (1, va_rf x1), (3, .int x3)]) dJ2_add_2_10 (cx_lt rfl) (fun v => (by cases x1 <;> rfl)) ?_
    refine cq_sub (lv' := [(0, .ref a0), (1, va_rf x1), (2, va_rf r7), (3, .int x3)]) [1, 2, 0, 3] rfl ?_
    exact jAl_add_2_11_v H hX M3 P4 L5 k10 n11 x1 r7 x3 hk h
def jAl_add_2 (N : dNt) (bc bs : Nat) (M : cx_M) (P : dP) (L : dL) (a0 : Nat) (x1 : Option Nat) (x2 : Option Nat) (x3 : Int32) (Q : cd_Qt) : Prop := jAl_add_2_0 N bc bs Q a0 M P L 0 0 x1 x2 x3
set_option maxRecDepth 100000 in
theorem jAl_add_2_m {l : Launch} {g : cx_G} {N : dNt} {bc bs : Nat} {Q : cd_Qt} (H : dI g N.2) (M : cx_M) (P : dP) (L : dL) (a0 : Nat) (x1 : Option Nat) (x2 : Option Nat) (x3 : Int32) (h : jAl_add_2 N bc bs M P L a0 x1 x2 x3 Q) : cd_Met l g yJ2_add_2 cJ2_add_2 (esJ2_add_2 bc bs) cd_rV [.ref a0, va_rf x1, va_rf x2, .int x3] M P L Q :=
  cd_met (by decide +kernel) rfl rfl (lv := [(0, .ref a0), (1, va_rf x1), (2, va_rf x2), (3, .int x3)]) (by cases x1 <;> cases x2 <;> rfl) (by cases x1 <;> cases x2 <;> exact cx_le rfl) (fun X hX => cq_sub (lv' := [(0, .ref a0), (1, va_rf x1), (2, va_rf x2), (3, .int x3)]) [0, 1, 2, 3] rfl (jAl_add_2_0_v H hX M P L 0 0 x1 x2 x3 ⟨Nat.zero_le _, Nat.zero_le _⟩ h))

abbrev esJ2_add (bc bs : Nat) : cx_S := (2, RJ2, cx_rI, { frames := 6, cells := bc, slots := bs, locals := 150 }, some .boolean, false)
def jAl_add_0 (N : dNt) (bc bs : Nat) (Q : cd_Qt) (a0 : Nat) (M : cx_M) (P : dP) (L : dL) (k n : Nat) (x1 : Option Nat) : Prop :=
  (a0, (0, 20, 0)) ∈ L ∧ cq_get M (dc a0) 0 fun v1 =>
  (a0, (0, 20, 0)) ∈ L ∧ cq_put M (dc a0) 0 (v1 + 1) fun M2 =>
  (a0, (0, 20, 0)) ∈ L ∧ cd_let (P a0 1) fun r3 =>
  (a0, (0, 20, 0)) ∈ L ∧ cq_get M2 (dc a0) 2 fun v4 =>
  (a0, (0, 20, 0)) ∈ L ∧
  jAl_add_2 N (bc - k) (bs - n) M2 P L a0 x1 r3 v4 (fun M5 P6 L7 v8 r9 e9 k10 n11 => e9 = 0 → cd_add k k10 n n11 fun k12 n13 =>
  Q M5 P6 L7 1 none 0 k12 n13)
set_option maxRecDepth 100000 in
theorem jAl_add_0_v {l : Launch} {g : cx_G} {X : cx_X} {N : dNt} {bc bs : Nat} {Q : cd_Qt} {a0 : Nat} (H : dI g N.2) (hX : X.2.2.2.2.2.2.1.name = "add") (M : cx_M) (P : dP) (L : dL) (k n : Nat) (x1 : Option Nat) (hk : k ≤ bc ∧ n ≤ bs) (h : jAl_add_0 N bc bs Q a0 M P L k n x1) : cq_V l (dG g L P) X (esJ2_add bc bs) cJ2_add 0 [(0, .ref a0), (1, va_rf x1)] [] M k n (cd_fin g X (esJ2_add bc bs) cd_rI Q) := by
  unfold jAl_add_0 at h
  refine cq_aload_n 0 dJ2_add_0 rfl ?_
  refine cq_dup dJ2_add_1 rfl ?_
  refine cq_nd H.1.1 (fun hn => cd_getIs h.2 (dG_FI H.1.1 hn h.1 dCl_J2 (cx_lt rfl) rfl rfl rfl) q524 q527 dJ2_add_2 (fun v1 h => ?_))
  refine cq_iconst 1 dJ2_add_5 cx_ic_1 ?_
  refine cq_iadd dJ2_add_6 ?_
  refine cq_nd H.1.1 (fun hn => cd_putIs h.2 (dG_FI H.1.1 hn h.1 dCl_J2 (cx_lt rfl) rfl rfl rfl) q524 rfl rfl rfl q527 dJ2_add_7 (fun M2 h => ?_))
  refine cq_aload_n 0 dJ2_add_10 rfl ?_
  refine cd_aload_n (v := x1) 1 dJ2_add_11 rfl ?_
  refine cq_aload_n 0 dJ2_add_12 rfl ?_
  refine cq_getR (dG_FR (k := 1) H.1.1 h.1 dCl_J2 (cx_lt rfl) rfl rfl) q516 dJ2_add_13 ?_
  refine cd_letI h.2 (fun r3 h => ?_)
  refine cq_aload_n 0 dJ2_add_16 rfl ?_
  refine cq_nd H.1.1 (fun hn => cq_getI h.2 (dG_FI H.1.1 hn h.1 dCl_J2 (cx_lt rfl) rfl rfl rfl) q519 dJ2_add_17 (fun v4 h => ?_))
  obtain ⟨hmr, h⟩ := h
  refine cd_cV [va_rf x1, va_rf r3, .int v4] [] (jAl_add_2_m H (N := N) (bc := bc - k) (bs := bs - n) M2 P L a0 x1 r3 v4 h) (dG_Rc H.1.1 hmr dCl_J2) dJ2_add_20 gd_J2_131 hgd_J2_131 ⟨cx_le rfl, cx_le rfl⟩ (cd_bud hk) rfl (cx_le rfl) (fun M5 P6 L7 v8 r9 k10 n11 hk2 h => ?_)
  refine cd_addI (h rfl) (cd_bk hk hk2) (fun k12 n13 h hk => ?_)
  refine cq_iconst 1 dJ2_add_23 cx_ic_1 ?_
  exact cd_zret hk h cx_z_1 rfl dJ2_add_24
def jAl_add (N : dNt) (bc bs : Nat) (M : cx_M) (P : dP) (L : dL) (a0 : Nat) (x1 : Option Nat) (Q : cd_Qt) : Prop := jAl_add_0 N bc bs Q a0 M P L 0 0 x1
set_option maxRecDepth 100000 in
theorem jAl_add_m {l : Launch} {g : cx_G} {N : dNt} {bc bs : Nat} {Q : cd_Qt} (H : dI g N.2) (M : cx_M) (P : dP) (L : dL) (a0 : Nat) (x1 : Option Nat) (h : jAl_add N bc bs M P L a0 x1 Q) : cd_Met l g yJ2_add cJ2_add (esJ2_add bc bs) cd_rI [.ref a0, va_rf x1] M P L Q :=
  cd_met (by decide +kernel) rfl rfl (lv := [(0, .ref a0), (1, va_rf x1)]) (by cases x1 <;> rfl) (by cases x1 <;> exact cx_le rfl) (fun X hX => cq_sub (lv' := [(0, .ref a0), (1, va_rf x1)]) [0, 1] rfl (jAl_add_0_v H hX M P L 0 0 x1 ⟨Nat.zero_le _, Nat.zero_le _⟩ h))

abbrev esJ14_checkIndexD (bc bs : Nat) : cx_S := (3, RJ14, cx_rI, { frames := 0, cells := bc, slots := bs, locals := 0 }, some .int, false)
def jPd_checkIndexD_0 (N : dNt) (bc bs : Nat) (Q : cd_Qt) (M : cx_M) (P : dP) (L : dL) (k n : Nat) (x0 : Int32) (x1 : Int32) (x2 : Option Nat) : Prop :=
  if x0 < 0 then (
    False)
  else (
    if x0 < x1 then (
      Q M P L x0 none 0 k n)
    else (
      False))
set_option maxRecDepth 100000 in
theorem jPd_checkIndexD_0_v {l : Launch} {g : cx_G} {X : cx_X} {N : dNt} {bc bs : Nat} {Q : cd_Qt} (H : dI g N.2) (hX : X.2.2.2.2.2.2.1.name = "checkIndex") (M : cx_M) (P : dP) (L : dL) (k n : Nat) (x0 : Int32) (x1 : Int32) (x2 : Option Nat) (hk : k ≤ bc ∧ n ≤ bs) (h : jPd_checkIndexD_0 N bc bs Q M P L k n x0 x1 x2) : cq_V l (dG g L P) X (esJ14_checkIndexD bc bs) cJ14_checkIndex 0 [(0, .int x0), (1, .int x1), (2, va_rf x2)] [] M k n (cd_fin g X (esJ14_checkIndexD bc bs) cd_rI Q) := by
  unfold jPd_checkIndexD_0 at h
  refine cq_iload_n 0 dJ14_checkIndex_0 rfl ?_
  refine cq_if_lt 9 h dJ14_checkIndex_1 rfl (fun h => ?_) (fun h => ?_)
  · cases h
  · refine cq_iload_n 0 dJ14_checkIndex_4 rfl ?_
    refine cq_iload_n 1 dJ14_checkIndex_5 rfl ?_
    refine cq_icmp_lt 16 h dJ14_checkIndex_6 rfl (fun h => ?_) (fun h => ?_)
    · refine cq_iload_n 0 dJ14_checkIndex_16 rfl ?_
      exact cd_iret hk h rfl dJ14_checkIndex_17
    · cases h
def jPd_checkIndexD (N : dNt) (bc bs : Nat) (M : cx_M) (P : dP) (L : dL) (x0 : Int32) (x1 : Int32) (x2 : Option Nat) (Q : cd_Qt) : Prop := jPd_checkIndexD_0 N bc bs Q M P L 0 0 x0 x1 x2
set_option maxRecDepth 100000 in
theorem jPd_checkIndexD_m {l : Launch} {g : cx_G} {N : dNt} {bc bs : Nat} {Q : cd_Qt} (H : dI g N.2) (M : cx_M) (P : dP) (L : dL) (x0 : Int32) (x1 : Int32) (x2 : Option Nat) (h : jPd_checkIndexD N bc bs M P L x0 x1 x2 Q) : cd_Met l g yJ14_checkIndex cJ14_checkIndex (esJ14_checkIndexD bc bs) cd_rI [.int x0, .int x1, va_rf x2] M P L Q :=
  cd_met (by decide +kernel) rfl rfl (lv := [(0, .int x0), (1, .int x1), (2, va_rf x2)]) (by cases x2 <;> rfl) (by cases x2 <;> exact cx_le rfl) (fun X hX => cq_sub (lv' := [(0, .int x0), (1, .int x1), (2, va_rf x2)]) [0, 1, 2] rfl (jPd_checkIndexD_0_v H hX M P L 0 0 x0 x1 x2 ⟨Nat.zero_le _, Nat.zero_le _⟩ h))

abbrev esJ30_checkIndex (bc bs : Nat) : cx_S := (2, RJ30, cx_rI, { frames := 1, cells := bc, slots := bs, locals := 22 }, some .int, false)
def jOb_checkIndex_0 (N : dNt) (bc bs : Nat) (Q : cd_Qt) (M : cx_M) (P : dP) (L : dL) (k n : Nat) (x0 : Int32) (x1 : Int32) : Prop :=
  jPd_checkIndexD N (bc - k) (bs - n) M P L x0 x1 none (fun M1 P2 L3 v4 r5 e9 k6 n7 => e9 = 0 → cd_add k k6 n n7 fun k8 n9 =>
  Q M1 P2 L3 v4 none 0 k8 n9)
set_option maxRecDepth 100000 in
theorem jOb_checkIndex_0_v {l : Launch} {g : cx_G} {X : cx_X} {N : dNt} {bc bs : Nat} {Q : cd_Qt} (H : dI g N.2) (hX : X.2.2.2.2.2.2.1.name = "checkIndex") (M : cx_M) (P : dP) (L : dL) (k n : Nat) (x0 : Int32) (x1 : Int32) (hk : k ≤ bc ∧ n ≤ bs) (h : jOb_checkIndex_0 N bc bs Q M P L k n x0 x1) : cq_V l (dG g L P) X (esJ30_checkIndex bc bs) cJ30_checkIndex 0 [(0, .int x0), (1, .int x1)] [] M k n (cd_fin g X (esJ30_checkIndex bc bs) cd_rI Q) := by
  unfold jOb_checkIndex_0 at h
  refine cq_iload_n 0 dJ30_checkIndex_0 rfl ?_
  refine cq_iload_n 1 dJ30_checkIndex_1 rfl ?_
  refine cq_null dJ30_checkIndex_2 ?_
  refine cd_cS [.int x0, .int x1, va_rf none] [] (jPd_checkIndexD_m H (N := N) (bc := bc - k) (bs := bs - n) M P L x0 x1 none h) dJ30_checkIndex_3 gd_J30_105D hgd_J30_105D ⟨cx_le rfl, cx_le rfl⟩ (cd_bud hk) rfl (cx_le rfl) (fun M1 P2 L3 v4 r5 k6 n7 hk2 h => ?_)
  refine cd_addI (h rfl) (cd_bk hk hk2) (fun k8 n9 h hk => ?_)
  exact cd_iret hk h rfl dJ30_checkIndex_6
def jOb_checkIndex (N : dNt) (bc bs : Nat) (M : cx_M) (P : dP) (L : dL) (x0 : Int32) (x1 : Int32) (Q : cd_Qt) : Prop := jOb_checkIndex_0 N bc bs Q M P L 0 0 x0 x1
set_option maxRecDepth 100000 in
theorem jOb_checkIndex_m {l : Launch} {g : cx_G} {N : dNt} {bc bs : Nat} {Q : cd_Qt} (H : dI g N.2) (M : cx_M) (P : dP) (L : dL) (x0 : Int32) (x1 : Int32) (h : jOb_checkIndex N bc bs M P L x0 x1 Q) : cd_Met l g yJ30_checkIndex cJ30_checkIndex (esJ30_checkIndex bc bs) cd_rI [.int x0, .int x1] M P L Q :=
  cd_met (by decide +kernel) rfl rfl (lv := [(0, .int x0), (1, .int x1)]) rfl (cx_le rfl) (fun X hX => cq_sub (lv' := [(0, .int x0), (1, .int x1)]) [0, 1] rfl (jOb_checkIndex_0_v H hX M P L 0 0 x0 x1 ⟨Nat.zero_le _, Nat.zero_le _⟩ h))

abbrev esJ2_size (bc bs : Nat) : cx_S := (1, RJ2, cx_rI, { frames := 0, cells := bc, slots := bs, locals := 0 }, some .int, false)
def jAl_size_0 (N : dNt) (bc bs : Nat) (Q : cd_Qt) (a0 : Nat) (M : cx_M) (P : dP) (L : dL) (k n : Nat) : Prop :=
  (a0, (0, 20, 0)) ∈ L ∧ cq_get M (dc a0) 2 fun v1 =>
  Q M P L v1 none 0 k n
set_option maxRecDepth 100000 in
theorem jAl_size_0_v {l : Launch} {g : cx_G} {X : cx_X} {N : dNt} {bc bs : Nat} {Q : cd_Qt} {a0 : Nat} (H : dI g N.2) (hX : X.2.2.2.2.2.2.1.name = "size") (M : cx_M) (P : dP) (L : dL) (k n : Nat) (hk : k ≤ bc ∧ n ≤ bs) (h : jAl_size_0 N bc bs Q a0 M P L k n) : cq_V l (dG g L P) X (esJ2_size bc bs) cJ2_size 0 [(0, .ref a0)] [] M k n (cd_fin g X (esJ2_size bc bs) cd_rI Q) := by
  unfold jAl_size_0 at h
  refine cq_aload_n 0 dJ2_size_0 rfl ?_
  refine cq_nd H.1.1 (fun hn => cq_getI h.2 (dG_FI H.1.1 hn h.1 dCl_J2 (cx_lt rfl) rfl rfl rfl) q519 dJ2_size_1 (fun v1 h => ?_))
  exact cd_iret hk h rfl dJ2_size_4
def jAl_size (N : dNt) (bc bs : Nat) (M : cx_M) (P : dP) (L : dL) (a0 : Nat) (Q : cd_Qt) : Prop := jAl_size_0 N bc bs Q a0 M P L 0 0
set_option maxRecDepth 100000 in
theorem jAl_size_m {l : Launch} {g : cx_G} {N : dNt} {bc bs : Nat} {Q : cd_Qt} (H : dI g N.2) (M : cx_M) (P : dP) (L : dL) (a0 : Nat) (h : jAl_size N bc bs M P L a0 Q) : cd_Met l g yJ2_size cJ2_size (esJ2_size bc bs) cd_rI [.ref a0] M P L Q :=
  cd_met (by decide +kernel) rfl rfl (lv := [(0, .ref a0)]) rfl (cx_le rfl) (fun X hX => cq_sub (lv' := [(0, .ref a0)]) [0] rfl (jAl_size_0_v H hX M P L 0 0 ⟨Nat.zero_le _, Nat.zero_le _⟩ h))

abbrev esJ2_isEmpty (bc bs : Nat) : cx_S := (1, RJ2, cx_rI, { frames := 0, cells := bc, slots := bs, locals := 0 }, some .boolean, false)
def jAl_isEmpty_0 (N : dNt) (bc bs : Nat) (Q : cd_Qt) (a0 : Nat) (M : cx_M) (P : dP) (L : dL) (k n : Nat) : Prop :=
  (a0, (0, 20, 0)) ∈ L ∧ cq_get M (dc a0) 2 fun v1 =>
  if v1 = 0 then (
    Q M P L 1 none 0 k n)
  else (
    Q M P L 0 none 0 k n)
set_option maxRecDepth 100000 in
theorem jAl_isEmpty_0_v {l : Launch} {g : cx_G} {X : cx_X} {N : dNt} {bc bs : Nat} {Q : cd_Qt} {a0 : Nat} (H : dI g N.2) (hX : X.2.2.2.2.2.2.1.name = "isEmpty") (M : cx_M) (P : dP) (L : dL) (k n : Nat) (hk : k ≤ bc ∧ n ≤ bs) (h : jAl_isEmpty_0 N bc bs Q a0 M P L k n) : cq_V l (dG g L P) X (esJ2_isEmpty bc bs) cJ2_isEmpty 0 [(0, .ref a0)] [] M k n (cd_fin g X (esJ2_isEmpty bc bs) cd_rI Q) := by
  unfold jAl_isEmpty_0 at h
  refine cq_aload_n 0 dJ2_isEmpty_0 rfl ?_
  refine cq_nd H.1.1 (fun hn => cq_getI h.2 (dG_FI H.1.1 hn h.1 dCl_J2 (cx_lt rfl) rfl rfl rfl) q519 dJ2_isEmpty_1 (fun v1 h => ?_))
  refine cq_if_ne 11 h dJ2_isEmpty_4 rfl (fun h => ?_) (fun h => ?_)
  · refine cq_iconst 0 dJ2_isEmpty_11 cx_ic_0 ?_
    exact cd_zret hk h cx_z_0 rfl dJ2_isEmpty_12
  · refine cq_iconst 1 dJ2_isEmpty_7 cx_ic_1 ?_
    refine cq_goto 12 dJ2_isEmpty_8 rfl ?_
    exact cd_zret hk h cx_z_1 rfl dJ2_isEmpty_12
def jAl_isEmpty (N : dNt) (bc bs : Nat) (M : cx_M) (P : dP) (L : dL) (a0 : Nat) (Q : cd_Qt) : Prop := jAl_isEmpty_0 N bc bs Q a0 M P L 0 0
set_option maxRecDepth 100000 in
theorem jAl_isEmpty_m {l : Launch} {g : cx_G} {N : dNt} {bc bs : Nat} {Q : cd_Qt} (H : dI g N.2) (M : cx_M) (P : dP) (L : dL) (a0 : Nat) (h : jAl_isEmpty N bc bs M P L a0 Q) : cd_Met l g yJ2_isEmpty cJ2_isEmpty (esJ2_isEmpty bc bs) cd_rI [.ref a0] M P L Q :=
  cd_met (by decide +kernel) rfl rfl (lv := [(0, .ref a0)]) rfl (cx_le rfl) (fun X hX => cq_sub (lv' := [(0, .ref a0)]) [0] rfl (jAl_isEmpty_0_v H hX M P L 0 0 ⟨Nat.zero_le _, Nat.zero_le _⟩ h))

abbrev esJ2_elementData (bc bs : Nat) : cx_S := (2, RJ2, cx_rI, { frames := 0, cells := bc, slots := bs, locals := 0 }, some (.object "java/lang/Object"), false)
def jAl_elementData_0 (N : dNt) (bc bs : Nat) (Q : cd_Qt) (a0 : Nat) (M : cx_M) (P : dP) (L : dL) (k n : Nat) (x1 : Int32) : Prop :=
  (a0, (0, 20, 0)) ∈ L ∧ cd_let (P a0 1) fun r1 =>
  cd_nn r1 fun a2 =>
  ∃ z4, (a2, (3, 4, z4)) ∈ L ∧ cd_ldR P a2 z4 x1 fun r3 =>
  Q M P L 0 r3 0 k n
set_option maxRecDepth 100000 in
theorem jAl_elementData_0_v {l : Launch} {g : cx_G} {X : cx_X} {N : dNt} {bc bs : Nat} {Q : cd_Qt} {a0 : Nat} (H : dI g N.2) (hX : X.2.2.2.2.2.2.1.name = "elementData") (M : cx_M) (P : dP) (L : dL) (k n : Nat) (x1 : Int32) (hk : k ≤ bc ∧ n ≤ bs) (h : jAl_elementData_0 N bc bs Q a0 M P L k n x1) : cq_V l (dG g L P) X (esJ2_elementData bc bs) cJ2_elementData 0 [(0, .ref a0), (1, .int x1)] [] M k n (cd_fin g X (esJ2_elementData bc bs) cd_rA Q) := by
  unfold jAl_elementData_0 at h
  refine cq_aload_n 0 dJ2_elementData_0 rfl ?_
  refine cq_getR (dG_FR (k := 1) H.1.1 h.1 dCl_J2 (cx_lt rfl) rfl rfl) q516 dJ2_elementData_1 ?_
  refine cd_letI h.2 (fun r1 h => ?_)
  refine cq_iload_n 1 dJ2_elementData_4 rfl ?_
  obtain ⟨a2, e9, h⟩ := cd_nn_some h
  subst e9
  obtain ⟨z4, hm, h⟩ := h
  refine cd_ldRrow H.1.1 hm h rfl dJ2_elementData_5 (fun r3 h => ?_)
  exact cd_aret (v := r3) hk h rfl (Or.inl ⟨_, rfl⟩) dJ2_elementData_6
def jAl_elementData (N : dNt) (bc bs : Nat) (M : cx_M) (P : dP) (L : dL) (a0 : Nat) (x1 : Int32) (Q : cd_Qt) : Prop := jAl_elementData_0 N bc bs Q a0 M P L 0 0 x1
set_option maxRecDepth 100000 in
theorem jAl_elementData_m {l : Launch} {g : cx_G} {N : dNt} {bc bs : Nat} {Q : cd_Qt} (H : dI g N.2) (M : cx_M) (P : dP) (L : dL) (a0 : Nat) (x1 : Int32) (h : jAl_elementData N bc bs M P L a0 x1 Q) : cd_Met l g yJ2_elementData cJ2_elementData (esJ2_elementData bc bs) cd_rA [.ref a0, .int x1] M P L Q :=
  cd_met (by decide +kernel) rfl rfl (lv := [(0, .ref a0), (1, .int x1)]) rfl (cx_le rfl) (fun X hX => cq_sub (lv' := [(0, .ref a0), (1, .int x1)]) [0, 1] rfl (jAl_elementData_0_v H hX M P L 0 0 x1 ⟨Nat.zero_le _, Nat.zero_le _⟩ h))

abbrev esJ2_get (bc bs : Nat) : cx_S := (2, RJ2, cx_rI, { frames := 2, cells := bc, slots := bs, locals := 43 }, some (.object "java/lang/Object"), false)
def jAl_get_0 (N : dNt) (bc bs : Nat) (Q : cd_Qt) (a0 : Nat) (M : cx_M) (P : dP) (L : dL) (k n : Nat) (x1 : Int32) : Prop :=
  (a0, (0, 20, 0)) ∈ L ∧ cq_get M (dc a0) 2 fun v1 =>
  jOb_checkIndex N (bc - k) (bs - n) M P L x1 v1 (fun M2 P3 L4 v5 r6 e9 k7 n8 => e9 = 0 → cd_add k k7 n n8 fun k9 n10 =>
  (a0, (0, 20, 0)) ∈ L4 ∧
  jAl_elementData N (bc - k9) (bs - n10) M2 P3 L4 a0 x1 (fun M11 P12 L13 v14 r15 e9 k16 n17 => e9 = 0 → cd_add k9 k16 n10 n17 fun k18 n19 =>
  Q M11 P12 L13 0 r15 0 k18 n19))
set_option maxRecDepth 100000 in
theorem jAl_get_0_v {l : Launch} {g : cx_G} {X : cx_X} {N : dNt} {bc bs : Nat} {Q : cd_Qt} {a0 : Nat} (H : dI g N.2) (hX : X.2.2.2.2.2.2.1.name = "get") (M : cx_M) (P : dP) (L : dL) (k n : Nat) (x1 : Int32) (hk : k ≤ bc ∧ n ≤ bs) (h : jAl_get_0 N bc bs Q a0 M P L k n x1) : cq_V l (dG g L P) X (esJ2_get bc bs) cJ2_get 0 [(0, .ref a0), (1, .int x1)] [] M k n (cd_fin g X (esJ2_get bc bs) cd_rA Q) := by
  unfold jAl_get_0 at h
  refine cq_iload_n 1 dJ2_get_0 rfl ?_
  refine cq_aload_n 0 dJ2_get_1 rfl ?_
  refine cq_nd H.1.1 (fun hn => cq_getI h.2 (dG_FI H.1.1 hn h.1 dCl_J2 (cx_lt rfl) rfl rfl rfl) q519 dJ2_get_2 (fun v1 h => ?_))
  refine cd_cS [.int x1, .int v1] [] (jOb_checkIndex_m H (N := N) (bc := bc - k) (bs := bs - n) M P L x1 v1 h) dJ2_get_5 gd_J2_118 hgd_J2_118 ⟨cx_le rfl, cx_le rfl⟩ (cd_bud hk) rfl (cx_le rfl) (fun M2 P3 L4 v5 r6 k7 n8 hk2 h => ?_)
  refine cd_addI (h rfl) (cd_bk hk hk2) (fun k9 n10 h hk => ?_)
  refine cq_pop dJ2_get_8 rfl ?_
  refine cq_aload_n 0 dJ2_get_9 rfl ?_
  refine cq_iload_n 1 dJ2_get_10 rfl ?_
  obtain ⟨hmr, h⟩ := h
  refine cd_cV [.int x1] [] (jAl_elementData_m H (N := N) (bc := bc - k9) (bs := bs - n10) M2 P3 L4 a0 x1 h) (dG_Rc H.1.1 hmr dCl_J2) dJ2_get_11 gd_J2_123 hgd_J2_123 ⟨cx_le rfl, cx_le rfl⟩ (cd_bud hk) rfl (cx_le rfl) (fun M11 P12 L13 v14 r15 k16 n17 hk2 h => ?_)
  refine cd_addI (h rfl) (cd_bk hk hk2) (fun k18 n19 h hk => ?_)
  exact cd_aret (v := r15) hk h rfl (Or.inl ⟨_, rfl⟩) dJ2_get_14
def jAl_get (N : dNt) (bc bs : Nat) (M : cx_M) (P : dP) (L : dL) (a0 : Nat) (x1 : Int32) (Q : cd_Qt) : Prop := jAl_get_0 N bc bs Q a0 M P L 0 0 x1
set_option maxRecDepth 100000 in
theorem jAl_get_m {l : Launch} {g : cx_G} {N : dNt} {bc bs : Nat} {Q : cd_Qt} (H : dI g N.2) (M : cx_M) (P : dP) (L : dL) (a0 : Nat) (x1 : Int32) (h : jAl_get N bc bs M P L a0 x1 Q) : cd_Met l g yJ2_get cJ2_get (esJ2_get bc bs) cd_rA [.ref a0, .int x1] M P L Q :=
  cd_met (by decide +kernel) rfl rfl (lv := [(0, .ref a0), (1, .int x1)]) rfl (cx_le rfl) (fun X hX => cq_sub (lv' := [(0, .ref a0), (1, .int x1)]) [0, 1] rfl (jAl_get_0_v H hX M P L 0 0 x1 ⟨Nat.zero_le _, Nat.zero_le _⟩ h))

abbrev esJ0_initL (bc bs : Nat) : cx_S := (1, RJ0, cx_rI, { frames := 1, cells := bc, slots := bs, locals := 20 }, none, false)
def jAbc_initL_0 (N : dNt) (bc bs : Nat) (Q : cd_Qt) (a0 : Nat) (M : cx_M) (P : dP) (L : dL) (k n : Nat) : Prop :=
  Q M P L 0 none 0 k n
set_option maxRecDepth 100000 in
theorem jAbc_initL_0_v {l : Launch} {g : cx_G} {X : cx_X} {N : dNt} {bc bs : Nat} {Q : cd_Qt} {a0 : Nat} (H : dI g N.2) (hX : X.2.2.2.2.2.2.1.name = "<init>") (M : cx_M) (P : dP) (L : dL) (k n : Nat) (hk : k ≤ bc ∧ n ≤ bs) (h : jAbc_initL_0 N bc bs Q a0 M P L k n) : cq_V l (dG g L P) X (esJ0_initL bc bs) cJ0_init 0 [(0, .ref a0)] [] M k n (cd_fin g X (esJ0_initL bc bs) cd_rV Q) := by
  unfold jAbc_initL_0 at h
  refine cq_aload_n 0 dJ0_init_0 rfl ?_
  refine cd_oinit q195 q176 q177 dJ0_init_1 (cx_le rfl) (cx_le rfl) ?_
  exact cd_vret hk h rfl dJ0_init_4
def jAbc_initL (N : dNt) (bc bs : Nat) (M : cx_M) (P : dP) (L : dL) (a0 : Nat) (Q : cd_Qt) : Prop := jAbc_initL_0 N bc bs Q a0 M P L 0 0
set_option maxRecDepth 100000 in
theorem jAbc_initL_m {l : Launch} {g : cx_G} {N : dNt} {bc bs : Nat} {Q : cd_Qt} (H : dI g N.2) (M : cx_M) (P : dP) (L : dL) (a0 : Nat) (h : jAbc_initL N bc bs M P L a0 Q) : cd_Met l g yJ0_init cJ0_init (esJ0_initL bc bs) cd_rV [.ref a0] M P L Q :=
  cd_met (by decide +kernel) rfl rfl (lv := [(0, .ref a0)]) rfl (cx_le rfl) (fun X hX => cq_sub (lv' := [(0, .ref a0)]) [0] rfl (jAbc_initL_0_v H hX M P L 0 0 ⟨Nat.zero_le _, Nat.zero_le _⟩ h))

abbrev esJ1_initL (bc bs : Nat) : cx_S := (1, RJ1, cx_rI, { frames := 2, cells := bc, slots := bs, locals := 40 }, none, false)
def jAbl_initL_0 (N : dNt) (bc bs : Nat) (Q : cd_Qt) (a0 : Nat) (M : cx_M) (P : dP) (L : dL) (k n : Nat) : Prop :=
  jAbc_initL N (bc - k) (bs - n) M P L a0 (fun M1 P2 L3 v4 r5 e9 k6 n7 => e9 = 0 → cd_add k k6 n n7 fun k8 n9 =>
  (a0, (0, 22, 0)) ∈ L3 ∧ cq_put M1 (dc a0) 0 0 fun M10 =>
  Q M10 P2 L3 0 none 0 k8 n9)
set_option maxRecDepth 100000 in
theorem jAbl_initL_0_v {l : Launch} {g : cx_G} {X : cx_X} {N : dNt} {bc bs : Nat} {Q : cd_Qt} {a0 : Nat} (H : dI g N.2) (hX : X.2.2.2.2.2.2.1.name = "<init>") (M : cx_M) (P : dP) (L : dL) (k n : Nat) (hk : k ≤ bc ∧ n ≤ bs) (h : jAbl_initL_0 N bc bs Q a0 M P L k n) : cq_V l (dG g L P) X (esJ1_initL bc bs) cJ1_init 0 [(0, .ref a0)] [] M k n (cd_fin g X (esJ1_initL bc bs) cd_rV Q) := by
  unfold jAbl_initL_0 at h
  refine cq_aload_n 0 dJ1_init_0 rfl ?_
  refine cd_cI [] [] (jAbc_initL_m H (N := N) (bc := bc - k) (bs := bs - n) M P L a0 h) dJ1_init_1 gd_J1_1L rfl q118 q192 q193 rfl hgd_J1_1L ⟨cx_le rfl, cx_le rfl⟩ (cd_bud hk) rfl (cx_le rfl) (fun M1 P2 L3 v4 r5 k6 n7 hk2 h => ?_)
  refine cd_addI (h rfl) (cd_bk hk hk2) (fun k8 n9 h hk => ?_)
  refine cq_aload_n 0 dJ1_init_4 rfl ?_
  refine cq_iconst 0 dJ1_init_5 cx_ic_0 ?_
  refine cq_nd H.1.1 (fun hn => cq_putI h.2 (dG_FI H.1.1 hn h.1 dCl_J23 (cx_lt rfl) rfl rfl rfl) rfl rfl rfl q520 dJ1_init_6 (fun M10 h => ?_))
  exact cd_vret hk h rfl dJ1_init_9
def jAbl_initL (N : dNt) (bc bs : Nat) (M : cx_M) (P : dP) (L : dL) (a0 : Nat) (Q : cd_Qt) : Prop := jAbl_initL_0 N bc bs Q a0 M P L 0 0
set_option maxRecDepth 100000 in
theorem jAbl_initL_m {l : Launch} {g : cx_G} {N : dNt} {bc bs : Nat} {Q : cd_Qt} (H : dI g N.2) (M : cx_M) (P : dP) (L : dL) (a0 : Nat) (h : jAbl_initL N bc bs M P L a0 Q) : cd_Met l g yJ1_init cJ1_init (esJ1_initL bc bs) cd_rV [.ref a0] M P L Q :=
  cd_met (by decide +kernel) rfl rfl (lv := [(0, .ref a0)]) rfl (cx_le rfl) (fun X hX => cq_sub (lv' := [(0, .ref a0)]) [0] rfl (jAbl_initL_0_v H hX M P L 0 0 ⟨Nat.zero_le _, Nat.zero_le _⟩ h))

abbrev esJ22_init (bc bs : Nat) : cx_S := (1, RJ22, cx_rI, { frames := 3, cells := bc, slots := bs, locals := 60 }, none, false)
def jAsl_init_0 (N : dNt) (bc bs : Nat) (Q : cd_Qt) (a0 : Nat) (M : cx_M) (P : dP) (L : dL) (k n : Nat) : Prop :=
  jAbl_initL N (bc - k) (bs - n) M P L a0 (fun M1 P2 L3 v4 r5 e9 k6 n7 => e9 = 0 → cd_add k k6 n n7 fun k8 n9 =>
  Q M1 P2 L3 0 none 0 k8 n9)
set_option maxRecDepth 100000 in
theorem jAsl_init_0_v {l : Launch} {g : cx_G} {X : cx_X} {N : dNt} {bc bs : Nat} {Q : cd_Qt} {a0 : Nat} (H : dI g N.2) (hX : X.2.2.2.2.2.2.1.name = "<init>") (M : cx_M) (P : dP) (L : dL) (k n : Nat) (hk : k ≤ bc ∧ n ≤ bs) (h : jAsl_init_0 N bc bs Q a0 M P L k n) : cq_V l (dG g L P) X (esJ22_init bc bs) cJ22_init 0 [(0, .ref a0)] [] M k n (cd_fin g X (esJ22_init bc bs) cd_rV Q) := by
  unfold jAsl_init_0 at h
  refine cq_aload_n 0 dJ22_init_0 rfl ?_
  refine cd_cI [] [] (jAbl_initL_m H (N := N) (bc := bc - k) (bs := bs - n) M P L a0 h) dJ22_init_1 gd_J22_1L rfl q119 q1831 q190 rfl hgd_J22_1L ⟨cx_le rfl, cx_le rfl⟩ (cd_bud hk) rfl (cx_le rfl) (fun M1 P2 L3 v4 r5 k6 n7 hk2 h => ?_)
  refine cd_addI (h rfl) (cd_bk hk hk2) (fun k8 n9 h hk => ?_)
  exact cd_vret hk h rfl dJ22_init_4
def jAsl_init (N : dNt) (bc bs : Nat) (M : cx_M) (P : dP) (L : dL) (a0 : Nat) (Q : cd_Qt) : Prop := jAsl_init_0 N bc bs Q a0 M P L 0 0
set_option maxRecDepth 100000 in
theorem jAsl_init_m {l : Launch} {g : cx_G} {N : dNt} {bc bs : Nat} {Q : cd_Qt} (H : dI g N.2) (M : cx_M) (P : dP) (L : dL) (a0 : Nat) (h : jAsl_init N bc bs M P L a0 Q) : cd_Met l g yJ22_init cJ22_init (esJ22_init bc bs) cd_rV [.ref a0] M P L Q :=
  cd_met (by decide +kernel) rfl rfl (lv := [(0, .ref a0)]) rfl (cx_le rfl) (fun X hX => cq_sub (lv' := [(0, .ref a0)]) [0] rfl (jAsl_init_0_v H hX M P L 0 0 ⟨Nat.zero_le _, Nat.zero_le _⟩ h))

abbrev esJ23_init (bc bs : Nat) : cx_S := (1, RJ23, cx_rI, { frames := 4, cells := bc, slots := bs, locals := 80 }, none, false)
def jLl_init_0 (N : dNt) (bc bs : Nat) (Q : cd_Qt) (a0 : Nat) (M : cx_M) (P : dP) (L : dL) (k n : Nat) : Prop :=
  jAsl_init N (bc - k) (bs - n) M P L a0 (fun M1 P2 L3 v4 r5 e9 k6 n7 => e9 = 0 → cd_add k k6 n n7 fun k8 n9 =>
  (a0, (0, 22, 0)) ∈ L3 ∧ cq_put M1 (dc a0) 1 0 fun M10 =>
  Q M10 P2 L3 0 none 0 k8 n9)
set_option maxRecDepth 100000 in
theorem jLl_init_0_v {l : Launch} {g : cx_G} {X : cx_X} {N : dNt} {bc bs : Nat} {Q : cd_Qt} {a0 : Nat} (H : dI g N.2) (hX : X.2.2.2.2.2.2.1.name = "<init>") (M : cx_M) (P : dP) (L : dL) (k n : Nat) (hk : k ≤ bc ∧ n ≤ bs) (h : jLl_init_0 N bc bs Q a0 M P L k n) : cq_V l (dG g L P) X (esJ23_init bc bs) cJ23_init 0 [(0, .ref a0)] [] M k n (cd_fin g X (esJ23_init bc bs) cd_rV Q) := by
  unfold jLl_init_0 at h
  refine cq_aload_n 0 dJ23_init_0 rfl ?_
  refine cd_cI [] [] (jAsl_init_m H (N := N) (bc := bc - k) (bs := bs - n) M P L a0 h) dJ23_init_1 gd_J23_1 rfl q158 q1828 q1829 rfl hgd_J23_1 ⟨cx_le rfl, cx_le rfl⟩ (cd_bud hk) rfl (cx_le rfl) (fun M1 P2 L3 v4 r5 k6 n7 hk2 h => ?_)
  refine cd_addI (h rfl) (cd_bk hk hk2) (fun k8 n9 h hk => ?_)
  refine cq_aload_n 0 dJ23_init_4 rfl ?_
  refine cq_iconst 0 dJ23_init_5 cx_ic_0 ?_
  refine cq_nd H.1.1 (fun hn => cq_putI h.2 (dG_FI H.1.1 hn h.1 dCl_J23 (cx_lt rfl) rfl rfl rfl) rfl rfl rfl q1832 dJ23_init_6 (fun M10 h => ?_))
  exact cd_vret hk h rfl dJ23_init_9
def jLl_init (N : dNt) (bc bs : Nat) (M : cx_M) (P : dP) (L : dL) (a0 : Nat) (Q : cd_Qt) : Prop := jLl_init_0 N bc bs Q a0 M P L 0 0
set_option maxRecDepth 100000 in
theorem jLl_init_m {l : Launch} {g : cx_G} {N : dNt} {bc bs : Nat} {Q : cd_Qt} (H : dI g N.2) (M : cx_M) (P : dP) (L : dL) (a0 : Nat) (h : jLl_init N bc bs M P L a0 Q) : cd_Met l g yJ23_init cJ23_init (esJ23_init bc bs) cd_rV [.ref a0] M P L Q :=
  cd_met (by decide +kernel) rfl rfl (lv := [(0, .ref a0)]) rfl (cx_le rfl) (fun X hX => cq_sub (lv' := [(0, .ref a0)]) [0] rfl (jLl_init_0_v H hX M P L 0 0 ⟨Nat.zero_le _, Nat.zero_le _⟩ h))

abbrev esJ25_init (bc bs : Nat) : cx_S := (4, RJ25, cx_rI, { frames := 1, cells := bc, slots := bs, locals := 20 }, none, false)
def jLn_init_0 (N : dNt) (bc bs : Nat) (Q : cd_Qt) (a0 : Nat) (M : cx_M) (P : dP) (L : dL) (k n : Nat) (x1 : Option Nat) (x2 : Option Nat) (x3 : Option Nat) : Prop :=
  (a0, (0, 24, 0)) ∈ L ∧ cd_put P a0 0 x2 fun P1 =>
  (a0, (0, 24, 0)) ∈ L ∧ cd_put P1 a0 1 x3 fun P2 =>
  (a0, (0, 24, 0)) ∈ L ∧ cd_put P2 a0 2 x1 fun P3 =>
  Q M P3 L 0 none 0 k n
set_option maxRecDepth 100000 in
theorem jLn_init_0_v {l : Launch} {g : cx_G} {X : cx_X} {N : dNt} {bc bs : Nat} {Q : cd_Qt} {a0 : Nat} (H : dI g N.2) (hX : X.2.2.2.2.2.2.1.name = "<init>") (M : cx_M) (P : dP) (L : dL) (k n : Nat) (x1 : Option Nat) (x2 : Option Nat) (x3 : Option Nat) (hk : k ≤ bc ∧ n ≤ bs) (h : jLn_init_0 N bc bs Q a0 M P L k n x1 x2 x3) : cq_V l (dG g L P) X (esJ25_init bc bs) cJ25_init 0 [(0, .ref a0), (1, va_rf x1), (2, va_rf x2), (3, va_rf x3)] [] M k n (cd_fin g X (esJ25_init bc bs) cd_rV Q) := by
  unfold jLn_init_0 at h
  refine cq_aload_n 0 dJ25_init_0 rfl ?_
  refine cd_oinit q1873 q176 q177 dJ25_init_1 (cx_le rfl) (cx_le rfl) ?_
  refine cq_aload_n 0 dJ25_init_4 rfl ?_
  refine cd_aload_n (v := x2) 2 dJ25_init_5 rfl ?_
  refine cq_nd H.1.1 (fun hn => cd_putR (v := x2) H.1.1 hn h.1 h.2 dCl_J25 (cx_lt rfl) rfl rfl rfl cd_nfO rfl q1874 dJ25_init_6 (fun P1 h => ?_))
  refine cq_aload_n 0 dJ25_init_9 rfl ?_
  refine cd_aload_n (v := x3) 3 dJ25_init_10 rfl ?_
  refine cq_nd H.1.1 (fun hn => cd_putR (v := x3) H.1.1 hn h.1 h.2 dCl_J25 (cx_lt rfl) rfl rfl rfl cd_nfO rfl q1877 dJ25_init_11 (fun P2 h => ?_))
  refine cq_aload_n 0 dJ25_init_14 rfl ?_
  refine cd_aload_n (v := x1) 1 dJ25_init_15 rfl ?_
  refine cq_nd H.1.1 (fun hn => cd_putR (v := x1) H.1.1 hn h.1 h.2 dCl_J25 (cx_lt rfl) rfl rfl rfl cd_nfO rfl q1880 dJ25_init_16 (fun P3 h => ?_))
  exact cd_vret hk h rfl dJ25_init_19
def jLn_init (N : dNt) (bc bs : Nat) (M : cx_M) (P : dP) (L : dL) (a0 : Nat) (x1 : Option Nat) (x2 : Option Nat) (x3 : Option Nat) (Q : cd_Qt) : Prop := jLn_init_0 N bc bs Q a0 M P L 0 0 x1 x2 x3
set_option maxRecDepth 100000 in
theorem jLn_init_m {l : Launch} {g : cx_G} {N : dNt} {bc bs : Nat} {Q : cd_Qt} (H : dI g N.2) (M : cx_M) (P : dP) (L : dL) (a0 : Nat) (x1 : Option Nat) (x2 : Option Nat) (x3 : Option Nat) (h : jLn_init N bc bs M P L a0 x1 x2 x3 Q) : cd_Met l g yJ25_init cJ25_init (esJ25_init bc bs) cd_rV [.ref a0, va_rf x1, va_rf x2, va_rf x3] M P L Q :=
  cd_met (by decide +kernel) rfl rfl (lv := [(0, .ref a0), (1, va_rf x1), (2, va_rf x2), (3, va_rf x3)]) (by cases x1 <;> cases x2 <;> cases x3 <;> rfl) (by cases x1 <;> cases x2 <;> cases x3 <;> exact cx_le rfl) (fun X hX => cq_sub (lv' := [(0, .ref a0), (1, va_rf x1), (2, va_rf x2), (3, va_rf x3)]) [0, 1, 2, 3] rfl (jLn_init_0_v H hX M P L 0 0 x1 x2 x3 ⟨Nat.zero_le _, Nat.zero_le _⟩ h))

abbrev esJ23_linkLast (bc bs : Nat) : cx_S := (4, RJ23, cx_rI, { frames := 2, cells := bc, slots := bs, locals := 43 }, none, false)
def jLl_linkLast_38 (N : dNt) (bc bs : Nat) (Q : cd_Qt) (a0 : Nat) (M : cx_M) (P : dP) (L : dL) (k n : Nat) : Prop :=
  (a0, (0, 22, 0)) ∈ L ∧ cq_get M (dc a0) 1 fun v1 =>
  (a0, (0, 22, 0)) ∈ L ∧ cq_put M (dc a0) 1 (v1 + 1) fun M2 =>
  (a0, (0, 22, 0)) ∈ L ∧ cq_get M2 (dc a0) 0 fun v3 =>
  (a0, (0, 22, 0)) ∈ L ∧ cq_put M2 (dc a0) 0 (v3 + 1) fun M4 =>
  Q M4 P L 0 none 0 k n
set_option maxRecDepth 100000 in
theorem jLl_linkLast_38_v {l : Launch} {g : cx_G} {X : cx_X} {N : dNt} {bc bs : Nat} {Q : cd_Qt} {a0 : Nat} (H : dI g N.2) (hX : X.2.2.2.2.2.2.1.name = "linkLast") (M : cx_M) (P : dP) (L : dL) (k n : Nat) (hk : k ≤ bc ∧ n ≤ bs) (h : jLl_linkLast_38 N bc bs Q a0 M P L k n) : cq_V l (dG g L P) X (esJ23_linkLast bc bs) cJ23_linkLast 38 [(0, .ref a0)] [] M k n (cd_fin g X (esJ23_linkLast bc bs) cd_rV Q) := by
  unfold jLl_linkLast_38 at h
  refine cq_aload_n 0 dJ23_linkLast_38 rfl ?_
  refine cq_dup dJ23_linkLast_39 rfl ?_
  refine cq_nd H.1.1 (fun hn => cq_getI h.2 (dG_FI H.1.1 hn h.1 dCl_J23 (cx_lt rfl) rfl rfl rfl) q1832 dJ23_linkLast_40 (fun v1 h => ?_))
  refine cq_iconst 1 dJ23_linkLast_43 cx_ic_1 ?_
  refine cq_iadd dJ23_linkLast_44 ?_
  refine cq_nd H.1.1 (fun hn => cq_putI h.2 (dG_FI H.1.1 hn h.1 dCl_J23 (cx_lt rfl) rfl rfl rfl) rfl rfl rfl q1832 dJ23_linkLast_45 (fun M2 h => ?_))
  refine cq_aload_n 0 dJ23_linkLast_48 rfl ?_
  refine cq_dup dJ23_linkLast_49 rfl ?_
  refine cq_nd H.1.1 (fun hn => cd_getIs h.2 (dG_FI H.1.1 hn h.1 dCl_J23 (cx_lt rfl) rfl rfl rfl) q522 q526 dJ23_linkLast_50 (fun v3 h => ?_))
  refine cq_iconst 1 dJ23_linkLast_53 cx_ic_1 ?_
  refine cq_iadd dJ23_linkLast_54 ?_
  refine cq_nd H.1.1 (fun hn => cd_putIs h.2 (dG_FI H.1.1 hn h.1 dCl_J23 (cx_lt rfl) rfl rfl rfl) q522 rfl rfl rfl q526 dJ23_linkLast_55 (fun M4 h => ?_))
  exact cd_vret hk h rfl dJ23_linkLast_58
def jLl_linkLast_0 (N : dNt) (bc bs : Nat) (Q : cd_Qt) (a0 : Nat) (M : cx_M) (P : dP) (L : dL) (k n : Nat) (x1 : Option Nat) : Prop :=
  (a0, (0, 22, 0)) ∈ L ∧ cd_let (P a0 3) fun r1 =>
  cd_new bc bs k n 3 (0, 24, 0) M P L fun a2 M3 P4 L5 k6 n7 =>
  jLn_init N (bc - k6) (bs - n7) M3 P4 L5 a2 r1 x1 none (fun M8 P9 L10 v11 r12 e9 k13 n14 => e9 = 0 → cd_add k6 k13 n7 n14 fun k15 n16 =>
  (a0, (0, 22, 0)) ∈ L10 ∧ cd_put P9 a0 3 (some a2) fun P17 =>
  cd_if r1 (
    (a0, (0, 22, 0)) ∈ L10 ∧ cd_put P17 a0 2 (some a2) fun P20 =>
    jLl_linkLast_38 N bc bs Q a0 M8 P20 L10 k15 n16)
  (fun a18 =>
    (a18, (0, 24, 0)) ∈ L10 ∧ cd_put P17 a18 1 (some a2) fun P19 =>
    jLl_linkLast_38 N bc bs Q a0 M8 P19 L10 k15 n16))
set_option maxRecDepth 100000 in
theorem jLl_linkLast_0_v {l : Launch} {g : cx_G} {X : cx_X} {N : dNt} {bc bs : Nat} {Q : cd_Qt} {a0 : Nat} (H : dI g N.2) (hX : X.2.2.2.2.2.2.1.name = "linkLast") (M : cx_M) (P : dP) (L : dL) (k n : Nat) (x1 : Option Nat) (hk : k ≤ bc ∧ n ≤ bs) (h : jLl_linkLast_0 N bc bs Q a0 M P L k n x1) : cq_V l (dG g L P) X (esJ23_linkLast bc bs) cJ23_linkLast 0 [(0, .ref a0), (1, va_rf x1)] [] M k n (cd_fin g X (esJ23_linkLast bc bs) cd_rV Q) := by
  unfold jLl_linkLast_0 at h
  refine cq_aload_n 0 dJ23_linkLast_0 rfl ?_
  refine cq_getR (dG_FR (k := 3) H.1.1 h.1 dCl_J23 (cx_lt rfl) rfl rfl) q1835 dJ23_linkLast_1 ?_
  refine cd_letI h.2 (fun r1 h => ?_)
  refine cd_astore_n (v := r1) (fun v => [(2, v), (0, .ref a0), (1, va_rf x1)]) dJ23_linkLast_4 (cx_lt rfl) (fun v => (by cases x1 <;> rfl)) ?_
  refine cd_newO H.1.1 h ⟨rfl, rfl⟩ dCl_J25 dDf_J25 q1868 q1869 q161 dJ23_linkLast_5 (fun a2 M3 P4 L5 k6 n7 h hk => ?_)
  refine cq_dup dJ23_linkLast_8 rfl ?_
  refine cd_aload_n (v := r1) 0 dJ23_linkLast_9 rfl ?_
  refine cd_aload_n (v := x1) 2 dJ23_linkLast_10 rfl ?_
  refine cq_null dJ23_linkLast_11 ?_
  refine cd_cI [va_rf r1, va_rf x1, va_rf none] [.ref a2] (jLn_init_m H (N := N) (bc := bc - k6) (bs := bs - n7) M3 P4 L5 a2 r1 x1 none h) dJ23_linkLast_12 gd_J23_24 rfl q161 q1870 q1871 rfl hgd_J23_24 ⟨cx_le rfl, cx_le rfl⟩ (cd_bud hk) rfl (cx_le rfl) (fun M8 P9 L10 v11 r12 k13 n14 hk2 h => ?_)
  refine cd_addI (h rfl) (cd_bk hk hk2) (fun k15 n16 h hk => ?_)
  refine cq_astore_n [(3, .ref a2), (2, va_rf r1), (0, .ref a0), (1, va_rf x1)] dJ23_linkLast_15 (cx_lt rfl) (by cases r1 <;> rfl) ?_
  refine cq_aload_n 2 dJ23_linkLast_16 rfl ?_
  refine cq_aload_n 0 dJ23_linkLast_17 rfl ?_
  refine cq_nd H.1.1 (fun hn => cd_putR (v := (some a2)) H.1.1 hn h.1 h.2 dCl_J23 (cx_lt rfl) rfl rfl rfl cd_nfO rfl q1835 dJ23_linkLast_18 (fun P17 h => ?_))
  refine cd_aload_n (v := r1) 1 dJ23_linkLast_21 rfl ?_
  refine cd_ifnonnullT 33 h dJ23_linkLast_22 rfl (fun a18 e9 h => ?_) (fun e9 h => ?_)
  · subst e9
    refine cq_aload_n 1 dJ23_linkLast_33 rfl ?_
    refine cq_aload_n 0 dJ23_linkLast_34 rfl ?_
    refine cq_nd H.1.1 (fun hn => cd_putR (v := (some a2)) H.1.1 hn h.1 h.2 dCl_J25 (cx_lt rfl) rfl rfl rfl cd_nfO rfl q1879 dJ23_linkLast_35 (fun P19 h => ?_))
    refine cq_sub (lv' := [(0, .ref a0)]) [2] rfl ?_
    exact jLl_linkLast_38_v H hX M8 P19 L10 k15 n16 hk h
  · subst e9
    refine cq_aload_n 2 dJ23_linkLast_25 rfl ?_
    refine cq_aload_n 0 dJ23_linkLast_26 rfl ?_
    refine cq_nd H.1.1 (fun hn => cd_putR (v := (some a2)) H.1.1 hn h.1 h.2 dCl_J23 (cx_lt rfl) rfl rfl rfl cd_nfO rfl q1834 dJ23_linkLast_27 (fun P20 h => ?_))
    refine cq_goto 38 dJ23_linkLast_30 rfl ?_
    refine cq_sub (lv' := [(0, .ref a0)]) [2] rfl ?_
    exact jLl_linkLast_38_v H hX M8 P20 L10 k15 n16 hk h
def jLl_linkLast (N : dNt) (bc bs : Nat) (M : cx_M) (P : dP) (L : dL) (a0 : Nat) (x1 : Option Nat) (Q : cd_Qt) : Prop := jLl_linkLast_0 N bc bs Q a0 M P L 0 0 x1
set_option maxRecDepth 100000 in
theorem jLl_linkLast_m {l : Launch} {g : cx_G} {N : dNt} {bc bs : Nat} {Q : cd_Qt} (H : dI g N.2) (M : cx_M) (P : dP) (L : dL) (a0 : Nat) (x1 : Option Nat) (h : jLl_linkLast N bc bs M P L a0 x1 Q) : cd_Met l g yJ23_linkLast cJ23_linkLast (esJ23_linkLast bc bs) cd_rV [.ref a0, va_rf x1] M P L Q :=
  cd_met (by decide +kernel) rfl rfl (lv := [(0, .ref a0), (1, va_rf x1)]) (by cases x1 <;> rfl) (by cases x1 <;> exact cx_le rfl) (fun X hX => cq_sub (lv' := [(0, .ref a0), (1, va_rf x1)]) [0, 1] rfl (jLl_linkLast_0_v H hX M P L 0 0 x1 ⟨Nat.zero_le _, Nat.zero_le _⟩ h))

abbrev esJ23_addLast (bc bs : Nat) : cx_S := (2, RJ23, cx_rI, { frames := 3, cells := bc, slots := bs, locals := 66 }, none, false)
def jLl_addLast_0 (N : dNt) (bc bs : Nat) (Q : cd_Qt) (a0 : Nat) (M : cx_M) (P : dP) (L : dL) (k n : Nat) (x1 : Option Nat) : Prop :=
  (a0, (0, 22, 0)) ∈ L ∧
  jLl_linkLast N (bc - k) (bs - n) M P L a0 x1 (fun M1 P2 L3 v4 r5 e9 k6 n7 => e9 = 0 → cd_add k k6 n n7 fun k8 n9 =>
  Q M1 P2 L3 0 none 0 k8 n9)
set_option maxRecDepth 100000 in
theorem jLl_addLast_0_v {l : Launch} {g : cx_G} {X : cx_X} {N : dNt} {bc bs : Nat} {Q : cd_Qt} {a0 : Nat} (H : dI g N.2) (hX : X.2.2.2.2.2.2.1.name = "addLast") (M : cx_M) (P : dP) (L : dL) (k n : Nat) (x1 : Option Nat) (hk : k ≤ bc ∧ n ≤ bs) (h : jLl_addLast_0 N bc bs Q a0 M P L k n x1) : cq_V l (dG g L P) X (esJ23_addLast bc bs) cJ23_addLast 0 [(0, .ref a0), (1, va_rf x1)] [] M k n (cd_fin g X (esJ23_addLast bc bs) cd_rV Q) := by
  unfold jLl_addLast_0 at h
  refine cq_aload_n 0 dJ23_addLast_0 rfl ?_
  refine cd_aload_n (v := x1) 1 dJ23_addLast_1 rfl ?_
  obtain ⟨hmr, h⟩ := h
  refine cd_cV [va_rf x1] [] (jLl_linkLast_m H (N := N) (bc := bc - k) (bs := bs - n) M P L a0 x1 h) (dG_Rc H.1.1 hmr dCl_J23) dJ23_addLast_2 gd_J23_57 hgd_J23_57 ⟨cx_le rfl, cx_le rfl⟩ (cd_bud hk) rfl (cx_le rfl) (fun M1 P2 L3 v4 r5 k6 n7 hk2 h => ?_)
  refine cd_addI (h rfl) (cd_bk hk hk2) (fun k8 n9 h hk => ?_)
  exact cd_vret hk h rfl dJ23_addLast_5
def jLl_addLast (N : dNt) (bc bs : Nat) (M : cx_M) (P : dP) (L : dL) (a0 : Nat) (x1 : Option Nat) (Q : cd_Qt) : Prop := jLl_addLast_0 N bc bs Q a0 M P L 0 0 x1
set_option maxRecDepth 100000 in
theorem jLl_addLast_m {l : Launch} {g : cx_G} {N : dNt} {bc bs : Nat} {Q : cd_Qt} (H : dI g N.2) (M : cx_M) (P : dP) (L : dL) (a0 : Nat) (x1 : Option Nat) (h : jLl_addLast N bc bs M P L a0 x1 Q) : cd_Met l g yJ23_addLast cJ23_addLast (esJ23_addLast bc bs) cd_rV [.ref a0, va_rf x1] M P L Q :=
  cd_met (by decide +kernel) rfl rfl (lv := [(0, .ref a0), (1, va_rf x1)]) (by cases x1 <;> rfl) (by cases x1 <;> exact cx_le rfl) (fun X hX => cq_sub (lv' := [(0, .ref a0), (1, va_rf x1)]) [0, 1] rfl (jLl_addLast_0_v H hX M P L 0 0 x1 ⟨Nat.zero_le _, Nat.zero_le _⟩ h))

abbrev esJ23_size (bc bs : Nat) : cx_S := (1, RJ23, cx_rI, { frames := 0, cells := bc, slots := bs, locals := 0 }, some .int, false)
def jLl_size_0 (N : dNt) (bc bs : Nat) (Q : cd_Qt) (a0 : Nat) (M : cx_M) (P : dP) (L : dL) (k n : Nat) : Prop :=
  (a0, (0, 22, 0)) ∈ L ∧ cq_get M (dc a0) 1 fun v1 =>
  Q M P L v1 none 0 k n
set_option maxRecDepth 100000 in
theorem jLl_size_0_v {l : Launch} {g : cx_G} {X : cx_X} {N : dNt} {bc bs : Nat} {Q : cd_Qt} {a0 : Nat} (H : dI g N.2) (hX : X.2.2.2.2.2.2.1.name = "size") (M : cx_M) (P : dP) (L : dL) (k n : Nat) (hk : k ≤ bc ∧ n ≤ bs) (h : jLl_size_0 N bc bs Q a0 M P L k n) : cq_V l (dG g L P) X (esJ23_size bc bs) cJ23_size 0 [(0, .ref a0)] [] M k n (cd_fin g X (esJ23_size bc bs) cd_rI Q) := by
  unfold jLl_size_0 at h
  refine cq_aload_n 0 dJ23_size_0 rfl ?_
  refine cq_nd H.1.1 (fun hn => cq_getI h.2 (dG_FI H.1.1 hn h.1 dCl_J23 (cx_lt rfl) rfl rfl rfl) q1832 dJ23_size_1 (fun v1 h => ?_))
  exact cd_iret hk h rfl dJ23_size_4
def jLl_size (N : dNt) (bc bs : Nat) (M : cx_M) (P : dP) (L : dL) (a0 : Nat) (Q : cd_Qt) : Prop := jLl_size_0 N bc bs Q a0 M P L 0 0
set_option maxRecDepth 100000 in
theorem jLl_size_m {l : Launch} {g : cx_G} {N : dNt} {bc bs : Nat} {Q : cd_Qt} (H : dI g N.2) (M : cx_M) (P : dP) (L : dL) (a0 : Nat) (h : jLl_size N bc bs M P L a0 Q) : cd_Met l g yJ23_size cJ23_size (esJ23_size bc bs) cd_rI [.ref a0] M P L Q :=
  cd_met (by decide +kernel) rfl rfl (lv := [(0, .ref a0)]) rfl (cx_le rfl) (fun X hX => cq_sub (lv' := [(0, .ref a0)]) [0] rfl (jLl_size_0_v H hX M P L 0 0 ⟨Nat.zero_le _, Nat.zero_le _⟩ h))

abbrev esJ23_isElementIndex (bc bs : Nat) : cx_S := (2, RJ23, cx_rI, { frames := 0, cells := bc, slots := bs, locals := 0 }, some .boolean, false)
def jLl_isElementIndex_0 (N : dNt) (bc bs : Nat) (Q : cd_Qt) (a0 : Nat) (M : cx_M) (P : dP) (L : dL) (k n : Nat) (x1 : Int32) : Prop :=
  if x1 < 0 then (
    Q M P L 0 none 0 k n)
  else (
    (a0, (0, 22, 0)) ∈ L ∧ cq_get M (dc a0) 1 fun v1 =>
    if v1 ≤ x1 then (
      Q M P L 0 none 0 k n)
    else (
      Q M P L 1 none 0 k n))
set_option maxRecDepth 100000 in
theorem jLl_isElementIndex_0_v {l : Launch} {g : cx_G} {X : cx_X} {N : dNt} {bc bs : Nat} {Q : cd_Qt} {a0 : Nat} (H : dI g N.2) (hX : X.2.2.2.2.2.2.1.name = "isElementIndex") (M : cx_M) (P : dP) (L : dL) (k n : Nat) (x1 : Int32) (hk : k ≤ bc ∧ n ≤ bs) (h : jLl_isElementIndex_0 N bc bs Q a0 M P L k n x1) : cq_V l (dG g L P) X (esJ23_isElementIndex bc bs) cJ23_isElementIndex 0 [(0, .ref a0), (1, .int x1)] [] M k n (cd_fin g X (esJ23_isElementIndex bc bs) cd_rI Q) := by
  unfold jLl_isElementIndex_0 at h
  refine cq_iload_n 1 dJ23_isElementIndex_0 rfl ?_
  refine cq_if_lt 16 h dJ23_isElementIndex_1 rfl (fun h => ?_) (fun h => ?_)
  · refine cq_iconst 0 dJ23_isElementIndex_16 cx_ic_0 ?_
    exact cd_zret hk h cx_z_0 rfl dJ23_isElementIndex_17
  · refine cq_iload_n 1 dJ23_isElementIndex_4 rfl ?_
    refine cq_aload_n 0 dJ23_isElementIndex_5 rfl ?_
    refine cq_nd H.1.1 (fun hn => cq_getI h.2 (dG_FI H.1.1 hn h.1 dCl_J23 (cx_lt rfl) rfl rfl rfl) q1832 dJ23_isElementIndex_6 (fun v1 h => ?_))
    refine cq_icmp_ge 16 h dJ23_isElementIndex_9 rfl (fun h => ?_) (fun h => ?_)
    · refine cq_iconst 0 dJ23_isElementIndex_16 cx_ic_0 ?_
      exact cd_zret hk h cx_z_0 rfl dJ23_isElementIndex_17
    · refine cq_iconst 1 dJ23_isElementIndex_12 cx_ic_1 ?_
      refine cq_goto 17 dJ23_isElementIndex_13 rfl ?_
      exact cd_zret hk h cx_z_1 rfl dJ23_isElementIndex_17
def jLl_isElementIndex (N : dNt) (bc bs : Nat) (M : cx_M) (P : dP) (L : dL) (a0 : Nat) (x1 : Int32) (Q : cd_Qt) : Prop := jLl_isElementIndex_0 N bc bs Q a0 M P L 0 0 x1
set_option maxRecDepth 100000 in
theorem jLl_isElementIndex_m {l : Launch} {g : cx_G} {N : dNt} {bc bs : Nat} {Q : cd_Qt} (H : dI g N.2) (M : cx_M) (P : dP) (L : dL) (a0 : Nat) (x1 : Int32) (h : jLl_isElementIndex N bc bs M P L a0 x1 Q) : cd_Met l g yJ23_isElementIndex cJ23_isElementIndex (esJ23_isElementIndex bc bs) cd_rI [.ref a0, .int x1] M P L Q :=
  cd_met (by decide +kernel) rfl rfl (lv := [(0, .ref a0), (1, .int x1)]) rfl (cx_le rfl) (fun X hX => cq_sub (lv' := [(0, .ref a0), (1, .int x1)]) [0, 1] rfl (jLl_isElementIndex_0_v H hX M P L 0 0 x1 ⟨Nat.zero_le _, Nat.zero_le _⟩ h))

abbrev esJ23_isPositionIndex (bc bs : Nat) : cx_S := (2, RJ23, cx_rI, { frames := 0, cells := bc, slots := bs, locals := 0 }, some .boolean, false)
def jLl_isPositionIndex_0 (N : dNt) (bc bs : Nat) (Q : cd_Qt) (a0 : Nat) (M : cx_M) (P : dP) (L : dL) (k n : Nat) (x1 : Int32) : Prop :=
  if x1 < 0 then (
    Q M P L 0 none 0 k n)
  else (
    (a0, (0, 22, 0)) ∈ L ∧ cq_get M (dc a0) 1 fun v1 =>
    if v1 < x1 then (
      Q M P L 0 none 0 k n)
    else (
      Q M P L 1 none 0 k n))
set_option maxRecDepth 100000 in
theorem jLl_isPositionIndex_0_v {l : Launch} {g : cx_G} {X : cx_X} {N : dNt} {bc bs : Nat} {Q : cd_Qt} {a0 : Nat} (H : dI g N.2) (hX : X.2.2.2.2.2.2.1.name = "isPositionIndex") (M : cx_M) (P : dP) (L : dL) (k n : Nat) (x1 : Int32) (hk : k ≤ bc ∧ n ≤ bs) (h : jLl_isPositionIndex_0 N bc bs Q a0 M P L k n x1) : cq_V l (dG g L P) X (esJ23_isPositionIndex bc bs) cJ23_isPositionIndex 0 [(0, .ref a0), (1, .int x1)] [] M k n (cd_fin g X (esJ23_isPositionIndex bc bs) cd_rI Q) := by
  unfold jLl_isPositionIndex_0 at h
  refine cq_iload_n 1 dJ23_isPositionIndex_0 rfl ?_
  refine cq_if_lt 16 h dJ23_isPositionIndex_1 rfl (fun h => ?_) (fun h => ?_)
  · refine cq_iconst 0 dJ23_isPositionIndex_16 cx_ic_0 ?_
    exact cd_zret hk h cx_z_0 rfl dJ23_isPositionIndex_17
  · refine cq_iload_n 1 dJ23_isPositionIndex_4 rfl ?_
    refine cq_aload_n 0 dJ23_isPositionIndex_5 rfl ?_
    refine cq_nd H.1.1 (fun hn => cq_getI h.2 (dG_FI H.1.1 hn h.1 dCl_J23 (cx_lt rfl) rfl rfl rfl) q1832 dJ23_isPositionIndex_6 (fun v1 h => ?_))
    refine cq_icmp_gt 16 h dJ23_isPositionIndex_9 rfl (fun h => ?_) (fun h => ?_)
    · refine cq_iconst 0 dJ23_isPositionIndex_16 cx_ic_0 ?_
      exact cd_zret hk h cx_z_0 rfl dJ23_isPositionIndex_17
    · refine cq_iconst 1 dJ23_isPositionIndex_12 cx_ic_1 ?_
      refine cq_goto 17 dJ23_isPositionIndex_13 rfl ?_
      exact cd_zret hk h cx_z_1 rfl dJ23_isPositionIndex_17
def jLl_isPositionIndex (N : dNt) (bc bs : Nat) (M : cx_M) (P : dP) (L : dL) (a0 : Nat) (x1 : Int32) (Q : cd_Qt) : Prop := jLl_isPositionIndex_0 N bc bs Q a0 M P L 0 0 x1
set_option maxRecDepth 100000 in
theorem jLl_isPositionIndex_m {l : Launch} {g : cx_G} {N : dNt} {bc bs : Nat} {Q : cd_Qt} (H : dI g N.2) (M : cx_M) (P : dP) (L : dL) (a0 : Nat) (x1 : Int32) (h : jLl_isPositionIndex N bc bs M P L a0 x1 Q) : cd_Met l g yJ23_isPositionIndex cJ23_isPositionIndex (esJ23_isPositionIndex bc bs) cd_rI [.ref a0, .int x1] M P L Q :=
  cd_met (by decide +kernel) rfl rfl (lv := [(0, .ref a0), (1, .int x1)]) rfl (cx_le rfl) (fun X hX => cq_sub (lv' := [(0, .ref a0), (1, .int x1)]) [0, 1] rfl (jLl_isPositionIndex_0_v H hX M P L 0 0 x1 ⟨Nat.zero_le _, Nat.zero_le _⟩ h))

abbrev esJ23_checkElementIndex (bc bs : Nat) : cx_S := (2, RJ23, cx_rI, { frames := 1, cells := bc, slots := bs, locals := 21 }, none, false)
def jLl_checkElementIndex_0 (N : dNt) (bc bs : Nat) (Q : cd_Qt) (a0 : Nat) (M : cx_M) (P : dP) (L : dL) (k n : Nat) (x1 : Int32) : Prop :=
  (a0, (0, 22, 0)) ∈ L ∧
  jLl_isElementIndex N (bc - k) (bs - n) M P L a0 x1 (fun M1 P2 L3 v4 r5 e9 k6 n7 => e9 = 0 → cd_add k k6 n n7 fun k8 n9 =>
  if v4 = 0 then (
    False)
  else (
    Q M1 P2 L3 0 none 0 k8 n9))
set_option maxRecDepth 100000 in
theorem jLl_checkElementIndex_0_v {l : Launch} {g : cx_G} {X : cx_X} {N : dNt} {bc bs : Nat} {Q : cd_Qt} {a0 : Nat} (H : dI g N.2) (hX : X.2.2.2.2.2.2.1.name = "checkElementIndex") (M : cx_M) (P : dP) (L : dL) (k n : Nat) (x1 : Int32) (hk : k ≤ bc ∧ n ≤ bs) (h : jLl_checkElementIndex_0 N bc bs Q a0 M P L k n x1) : cq_V l (dG g L P) X (esJ23_checkElementIndex bc bs) cJ23_checkElementIndex 0 [(0, .ref a0), (1, .int x1)] [] M k n (cd_fin g X (esJ23_checkElementIndex bc bs) cd_rV Q) := by
  unfold jLl_checkElementIndex_0 at h
  refine cq_aload_n 0 dJ23_checkElementIndex_0 rfl ?_
  refine cq_iload_n 1 dJ23_checkElementIndex_1 rfl ?_
  obtain ⟨hmr, h⟩ := h
  refine cd_cV [.int x1] [] (jLl_isElementIndex_m H (N := N) (bc := bc - k) (bs := bs - n) M P L a0 x1 h) (dG_Rc H.1.1 hmr dCl_J23) dJ23_checkElementIndex_2 gd_J23_115 hgd_J23_115 ⟨cx_le rfl, cx_le rfl⟩ (cd_bud hk) rfl (cx_le rfl) (fun M1 P2 L3 v4 r5 k6 n7 hk2 h => ?_)
  refine cd_addI (h rfl) (cd_bk hk hk2) (fun k8 n9 h hk => ?_)
  refine cq_if_ne 21 h dJ23_checkElementIndex_5 rfl (fun h => ?_) (fun h => ?_)
  · exact cd_vret hk h rfl dJ23_checkElementIndex_21
  · cases h
def jLl_checkElementIndex (N : dNt) (bc bs : Nat) (M : cx_M) (P : dP) (L : dL) (a0 : Nat) (x1 : Int32) (Q : cd_Qt) : Prop := jLl_checkElementIndex_0 N bc bs Q a0 M P L 0 0 x1
set_option maxRecDepth 100000 in
theorem jLl_checkElementIndex_m {l : Launch} {g : cx_G} {N : dNt} {bc bs : Nat} {Q : cd_Qt} (H : dI g N.2) (M : cx_M) (P : dP) (L : dL) (a0 : Nat) (x1 : Int32) (h : jLl_checkElementIndex N bc bs M P L a0 x1 Q) : cd_Met l g yJ23_checkElementIndex cJ23_checkElementIndex (esJ23_checkElementIndex bc bs) cd_rV [.ref a0, .int x1] M P L Q :=
  cd_met (by decide +kernel) rfl rfl (lv := [(0, .ref a0), (1, .int x1)]) rfl (cx_le rfl) (fun X hX => cq_sub (lv' := [(0, .ref a0), (1, .int x1)]) [0, 1] rfl (jLl_checkElementIndex_0_v H hX M P L 0 0 x1 ⟨Nat.zero_le _, Nat.zero_le _⟩ h))

abbrev esJ23_checkPositionIndex (bc bs : Nat) : cx_S := (2, RJ23, cx_rI, { frames := 1, cells := bc, slots := bs, locals := 21 }, none, false)
def jLl_checkPositionIndex_0 (N : dNt) (bc bs : Nat) (Q : cd_Qt) (a0 : Nat) (M : cx_M) (P : dP) (L : dL) (k n : Nat) (x1 : Int32) : Prop :=
  (a0, (0, 22, 0)) ∈ L ∧
  jLl_isPositionIndex N (bc - k) (bs - n) M P L a0 x1 (fun M1 P2 L3 v4 r5 e9 k6 n7 => e9 = 0 → cd_add k k6 n n7 fun k8 n9 =>
  if v4 = 0 then (
    False)
  else (
    Q M1 P2 L3 0 none 0 k8 n9))
set_option maxRecDepth 100000 in
theorem jLl_checkPositionIndex_0_v {l : Launch} {g : cx_G} {X : cx_X} {N : dNt} {bc bs : Nat} {Q : cd_Qt} {a0 : Nat} (H : dI g N.2) (hX : X.2.2.2.2.2.2.1.name = "checkPositionIndex") (M : cx_M) (P : dP) (L : dL) (k n : Nat) (x1 : Int32) (hk : k ≤ bc ∧ n ≤ bs) (h : jLl_checkPositionIndex_0 N bc bs Q a0 M P L k n x1) : cq_V l (dG g L P) X (esJ23_checkPositionIndex bc bs) cJ23_checkPositionIndex 0 [(0, .ref a0), (1, .int x1)] [] M k n (cd_fin g X (esJ23_checkPositionIndex bc bs) cd_rV Q) := by
  unfold jLl_checkPositionIndex_0 at h
  refine cq_aload_n 0 dJ23_checkPositionIndex_0 rfl ?_
  refine cq_iload_n 1 dJ23_checkPositionIndex_1 rfl ?_
  obtain ⟨hmr, h⟩ := h
  refine cd_cV [.int x1] [] (jLl_isPositionIndex_m H (N := N) (bc := bc - k) (bs := bs - n) M P L a0 x1 h) (dG_Rc H.1.1 hmr dCl_J23) dJ23_checkPositionIndex_2 gd_J23_128 hgd_J23_128 ⟨cx_le rfl, cx_le rfl⟩ (cd_bud hk) rfl (cx_le rfl) (fun M1 P2 L3 v4 r5 k6 n7 hk2 h => ?_)
  refine cd_addI (h rfl) (cd_bk hk hk2) (fun k8 n9 h hk => ?_)
  refine cq_if_ne 21 h dJ23_checkPositionIndex_5 rfl (fun h => ?_) (fun h => ?_)
  · exact cd_vret hk h rfl dJ23_checkPositionIndex_21
  · cases h
def jLl_checkPositionIndex (N : dNt) (bc bs : Nat) (M : cx_M) (P : dP) (L : dL) (a0 : Nat) (x1 : Int32) (Q : cd_Qt) : Prop := jLl_checkPositionIndex_0 N bc bs Q a0 M P L 0 0 x1
set_option maxRecDepth 100000 in
theorem jLl_checkPositionIndex_m {l : Launch} {g : cx_G} {N : dNt} {bc bs : Nat} {Q : cd_Qt} (H : dI g N.2) (M : cx_M) (P : dP) (L : dL) (a0 : Nat) (x1 : Int32) (h : jLl_checkPositionIndex N bc bs M P L a0 x1 Q) : cd_Met l g yJ23_checkPositionIndex cJ23_checkPositionIndex (esJ23_checkPositionIndex bc bs) cd_rV [.ref a0, .int x1] M P L Q :=
  cd_met (by decide +kernel) rfl rfl (lv := [(0, .ref a0), (1, .int x1)]) rfl (cx_le rfl) (fun X hX => cq_sub (lv' := [(0, .ref a0), (1, .int x1)]) [0, 1] rfl (jLl_checkPositionIndex_0_v H hX M P L 0 0 x1 ⟨Nat.zero_le _, Nat.zero_le _⟩ h))

abbrev esJ23_node (bc bs : Nat) : cx_S := (4, RJ23, cx_rI, { frames := 0, cells := bc, slots := bs, locals := 0 }, some (.object "java/util/LinkedList$Node"), false)
def jLl_node_17b (N : dNt) (bc bs : Nat) (Q : cd_Qt) (a0 : Nat) (r_17 : cx_M → dP → dL → Nat → Nat → Int32 → Option Nat → Int32 → Prop) (M : cx_M) (P : dP) (L : dL) (k n : Nat) (x1 : Int32) (x2 : Option Nat) (x3 : Int32) : Prop :=
  if x1 ≤ x3 then (
    Q M P L 0 x2 0 k n)
  else (
    cd_nn x2 fun a1 =>
    (a1, (0, 24, 0)) ∈ L ∧ cd_let (P a1 1) fun r2 =>
    cq_let (x3 + 1) fun v3 =>
    r_17 M P L k n x1 r2 v3)
set_option maxRecDepth 100000 in
theorem jLl_node_17b_v {l : Launch} {g : cx_G} {X : cx_X} {N : dNt} {bc bs : Nat} {Q : cd_Qt} {a0 : Nat} {r_17 : cx_M → dP → dL → Nat → Nat → Int32 → Option Nat → Int32 → Prop} (H : dI g N.2) (hX : X.2.2.2.2.2.2.1.name = "node") (hr_17 : ∀ (M : cx_M) (P : dP) (L : dL) (k n : Nat) (x1 : Int32) (x2 : Option Nat) (x3 : Int32), (k ≤ bc ∧ n ≤ bs) → r_17 M P L k n x1 x2 x3 → cq_V l (dG g L P) X (esJ23_node bc bs) cJ23_node 17 [(1, .int x1), (2, va_rf x2), (3, .int x3)] [] M k n (cd_fin g X (esJ23_node bc bs) cd_rA Q)) (M : cx_M) (P : dP) (L : dL) (k n : Nat) (x1 : Int32) (x2 : Option Nat) (x3 : Int32) (hk : k ≤ bc ∧ n ≤ bs) (h : jLl_node_17b N bc bs Q a0 r_17 M P L k n x1 x2 x3) : cq_V l (dG g L P) X (esJ23_node bc bs) cJ23_node 17 [(1, .int x1), (2, va_rf x2), (3, .int x3)] [] M k n (cd_fin g X (esJ23_node bc bs) cd_rA Q) := by
  unfold jLl_node_17b at h
  refine cq_iload_n 2 dJ23_node_17 rfl ?_
  refine cq_iload_n 0 dJ23_node_18 rfl ?_
  refine cq_icmp_ge 33 h dJ23_node_19 rfl (fun h => ?_) (fun h => ?_)
  · refine cd_aload_n (v := x2) 1 dJ23_node_33 rfl ?_
    exact cd_aret (v := x2) hk h rfl (Or.inl ⟨_, rfl⟩) dJ23_node_34
  · refine cd_aload_n (v := x2) 1 dJ23_node_22 rfl ?_
    obtain ⟨a1, e9, h⟩ := cd_nn_some h
    subst e9
    refine cq_getR (dG_FR (k := 1) H.1.1 h.1 dCl_J25 (cx_lt rfl) rfl rfl) q1879 dJ23_node_23 ?_
    refine cd_letI h.2 (fun r2 h => ?_)
    refine cd_astore_n (v := r2) (fun v => [(2, v), (1, .int x1), (3, .int x3)]) dJ23_node_26 (cx_lt rfl) (fun v => rfl) ?_
    refine cq_iinc 2 1 (fun v3 => [(3, .int v3), (2, va_rf r2), (1, .int x1)]) h dJ23_node_27 rfl cx_ic_1 (cx_lt rfl) (fun _ => (by cases r2 <;> rfl)) (fun v3 h => ?_)
    refine cq_goto 17 dJ23_node_30 rfl ?_
    refine cq_sub (lv' := [(1, .int x1), (2, va_rf r2), (3, .int v3)]) [2, 1, 0] rfl ?_
    exact hr_17 M P L k n x1 r2 v3 hk h
def jLl_node_17 (N : dNt) (bc bs : Nat) (Q : cd_Qt) (a0 : Nat) : Nat → cx_M → dP → dL → Nat → Nat → Int32 → Option Nat → Int32 → Prop :=
  cx_fix (fun _ _ _ _ _ _ _ _ => False) (fun r_17 => jLl_node_17b N bc bs Q a0 r_17)
theorem jLl_node_17_v {l : Launch} {g : cx_G} {X : cx_X} {N : dNt} {bc bs : Nat} {Q : cd_Qt} {a0 : Nat} (H : dI g N.2) (hX : X.2.2.2.2.2.2.1.name = "node") : ∀ (f : Nat) (M : cx_M) (P : dP) (L : dL) (k n : Nat) (x1 : Int32) (x2 : Option Nat) (x3 : Int32), (k ≤ bc ∧ n ≤ bs) → jLl_node_17 N bc bs Q a0 f M P L k n x1 x2 x3 → cq_V l (dG g L P) X (esJ23_node bc bs) cJ23_node 17 [(1, .int x1), (2, va_rf x2), (3, .int x3)] [] M k n (cd_fin g X (esJ23_node bc bs) cd_rA Q) :=
  cx_fixI (fun (r : cx_M → dP → dL → Nat → Nat → Int32 → Option Nat → Int32 → Prop) => ∀ (M : cx_M) (P : dP) (L : dL) (k n : Nat) (x1 : Int32) (x2 : Option Nat) (x3 : Int32), (k ≤ bc ∧ n ≤ bs) → r M P L k n x1 x2 x3 → cq_V l (dG g L P) X (esJ23_node bc bs) cJ23_node 17 [(1, .int x1), (2, va_rf x2), (3, .int x3)] [] M k n (cd_fin g X (esJ23_node bc bs) cd_rA Q)) (fun _ _ _ _ _ _ _ _ _ h => by cases h) (fun r hr M P L k n x1 x2 x3 hk h => jLl_node_17b_v H hX hr M P L k n x1 x2 x3 hk h)
def jLl_node_47b (N : dNt) (bc bs : Nat) (Q : cd_Qt) (a0 : Nat) (r_47 : cx_M → dP → dL → Nat → Nat → Int32 → Option Nat → Int32 → Prop) (M : cx_M) (P : dP) (L : dL) (k n : Nat) (x1 : Int32) (x2 : Option Nat) (x3 : Int32) : Prop :=
  if x3 ≤ x1 then (
    Q M P L 0 x2 0 k n)
  else (
    cd_nn x2 fun a1 =>
    (a1, (0, 24, 0)) ∈ L ∧ cd_let (P a1 2) fun r2 =>
    cq_let (x3 - 1) fun v3 =>
    r_47 M P L k n x1 r2 v3)
set_option maxRecDepth 100000 in
theorem jLl_node_47b_v {l : Launch} {g : cx_G} {X : cx_X} {N : dNt} {bc bs : Nat} {Q : cd_Qt} {a0 : Nat} {r_47 : cx_M → dP → dL → Nat → Nat → Int32 → Option Nat → Int32 → Prop} (H : dI g N.2) (hX : X.2.2.2.2.2.2.1.name = "node") (hr_47 : ∀ (M : cx_M) (P : dP) (L : dL) (k n : Nat) (x1 : Int32) (x2 : Option Nat) (x3 : Int32), (k ≤ bc ∧ n ≤ bs) → r_47 M P L k n x1 x2 x3 → cq_V l (dG g L P) X (esJ23_node bc bs) cJ23_node 47 [(1, .int x1), (2, va_rf x2), (3, .int x3)] [] M k n (cd_fin g X (esJ23_node bc bs) cd_rA Q)) (M : cx_M) (P : dP) (L : dL) (k n : Nat) (x1 : Int32) (x2 : Option Nat) (x3 : Int32) (hk : k ≤ bc ∧ n ≤ bs) (h : jLl_node_47b N bc bs Q a0 r_47 M P L k n x1 x2 x3) : cq_V l (dG g L P) X (esJ23_node bc bs) cJ23_node 47 [(1, .int x1), (2, va_rf x2), (3, .int x3)] [] M k n (cd_fin g X (esJ23_node bc bs) cd_rA Q) := by
  unfold jLl_node_47b at h
  refine cq_iload_n 2 dJ23_node_47 rfl ?_
  refine cq_iload_n 0 dJ23_node_48 rfl ?_
  refine cq_icmp_le 63 h dJ23_node_49 rfl (fun h => ?_) (fun h => ?_)
  · refine cd_aload_n (v := x2) 1 dJ23_node_63 rfl ?_
    exact cd_aret (v := x2) hk h rfl (Or.inl ⟨_, rfl⟩) dJ23_node_64
  · refine cd_aload_n (v := x2) 1 dJ23_node_52 rfl ?_
    obtain ⟨a1, e9, h⟩ := cd_nn_some h
    subst e9
    refine cq_getR (dG_FR (k := 2) H.1.1 h.1 dCl_J25 (cx_lt rfl) rfl rfl) q1881 dJ23_node_53 ?_
    refine cd_letI h.2 (fun r2 h => ?_)
    refine cd_astore_n (v := r2) (fun v => [(2, v), (1, .int x1), (3, .int x3)]) dJ23_node_56 (cx_lt rfl) (fun v => rfl) ?_
    refine cq_iincM 2 1 (fun v3 => [(3, .int v3), (2, va_rf r2), (1, .int x1)]) h dJ23_node_57 rfl cx_ic_m1 (cx_lt rfl) (fun _ => (by cases r2 <;> rfl)) (fun v3 h => ?_)
    refine cq_goto 47 dJ23_node_60 rfl ?_
    refine cq_sub (lv' := [(1, .int x1), (2, va_rf r2), (3, .int v3)]) [2, 1, 0] rfl ?_
    exact hr_47 M P L k n x1 r2 v3 hk h
def jLl_node_47 (N : dNt) (bc bs : Nat) (Q : cd_Qt) (a0 : Nat) : Nat → cx_M → dP → dL → Nat → Nat → Int32 → Option Nat → Int32 → Prop :=
  cx_fix (fun _ _ _ _ _ _ _ _ => False) (fun r_47 => jLl_node_47b N bc bs Q a0 r_47)
theorem jLl_node_47_v {l : Launch} {g : cx_G} {X : cx_X} {N : dNt} {bc bs : Nat} {Q : cd_Qt} {a0 : Nat} (H : dI g N.2) (hX : X.2.2.2.2.2.2.1.name = "node") : ∀ (f : Nat) (M : cx_M) (P : dP) (L : dL) (k n : Nat) (x1 : Int32) (x2 : Option Nat) (x3 : Int32), (k ≤ bc ∧ n ≤ bs) → jLl_node_47 N bc bs Q a0 f M P L k n x1 x2 x3 → cq_V l (dG g L P) X (esJ23_node bc bs) cJ23_node 47 [(1, .int x1), (2, va_rf x2), (3, .int x3)] [] M k n (cd_fin g X (esJ23_node bc bs) cd_rA Q) :=
  cx_fixI (fun (r : cx_M → dP → dL → Nat → Nat → Int32 → Option Nat → Int32 → Prop) => ∀ (M : cx_M) (P : dP) (L : dL) (k n : Nat) (x1 : Int32) (x2 : Option Nat) (x3 : Int32), (k ≤ bc ∧ n ≤ bs) → r M P L k n x1 x2 x3 → cq_V l (dG g L P) X (esJ23_node bc bs) cJ23_node 47 [(1, .int x1), (2, va_rf x2), (3, .int x3)] [] M k n (cd_fin g X (esJ23_node bc bs) cd_rA Q)) (fun _ _ _ _ _ _ _ _ _ h => by cases h) (fun r hr M P L k n x1 x2 x3 hk h => jLl_node_47b_v H hX hr M P L k n x1 x2 x3 hk h)
def jLl_node_0 (N : dNt) (bc bs : Nat) (Q : cd_Qt) (a0 : Nat) (M : cx_M) (P : dP) (L : dL) (k n : Nat) (x1 : Int32) : Prop :=
  (a0, (0, 22, 0)) ∈ L ∧ cq_get M (dc a0) 1 fun v1 =>
  if (v1 >>> (1 &&& 31)) ≤ x1 then (
    (a0, (0, 22, 0)) ∈ L ∧ cd_let (P a0 3) fun r2 =>
    (a0, (0, 22, 0)) ∈ L ∧ cq_get M (dc a0) 1 fun v3 =>
    cq_let (v3 - 1) fun v4 =>
    jLl_node_47 N bc bs Q a0 N.1 M P L k n x1 r2 v4)
  else (
    (a0, (0, 22, 0)) ∈ L ∧ cd_let (P a0 2) fun r5 =>
    jLl_node_17 N bc bs Q a0 N.1 M P L k n x1 r5 0)
set_option maxRecDepth 100000 in
theorem jLl_node_0_v {l : Launch} {g : cx_G} {X : cx_X} {N : dNt} {bc bs : Nat} {Q : cd_Qt} {a0 : Nat} (H : dI g N.2) (hX : X.2.2.2.2.2.2.1.name = "node") (M : cx_M) (P : dP) (L : dL) (k n : Nat) (x1 : Int32) (hk : k ≤ bc ∧ n ≤ bs) (h : jLl_node_0 N bc bs Q a0 M P L k n x1) : cq_V l (dG g L P) X (esJ23_node bc bs) cJ23_node 0 [(0, .ref a0), (1, .int x1)] [] M k n (cd_fin g X (esJ23_node bc bs) cd_rA Q) := by
  unfold jLl_node_0 at h
  refine cq_iload_n 1 dJ23_node_0 rfl ?_
  refine cq_aload_n 0 dJ23_node_1 rfl ?_
  refine cq_nd H.1.1 (fun hn => cq_getI h.2 (dG_FI H.1.1 hn h.1 dCl_J23 (cx_lt rfl) rfl rfl rfl) q1832 dJ23_node_2 (fun v1 h => ?_))
  refine cq_iconst 1 dJ23_node_5 cx_ic_1 ?_
  refine cq_ishr dJ23_node_6 ?_
  refine cq_icmp_ge 35 h dJ23_node_7 rfl (fun h => ?_) (fun h => ?_)
  · refine cq_aload_n 0 dJ23_node_35 rfl ?_
    refine cq_getR (dG_FR (k := 3) H.1.1 h.1 dCl_J23 (cx_lt rfl) rfl rfl) q1835 dJ23_node_36 ?_
    refine cd_letI h.2 (fun r2 h => ?_)
    refine cd_astore_n (v := r2) (fun v => [(2, v), (0, .ref a0), (1, .int x1)]) dJ23_node_39 (cx_lt rfl) (fun v => rfl) ?_
    refine cq_aload_n 1 dJ23_node_40 rfl ?_
    refine cq_nd H.1.1 (fun hn => cq_getI h.2 (dG_FI H.1.1 hn h.1 dCl_J23 (cx_lt rfl) rfl rfl rfl) q1832 dJ23_node_41 (fun v3 h => ?_))
    refine cq_iconst 1 dJ23_node_44 cx_ic_1 ?_
    refine cq_isub dJ23_node_45 ?_
    refine cq_letI h (fun v4 h => ?_)
    refine cq_istore_n [(3, .int v4), (2, va_rf r2), (0, .ref a0), (1, .int x1)] dJ23_node_46 (cx_lt rfl) (by cases r2 <;> rfl) ?_
    refine cq_sub (lv' := [(1, .int x1), (2, va_rf r2), (3, .int v4)]) [3, 1, 0] rfl ?_
    exact jLl_node_47_v H hX N.1 M P L k n x1 r2 v4 hk h
  · refine cq_aload_n 0 dJ23_node_10 rfl ?_
    refine cq_getR (dG_FR (k := 2) H.1.1 h.1 dCl_J23 (cx_lt rfl) rfl rfl) q1834 dJ23_node_11 ?_
    refine cd_letI h.2 (fun r5 h => ?_)
    refine cd_astore_n (v := r5) (fun v => [(2, v), (0, .ref a0), (1, .int x1)]) dJ23_node_14 (cx_lt rfl) (fun v => rfl) ?_
    refine cq_iconst 0 dJ23_node_15 cx_ic_0 ?_
    refine cq_istore_n [(3, .int 0), (2, va_rf r5), (0, .ref a0), (1, .int x1)] dJ23_node_16 (cx_lt rfl) (by cases r5 <;> rfl) ?_
    refine cq_sub (lv' := [(1, .int x1), (2, va_rf r5), (3, .int 0)]) [3, 1, 0] rfl ?_
    exact jLl_node_17_v H hX N.1 M P L k n x1 r5 0 hk h
def jLl_node (N : dNt) (bc bs : Nat) (M : cx_M) (P : dP) (L : dL) (a0 : Nat) (x1 : Int32) (Q : cd_Qt) : Prop := jLl_node_0 N bc bs Q a0 M P L 0 0 x1
set_option maxRecDepth 100000 in
theorem jLl_node_m {l : Launch} {g : cx_G} {N : dNt} {bc bs : Nat} {Q : cd_Qt} (H : dI g N.2) (M : cx_M) (P : dP) (L : dL) (a0 : Nat) (x1 : Int32) (h : jLl_node N bc bs M P L a0 x1 Q) : cd_Met l g yJ23_node cJ23_node (esJ23_node bc bs) cd_rA [.ref a0, .int x1] M P L Q :=
  cd_met (by decide +kernel) rfl rfl (lv := [(0, .ref a0), (1, .int x1)]) rfl (cx_le rfl) (fun X hX => cq_sub (lv' := [(0, .ref a0), (1, .int x1)]) [0, 1] rfl (jLl_node_0_v H hX M P L 0 0 x1 ⟨Nat.zero_le _, Nat.zero_le _⟩ h))

abbrev esJ23_unlink (bc bs : Nat) : cx_S := (5, RJ23, cx_rI, { frames := 0, cells := bc, slots := bs, locals := 0 }, some (.object "java/lang/Object"), false)
def jLl_unlink_64 (N : dNt) (bc bs : Nat) (Q : cd_Qt) (a0 : Nat) (M : cx_M) (P : dP) (L : dL) (k n : Nat) (x1 : Nat) (x2 : Option Nat) : Prop :=
  (x1, (0, 24, 0)) ∈ L ∧ cd_put P x1 0 none fun P1 =>
  (a0, (0, 22, 0)) ∈ L ∧ cq_get M (dc a0) 1 fun v2 =>
  (a0, (0, 22, 0)) ∈ L ∧ cq_put M (dc a0) 1 (v2 - 1) fun M3 =>
  (a0, (0, 22, 0)) ∈ L ∧ cq_get M3 (dc a0) 0 fun v4 =>
  (a0, (0, 22, 0)) ∈ L ∧ cq_put M3 (dc a0) 0 (v4 + 1) fun M5 =>
  Q M5 P1 L 0 x2 0 k n
set_option maxRecDepth 100000 in
theorem jLl_unlink_64_v {l : Launch} {g : cx_G} {X : cx_X} {N : dNt} {bc bs : Nat} {Q : cd_Qt} {a0 : Nat} (H : dI g N.2) (hX : X.2.2.2.2.2.2.1.name = "unlink") (M : cx_M) (P : dP) (L : dL) (k n : Nat) (x1 : Nat) (x2 : Option Nat) (hk : k ≤ bc ∧ n ≤ bs) (h : jLl_unlink_64 N bc bs Q a0 M P L k n x1 x2) : cq_V l (dG g L P) X (esJ23_unlink bc bs) cJ23_unlink 64 [(0, .ref a0), (1, .ref x1), (2, va_rf x2)] [] M k n (cd_fin g X (esJ23_unlink bc bs) cd_rA Q) := by
  unfold jLl_unlink_64 at h
  refine cq_aload_n 1 dJ23_unlink_64 rfl ?_
  refine cq_null dJ23_unlink_65 ?_
  refine cq_nd H.1.1 (fun hn => cd_putR (v := none) H.1.1 hn h.1 h.2 dCl_J25 (cx_lt rfl) rfl rfl rfl cd_nfO rfl q1876 dJ23_unlink_66 (fun P1 h => ?_))
  refine cq_aload_n 0 dJ23_unlink_69 rfl ?_
  refine cq_dup dJ23_unlink_70 rfl ?_
  refine cq_nd H.1.1 (fun hn => cq_getI h.2 (dG_FI H.1.1 hn h.1 dCl_J23 (cx_lt rfl) rfl rfl rfl) q1832 dJ23_unlink_71 (fun v2 h => ?_))
  refine cq_iconst 1 dJ23_unlink_74 cx_ic_1 ?_
  refine cq_isub dJ23_unlink_75 ?_
  refine cq_nd H.1.1 (fun hn => cq_putI h.2 (dG_FI H.1.1 hn h.1 dCl_J23 (cx_lt rfl) rfl rfl rfl) rfl rfl rfl q1832 dJ23_unlink_76 (fun M3 h => ?_))
  refine cq_aload_n 0 dJ23_unlink_79 rfl ?_
  refine cq_dup dJ23_unlink_80 rfl ?_
  refine cq_nd H.1.1 (fun hn => cd_getIs h.2 (dG_FI H.1.1 hn h.1 dCl_J23 (cx_lt rfl) rfl rfl rfl) q522 q526 dJ23_unlink_81 (fun v4 h => ?_))
  refine cq_iconst 1 dJ23_unlink_84 cx_ic_1 ?_
  refine cq_iadd dJ23_unlink_85 ?_
  refine cq_nd H.1.1 (fun hn => cd_putIs h.2 (dG_FI H.1.1 hn h.1 dCl_J23 (cx_lt rfl) rfl rfl rfl) q522 rfl rfl rfl q526 dJ23_unlink_86 (fun M5 h => ?_))
  refine cd_aload_n (v := x2) 2 dJ23_unlink_89 rfl ?_
  exact cd_aret (v := x2) hk h rfl (Or.inl ⟨_, rfl⟩) dJ23_unlink_90
def jLl_unlink_40 (N : dNt) (bc bs : Nat) (Q : cd_Qt) (a0 : Nat) (M : cx_M) (P : dP) (L : dL) (k n : Nat) (x1 : Nat) (x2 : Option Nat) (x3 : Option Nat) (x4 : Option Nat) : Prop :=
  cd_if x3 (
    (a0, (0, 22, 0)) ∈ L ∧ cd_put P a0 3 x4 fun P4 =>
    jLl_unlink_64 N bc bs Q a0 M P4 L k n x1 x2)
  (fun a1 =>
    (a1, (0, 24, 0)) ∈ L ∧ cd_put P a1 2 x4 fun P2 =>
    (x1, (0, 24, 0)) ∈ L ∧ cd_put P2 x1 1 none fun P3 =>
    jLl_unlink_64 N bc bs Q a0 M P3 L k n x1 x2)
set_option maxRecDepth 100000 in
theorem jLl_unlink_40_v {l : Launch} {g : cx_G} {X : cx_X} {N : dNt} {bc bs : Nat} {Q : cd_Qt} {a0 : Nat} (H : dI g N.2) (hX : X.2.2.2.2.2.2.1.name = "unlink") (M : cx_M) (P : dP) (L : dL) (k n : Nat) (x1 : Nat) (x2 : Option Nat) (x3 : Option Nat) (x4 : Option Nat) (hk : k ≤ bc ∧ n ≤ bs) (h : jLl_unlink_40 N bc bs Q a0 M P L k n x1 x2 x3 x4) : cq_V l (dG g L P) X (esJ23_unlink bc bs) cJ23_unlink 40 [(0, .ref a0), (1, .ref x1), (2, va_rf x2), (3, va_rf x3), (4, va_rf x4)] [] M k n (cd_fin g X (esJ23_unlink bc bs) cd_rA Q) := by
  unfold jLl_unlink_40 at h
  refine cd_aload_n (v := x3) 3 dJ23_unlink_40 rfl ?_
  refine cd_ifnonnullT 53 h dJ23_unlink_41 rfl (fun a1 e9 h => ?_) (fun e9 h => ?_)
  · subst e9
    refine cq_aload_n 3 dJ23_unlink_53 rfl ?_
    refine cd_aload (v := x4) 4 dJ23_unlink_54 rfl ?_
    refine cq_nd H.1.1 (fun hn => cd_putR (v := x4) H.1.1 hn h.1 h.2 dCl_J25 (cx_lt rfl) rfl rfl rfl cd_nfO rfl q1881 dJ23_unlink_56 (fun P2 h => ?_))
    refine cq_aload_n 1 dJ23_unlink_59 rfl ?_
    refine cq_null dJ23_unlink_60 ?_
    refine cq_nd H.1.1 (fun hn => cd_putR (v := none) H.1.1 hn h.1 h.2 dCl_J25 (cx_lt rfl) rfl rfl rfl cd_nfO rfl q1879 dJ23_unlink_61 (fun P3 h => ?_))
    refine cq_sub (lv' := [(0, .ref a0), (1, .ref x1), (2, va_rf x2)]) [0, 1, 2] rfl ?_
    exact jLl_unlink_64_v H hX M P3 L k n x1 x2 hk h
  · subst e9
    refine cq_aload_n 0 dJ23_unlink_44 rfl ?_
    refine cd_aload (v := x4) 4 dJ23_unlink_45 rfl ?_
    refine cq_nd H.1.1 (fun hn => cd_putR (v := x4) H.1.1 hn h.1 h.2 dCl_J23 (cx_lt rfl) rfl rfl rfl cd_nfO rfl q1835 dJ23_unlink_47 (fun P4 h => ?_))
    refine cq_goto 64 dJ23_unlink_50 rfl ?_
    refine cq_sub (lv' := [(0, .ref a0), (1, .ref x1), (2, va_rf x2)]) [0, 1, 2] rfl ?_
    exact jLl_unlink_64_v H hX M P4 L k n x1 x2 hk h
def jLl_unlink_0 (N : dNt) (bc bs : Nat) (Q : cd_Qt) (a0 : Nat) (M : cx_M) (P : dP) (L : dL) (k n : Nat) (x1 : Option Nat) : Prop :=
  cd_nn x1 fun a1 =>
  (a1, (0, 24, 0)) ∈ L ∧ cd_let (P a1 0) fun r2 =>
  (a1, (0, 24, 0)) ∈ L ∧ cd_let (P a1 1) fun r3 =>
  (a1, (0, 24, 0)) ∈ L ∧ cd_let (P a1 2) fun r4 =>
  cd_if r4 (
    (a0, (0, 22, 0)) ∈ L ∧ cd_put P a0 2 r3 fun P8 =>
    jLl_unlink_40 N bc bs Q a0 M P8 L k n a1 r2 r3 none)
  (fun a5 =>
    (a5, (0, 24, 0)) ∈ L ∧ cd_put P a5 1 r3 fun P6 =>
    (a1, (0, 24, 0)) ∈ L ∧ cd_put P6 a1 2 none fun P7 =>
    jLl_unlink_40 N bc bs Q a0 M P7 L k n a1 r2 r3 ((some a5)))
set_option maxRecDepth 100000 in
theorem jLl_unlink_0_v {l : Launch} {g : cx_G} {X : cx_X} {N : dNt} {bc bs : Nat} {Q : cd_Qt} {a0 : Nat} (H : dI g N.2) (hX : X.2.2.2.2.2.2.1.name = "unlink") (M : cx_M) (P : dP) (L : dL) (k n : Nat) (x1 : Option Nat) (hk : k ≤ bc ∧ n ≤ bs) (h : jLl_unlink_0 N bc bs Q a0 M P L k n x1) : cq_V l (dG g L P) X (esJ23_unlink bc bs) cJ23_unlink 0 [(0, .ref a0), (1, va_rf x1)] [] M k n (cd_fin g X (esJ23_unlink bc bs) cd_rA Q) := by
  unfold jLl_unlink_0 at h
  refine cd_aload_n (v := x1) 1 dJ23_unlink_0 rfl ?_
  obtain ⟨a1, e9, h⟩ := cd_nn_some h
  subst e9
  refine cq_getR (dG_FR (k := 0) H.1.1 h.1 dCl_J25 (cx_lt rfl) rfl rfl) q1876 dJ23_unlink_1 ?_
  refine cd_letI h.2 (fun r2 h => ?_)
  refine cd_astore_n (v := r2) (fun v => [(2, v), (0, .ref a0), (1, .ref a1)]) dJ23_unlink_4 (cx_lt rfl) (fun v => rfl) ?_
  refine cq_aload_n 2 dJ23_unlink_5 rfl ?_
  refine cq_getR (dG_FR (k := 1) H.1.1 h.1 dCl_J25 (cx_lt rfl) rfl rfl) q1879 dJ23_unlink_6 ?_
  refine cd_letI h.2 (fun r3 h => ?_)
  refine cd_astore_n (v := r3) (fun v => [(3, v), (2, va_rf r2), (0, .ref a0), (1, .ref a1)]) dJ23_unlink_9 (cx_lt rfl) (fun v => (by cases r2 <;> rfl)) ?_
  refine cq_aload_n 3 dJ23_unlink_10 rfl ?_
  refine cq_getR (dG_FR (k := 2) H.1.1 h.1 dCl_J25 (cx_lt rfl) rfl rfl) q1881 dJ23_unlink_11 ?_
  refine cd_letI h.2 (fun r4 h => ?_)
  refine cd_astore (v := r4) (fun v => [(4, v), (3, va_rf r3), (2, va_rf r2), (0, .ref a0), (1, .ref a1)]) dJ23_unlink_14 (cx_lt rfl) (fun v => (by cases r3 <;> rfl)) ?_
  refine cd_aload (v := r4) 0 dJ23_unlink_16 rfl ?_
  refine cd_ifnonnullT 29 h dJ23_unlink_18 rfl (fun a5 e9 h => ?_) (fun e9 h => ?_)
  · subst e9
    refine cq_aload 0 dJ23_unlink_29 rfl ?_
    refine cd_aload_n (v := r3) 1 dJ23_unlink_31 rfl ?_
    refine cq_nd H.1.1 (fun hn => cd_putR (v := r3) H.1.1 hn h.1 h.2 dCl_J25 (cx_lt rfl) rfl rfl rfl cd_nfO rfl q1879 dJ23_unlink_32 (fun P6 h => ?_))
    refine cq_aload_n 4 dJ23_unlink_35 rfl ?_
    refine cq_null dJ23_unlink_36 ?_
    refine cq_nd H.1.1 (fun hn => cd_putR (v := none) H.1.1 hn h.1 h.2 dCl_J25 (cx_lt rfl) rfl rfl rfl cd_nfO rfl q1881 dJ23_unlink_37 (fun P7 h => ?_))
    refine cq_sub (lv' := [(0, .ref a0), (1, .ref a1), (2, va_rf r2), (3, va_rf r3), (4, va_rf (some a5))]) [3, 4, 2, 1, 0] rfl ?_
    exact jLl_unlink_40_v H hX M P7 L k n a1 r2 r3 ((some a5)) hk h
  · subst e9
    refine cq_aload_n 3 dJ23_unlink_21 rfl ?_
    refine cd_aload_n (v := r3) 1 dJ23_unlink_22 rfl ?_
    refine cq_nd H.1.1 (fun hn => cd_putR (v := r3) H.1.1 hn h.1 h.2 dCl_J23 (cx_lt rfl) rfl rfl rfl cd_nfO rfl q1834 dJ23_unlink_23 (fun P8 h => ?_))
    refine cq_goto 40 dJ23_unlink_26 rfl ?_
    refine cq_sub (lv' := [(0, .ref a0), (1, .ref a1), (2, va_rf r2), (3, va_rf r3), (4, va_rf none)]) [3, 4, 2, 1, 0] rfl ?_
    exact jLl_unlink_40_v H hX M P8 L k n a1 r2 r3 none hk h
def jLl_unlink (N : dNt) (bc bs : Nat) (M : cx_M) (P : dP) (L : dL) (a0 : Nat) (x1 : Option Nat) (Q : cd_Qt) : Prop := jLl_unlink_0 N bc bs Q a0 M P L 0 0 x1
set_option maxRecDepth 100000 in
theorem jLl_unlink_m {l : Launch} {g : cx_G} {N : dNt} {bc bs : Nat} {Q : cd_Qt} (H : dI g N.2) (M : cx_M) (P : dP) (L : dL) (a0 : Nat) (x1 : Option Nat) (h : jLl_unlink N bc bs M P L a0 x1 Q) : cd_Met l g yJ23_unlink cJ23_unlink (esJ23_unlink bc bs) cd_rA [.ref a0, va_rf x1] M P L Q :=
  cd_met (by decide +kernel) rfl rfl (lv := [(0, .ref a0), (1, va_rf x1)]) (by cases x1 <;> rfl) (by cases x1 <;> exact cx_le rfl) (fun X hX => cq_sub (lv' := [(0, .ref a0), (1, va_rf x1)]) [0, 1] rfl (jLl_unlink_0_v H hX M P L 0 0 x1 ⟨Nat.zero_le _, Nat.zero_le _⟩ h))

abbrev esJ23_get (bc bs : Nat) : cx_S := (2, RJ23, cx_rI, { frames := 2, cells := bc, slots := bs, locals := 42 }, some (.object "java/lang/Object"), false)
def jLl_get_0 (N : dNt) (bc bs : Nat) (Q : cd_Qt) (a0 : Nat) (M : cx_M) (P : dP) (L : dL) (k n : Nat) (x1 : Int32) : Prop :=
  (a0, (0, 22, 0)) ∈ L ∧
  jLl_checkElementIndex N (bc - k) (bs - n) M P L a0 x1 (fun M1 P2 L3 v4 r5 e9 k6 n7 => e9 = 0 → cd_add k k6 n n7 fun k8 n9 =>
  (a0, (0, 22, 0)) ∈ L3 ∧
  jLl_node N (bc - k8) (bs - n9) M1 P2 L3 a0 x1 (fun M10 P11 L12 v13 r14 e9 k15 n16 => e9 = 0 → cd_add k8 k15 n9 n16 fun k17 n18 =>
  cd_nn r14 fun a19 =>
  (a19, (0, 24, 0)) ∈ L12 ∧ cd_let (P11 a19 0) fun r20 =>
  Q M10 P11 L12 0 r20 0 k17 n18))
set_option maxRecDepth 100000 in
theorem jLl_get_0_v {l : Launch} {g : cx_G} {X : cx_X} {N : dNt} {bc bs : Nat} {Q : cd_Qt} {a0 : Nat} (H : dI g N.2) (hX : X.2.2.2.2.2.2.1.name = "get") (M : cx_M) (P : dP) (L : dL) (k n : Nat) (x1 : Int32) (hk : k ≤ bc ∧ n ≤ bs) (h : jLl_get_0 N bc bs Q a0 M P L k n x1) : cq_V l (dG g L P) X (esJ23_get bc bs) cJ23_get 0 [(0, .ref a0), (1, .int x1)] [] M k n (cd_fin g X (esJ23_get bc bs) cd_rA Q) := by
  unfold jLl_get_0 at h
  refine cq_aload_n 0 dJ23_get_0 rfl ?_
  refine cq_iload_n 1 dJ23_get_1 rfl ?_
  obtain ⟨hmr, h⟩ := h
  refine cd_cV [.int x1] [] (jLl_checkElementIndex_m H (N := N) (bc := bc - k) (bs := bs - n) M P L a0 x1 h) (dG_Rc H.1.1 hmr dCl_J23) dJ23_get_2 gd_J23_90 hgd_J23_90 ⟨cx_le rfl, cx_le rfl⟩ (cd_bud hk) rfl (cx_le rfl) (fun M1 P2 L3 v4 r5 k6 n7 hk2 h => ?_)
  refine cd_addI (h rfl) (cd_bk hk hk2) (fun k8 n9 h hk => ?_)
  refine cq_aload_n 0 dJ23_get_5 rfl ?_
  refine cq_iload_n 1 dJ23_get_6 rfl ?_
  obtain ⟨hmr, h⟩ := h
  refine cd_cV [.int x1] [] (jLl_node_m H (N := N) (bc := bc - k8) (bs := bs - n9) M1 P2 L3 a0 x1 h) (dG_Rc H.1.1 hmr dCl_J23) dJ23_get_7 gd_J23_86 hgd_J23_86 ⟨cx_le rfl, cx_le rfl⟩ (cd_bud hk) rfl (cx_le rfl) (fun M10 P11 L12 v13 r14 k15 n16 hk2 h => ?_)
  refine cd_addI (h rfl) (cd_bk hk hk2) (fun k17 n18 h hk => ?_)
  obtain ⟨a19, e9, h⟩ := cd_nn_some h
  subst e9
  refine cq_getR (dG_FR (k := 0) H.1.1 h.1 dCl_J25 (cx_lt rfl) rfl rfl) q1876 dJ23_get_10 ?_
  refine cd_letI h.2 (fun r20 h => ?_)
  exact cd_aret (v := r20) hk h rfl (Or.inl ⟨_, rfl⟩) dJ23_get_13
def jLl_get (N : dNt) (bc bs : Nat) (M : cx_M) (P : dP) (L : dL) (a0 : Nat) (x1 : Int32) (Q : cd_Qt) : Prop := jLl_get_0 N bc bs Q a0 M P L 0 0 x1
set_option maxRecDepth 100000 in
theorem jLl_get_m {l : Launch} {g : cx_G} {N : dNt} {bc bs : Nat} {Q : cd_Qt} (H : dI g N.2) (M : cx_M) (P : dP) (L : dL) (a0 : Nat) (x1 : Int32) (h : jLl_get N bc bs M P L a0 x1 Q) : cd_Met l g yJ23_get cJ23_get (esJ23_get bc bs) cd_rA [.ref a0, .int x1] M P L Q :=
  cd_met (by decide +kernel) rfl rfl (lv := [(0, .ref a0), (1, .int x1)]) rfl (cx_le rfl) (fun X hX => cq_sub (lv' := [(0, .ref a0), (1, .int x1)]) [0, 1] rfl (jLl_get_0_v H hX M P L 0 0 x1 ⟨Nat.zero_le _, Nat.zero_le _⟩ h))

abbrev esJ29_init (bc bs : Nat) : cx_S := (3, RJ29, cx_rI, { frames := 1, cells := bc, slots := bs, locals := 23 }, none, false)
def jLi_init_0 (N : dNt) (bc bs : Nat) (Q : cd_Qt) (a0 : Nat) (M : cx_M) (P : dP) (L : dL) (k n : Nat) (x1 : Option Nat) (x2 : Int32) : Prop :=
  (a0, (0, 23, 0)) ∈ L ∧ cd_put P a0 4 x1 fun P1 =>
  (a0, (0, 23, 0)) ∈ L ∧ cd_let (P1 a0 4) fun r2 =>
  cd_nn r2 fun a3 =>
  (a3, (0, 22, 0)) ∈ L ∧ cq_get M (dc a3) 0 fun v4 =>
  (a0, (0, 23, 0)) ∈ L ∧ cq_put M (dc a0) 3 v4 fun M5 =>
  cd_nn x1 fun a6 =>
  (a6, (0, 22, 0)) ∈ L ∧ cq_get M5 (dc a6) 1 fun v7 =>
  if x2 = v7 then (
    (a0, (0, 23, 0)) ∈ L ∧ cd_put P1 a0 1 none fun P19 =>
    (a0, (0, 23, 0)) ∈ L ∧ cq_put M5 (dc a0) 2 x2 fun M20 =>
    Q M20 P19 L 0 none 0 k n)
  else (
    (a6, (0, 22, 0)) ∈ L ∧
    jLl_node N (bc - k) (bs - n) M5 P1 L a6 x2 (fun M8 P9 L10 v11 r12 e9 k13 n14 => e9 = 0 → cd_add k k13 n n14 fun k15 n16 =>
    (a0, (0, 23, 0)) ∈ L10 ∧ cd_put P9 a0 1 r12 fun P17 =>
    (a0, (0, 23, 0)) ∈ L10 ∧ cq_put M8 (dc a0) 2 x2 fun M18 =>
    Q M18 P17 L10 0 none 0 k15 n16))
set_option maxRecDepth 100000 in
theorem jLi_init_0_v {l : Launch} {g : cx_G} {X : cx_X} {N : dNt} {bc bs : Nat} {Q : cd_Qt} {a0 : Nat} (H : dI g N.2) (hX : X.2.2.2.2.2.2.1.name = "<init>") (M : cx_M) (P : dP) (L : dL) (k n : Nat) (x1 : Option Nat) (x2 : Int32) (hk : k ≤ bc ∧ n ≤ bs) (h : jLi_init_0 N bc bs Q a0 M P L k n x1 x2) : cq_V l (dG g L P) X (esJ29_init bc bs) cJ29_init 0 [(0, .ref a0), (1, va_rf x1), (2, .int x2)] [] M k n (cd_fin g X (esJ29_init bc bs) cd_rV Q) := by
  unfold jLi_init_0 at h
  refine cq_aload_n 0 dJ29_init_0 rfl ?_
  refine cd_aload_n (v := x1) 1 dJ29_init_1 rfl ?_
  refine cq_nd H.1.1 (fun hn => cd_putRF (v := x1) hX rfl H.1.1 hn h.1 h.2 dCl_J29 (cx_lt rfl) rfl rfl rfl cd_nfO rfl q1963 dJ29_init_2 (fun P1 h => ?_))
  refine cq_aload_n 0 dJ29_init_5 rfl ?_
  refine cd_oinit q1954 q176 q177 dJ29_init_6 (cx_le rfl) (cx_le rfl) ?_
  refine cq_aload_n 0 dJ29_init_9 rfl ?_
  refine cq_aload_n 0 dJ29_init_10 rfl ?_
  refine cq_getR (dG_FR (k := 4) H.1.1 h.1 dCl_J29 (cx_lt rfl) rfl rfl) q1963 dJ29_init_11 ?_
  refine cd_letI h.2 (fun r2 h => ?_)
  obtain ⟨a3, e9, h⟩ := cd_nn_some h
  subst e9
  refine cq_nd H.1.1 (fun hn => cd_getIs h.2 (dG_FI H.1.1 hn h.1 dCl_J23 (cx_lt rfl) rfl rfl rfl) q522 q521 dJ29_init_14 (fun v4 h => ?_))
  refine cq_nd H.1.1 (fun hn => cq_putI h.2 (dG_FI H.1.1 hn h.1 dCl_J29 (cx_lt rfl) rfl rfl rfl) rfl rfl rfl q1962 dJ29_init_17 (fun M5 h => ?_))
  refine cq_aload_n 0 dJ29_init_20 rfl ?_
  refine cq_iload_n 2 dJ29_init_21 rfl ?_
  refine cd_aload_n (v := x1) 1 dJ29_init_22 rfl ?_
  obtain ⟨a6, e9, h⟩ := cd_nn_some h
  subst e9
  refine cq_nd H.1.1 (fun hn => cq_getI h.2 (dG_FI H.1.1 hn h.1 dCl_J23 (cx_lt rfl) rfl rfl rfl) q1833 dJ29_init_23 (fun v7 h => ?_))
  refine cq_icmp_ne 33 h dJ29_init_26 rfl (fun h => ?_) (fun h => ?_)
  · refine cq_aload_n 1 dJ29_init_33 rfl ?_
    refine cq_iload_n 2 dJ29_init_34 rfl ?_
    obtain ⟨hmr, h⟩ := h
    refine cd_cV [.int x2] [.ref a0] (jLl_node_m H (N := N) (bc := bc - k) (bs := bs - n) M5 P1 L a6 x2 h) (dG_Rc H.1.1 hmr dCl_J23) dJ29_init_35 gd_J29_25 hgd_J29_25 ⟨cx_le rfl, cx_le rfl⟩ (cd_bud hk) rfl (cx_le rfl) (fun M8 P9 L10 v11 r12 k13 n14 hk2 h => ?_)
    refine cd_addI (h rfl) (cd_bk hk hk2) (fun k15 n16 h hk => ?_)
    refine cq_nd H.1.1 (fun hn => cd_putR (v := r12) H.1.1 hn h.1 h.2 dCl_J29 (cx_lt rfl) rfl rfl rfl cd_nfO rfl q1960 dJ29_init_38 (fun P17 h => ?_))
    refine cq_aload_n 0 dJ29_init_41 rfl ?_
    refine cq_iload_n 2 dJ29_init_42 rfl ?_
    refine cq_nd H.1.1 (fun hn => cq_putI h.2 (dG_FI H.1.1 hn h.1 dCl_J29 (cx_lt rfl) rfl rfl rfl) rfl rfl rfl q1961 dJ29_init_43 (fun M18 h => ?_))
    exact cd_vret hk h rfl dJ29_init_46
  · refine cq_null dJ29_init_29 ?_
    refine cq_goto 38 dJ29_init_30 rfl ?_
    refine cq_nd H.1.1 (fun hn => cd_putR (v := none) H.1.1 hn h.1 h.2 dCl_J29 (cx_lt rfl) rfl rfl rfl cd_nfO rfl q1960 dJ29_init_38 (fun P19 h => ?_))
    refine cq_aload_n 0 dJ29_init_41 rfl ?_
    refine cq_iload_n 2 dJ29_init_42 rfl ?_
    refine cq_nd H.1.1 (fun hn => cq_putI h.2 (dG_FI H.1.1 hn h.1 dCl_J29 (cx_lt rfl) rfl rfl rfl) rfl rfl rfl q1961 dJ29_init_43 (fun M20 h => ?_))
    exact cd_vret hk h rfl dJ29_init_46
def jLi_init (N : dNt) (bc bs : Nat) (M : cx_M) (P : dP) (L : dL) (a0 : Nat) (x1 : Option Nat) (x2 : Int32) (Q : cd_Qt) : Prop := jLi_init_0 N bc bs Q a0 M P L 0 0 x1 x2
set_option maxRecDepth 100000 in
theorem jLi_init_m {l : Launch} {g : cx_G} {N : dNt} {bc bs : Nat} {Q : cd_Qt} (H : dI g N.2) (M : cx_M) (P : dP) (L : dL) (a0 : Nat) (x1 : Option Nat) (x2 : Int32) (h : jLi_init N bc bs M P L a0 x1 x2 Q) : cd_Met l g yJ29_init cJ29_init (esJ29_init bc bs) cd_rV [.ref a0, va_rf x1, .int x2] M P L Q :=
  cd_met (by decide +kernel) rfl rfl (lv := [(0, .ref a0), (1, va_rf x1), (2, .int x2)]) (by cases x1 <;> rfl) (by cases x1 <;> exact cx_le rfl) (fun X hX => cq_sub (lv' := [(0, .ref a0), (1, va_rf x1), (2, .int x2)]) [0, 1, 2] rfl (jLi_init_0_v H hX M P L 0 0 x1 x2 ⟨Nat.zero_le _, Nat.zero_le _⟩ h))

abbrev esJ29_hasNext (bc bs : Nat) : cx_S := (1, RJ29, cx_rI, { frames := 0, cells := bc, slots := bs, locals := 0 }, some .boolean, false)
def jLi_hasNext_0 (N : dNt) (bc bs : Nat) (Q : cd_Qt) (a0 : Nat) (M : cx_M) (P : dP) (L : dL) (k n : Nat) : Prop :=
  (a0, (0, 23, 0)) ∈ L ∧ cq_get M (dc a0) 2 fun v1 =>
  (a0, (0, 23, 0)) ∈ L ∧ cd_let (P a0 4) fun r2 =>
  cd_nn r2 fun a3 =>
  (a3, (0, 22, 0)) ∈ L ∧ cq_get M (dc a3) 1 fun v4 =>
  if v4 ≤ v1 then (
    Q M P L 0 none 0 k n)
  else (
    Q M P L 1 none 0 k n)
set_option maxRecDepth 100000 in
theorem jLi_hasNext_0_v {l : Launch} {g : cx_G} {X : cx_X} {N : dNt} {bc bs : Nat} {Q : cd_Qt} {a0 : Nat} (H : dI g N.2) (hX : X.2.2.2.2.2.2.1.name = "hasNext") (M : cx_M) (P : dP) (L : dL) (k n : Nat) (hk : k ≤ bc ∧ n ≤ bs) (h : jLi_hasNext_0 N bc bs Q a0 M P L k n) : cq_V l (dG g L P) X (esJ29_hasNext bc bs) cJ29_hasNext 0 [(0, .ref a0)] [] M k n (cd_fin g X (esJ29_hasNext bc bs) cd_rI Q) := by
  unfold jLi_hasNext_0 at h
  refine cq_aload_n 0 dJ29_hasNext_0 rfl ?_
  refine cq_nd H.1.1 (fun hn => cq_getI h.2 (dG_FI H.1.1 hn h.1 dCl_J29 (cx_lt rfl) rfl rfl rfl) q1961 dJ29_hasNext_1 (fun v1 h => ?_))
  refine cq_aload_n 0 dJ29_hasNext_4 rfl ?_
  refine cq_getR (dG_FR (k := 4) H.1.1 h.1 dCl_J29 (cx_lt rfl) rfl rfl) q1963 dJ29_hasNext_5 ?_
  refine cd_letI h.2 (fun r2 h => ?_)
  obtain ⟨a3, e9, h⟩ := cd_nn_some h
  subst e9
  refine cq_nd H.1.1 (fun hn => cq_getI h.2 (dG_FI H.1.1 hn h.1 dCl_J23 (cx_lt rfl) rfl rfl rfl) q1833 dJ29_hasNext_8 (fun v4 h => ?_))
  refine cq_icmp_ge 18 h dJ29_hasNext_11 rfl (fun h => ?_) (fun h => ?_)
  · refine cq_iconst 0 dJ29_hasNext_18 cx_ic_0 ?_
    exact cd_zret hk h cx_z_0 rfl dJ29_hasNext_19
  · refine cq_iconst 1 dJ29_hasNext_14 cx_ic_1 ?_
    refine cq_goto 19 dJ29_hasNext_15 rfl ?_
    exact cd_zret hk h cx_z_1 rfl dJ29_hasNext_19
def jLi_hasNext (N : dNt) (bc bs : Nat) (M : cx_M) (P : dP) (L : dL) (a0 : Nat) (Q : cd_Qt) : Prop := jLi_hasNext_0 N bc bs Q a0 M P L 0 0
set_option maxRecDepth 100000 in
theorem jLi_hasNext_m {l : Launch} {g : cx_G} {N : dNt} {bc bs : Nat} {Q : cd_Qt} (H : dI g N.2) (M : cx_M) (P : dP) (L : dL) (a0 : Nat) (h : jLi_hasNext N bc bs M P L a0 Q) : cd_Met l g yJ29_hasNext cJ29_hasNext (esJ29_hasNext bc bs) cd_rI [.ref a0] M P L Q :=
  cd_met (by decide +kernel) rfl rfl (lv := [(0, .ref a0)]) rfl (cx_le rfl) (fun X hX => cq_sub (lv' := [(0, .ref a0)]) [0] rfl (jLi_hasNext_0_v H hX M P L 0 0 ⟨Nat.zero_le _, Nat.zero_le _⟩ h))

abbrev esJ29_checkForComodification (bc bs : Nat) : cx_S := (1, RJ29, cx_rI, { frames := 0, cells := bc, slots := bs, locals := 0 }, none, false)
def jLi_checkForComodification_0 (N : dNt) (bc bs : Nat) (Q : cd_Qt) (a0 : Nat) (M : cx_M) (P : dP) (L : dL) (k n : Nat) : Prop :=
  (a0, (0, 23, 0)) ∈ L ∧ cd_let (P a0 4) fun r1 =>
  cd_nn r1 fun a2 =>
  (a2, (0, 22, 0)) ∈ L ∧ cq_get M (dc a2) 0 fun v3 =>
  (a0, (0, 23, 0)) ∈ L ∧ cq_get M (dc a0) 3 fun v4 =>
  if v3 = v4 then (
    Q M P L 0 none 0 k n)
  else (
    False)
set_option maxRecDepth 100000 in
theorem jLi_checkForComodification_0_v {l : Launch} {g : cx_G} {X : cx_X} {N : dNt} {bc bs : Nat} {Q : cd_Qt} {a0 : Nat} (H : dI g N.2) (hX : X.2.2.2.2.2.2.1.name = "checkForComodification") (M : cx_M) (P : dP) (L : dL) (k n : Nat) (hk : k ≤ bc ∧ n ≤ bs) (h : jLi_checkForComodification_0 N bc bs Q a0 M P L k n) : cq_V l (dG g L P) X (esJ29_checkForComodification bc bs) cJ29_checkForComodification 0 [(0, .ref a0)] [] M k n (cd_fin g X (esJ29_checkForComodification bc bs) cd_rV Q) := by
  unfold jLi_checkForComodification_0 at h
  refine cq_aload_n 0 dJ29_checkForComodification_0 rfl ?_
  refine cq_getR (dG_FR (k := 4) H.1.1 h.1 dCl_J29 (cx_lt rfl) rfl rfl) q1963 dJ29_checkForComodification_1 ?_
  refine cd_letI h.2 (fun r1 h => ?_)
  obtain ⟨a2, e9, h⟩ := cd_nn_some h
  subst e9
  refine cq_nd H.1.1 (fun hn => cd_getIs h.2 (dG_FI H.1.1 hn h.1 dCl_J23 (cx_lt rfl) rfl rfl rfl) q522 q521 dJ29_checkForComodification_4 (fun v3 h => ?_))
  refine cq_aload_n 0 dJ29_checkForComodification_7 rfl ?_
  refine cq_nd H.1.1 (fun hn => cq_getI h.2 (dG_FI H.1.1 hn h.1 dCl_J29 (cx_lt rfl) rfl rfl rfl) q1962 dJ29_checkForComodification_8 (fun v4 h => ?_))
  refine cq_icmp_eq 22 h dJ29_checkForComodification_11 rfl (fun h => ?_) (fun h => ?_)
  · exact cd_vret hk h rfl dJ29_checkForComodification_22
  · cases h
def jLi_checkForComodification (N : dNt) (bc bs : Nat) (M : cx_M) (P : dP) (L : dL) (a0 : Nat) (Q : cd_Qt) : Prop := jLi_checkForComodification_0 N bc bs Q a0 M P L 0 0
set_option maxRecDepth 100000 in
theorem jLi_checkForComodification_m {l : Launch} {g : cx_G} {N : dNt} {bc bs : Nat} {Q : cd_Qt} (H : dI g N.2) (M : cx_M) (P : dP) (L : dL) (a0 : Nat) (h : jLi_checkForComodification N bc bs M P L a0 Q) : cd_Met l g yJ29_checkForComodification cJ29_checkForComodification (esJ29_checkForComodification bc bs) cd_rV [.ref a0] M P L Q :=
  cd_met (by decide +kernel) rfl rfl (lv := [(0, .ref a0)]) rfl (cx_le rfl) (fun X hX => cq_sub (lv' := [(0, .ref a0)]) [0] rfl (jLi_checkForComodification_0_v H hX M P L 0 0 ⟨Nat.zero_le _, Nat.zero_le _⟩ h))

abbrev esJ29_next (bc bs : Nat) : cx_S := (1, RJ29, cx_rI, { frames := 1, cells := bc, slots := bs, locals := 20 }, some (.object "java/lang/Object"), false)
def jLi_next_0 (N : dNt) (bc bs : Nat) (Q : cd_Qt) (a0 : Nat) (M : cx_M) (P : dP) (L : dL) (k n : Nat) : Prop :=
  (a0, (0, 23, 0)) ∈ L ∧
  jLi_checkForComodification N (bc - k) (bs - n) M P L a0 (fun M1 P2 L3 v4 r5 e9 k6 n7 => e9 = 0 → cd_add k k6 n n7 fun k8 n9 =>
  (a0, (0, 23, 0)) ∈ L3 ∧
  jLi_hasNext N (bc - k8) (bs - n9) M1 P2 L3 a0 (fun M10 P11 L12 v13 r14 e9 k15 n16 => e9 = 0 → cd_add k8 k15 n9 n16 fun k17 n18 =>
  if v13 = 0 then (
    False)
  else (
    (a0, (0, 23, 0)) ∈ L12 ∧ cd_let (P11 a0 1) fun r19 =>
    (a0, (0, 23, 0)) ∈ L12 ∧ cd_put P11 a0 0 r19 fun P20 =>
    (a0, (0, 23, 0)) ∈ L12 ∧ cd_let (P20 a0 1) fun r21 =>
    cd_nn r21 fun a22 =>
    (a22, (0, 24, 0)) ∈ L12 ∧ cd_let (P20 a22 1) fun r23 =>
    (a0, (0, 23, 0)) ∈ L12 ∧ cd_put P20 a0 1 r23 fun P24 =>
    (a0, (0, 23, 0)) ∈ L12 ∧ cq_get M10 (dc a0) 2 fun v25 =>
    (a0, (0, 23, 0)) ∈ L12 ∧ cq_put M10 (dc a0) 2 (v25 + 1) fun M26 =>
    (a0, (0, 23, 0)) ∈ L12 ∧ cd_let (P24 a0 0) fun r27 =>
    cd_nn r27 fun a28 =>
    (a28, (0, 24, 0)) ∈ L12 ∧ cd_let (P24 a28 0) fun r29 =>
    Q M26 P24 L12 0 r29 0 k17 n18)))
set_option maxRecDepth 100000 in
theorem jLi_next_0_v {l : Launch} {g : cx_G} {X : cx_X} {N : dNt} {bc bs : Nat} {Q : cd_Qt} {a0 : Nat} (H : dI g N.2) (hX : X.2.2.2.2.2.2.1.name = "next") (M : cx_M) (P : dP) (L : dL) (k n : Nat) (hk : k ≤ bc ∧ n ≤ bs) (h : jLi_next_0 N bc bs Q a0 M P L k n) : cq_V l (dG g L P) X (esJ29_next bc bs) cJ29_next 0 [(0, .ref a0)] [] M k n (cd_fin g X (esJ29_next bc bs) cd_rA Q) := by
  unfold jLi_next_0 at h
  refine cq_aload_n 0 dJ29_next_0 rfl ?_
  obtain ⟨hmr, h⟩ := h
  refine cd_cV [] [] (jLi_checkForComodification_m H (N := N) (bc := bc - k) (bs := bs - n) M P L a0 h) (dG_Rc H.1.1 hmr dCl_J29) dJ29_next_1 gd_J29_36 hgd_J29_36 ⟨cx_le rfl, cx_le rfl⟩ (cd_bud hk) rfl (cx_le rfl) (fun M1 P2 L3 v4 r5 k6 n7 hk2 h => ?_)
  refine cd_addI (h rfl) (cd_bk hk hk2) (fun k8 n9 h hk => ?_)
  refine cq_aload_n 0 dJ29_next_4 rfl ?_
  obtain ⟨hmr, h⟩ := h
  refine cd_cV [] [] (jLi_hasNext_m H (N := N) (bc := bc - k8) (bs := bs - n9) M1 P2 L3 a0 h) (dG_Rc H.1.1 hmr dCl_J29) dJ29_next_5 gd_J29_39 hgd_J29_39 ⟨cx_le rfl, cx_le rfl⟩ (cd_bud hk) rfl (cx_le rfl) (fun M10 P11 L12 v13 r14 k15 n16 hk2 h => ?_)
  refine cd_addI (h rfl) (cd_bk hk hk2) (fun k17 n18 h hk => ?_)
  refine cq_if_ne 19 h dJ29_next_8 rfl (fun h => ?_) (fun h => ?_)
  · refine cq_aload_n 0 dJ29_next_19 rfl ?_
    refine cq_aload_n 0 dJ29_next_20 rfl ?_
    refine cq_getR (dG_FR (k := 1) H.1.1 h.1 dCl_J29 (cx_lt rfl) rfl rfl) q1960 dJ29_next_21 ?_
    refine cd_letI h.2 (fun r19 h => ?_)
    refine cq_nd H.1.1 (fun hn => cd_putR (v := r19) H.1.1 hn h.1 h.2 dCl_J29 (cx_lt rfl) rfl rfl rfl cd_nfO rfl q1959 dJ29_next_24 (fun P20 h => ?_))
    refine cq_aload_n 0 dJ29_next_27 rfl ?_
    refine cq_aload_n 0 dJ29_next_28 rfl ?_
    refine cq_getR (dG_FR (k := 1) H.1.1 h.1 dCl_J29 (cx_lt rfl) rfl rfl) q1960 dJ29_next_29 ?_
    refine cd_letI h.2 (fun r21 h => ?_)
    obtain ⟨a22, e9, h⟩ := cd_nn_some h
    subst e9
    refine cq_getR (dG_FR (k := 1) H.1.1 h.1 dCl_J25 (cx_lt rfl) rfl rfl) q1878 dJ29_next_32 ?_
    refine cd_letI h.2 (fun r23 h => ?_)
    refine cq_nd H.1.1 (fun hn => cd_putR (v := r23) H.1.1 hn h.1 h.2 dCl_J29 (cx_lt rfl) rfl rfl rfl cd_nfO rfl q1960 dJ29_next_35 (fun P24 h => ?_))
    refine cq_aload_n 0 dJ29_next_38 rfl ?_
    refine cq_dup dJ29_next_39 rfl ?_
    refine cq_nd H.1.1 (fun hn => cq_getI h.2 (dG_FI H.1.1 hn h.1 dCl_J29 (cx_lt rfl) rfl rfl rfl) q1961 dJ29_next_40 (fun v25 h => ?_))
    refine cq_iconst 1 dJ29_next_43 cx_ic_1 ?_
    refine cq_iadd dJ29_next_44 ?_
    refine cq_nd H.1.1 (fun hn => cq_putI h.2 (dG_FI H.1.1 hn h.1 dCl_J29 (cx_lt rfl) rfl rfl rfl) rfl rfl rfl q1961 dJ29_next_45 (fun M26 h => ?_))
    refine cq_aload_n 0 dJ29_next_48 rfl ?_
    refine cq_getR (dG_FR (k := 0) H.1.1 h.1 dCl_J29 (cx_lt rfl) rfl rfl) q1959 dJ29_next_49 ?_
    refine cd_letI h.2 (fun r27 h => ?_)
    obtain ⟨a28, e9, h⟩ := cd_nn_some h
    subst e9
    refine cq_getR (dG_FR (k := 0) H.1.1 h.1 dCl_J25 (cx_lt rfl) rfl rfl) q1875 dJ29_next_52 ?_
    refine cd_letI h.2 (fun r29 h => ?_)
    exact cd_aret (v := r29) hk h rfl (Or.inl ⟨_, rfl⟩) dJ29_next_55
  · cases h
def jLi_next (N : dNt) (bc bs : Nat) (M : cx_M) (P : dP) (L : dL) (a0 : Nat) (Q : cd_Qt) : Prop := jLi_next_0 N bc bs Q a0 M P L 0 0
set_option maxRecDepth 100000 in
theorem jLi_next_m {l : Launch} {g : cx_G} {N : dNt} {bc bs : Nat} {Q : cd_Qt} (H : dI g N.2) (M : cx_M) (P : dP) (L : dL) (a0 : Nat) (h : jLi_next N bc bs M P L a0 Q) : cd_Met l g yJ29_next cJ29_next (esJ29_next bc bs) cd_rA [.ref a0] M P L Q :=
  cd_met (by decide +kernel) rfl rfl (lv := [(0, .ref a0)]) rfl (cx_le rfl) (fun X hX => cq_sub (lv' := [(0, .ref a0)]) [0] rfl (jLi_next_0_v H hX M P L 0 0 ⟨Nat.zero_le _, Nat.zero_le _⟩ h))

abbrev esJ29_remove (bc bs : Nat) : cx_S := (2, RJ29, cx_rI, { frames := 1, cells := bc, slots := bs, locals := 24 }, none, false)
def jLi_remove_68 (N : dNt) (bc bs : Nat) (Q : cd_Qt) (a0 : Nat) (M : cx_M) (P : dP) (L : dL) (k n : Nat) : Prop :=
  (a0, (0, 23, 0)) ∈ L ∧ cd_put P a0 0 none fun P1 =>
  (a0, (0, 23, 0)) ∈ L ∧ cq_get M (dc a0) 3 fun v2 =>
  (a0, (0, 23, 0)) ∈ L ∧ cq_put M (dc a0) 3 (v2 + 1) fun M3 =>
  Q M3 P1 L 0 none 0 k n
set_option maxRecDepth 100000 in
theorem jLi_remove_68_v {l : Launch} {g : cx_G} {X : cx_X} {N : dNt} {bc bs : Nat} {Q : cd_Qt} {a0 : Nat} (H : dI g N.2) (hX : X.2.2.2.2.2.2.1.name = "remove") (M : cx_M) (P : dP) (L : dL) (k n : Nat) (hk : k ≤ bc ∧ n ≤ bs) (h : jLi_remove_68 N bc bs Q a0 M P L k n) : cq_V l (dG g L P) X (esJ29_remove bc bs) cJ29_remove 68 [(0, .ref a0)] [] M k n (cd_fin g X (esJ29_remove bc bs) cd_rV Q) := by
  unfold jLi_remove_68 at h
  refine cq_aload_n 0 dJ29_remove_68 rfl ?_
  refine cq_null dJ29_remove_69 ?_
  refine cq_nd H.1.1 (fun hn => cd_putR (v := none) H.1.1 hn h.1 h.2 dCl_J29 (cx_lt rfl) rfl rfl rfl cd_nfO rfl q1959 dJ29_remove_70 (fun P1 h => ?_))
  refine cq_aload_n 0 dJ29_remove_73 rfl ?_
  refine cq_dup dJ29_remove_74 rfl ?_
  refine cq_nd H.1.1 (fun hn => cq_getI h.2 (dG_FI H.1.1 hn h.1 dCl_J29 (cx_lt rfl) rfl rfl rfl) q1962 dJ29_remove_75 (fun v2 h => ?_))
  refine cq_iconst 1 dJ29_remove_78 cx_ic_1 ?_
  refine cq_iadd dJ29_remove_79 ?_
  refine cq_nd H.1.1 (fun hn => cq_putI h.2 (dG_FI H.1.1 hn h.1 dCl_J29 (cx_lt rfl) rfl rfl rfl) rfl rfl rfl q1962 dJ29_remove_80 (fun M3 h => ?_))
  exact cd_vret hk h rfl dJ29_remove_83
def jLi_remove_0 (N : dNt) (bc bs : Nat) (Q : cd_Qt) (a0 : Nat) (M : cx_M) (P : dP) (L : dL) (k n : Nat) : Prop :=
  (a0, (0, 23, 0)) ∈ L ∧
  jLi_checkForComodification N (bc - k) (bs - n) M P L a0 (fun M1 P2 L3 v4 r5 e9 k6 n7 => e9 = 0 → cd_add k k6 n n7 fun k8 n9 =>
  (a0, (0, 23, 0)) ∈ L3 ∧ cd_let (P2 a0 0) fun r10 =>
  cd_if r10 (
    False)
  (fun a11 =>
    (a0, (0, 23, 0)) ∈ L3 ∧ cd_let (P2 a0 0) fun r12 =>
    cd_nn r12 fun a13 =>
    (a13, (0, 24, 0)) ∈ L3 ∧ cd_let (P2 a13 1) fun r14 =>
    (a0, (0, 23, 0)) ∈ L3 ∧ cd_let (P2 a0 4) fun r15 =>
    (a0, (0, 23, 0)) ∈ L3 ∧ cd_let (P2 a0 0) fun r16 =>
    cd_nn r15 fun a17 =>
    (a17, (0, 22, 0)) ∈ L3 ∧
    jLl_unlink N (bc - k8) (bs - n9) M1 P2 L3 a17 r16 (fun M18 P19 L20 v21 r22 e9 k23 n24 => e9 = 0 → cd_add k8 k23 n9 n24 fun k25 n26 =>
    (a0, (0, 23, 0)) ∈ L20 ∧ cd_let (P19 a0 1) fun r27 =>
    (a0, (0, 23, 0)) ∈ L20 ∧ cd_let (P19 a0 0) fun r28 =>
    if r27 = r28 then (
      (a0, (0, 23, 0)) ∈ L20 ∧ cd_put P19 a0 1 r14 fun P31 =>
      jLi_remove_68 N bc bs Q a0 M18 P31 L20 k25 n26)
    else (
      (a0, (0, 23, 0)) ∈ L20 ∧ cq_get M18 (dc a0) 2 fun v29 =>
      (a0, (0, 23, 0)) ∈ L20 ∧ cq_put M18 (dc a0) 2 (v29 - 1) fun M30 =>
      jLi_remove_68 N bc bs Q a0 M30 P19 L20 k25 n26))))
set_option maxRecDepth 100000 in
theorem jLi_remove_0_v {l : Launch} {g : cx_G} {X : cx_X} {N : dNt} {bc bs : Nat} {Q : cd_Qt} {a0 : Nat} (H : dI g N.2) (hX : X.2.2.2.2.2.2.1.name = "remove") (M : cx_M) (P : dP) (L : dL) (k n : Nat) (hk : k ≤ bc ∧ n ≤ bs) (h : jLi_remove_0 N bc bs Q a0 M P L k n) : cq_V l (dG g L P) X (esJ29_remove bc bs) cJ29_remove 0 [(0, .ref a0)] [] M k n (cd_fin g X (esJ29_remove bc bs) cd_rV Q) := by
  unfold jLi_remove_0 at h
  refine cq_aload_n 0 dJ29_remove_0 rfl ?_
  obtain ⟨hmr, h⟩ := h
  refine cd_cV [] [] (jLi_checkForComodification_m H (N := N) (bc := bc - k) (bs := bs - n) M P L a0 h) (dG_Rc H.1.1 hmr dCl_J29) dJ29_remove_1 gd_J29_36 hgd_J29_36 ⟨cx_le rfl, cx_le rfl⟩ (cd_bud hk) rfl (cx_le rfl) (fun M1 P2 L3 v4 r5 k6 n7 hk2 h => ?_)
  refine cd_addI (h rfl) (cd_bk hk hk2) (fun k8 n9 h hk => ?_)
  refine cq_aload_n 0 dJ29_remove_4 rfl ?_
  refine cq_getR (dG_FR (k := 0) H.1.1 h.1 dCl_J29 (cx_lt rfl) rfl rfl) q1959 dJ29_remove_5 ?_
  refine cd_letI h.2 (fun r10 h => ?_)
  refine cd_ifnonnullT 19 h dJ29_remove_8 rfl (fun a11 e9 h => ?_) (fun e9 h => ?_)
  · subst e9
    refine cq_aload_n 0 dJ29_remove_19 rfl ?_
    refine cq_getR (dG_FR (k := 0) H.1.1 h.1 dCl_J29 (cx_lt rfl) rfl rfl) q1959 dJ29_remove_20 ?_
    refine cd_letI h.2 (fun r12 h => ?_)
    obtain ⟨a13, e9, h⟩ := cd_nn_some h
    subst e9
    refine cq_getR (dG_FR (k := 1) H.1.1 h.1 dCl_J25 (cx_lt rfl) rfl rfl) q1878 dJ29_remove_23 ?_
    refine cd_letI h.2 (fun r14 h => ?_)
    refine cd_astore_n (v := r14) (fun v => [(1, v), (0, .ref a0)]) dJ29_remove_26 (cx_lt rfl) (fun v => rfl) ?_
    refine cq_aload_n 1 dJ29_remove_27 rfl ?_
    refine cq_getR (dG_FR (k := 4) H.1.1 h.1 dCl_J29 (cx_lt rfl) rfl rfl) q1963 dJ29_remove_28 ?_
    refine cd_letI h.2 (fun r15 h => ?_)
    refine cq_aload_n 1 dJ29_remove_31 rfl ?_
    refine cq_getR (dG_FR (k := 0) H.1.1 h.1 dCl_J29 (cx_lt rfl) rfl rfl) q1959 dJ29_remove_32 ?_
    refine cd_letI h.2 (fun r16 h => ?_)
    obtain ⟨a17, e9, h⟩ := cd_nn_some h
    subst e9
    obtain ⟨hmr, h⟩ := h
    refine cd_cV [va_rf r16] [] (jLl_unlink_m H (N := N) (bc := bc - k8) (bs := bs - n9) M1 P2 L3 a17 r16 h) (dG_Rc H.1.1 hmr dCl_J23) dJ29_remove_35 gd_J29_68 hgd_J29_68 ⟨cx_le rfl, cx_le rfl⟩ (cd_bud hk) rfl (cx_le rfl) (fun M18 P19 L20 v21 r22 k23 n24 hk2 h => ?_)
    refine cd_addI (h rfl) (cd_bk hk hk2) (fun k25 n26 h hk => ?_)
    refine cq_pop dJ29_remove_38 (va_rf_cat _) ?_
    refine cq_aload_n 1 dJ29_remove_39 rfl ?_
    refine cq_getR (dG_FR (k := 1) H.1.1 h.1 dCl_J29 (cx_lt rfl) rfl rfl) q1960 dJ29_remove_40 ?_
    refine cd_letI h.2 (fun r27 h => ?_)
    refine cq_aload_n 1 dJ29_remove_43 rfl ?_
    refine cq_getR (dG_FR (k := 0) H.1.1 h.1 dCl_J29 (cx_lt rfl) rfl rfl) q1959 dJ29_remove_44 ?_
    refine cd_letI h.2 (fun r28 h => ?_)
    refine cd_acmp_ne (rx := r27) (ry := r28) 58 h dJ29_remove_47 rfl (fun h => ?_) (fun h => ?_)
    · refine cq_aload_n 1 dJ29_remove_58 rfl ?_
      refine cq_dup dJ29_remove_59 rfl ?_
      refine cq_nd H.1.1 (fun hn => cq_getI h.2 (dG_FI H.1.1 hn h.1 dCl_J29 (cx_lt rfl) rfl rfl rfl) q1961 dJ29_remove_60 (fun v29 h => ?_))
      refine cq_iconst 1 dJ29_remove_63 cx_ic_1 ?_
      refine cq_isub dJ29_remove_64 ?_
      refine cq_nd H.1.1 (fun hn => cq_putI h.2 (dG_FI H.1.1 hn h.1 dCl_J29 (cx_lt rfl) rfl rfl rfl) rfl rfl rfl q1961 dJ29_remove_65 (fun M30 h => ?_))
      refine cq_sub (lv' := [(0, .ref a0)]) [1] rfl ?_
      exact jLi_remove_68_v H hX M30 P19 L20 k25 n26 hk h
    · refine cq_aload_n 1 dJ29_remove_50 rfl ?_
      refine cd_aload_n (v := r14) 0 dJ29_remove_51 rfl ?_
      refine cq_nd H.1.1 (fun hn => cd_putR (v := r14) H.1.1 hn h.1 h.2 dCl_J29 (cx_lt rfl) rfl rfl rfl cd_nfO rfl q1960 dJ29_remove_52 (fun P31 h => ?_))
      refine cq_goto 68 dJ29_remove_55 rfl ?_
      refine cq_sub (lv' := [(0, .ref a0)]) [1] rfl ?_
      exact jLi_remove_68_v H hX M18 P31 L20 k25 n26 hk h
  · subst e9
    cases h
def jLi_remove (N : dNt) (bc bs : Nat) (M : cx_M) (P : dP) (L : dL) (a0 : Nat) (Q : cd_Qt) : Prop := jLi_remove_0 N bc bs Q a0 M P L 0 0
set_option maxRecDepth 100000 in
theorem jLi_remove_m {l : Launch} {g : cx_G} {N : dNt} {bc bs : Nat} {Q : cd_Qt} (H : dI g N.2) (M : cx_M) (P : dP) (L : dL) (a0 : Nat) (h : jLi_remove N bc bs M P L a0 Q) : cd_Met l g yJ29_remove cJ29_remove (esJ29_remove bc bs) cd_rV [.ref a0] M P L Q :=
  cd_met (by decide +kernel) rfl rfl (lv := [(0, .ref a0)]) rfl (cx_le rfl) (fun X hX => cq_sub (lv' := [(0, .ref a0)]) [0] rfl (jLi_remove_0_v H hX M P L 0 0 ⟨Nat.zero_le _, Nat.zero_le _⟩ h))

abbrev esJ23_listIterator (bc bs : Nat) : cx_S := (2, RJ23, cx_rI, { frames := 2, cells := bc, slots := bs, locals := 45 }, some (.object "java/util/ListIterator"), false)
def jLl_listIterator_0 (N : dNt) (bc bs : Nat) (Q : cd_Qt) (a0 : Nat) (M : cx_M) (P : dP) (L : dL) (k n : Nat) (x1 : Int32) : Prop :=
  (a0, (0, 22, 0)) ∈ L ∧
  jLl_checkPositionIndex N (bc - k) (bs - n) M P L a0 x1 (fun M1 P2 L3 v4 r5 e9 k6 n7 => e9 = 0 → cd_add k k6 n n7 fun k8 n9 =>
  cd_new bc bs k8 n9 5 (0, 23, 0) M1 P2 L3 fun a10 M11 P12 L13 k14 n15 =>
  jLi_init N (bc - k14) (bs - n15) M11 P12 L13 a10 (some a0) x1 (fun M16 P17 L18 v19 r20 e9 k21 n22 => e9 = 0 → cd_add k14 k21 n15 n22 fun k23 n24 =>
  Q M16 P17 L18 0 (some a10) 0 k23 n24))
set_option maxRecDepth 100000 in
theorem jLl_listIterator_0_v {l : Launch} {g : cx_G} {X : cx_X} {N : dNt} {bc bs : Nat} {Q : cd_Qt} {a0 : Nat} (H : dI g N.2) (hX : X.2.2.2.2.2.2.1.name = "listIterator") (M : cx_M) (P : dP) (L : dL) (k n : Nat) (x1 : Int32) (hk : k ≤ bc ∧ n ≤ bs) (h : jLl_listIterator_0 N bc bs Q a0 M P L k n x1) : cq_V l (dG g L P) X (esJ23_listIterator bc bs) cJ23_listIterator 0 [(0, .ref a0), (1, .int x1)] [] M k n (cd_fin g X (esJ23_listIterator bc bs) cd_rA Q) := by
  unfold jLl_listIterator_0 at h
  refine cq_aload_n 0 dJ23_listIterator_0 rfl ?_
  refine cq_iload_n 1 dJ23_listIterator_1 rfl ?_
  obtain ⟨hmr, h⟩ := h
  refine cd_cV [.int x1] [] (jLl_checkPositionIndex_m H (N := N) (bc := bc - k) (bs := bs - n) M P L a0 x1 h) (dG_Rc H.1.1 hmr dCl_J23) dJ23_listIterator_2 gd_J23_76 hgd_J23_76 ⟨cx_le rfl, cx_le rfl⟩ (cd_bud hk) rfl (cx_le rfl) (fun M1 P2 L3 v4 r5 k6 n7 hk2 h => ?_)
  refine cd_addI (h rfl) (cd_bk hk hk2) (fun k8 n9 h hk => ?_)
  refine cd_newO H.1.1 h ⟨rfl, rfl⟩ dCl_J29 dDf_J29 q1949 q1950 q166 dJ23_listIterator_5 (fun a10 M11 P12 L13 k14 n15 h hk => ?_)
  refine cq_dup dJ23_listIterator_8 rfl ?_
  refine cq_aload_n 0 dJ23_listIterator_9 rfl ?_
  refine cq_iload_n 1 dJ23_listIterator_10 rfl ?_
  refine cd_cI [va_rf (some a0), .int x1] [.ref a10] (jLi_init_m H (N := N) (bc := bc - k14) (bs := bs - n15) M11 P12 L13 a10 (some a0) x1 h) dJ23_listIterator_11 gd_J23_152 rfl q166 q1951 q1952 rfl hgd_J23_152 ⟨cx_le rfl, cx_le rfl⟩ (cd_bud hk) rfl (cx_le rfl) (fun M16 P17 L18 v19 r20 k21 n22 hk2 h => ?_)
  refine cd_addI (h rfl) (cd_bk hk hk2) (fun k23 n24 h hk => ?_)
  exact cd_aret (v := (some a10)) hk h rfl (Or.inl ⟨_, rfl⟩) dJ23_listIterator_14
def jLl_listIterator (N : dNt) (bc bs : Nat) (M : cx_M) (P : dP) (L : dL) (a0 : Nat) (x1 : Int32) (Q : cd_Qt) : Prop := jLl_listIterator_0 N bc bs Q a0 M P L 0 0 x1
set_option maxRecDepth 100000 in
theorem jLl_listIterator_m {l : Launch} {g : cx_G} {N : dNt} {bc bs : Nat} {Q : cd_Qt} (H : dI g N.2) (M : cx_M) (P : dP) (L : dL) (a0 : Nat) (x1 : Int32) (h : jLl_listIterator N bc bs M P L a0 x1 Q) : cd_Met l g yJ23_listIterator cJ23_listIterator (esJ23_listIterator bc bs) cd_rA [.ref a0, .int x1] M P L Q :=
  cd_met (by decide +kernel) rfl rfl (lv := [(0, .ref a0), (1, .int x1)]) rfl (cx_le rfl) (fun X hX => cq_sub (lv' := [(0, .ref a0), (1, .int x1)]) [0, 1] rfl (jLl_listIterator_0_v H hX M P L 0 0 x1 ⟨Nat.zero_le _, Nat.zero_le _⟩ h))

abbrev esJ1_listIterator (bc bs : Nat) : cx_S := (1, RJ1, cx_rI, { frames := 3, cells := bc, slots := bs, locals := 66 }, some (.object "java/util/ListIterator"), false)
def jAbl_listIterator_0 (N : dNt) (bc bs : Nat) (Q : cd_Qt) (a0 : Nat) (M : cx_M) (P : dP) (L : dL) (k n : Nat) : Prop :=
  (a0, (0, 22, 0)) ∈ L ∧
  jLl_listIterator N (bc - k) (bs - n) M P L a0 0 (fun M1 P2 L3 v4 r5 e9 k6 n7 => e9 = 0 → cd_add k k6 n n7 fun k8 n9 =>
  Q M1 P2 L3 0 r5 0 k8 n9)
set_option maxRecDepth 100000 in
theorem jAbl_listIterator_0_v {l : Launch} {g : cx_G} {X : cx_X} {N : dNt} {bc bs : Nat} {Q : cd_Qt} {a0 : Nat} (H : dI g N.2) (hX : X.2.2.2.2.2.2.1.name = "listIterator") (M : cx_M) (P : dP) (L : dL) (k n : Nat) (hk : k ≤ bc ∧ n ≤ bs) (h : jAbl_listIterator_0 N bc bs Q a0 M P L k n) : cq_V l (dG g L P) X (esJ1_listIterator bc bs) cJ1_listIterator 0 [(0, .ref a0)] [] M k n (cd_fin g X (esJ1_listIterator bc bs) cd_rA Q) := by
  unfold jAbl_listIterator_0 at h
  refine cq_aload_n 0 dJ1_listIterator_0 rfl ?_
  refine cq_iconst 0 dJ1_listIterator_1 cx_ic_0 ?_
  obtain ⟨hmr, h⟩ := h
  refine cd_cA (x := ⟨"java/util/AbstractList", "listIterator", "(I)Ljava/util/ListIterator;"⟩) [.int 0] [] (jLl_listIterator_m H (N := N) (bc := bc - k) (bs := bs - n) M P L a0 0 h) (dG_Rc H.1.1 hmr dCl_J23) dJ1_listIterator_2 gd_J1_47 hgd_J1_47 ⟨cx_le rfl, cx_le rfl⟩ (cd_bud hk) rfl (cx_le rfl) (fun M1 P2 L3 v4 r5 k6 n7 hk2 h => ?_)
  refine cd_addI (h rfl) (cd_bk hk hk2) (fun k8 n9 h hk => ?_)
  exact cd_aret (v := r5) hk h rfl (Or.inl ⟨_, rfl⟩) dJ1_listIterator_5
def jAbl_listIterator (N : dNt) (bc bs : Nat) (M : cx_M) (P : dP) (L : dL) (a0 : Nat) (Q : cd_Qt) : Prop := jAbl_listIterator_0 N bc bs Q a0 M P L 0 0
set_option maxRecDepth 100000 in
theorem jAbl_listIterator_m {l : Launch} {g : cx_G} {N : dNt} {bc bs : Nat} {Q : cd_Qt} (H : dI g N.2) (M : cx_M) (P : dP) (L : dL) (a0 : Nat) (h : jAbl_listIterator N bc bs M P L a0 Q) : cd_Met l g yJ1_listIterator cJ1_listIterator (esJ1_listIterator bc bs) cd_rA [.ref a0] M P L Q :=
  cd_met (by decide +kernel) rfl rfl (lv := [(0, .ref a0)]) rfl (cx_le rfl) (fun X hX => cq_sub (lv' := [(0, .ref a0)]) [0] rfl (jAbl_listIterator_0_v H hX M P L 0 0 ⟨Nat.zero_le _, Nat.zero_le _⟩ h))

abbrev esJ22_iterator (bc bs : Nat) : cx_S := (1, RJ22, cx_rI, { frames := 4, cells := bc, slots := bs, locals := 86 }, some (.object "java/util/Iterator"), false)
def jAsl_iterator_0 (N : dNt) (bc bs : Nat) (Q : cd_Qt) (a0 : Nat) (M : cx_M) (P : dP) (L : dL) (k n : Nat) : Prop :=
  (a0, (0, 22, 0)) ∈ L ∧
  jAbl_listIterator N (bc - k) (bs - n) M P L a0 (fun M1 P2 L3 v4 r5 e9 k6 n7 => e9 = 0 → cd_add k k6 n n7 fun k8 n9 =>
  Q M1 P2 L3 0 r5 0 k8 n9)
set_option maxRecDepth 100000 in
theorem jAsl_iterator_0_v {l : Launch} {g : cx_G} {X : cx_X} {N : dNt} {bc bs : Nat} {Q : cd_Qt} {a0 : Nat} (H : dI g N.2) (hX : X.2.2.2.2.2.2.1.name = "iterator") (M : cx_M) (P : dP) (L : dL) (k n : Nat) (hk : k ≤ bc ∧ n ≤ bs) (h : jAsl_iterator_0 N bc bs Q a0 M P L k n) : cq_V l (dG g L P) X (esJ22_iterator bc bs) cJ22_iterator 0 [(0, .ref a0)] [] M k n (cd_fin g X (esJ22_iterator bc bs) cd_rA Q) := by
  unfold jAsl_iterator_0 at h
  refine cq_aload_n 0 dJ22_iterator_0 rfl ?_
  obtain ⟨hmr, h⟩ := h
  refine cd_cU (x := ⟨"java/util/AbstractSequentialList", "listIterator", "()Ljava/util/ListIterator;"⟩) [] [] (jAbl_listIterator_m H (N := N) (bc := bc - k) (bs := bs - n) M P L a0 h) (dG_Rc H.1.1 hmr dCl_J23) dJ22_iterator_1 gd_J22_65 hgd_J22_65 ⟨cx_le rfl, cx_le rfl⟩ (cd_bud hk) rfl (cx_le rfl) (fun M1 P2 L3 v4 r5 k6 n7 hk2 h => ?_)
  refine cd_addI (h rfl) (cd_bk hk hk2) (fun k8 n9 h hk => ?_)
  exact cd_aret (v := r5) hk h rfl (Or.inl ⟨_, rfl⟩) dJ22_iterator_4
def jAsl_iterator (N : dNt) (bc bs : Nat) (M : cx_M) (P : dP) (L : dL) (a0 : Nat) (Q : cd_Qt) : Prop := jAsl_iterator_0 N bc bs Q a0 M P L 0 0
set_option maxRecDepth 100000 in
theorem jAsl_iterator_m {l : Launch} {g : cx_G} {N : dNt} {bc bs : Nat} {Q : cd_Qt} (H : dI g N.2) (M : cx_M) (P : dP) (L : dL) (a0 : Nat) (h : jAsl_iterator N bc bs M P L a0 Q) : cd_Met l g yJ22_iterator cJ22_iterator (esJ22_iterator bc bs) cd_rA [.ref a0] M P L Q :=
  cd_met (by decide +kernel) rfl rfl (lv := [(0, .ref a0)]) rfl (cx_le rfl) (fun X hX => cq_sub (lv' := [(0, .ref a0)]) [0] rfl (jAsl_iterator_0_v H hX M P L 0 0 ⟨Nat.zero_le _, Nat.zero_le _⟩ h))

abbrev esJ0_initQ (bc bs : Nat) : cx_S := (1, RJ0, cx_rI, { frames := 1, cells := bc, slots := bs, locals := 20 }, none, false)
def jAbc_initQ_0 (N : dNt) (bc bs : Nat) (Q : cd_Qt) (a0 : Nat) (M : cx_M) (P : dP) (L : dL) (k n : Nat) : Prop :=
  Q M P L 0 none 0 k n
set_option maxRecDepth 100000 in
theorem jAbc_initQ_0_v {l : Launch} {g : cx_G} {X : cx_X} {N : dNt} {bc bs : Nat} {Q : cd_Qt} {a0 : Nat} (H : dI g N.2) (hX : X.2.2.2.2.2.2.1.name = "<init>") (M : cx_M) (P : dP) (L : dL) (k n : Nat) (hk : k ≤ bc ∧ n ≤ bs) (h : jAbc_initQ_0 N bc bs Q a0 M P L k n) : cq_V l (dG g L P) X (esJ0_initQ bc bs) cJ0_init 0 [(0, .ref a0)] [] M k n (cd_fin g X (esJ0_initQ bc bs) cd_rV Q) := by
  unfold jAbc_initQ_0 at h
  refine cq_aload_n 0 dJ0_init_0 rfl ?_
  refine cd_oinit q195 q176 q177 dJ0_init_1 (cx_le rfl) (cx_le rfl) ?_
  exact cd_vret hk h rfl dJ0_init_4
def jAbc_initQ (N : dNt) (bc bs : Nat) (M : cx_M) (P : dP) (L : dL) (a0 : Nat) (Q : cd_Qt) : Prop := jAbc_initQ_0 N bc bs Q a0 M P L 0 0
set_option maxRecDepth 100000 in
theorem jAbc_initQ_m {l : Launch} {g : cx_G} {N : dNt} {bc bs : Nat} {Q : cd_Qt} (H : dI g N.2) (M : cx_M) (P : dP) (L : dL) (a0 : Nat) (h : jAbc_initQ N bc bs M P L a0 Q) : cd_Met l g yJ0_init cJ0_init (esJ0_initQ bc bs) cd_rV [.ref a0] M P L Q :=
  cd_met (by decide +kernel) rfl rfl (lv := [(0, .ref a0)]) rfl (cx_le rfl) (fun X hX => cq_sub (lv' := [(0, .ref a0)]) [0] rfl (jAbc_initQ_0_v H hX M P L 0 0 ⟨Nat.zero_le _, Nat.zero_le _⟩ h))

abbrev esJ20_init (bc bs : Nat) : cx_S := (1, RJ20, cx_rI, { frames := 2, cells := bc, slots := bs, locals := 40 }, none, false)
def jAd_init_0 (N : dNt) (bc bs : Nat) (Q : cd_Qt) (a0 : Nat) (M : cx_M) (P : dP) (L : dL) (k n : Nat) : Prop :=
  jAbc_initQ N (bc - k) (bs - n) M P L a0 (fun M1 P2 L3 v4 r5 e9 k6 n7 => e9 = 0 → cd_add k k6 n n7 fun k8 n9 =>
  cd_newa bc bs k8 n9 17 (fun z => (3, 4, z)) M1 P2 L3 fun a10 M11 P12 L13 k14 n15 =>
  (a0, (0, 19, 0)) ∈ L13 ∧ cd_put P12 a0 0 (some a10) fun P16 =>
  Q M11 P16 L13 0 none 0 k14 n15)
set_option maxRecDepth 100000 in
theorem jAd_init_0_v {l : Launch} {g : cx_G} {X : cx_X} {N : dNt} {bc bs : Nat} {Q : cd_Qt} {a0 : Nat} (H : dI g N.2) (hX : X.2.2.2.2.2.2.1.name = "<init>") (M : cx_M) (P : dP) (L : dL) (k n : Nat) (hk : k ≤ bc ∧ n ≤ bs) (h : jAd_init_0 N bc bs Q a0 M P L k n) : cq_V l (dG g L P) X (esJ20_init bc bs) cJ20_init 0 [(0, .ref a0)] [] M k n (cd_fin g X (esJ20_init bc bs) cd_rV Q) := by
  unfold jAd_init_0 at h
  refine cq_aload_n 0 dJ20_init_0 rfl ?_
  refine cd_cI [] [] (jAbc_initQ_m H (N := N) (bc := bc - k) (bs := bs - n) M P L a0 h) dJ20_init_1 gd_J20_42Q rfl q118 q929 q193 rfl hgd_J20_42Q ⟨cx_le rfl, cx_le rfl⟩ (cd_bud hk) rfl (cx_le rfl) (fun M1 P2 L3 v4 r5 k6 n7 hk2 h => ?_)
  refine cd_addI (h rfl) (cd_bk hk hk2) (fun k8 n9 h hk => ?_)
  refine cq_aload_n 0 dJ20_init_4 rfl ?_
  refine cq_bipush 17 dJ20_init_5 cx_bp_17 ?_
  refine cd_newR H.1.1 h ⟨rfl, rfl⟩ q930 (H.1.2.2.1) rfl dJ20_init_7 (fun a10 M11 P12 L13 k14 n15 h hk => ?_)
  refine cq_nd H.1.1 (fun hn => cd_putR (v := (some a10)) H.1.1 hn h.1 h.2 dCl_J20 (cx_lt rfl) rfl rfl rfl cd_nfA rfl q931 dJ20_init_10 (fun P16 h => ?_))
  exact cd_vret hk h rfl dJ20_init_13
def jAd_init (N : dNt) (bc bs : Nat) (M : cx_M) (P : dP) (L : dL) (a0 : Nat) (Q : cd_Qt) : Prop := jAd_init_0 N bc bs Q a0 M P L 0 0
set_option maxRecDepth 100000 in
theorem jAd_init_m {l : Launch} {g : cx_G} {N : dNt} {bc bs : Nat} {Q : cd_Qt} (H : dI g N.2) (M : cx_M) (P : dP) (L : dL) (a0 : Nat) (h : jAd_init N bc bs M P L a0 Q) : cd_Met l g yJ20_init cJ20_init (esJ20_init bc bs) cd_rV [.ref a0] M P L Q :=
  cd_met (by decide +kernel) rfl rfl (lv := [(0, .ref a0)]) rfl (cx_le rfl) (fun X hX => cq_sub (lv' := [(0, .ref a0)]) [0] rfl (jAd_init_0_v H hX M P L 0 0 ⟨Nat.zero_le _, Nat.zero_le _⟩ h))

abbrev esJ20_isEmpty (bc bs : Nat) : cx_S := (1, RJ20, cx_rI, { frames := 0, cells := bc, slots := bs, locals := 0 }, some .boolean, false)
def jAd_isEmpty_0 (N : dNt) (bc bs : Nat) (Q : cd_Qt) (a0 : Nat) (M : cx_M) (P : dP) (L : dL) (k n : Nat) : Prop :=
  (a0, (0, 19, 0)) ∈ L ∧ cq_get M (dc a0) 1 fun v1 =>
  (a0, (0, 19, 0)) ∈ L ∧ cq_get M (dc a0) 2 fun v2 =>
  if v1 = v2 then (
    Q M P L 1 none 0 k n)
  else (
    Q M P L 0 none 0 k n)
set_option maxRecDepth 100000 in
theorem jAd_isEmpty_0_v {l : Launch} {g : cx_G} {X : cx_X} {N : dNt} {bc bs : Nat} {Q : cd_Qt} {a0 : Nat} (H : dI g N.2) (hX : X.2.2.2.2.2.2.1.name = "isEmpty") (M : cx_M) (P : dP) (L : dL) (k n : Nat) (hk : k ≤ bc ∧ n ≤ bs) (h : jAd_isEmpty_0 N bc bs Q a0 M P L k n) : cq_V l (dG g L P) X (esJ20_isEmpty bc bs) cJ20_isEmpty 0 [(0, .ref a0)] [] M k n (cd_fin g X (esJ20_isEmpty bc bs) cd_rI Q) := by
  unfold jAd_isEmpty_0 at h
  refine cq_aload_n 0 dJ20_isEmpty_0 rfl ?_
  refine cq_nd H.1.1 (fun hn => cq_getI h.2 (dG_FI H.1.1 hn h.1 dCl_J20 (cx_lt rfl) rfl rfl rfl) q932 dJ20_isEmpty_1 (fun v1 h => ?_))
  refine cq_aload_n 0 dJ20_isEmpty_4 rfl ?_
  refine cq_nd H.1.1 (fun hn => cq_getI h.2 (dG_FI H.1.1 hn h.1 dCl_J20 (cx_lt rfl) rfl rfl rfl) q933 dJ20_isEmpty_5 (fun v2 h => ?_))
  refine cq_icmp_ne 15 h dJ20_isEmpty_8 rfl (fun h => ?_) (fun h => ?_)
  · refine cq_iconst 0 dJ20_isEmpty_15 cx_ic_0 ?_
    exact cd_zret hk h cx_z_0 rfl dJ20_isEmpty_16
  · refine cq_iconst 1 dJ20_isEmpty_11 cx_ic_1 ?_
    refine cq_goto 16 dJ20_isEmpty_12 rfl ?_
    exact cd_zret hk h cx_z_1 rfl dJ20_isEmpty_16
def jAd_isEmpty (N : dNt) (bc bs : Nat) (M : cx_M) (P : dP) (L : dL) (a0 : Nat) (Q : cd_Qt) : Prop := jAd_isEmpty_0 N bc bs Q a0 M P L 0 0
set_option maxRecDepth 100000 in
theorem jAd_isEmpty_m {l : Launch} {g : cx_G} {N : dNt} {bc bs : Nat} {Q : cd_Qt} (H : dI g N.2) (M : cx_M) (P : dP) (L : dL) (a0 : Nat) (h : jAd_isEmpty N bc bs M P L a0 Q) : cd_Met l g yJ20_isEmpty cJ20_isEmpty (esJ20_isEmpty bc bs) cd_rI [.ref a0] M P L Q :=
  cd_met (by decide +kernel) rfl rfl (lv := [(0, .ref a0)]) rfl (cx_le rfl) (fun X hX => cq_sub (lv' := [(0, .ref a0)]) [0] rfl (jAd_isEmpty_0_v H hX M P L 0 0 ⟨Nat.zero_le _, Nat.zero_le _⟩ h))

abbrev esJ20_inc (bc bs : Nat) : cx_S := (2, RJ20, cx_rI, { frames := 0, cells := bc, slots := bs, locals := 0 }, some .int, false)
def jAd_inc_0 (N : dNt) (bc bs : Nat) (Q : cd_Qt) (M : cx_M) (P : dP) (L : dL) (k n : Nat) (x0 : Int32) (x1 : Int32) : Prop :=
  cq_let (x0 + 1) fun v1 =>
  if v1 < x1 then (
    Q M P L v1 none 0 k n)
  else (
    Q M P L 0 none 0 k n)
set_option maxRecDepth 100000 in
theorem jAd_inc_0_v {l : Launch} {g : cx_G} {X : cx_X} {N : dNt} {bc bs : Nat} {Q : cd_Qt} (H : dI g N.2) (hX : X.2.2.2.2.2.2.1.name = "inc") (M : cx_M) (P : dP) (L : dL) (k n : Nat) (x0 : Int32) (x1 : Int32) (hk : k ≤ bc ∧ n ≤ bs) (h : jAd_inc_0 N bc bs Q M P L k n x0 x1) : cq_V l (dG g L P) X (esJ20_inc bc bs) cJ20_inc 0 [(0, .int x0), (1, .int x1)] [] M k n (cd_fin g X (esJ20_inc bc bs) cd_rI Q) := by
  unfold jAd_inc_0 at h
  refine cq_iinc 0 1 (fun v1 => [(0, .int v1), (1, .int x1)]) h dJ20_inc_0 rfl cx_ic_1 (cx_lt rfl) (fun _ => rfl) (fun v1 h => ?_)
  refine cq_iload_n 0 dJ20_inc_3 rfl ?_
  refine cq_iload_n 1 dJ20_inc_4 rfl ?_
  refine cq_icmp_lt 10 h dJ20_inc_5 rfl (fun h => ?_) (fun h => ?_)
  · refine cq_iload_n 0 dJ20_inc_10 rfl ?_
    exact cd_iret hk h rfl dJ20_inc_11
  · refine cq_iconst 0 dJ20_inc_8 cx_ic_0 ?_
    refine cq_istore_n [(0, .int 0), (1, .int x1)] dJ20_inc_9 (cx_lt rfl) rfl ?_
    refine cq_iload_n 0 dJ20_inc_10 rfl ?_
    exact cd_iret hk h rfl dJ20_inc_11
def jAd_inc (N : dNt) (bc bs : Nat) (M : cx_M) (P : dP) (L : dL) (x0 : Int32) (x1 : Int32) (Q : cd_Qt) : Prop := jAd_inc_0 N bc bs Q M P L 0 0 x0 x1
set_option maxRecDepth 100000 in
theorem jAd_inc_m {l : Launch} {g : cx_G} {N : dNt} {bc bs : Nat} {Q : cd_Qt} (H : dI g N.2) (M : cx_M) (P : dP) (L : dL) (x0 : Int32) (x1 : Int32) (h : jAd_inc N bc bs M P L x0 x1 Q) : cd_Met l g yJ20_inc cJ20_inc (esJ20_inc bc bs) cd_rI [.int x0, .int x1] M P L Q :=
  cd_met (by decide +kernel) rfl rfl (lv := [(0, .int x0), (1, .int x1)]) rfl (cx_le rfl) (fun X hX => cq_sub (lv' := [(0, .int x0), (1, .int x1)]) [0, 1] rfl (jAd_inc_0_v H hX M P L 0 0 x0 x1 ⟨Nat.zero_le _, Nat.zero_le _⟩ h))

abbrev esJ20_dec (bc bs : Nat) : cx_S := (2, RJ20, cx_rI, { frames := 0, cells := bc, slots := bs, locals := 0 }, some .int, false)
def jAd_dec_0 (N : dNt) (bc bs : Nat) (Q : cd_Qt) (M : cx_M) (P : dP) (L : dL) (k n : Nat) (x0 : Int32) (x1 : Int32) : Prop :=
  cq_let (x0 - 1) fun v1 =>
  if 0 ≤ v1 then (
    Q M P L v1 none 0 k n)
  else (
    cq_let (x1 - 1) fun v2 =>
    Q M P L v2 none 0 k n)
set_option maxRecDepth 100000 in
theorem jAd_dec_0_v {l : Launch} {g : cx_G} {X : cx_X} {N : dNt} {bc bs : Nat} {Q : cd_Qt} (H : dI g N.2) (hX : X.2.2.2.2.2.2.1.name = "dec") (M : cx_M) (P : dP) (L : dL) (k n : Nat) (x0 : Int32) (x1 : Int32) (hk : k ≤ bc ∧ n ≤ bs) (h : jAd_dec_0 N bc bs Q M P L k n x0 x1) : cq_V l (dG g L P) X (esJ20_dec bc bs) cJ20_dec 0 [(0, .int x0), (1, .int x1)] [] M k n (cd_fin g X (esJ20_dec bc bs) cd_rI Q) := by
  unfold jAd_dec_0 at h
  refine cq_iincM 0 1 (fun v1 => [(0, .int v1), (1, .int x1)]) h dJ20_dec_0 rfl cx_ic_m1 (cx_lt rfl) (fun _ => rfl) (fun v1 h => ?_)
  refine cq_iload_n 0 dJ20_dec_3 rfl ?_
  refine cq_if_ge 11 h dJ20_dec_4 rfl (fun h => ?_) (fun h => ?_)
  · refine cq_iload_n 0 dJ20_dec_11 rfl ?_
    exact cd_iret hk h rfl dJ20_dec_12
  · refine cq_iload_n 1 dJ20_dec_7 rfl ?_
    refine cq_iconst 1 dJ20_dec_8 cx_ic_1 ?_
    refine cq_isub dJ20_dec_9 ?_
    refine cq_letI h (fun v2 h => ?_)
    refine cq_istore_n [(0, .int v2), (1, .int x1)] dJ20_dec_10 (cx_lt rfl) rfl ?_
    refine cq_iload_n 0 dJ20_dec_11 rfl ?_
    exact cd_iret hk h rfl dJ20_dec_12
def jAd_dec (N : dNt) (bc bs : Nat) (M : cx_M) (P : dP) (L : dL) (x0 : Int32) (x1 : Int32) (Q : cd_Qt) : Prop := jAd_dec_0 N bc bs Q M P L 0 0 x0 x1
set_option maxRecDepth 100000 in
theorem jAd_dec_m {l : Launch} {g : cx_G} {N : dNt} {bc bs : Nat} {Q : cd_Qt} (H : dI g N.2) (M : cx_M) (P : dP) (L : dL) (x0 : Int32) (x1 : Int32) (h : jAd_dec N bc bs M P L x0 x1 Q) : cd_Met l g yJ20_dec cJ20_dec (esJ20_dec bc bs) cd_rI [.int x0, .int x1] M P L Q :=
  cd_met (by decide +kernel) rfl rfl (lv := [(0, .int x0), (1, .int x1)]) rfl (cx_le rfl) (fun X hX => cq_sub (lv' := [(0, .int x0), (1, .int x1)]) [0, 1] rfl (jAd_dec_0_v H hX M P L 0 0 x0 x1 ⟨Nat.zero_le _, Nat.zero_le _⟩ h))

abbrev esJ20_elementAt (bc bs : Nat) : cx_S := (2, RJ20, cx_rI, { frames := 0, cells := bc, slots := bs, locals := 0 }, some (.object "java/lang/Object"), false)
def jAd_elementAt_0 (N : dNt) (bc bs : Nat) (Q : cd_Qt) (b0 : Nat) (M : cx_M) (P : dP) (L : dL) (k n : Nat) (x1 : Int32) : Prop :=
  ∃ z2, (b0, (3, 4, z2)) ∈ L ∧ cd_ldR P b0 z2 x1 fun r1 =>
  Q M P L 0 r1 0 k n
set_option maxRecDepth 100000 in
theorem jAd_elementAt_0_v {l : Launch} {g : cx_G} {X : cx_X} {N : dNt} {bc bs : Nat} {Q : cd_Qt} {b0 : Nat} (H : dI g N.2) (hX : X.2.2.2.2.2.2.1.name = "elementAt") (M : cx_M) (P : dP) (L : dL) (k n : Nat) (x1 : Int32) (hk : k ≤ bc ∧ n ≤ bs) (h : jAd_elementAt_0 N bc bs Q b0 M P L k n x1) : cq_V l (dG g L P) X (esJ20_elementAt bc bs) cJ20_elementAt 0 [(0, .ref b0), (1, .int x1)] [] M k n (cd_fin g X (esJ20_elementAt bc bs) cd_rA Q) := by
  unfold jAd_elementAt_0 at h
  refine cq_aload_n 0 dJ20_elementAt_0 rfl ?_
  refine cq_iload_n 1 dJ20_elementAt_1 rfl ?_
  obtain ⟨z2, hm, h⟩ := h
  refine cd_ldRrow H.1.1 hm h rfl dJ20_elementAt_2 (fun r1 h => ?_)
  exact cd_aret (v := r1) hk h rfl (Or.inl ⟨_, rfl⟩) dJ20_elementAt_3
def jAd_elementAt (N : dNt) (bc bs : Nat) (M : cx_M) (P : dP) (L : dL) (b0 : Nat) (x1 : Int32) (Q : cd_Qt) : Prop := jAd_elementAt_0 N bc bs Q b0 M P L 0 0 x1
set_option maxRecDepth 100000 in
theorem jAd_elementAt_m {l : Launch} {g : cx_G} {N : dNt} {bc bs : Nat} {Q : cd_Qt} (H : dI g N.2) (M : cx_M) (P : dP) (L : dL) (b0 : Nat) (x1 : Int32) (h : jAd_elementAt N bc bs M P L b0 x1 Q) : cd_Met l g yJ20_elementAt cJ20_elementAt (esJ20_elementAt bc bs) cd_rA [.ref b0, .int x1] M P L Q :=
  cd_met (by decide +kernel) rfl rfl (lv := [(0, .ref b0), (1, .int x1)]) rfl (cx_le rfl) (fun X hX => cq_sub (lv' := [(0, .ref b0), (1, .int x1)]) [0, 1] rfl (jAd_elementAt_0_v H hX M P L 0 0 x1 ⟨Nat.zero_le _, Nat.zero_le _⟩ h))

abbrev esJ20_circularClear (bc bs : Nat) : cx_S := (4, RJ20, cx_rI, { frames := 0, cells := bc, slots := bs, locals := 0 }, none, false)
def jAd_circularClear_12b (N : dNt) (bc bs : Nat) (Q : cd_Qt) (b0 : Nat) (r_12 : cx_M → dP → dL → Nat → Nat → Int32 → Int32 → Int32 → Prop) (M : cx_M) (P : dP) (L : dL) (k n : Nat) (x1 : Int32) (x2 : Int32) (x3 : Int32) : Prop :=
  if x3 ≤ x1 then (
    if x3 = x2 then (
      Q M P L 0 none 0 k n)
    else (
      r_12 M P L k n 0 x2 x2))
  else (
    ∃ z1, (b0, (3, 4, z1)) ∈ L ∧ cd_ais (dia N.2) L none ∧ cd_stR P b0 z1 x1 none fun P2 =>
    cq_let (x1 + 1) fun v3 =>
    r_12 M P2 L k n v3 x2 x3)
set_option maxRecDepth 100000 in
theorem jAd_circularClear_12b_v {l : Launch} {g : cx_G} {X : cx_X} {N : dNt} {bc bs : Nat} {Q : cd_Qt} {b0 : Nat} {r_12 : cx_M → dP → dL → Nat → Nat → Int32 → Int32 → Int32 → Prop} (H : dI g N.2) (hX : X.2.2.2.2.2.2.1.name = "circularClear") (hr_12 : ∀ (M : cx_M) (P : dP) (L : dL) (k n : Nat) (x1 : Int32) (x2 : Int32) (x3 : Int32), (k ≤ bc ∧ n ≤ bs) → r_12 M P L k n x1 x2 x3 → cq_V l (dG g L P) X (esJ20_circularClear bc bs) cJ20_circularClear 12 [(0, .ref b0), (1, .int x1), (2, .int x2), (3, .int x3)] [] M k n (cd_fin g X (esJ20_circularClear bc bs) cd_rV Q)) (M : cx_M) (P : dP) (L : dL) (k n : Nat) (x1 : Int32) (x2 : Int32) (x3 : Int32) (hk : k ≤ bc ∧ n ≤ bs) (h : jAd_circularClear_12b N bc bs Q b0 r_12 M P L k n x1 x2 x3) : cq_V l (dG g L P) X (esJ20_circularClear bc bs) cJ20_circularClear 12 [(0, .ref b0), (1, .int x1), (2, .int x2), (3, .int x3)] [] M k n (cd_fin g X (esJ20_circularClear bc bs) cd_rV Q) := by
  unfold jAd_circularClear_12b at h
  refine cq_iload_n 1 dJ20_circularClear_12 rfl ?_
  refine cq_iload_n 3 dJ20_circularClear_13 rfl ?_
  refine cq_icmp_ge 27 h dJ20_circularClear_14 rfl (fun h => ?_) (fun h => ?_)
  · refine cq_iload_n 3 dJ20_circularClear_27 rfl ?_
    refine cq_iload_n 2 dJ20_circularClear_28 rfl ?_
    refine cq_icmp_ne 35 h dJ20_circularClear_29 rfl (fun h => ?_) (fun h => ?_)
    · refine cq_iconst 0 dJ20_circularClear_35 cx_ic_0 ?_
      refine cq_istore_n [(1, .int 0), (0, .ref b0), (2, .int x2), (3, .int x3)] dJ20_circularClear_36 (cx_lt rfl) rfl ?_
      refine cq_iload_n 2 dJ20_circularClear_37 rfl ?_
      refine cq_istore_n [(3, .int x2), (1, .int 0), (0, .ref b0), (2, .int x2)] dJ20_circularClear_38 (cx_lt rfl) rfl ?_
      refine cq_goto 12 dJ20_circularClear_39 rfl ?_
      refine cq_sub (lv' := [(0, .ref b0), (1, .int 0), (2, .int x2), (3, .int x2)]) [2, 1, 3, 0] rfl ?_
      exact hr_12 M P L k n 0 x2 x2 hk h
    · refine cq_goto 42 dJ20_circularClear_32 rfl ?_
      exact cd_vret hk h rfl dJ20_circularClear_42
  · refine cq_aload_n 0 dJ20_circularClear_17 rfl ?_
    refine cq_iload_n 1 dJ20_circularClear_18 rfl ?_
    refine cq_null dJ20_circularClear_19 ?_
    obtain ⟨z1, hm, hai, h⟩ := h
    refine cq_nd H.1.1 (fun hn => cd_aast (v := none) H.1.1 H.2.1 hn hm hai h rfl d16 dCast dJ20_circularClear_20 (fun P2 h => ?_))
    refine cq_iinc 1 1 (fun v3 => [(1, .int v3), (0, .ref b0), (2, .int x2), (3, .int x3)]) h dJ20_circularClear_21 rfl cx_ic_1 (cx_lt rfl) (fun _ => rfl) (fun v3 h => ?_)
    refine cq_goto 12 dJ20_circularClear_24 rfl ?_
    refine cq_sub (lv' := [(0, .ref b0), (1, .int v3), (2, .int x2), (3, .int x3)]) [1, 0, 2, 3] rfl ?_
    exact hr_12 M P2 L k n v3 x2 x3 hk h
def jAd_circularClear_12 (N : dNt) (bc bs : Nat) (Q : cd_Qt) (b0 : Nat) : Nat → cx_M → dP → dL → Nat → Nat → Int32 → Int32 → Int32 → Prop :=
  cx_fix (fun _ _ _ _ _ _ _ _ => False) (fun r_12 => jAd_circularClear_12b N bc bs Q b0 r_12)
theorem jAd_circularClear_12_v {l : Launch} {g : cx_G} {X : cx_X} {N : dNt} {bc bs : Nat} {Q : cd_Qt} {b0 : Nat} (H : dI g N.2) (hX : X.2.2.2.2.2.2.1.name = "circularClear") : ∀ (f : Nat) (M : cx_M) (P : dP) (L : dL) (k n : Nat) (x1 : Int32) (x2 : Int32) (x3 : Int32), (k ≤ bc ∧ n ≤ bs) → jAd_circularClear_12 N bc bs Q b0 f M P L k n x1 x2 x3 → cq_V l (dG g L P) X (esJ20_circularClear bc bs) cJ20_circularClear 12 [(0, .ref b0), (1, .int x1), (2, .int x2), (3, .int x3)] [] M k n (cd_fin g X (esJ20_circularClear bc bs) cd_rV Q) :=
  cx_fixI (fun (r : cx_M → dP → dL → Nat → Nat → Int32 → Int32 → Int32 → Prop) => ∀ (M : cx_M) (P : dP) (L : dL) (k n : Nat) (x1 : Int32) (x2 : Int32) (x3 : Int32), (k ≤ bc ∧ n ≤ bs) → r M P L k n x1 x2 x3 → cq_V l (dG g L P) X (esJ20_circularClear bc bs) cJ20_circularClear 12 [(0, .ref b0), (1, .int x1), (2, .int x2), (3, .int x3)] [] M k n (cd_fin g X (esJ20_circularClear bc bs) cd_rV Q)) (fun _ _ _ _ _ _ _ _ _ h => by cases h) (fun r hr M P L k n x1 x2 x3 hk h => jAd_circularClear_12b_v H hX hr M P L k n x1 x2 x3 hk h)
def jAd_circularClear_11 (N : dNt) (bc bs : Nat) (Q : cd_Qt) (b0 : Nat) (M : cx_M) (P : dP) (L : dL) (k n : Nat) (x1 : Int32) (x2 : Int32) (z0 : Int32) : Prop :=
  jAd_circularClear_12 N bc bs Q b0 N.1 M P L k n x1 x2 z0
set_option maxRecDepth 100000 in
theorem jAd_circularClear_11_v {l : Launch} {g : cx_G} {X : cx_X} {N : dNt} {bc bs : Nat} {Q : cd_Qt} {b0 : Nat} (H : dI g N.2) (hX : X.2.2.2.2.2.2.1.name = "circularClear") (M : cx_M) (P : dP) (L : dL) (k n : Nat) (x1 : Int32) (x2 : Int32) (z0 : Int32) (hk : k ≤ bc ∧ n ≤ bs) (h : jAd_circularClear_11 N bc bs Q b0 M P L k n x1 x2 z0) : cq_V l (dG g L P) X (esJ20_circularClear bc bs) cJ20_circularClear 11 [(0, .ref b0), (1, .int x1), (2, .int x2)] [.int z0] M k n (cd_fin g X (esJ20_circularClear bc bs) cd_rV Q) := by
  unfold jAd_circularClear_11 at h
  refine cq_istore_n [(3, .int z0), (0, .ref b0), (1, .int x1), (2, .int x2)] dJ20_circularClear_11 (cx_lt rfl) rfl ?_
  refine cq_sub (lv' := [(0, .ref b0), (1, .int x1), (2, .int x2), (3, .int z0)]) [1, 2, 3, 0] rfl ?_
  exact jAd_circularClear_12_v H hX N.1 M P L k n x1 x2 z0 hk h
def jAd_circularClear_0 (N : dNt) (bc bs : Nat) (Q : cd_Qt) (b0 : Nat) (M : cx_M) (P : dP) (L : dL) (k n : Nat) (x1 : Int32) (x2 : Int32) : Prop :=
  if x2 < x1 then (
    ∃ z1, (b0, (3, 4, z1)) ∈ L ∧
    jAd_circularClear_11 N bc bs Q b0 M P L k n x1 x2 (nI z1))
  else (
    jAd_circularClear_11 N bc bs Q b0 M P L k n x1 x2 x2)
set_option maxRecDepth 100000 in
theorem jAd_circularClear_0_v {l : Launch} {g : cx_G} {X : cx_X} {N : dNt} {bc bs : Nat} {Q : cd_Qt} {b0 : Nat} (H : dI g N.2) (hX : X.2.2.2.2.2.2.1.name = "circularClear") (M : cx_M) (P : dP) (L : dL) (k n : Nat) (x1 : Int32) (x2 : Int32) (hk : k ≤ bc ∧ n ≤ bs) (h : jAd_circularClear_0 N bc bs Q b0 M P L k n x1 x2) : cq_V l (dG g L P) X (esJ20_circularClear bc bs) cJ20_circularClear 0 [(0, .ref b0), (1, .int x1), (2, .int x2)] [] M k n (cd_fin g X (esJ20_circularClear bc bs) cd_rV Q) := by
  unfold jAd_circularClear_0 at h
  refine cq_iload_n 1 dJ20_circularClear_0 rfl ?_
  refine cq_iload_n 2 dJ20_circularClear_1 rfl ?_
  refine cq_icmp_gt 9 h dJ20_circularClear_2 rfl (fun h => ?_) (fun h => ?_)
  · refine cq_aload_n 0 dJ20_circularClear_9 rfl ?_
    obtain ⟨z1, hm, h⟩ := h
    refine cd_alenR H.1.1 hm rfl dJ20_circularClear_10 ?_
    exact jAd_circularClear_11_v H hX M P L k n x1 x2 (nI z1) hk h
  · refine cq_iload_n 2 dJ20_circularClear_5 rfl ?_
    refine cq_goto 11 dJ20_circularClear_6 rfl ?_
    exact jAd_circularClear_11_v H hX M P L k n x1 x2 x2 hk h
def jAd_circularClear (N : dNt) (bc bs : Nat) (M : cx_M) (P : dP) (L : dL) (b0 : Nat) (x1 : Int32) (x2 : Int32) (Q : cd_Qt) : Prop := jAd_circularClear_0 N bc bs Q b0 M P L 0 0 x1 x2
set_option maxRecDepth 100000 in
theorem jAd_circularClear_m {l : Launch} {g : cx_G} {N : dNt} {bc bs : Nat} {Q : cd_Qt} (H : dI g N.2) (M : cx_M) (P : dP) (L : dL) (b0 : Nat) (x1 : Int32) (x2 : Int32) (h : jAd_circularClear N bc bs M P L b0 x1 x2 Q) : cd_Met l g yJ20_circularClear cJ20_circularClear (esJ20_circularClear bc bs) cd_rV [.ref b0, .int x1, .int x2] M P L Q :=
  cd_met (by decide +kernel) rfl rfl (lv := [(0, .ref b0), (1, .int x1), (2, .int x2)]) rfl (cx_le rfl) (fun X hX => cq_sub (lv' := [(0, .ref b0), (1, .int x1), (2, .int x2)]) [0, 1, 2] rfl (jAd_circularClear_0_v H hX M P L 0 0 x1 x2 ⟨Nat.zero_le _, Nat.zero_le _⟩ h))

abbrev esJ20_clear (bc bs : Nat) : cx_S := (1, RJ20, cx_rI, { frames := 1, cells := bc, slots := bs, locals := 23 }, none, false)
def jAd_clear_0 (N : dNt) (bc bs : Nat) (Q : cd_Qt) (a0 : Nat) (M : cx_M) (P : dP) (L : dL) (k n : Nat) : Prop :=
  (a0, (0, 19, 0)) ∈ L ∧ cd_let (P a0 0) fun r1 =>
  (a0, (0, 19, 0)) ∈ L ∧ cq_get M (dc a0) 1 fun v2 =>
  (a0, (0, 19, 0)) ∈ L ∧ cq_get M (dc a0) 2 fun v3 =>
  cd_nn r1 fun a4 =>
  jAd_circularClear N (bc - k) (bs - n) M P L a4 v2 v3 (fun M5 P6 L7 v8 r9 e9 k10 n11 => e9 = 0 → cd_add k k10 n n11 fun k12 n13 =>
  (a0, (0, 19, 0)) ∈ L7 ∧ cq_put M5 (dc a0) 2 0 fun M14 =>
  (a0, (0, 19, 0)) ∈ L7 ∧ cq_put M14 (dc a0) 1 0 fun M15 =>
  Q M15 P6 L7 0 none 0 k12 n13)
set_option maxRecDepth 100000 in
theorem jAd_clear_0_v {l : Launch} {g : cx_G} {X : cx_X} {N : dNt} {bc bs : Nat} {Q : cd_Qt} {a0 : Nat} (H : dI g N.2) (hX : X.2.2.2.2.2.2.1.name = "clear") (M : cx_M) (P : dP) (L : dL) (k n : Nat) (hk : k ≤ bc ∧ n ≤ bs) (h : jAd_clear_0 N bc bs Q a0 M P L k n) : cq_V l (dG g L P) X (esJ20_clear bc bs) cJ20_clear 0 [(0, .ref a0)] [] M k n (cd_fin g X (esJ20_clear bc bs) cd_rV Q) := by
  unfold jAd_clear_0 at h
  refine cq_aload_n 0 dJ20_clear_0 rfl ?_
  refine cq_getR (dG_FR (k := 0) H.1.1 h.1 dCl_J20 (cx_lt rfl) rfl rfl) q931 dJ20_clear_1 ?_
  refine cd_letI h.2 (fun r1 h => ?_)
  refine cq_aload_n 0 dJ20_clear_4 rfl ?_
  refine cq_nd H.1.1 (fun hn => cq_getI h.2 (dG_FI H.1.1 hn h.1 dCl_J20 (cx_lt rfl) rfl rfl rfl) q932 dJ20_clear_5 (fun v2 h => ?_))
  refine cq_aload_n 0 dJ20_clear_8 rfl ?_
  refine cq_nd H.1.1 (fun hn => cq_getI h.2 (dG_FI H.1.1 hn h.1 dCl_J20 (cx_lt rfl) rfl rfl rfl) q933 dJ20_clear_9 (fun v3 h => ?_))
  obtain ⟨a4, e9, h⟩ := cd_nn_some h
  subst e9
  refine cd_cS [.ref a4, .int v2, .int v3] [] (jAd_circularClear_m H (N := N) (bc := bc - k) (bs := bs - n) M P L a4 v2 v3 h) dJ20_clear_12 gd_J20_181 hgd_J20_181 ⟨cx_le rfl, cx_le rfl⟩ (cd_bud hk) rfl (cx_le rfl) (fun M5 P6 L7 v8 r9 k10 n11 hk2 h => ?_)
  refine cd_addI (h rfl) (cd_bk hk hk2) (fun k12 n13 h hk => ?_)
  refine cq_aload_n 0 dJ20_clear_15 rfl ?_
  refine cq_aload_n 0 dJ20_clear_16 rfl ?_
  refine cq_iconst 0 dJ20_clear_17 cx_ic_0 ?_
  refine cq_dup_x1 dJ20_clear_18 rfl rfl ?_
  refine cq_nd H.1.1 (fun hn => cq_putI h.2 (dG_FI H.1.1 hn h.1 dCl_J20 (cx_lt rfl) rfl rfl rfl) rfl rfl rfl q933 dJ20_clear_19 (fun M14 h => ?_))
  refine cq_nd H.1.1 (fun hn => cq_putI h.2 (dG_FI H.1.1 hn h.1 dCl_J20 (cx_lt rfl) rfl rfl rfl) rfl rfl rfl q932 dJ20_clear_22 (fun M15 h => ?_))
  exact cd_vret hk h rfl dJ20_clear_25
def jAd_clear (N : dNt) (bc bs : Nat) (M : cx_M) (P : dP) (L : dL) (a0 : Nat) (Q : cd_Qt) : Prop := jAd_clear_0 N bc bs Q a0 M P L 0 0
set_option maxRecDepth 100000 in
theorem jAd_clear_m {l : Launch} {g : cx_G} {N : dNt} {bc bs : Nat} {Q : cd_Qt} (H : dI g N.2) (M : cx_M) (P : dP) (L : dL) (a0 : Nat) (h : jAd_clear N bc bs M P L a0 Q) : cd_Met l g yJ20_clear cJ20_clear (esJ20_clear bc bs) cd_rV [.ref a0] M P L Q :=
  cd_met (by decide +kernel) rfl rfl (lv := [(0, .ref a0)]) rfl (cx_le rfl) (fun X hX => cq_sub (lv' := [(0, .ref a0)]) [0] rfl (jAd_clear_0_v H hX M P L 0 0 ⟨Nat.zero_le _, Nat.zero_le _⟩ h))

abbrev esJ20_grow (bc bs : Nat) : cx_S := (9, RJ20, cx_rI, { frames := 3, cells := bc, slots := bs, locals := 84 }, none, false)
def jAd_grow_145b (N : dNt) (bc bs : Nat) (Q : cd_Qt) (a0 : Nat) (r_145 : cx_M → dP → dL → Nat → Nat → Nat → Int32 → Int32 → Prop) (M : cx_M) (P : dP) (L : dL) (k n : Nat) (x5 : Nat) (x7 : Int32) (x8 : Int32) : Prop :=
  if x8 ≤ x7 then (
    Q M P L 0 none 0 k n)
  else (
    ∃ z1, (x5, (3, 4, z1)) ∈ L ∧ cd_ais (dia N.2) L none ∧ cd_stR P x5 z1 x7 none fun P2 =>
    cq_let (x7 + 1) fun v3 =>
    r_145 M P2 L k n x5 v3 x8)
set_option maxRecDepth 100000 in
theorem jAd_grow_145b_v {l : Launch} {g : cx_G} {X : cx_X} {N : dNt} {bc bs : Nat} {Q : cd_Qt} {a0 : Nat} {r_145 : cx_M → dP → dL → Nat → Nat → Nat → Int32 → Int32 → Prop} (H : dI g N.2) (hX : X.2.2.2.2.2.2.1.name = "grow") (hr_145 : ∀ (M : cx_M) (P : dP) (L : dL) (k n : Nat) (x5 : Nat) (x7 : Int32) (x8 : Int32), (k ≤ bc ∧ n ≤ bs) → r_145 M P L k n x5 x7 x8 → cq_V l (dG g L P) X (esJ20_grow bc bs) cJ20_grow 145 [(5, .ref x5), (7, .int x7), (8, .int x8)] [] M k n (cd_fin g X (esJ20_grow bc bs) cd_rV Q)) (M : cx_M) (P : dP) (L : dL) (k n : Nat) (x5 : Nat) (x7 : Int32) (x8 : Int32) (hk : k ≤ bc ∧ n ≤ bs) (h : jAd_grow_145b N bc bs Q a0 r_145 M P L k n x5 x7 x8) : cq_V l (dG g L P) X (esJ20_grow bc bs) cJ20_grow 145 [(5, .ref x5), (7, .int x7), (8, .int x8)] [] M k n (cd_fin g X (esJ20_grow bc bs) cd_rV Q) := by
  unfold jAd_grow_145b at h
  refine cq_iload 1 dJ20_grow_145 rfl ?_
  refine cq_iload 2 dJ20_grow_147 rfl ?_
  refine cq_icmp_ge 164 h dJ20_grow_149 rfl (fun h => ?_) (fun h => ?_)
  · exact cd_vret hk h rfl dJ20_grow_164
  · refine cq_aload 0 dJ20_grow_152 rfl ?_
    refine cq_iload 1 dJ20_grow_154 rfl ?_
    refine cq_null dJ20_grow_156 ?_
    obtain ⟨z1, hm, hai, h⟩ := h
    refine cq_nd H.1.1 (fun hn => cd_aast (v := none) H.1.1 H.2.1 hn hm hai h rfl d16 dCast dJ20_grow_157 (fun P2 h => ?_))
    refine cq_iinc 1 1 (fun v3 => [(7, .int v3), (5, .ref x5), (8, .int x8)]) h dJ20_grow_158 rfl cx_ic_1 (cx_lt rfl) (fun _ => rfl) (fun v3 h => ?_)
    refine cq_goto 145 dJ20_grow_161 rfl ?_
    refine cq_sub (lv' := [(5, .ref x5), (7, .int v3), (8, .int x8)]) [1, 0, 2] rfl ?_
    exact hr_145 M P2 L k n x5 v3 x8 hk h
def jAd_grow_145 (N : dNt) (bc bs : Nat) (Q : cd_Qt) (a0 : Nat) : Nat → cx_M → dP → dL → Nat → Nat → Nat → Int32 → Int32 → Prop :=
  cx_fix (fun _ _ _ _ _ _ _ _ => False) (fun r_145 => jAd_grow_145b N bc bs Q a0 r_145)
theorem jAd_grow_145_v {l : Launch} {g : cx_G} {X : cx_X} {N : dNt} {bc bs : Nat} {Q : cd_Qt} {a0 : Nat} (H : dI g N.2) (hX : X.2.2.2.2.2.2.1.name = "grow") : ∀ (f : Nat) (M : cx_M) (P : dP) (L : dL) (k n : Nat) (x5 : Nat) (x7 : Int32) (x8 : Int32), (k ≤ bc ∧ n ≤ bs) → jAd_grow_145 N bc bs Q a0 f M P L k n x5 x7 x8 → cq_V l (dG g L P) X (esJ20_grow bc bs) cJ20_grow 145 [(5, .ref x5), (7, .int x7), (8, .int x8)] [] M k n (cd_fin g X (esJ20_grow bc bs) cd_rV Q) :=
  cx_fixI (fun (r : cx_M → dP → dL → Nat → Nat → Nat → Int32 → Int32 → Prop) => ∀ (M : cx_M) (P : dP) (L : dL) (k n : Nat) (x5 : Nat) (x7 : Int32) (x8 : Int32), (k ≤ bc ∧ n ≤ bs) → r M P L k n x5 x7 x8 → cq_V l (dG g L P) X (esJ20_grow bc bs) cJ20_grow 145 [(5, .ref x5), (7, .int x7), (8, .int x8)] [] M k n (cd_fin g X (esJ20_grow bc bs) cd_rV Q)) (fun _ _ _ _ _ _ _ _ _ h => by cases h) (fun r hr M P L k n x5 x7 x8 hk h => jAd_grow_145b_v H hX hr M P L k n x5 x7 x8 hk h)
def jAd_grow_96 (N : dNt) (bc bs : Nat) (Q : cd_Qt) (a0 : Nat) (M : cx_M) (P : dP) (L : dL) (k n : Nat) (x2 : Int32) (x3 : Int32) (x5 : Option Nat) : Prop :=
  cq_let (x3 - x2) fun v1 =>
  (a0, (0, 19, 0)) ∈ L ∧ cq_get M (dc a0) 1 fun v2 =>
  (a0, (0, 19, 0)) ∈ L ∧ cq_get M (dc a0) 1 fun v3 =>
  (a0, (0, 19, 0)) ∈ L ∧ cq_get M (dc a0) 1 fun v4 =>
  cd_nn x5 fun a5 =>
  ∃ z6 z7, (a5, (3, 4, z6)) ∈ L ∧ (a5, (3, 4, z7)) ∈ L ∧ cd_cpyR (dia N.2) L P a5 z6 a5 z7 v2 (v3 + v1) (x2 - v4) fun P8 =>
  (a0, (0, 19, 0)) ∈ L ∧ cq_get M (dc a0) 1 fun v9 =>
  (a0, (0, 19, 0)) ∈ L ∧ cq_get M (dc a0) 1 fun v10 =>
  cq_let (v10 + v1) fun v11 =>
  (a0, (0, 19, 0)) ∈ L ∧ cq_put M (dc a0) 1 v11 fun M12 =>
  jAd_grow_145 N bc bs Q a0 N.1 M12 P8 L k n a5 v9 v11
set_option maxRecDepth 100000 in
theorem jAd_grow_96_v {l : Launch} {g : cx_G} {X : cx_X} {N : dNt} {bc bs : Nat} {Q : cd_Qt} {a0 : Nat} (H : dI g N.2) (hX : X.2.2.2.2.2.2.1.name = "grow") (M : cx_M) (P : dP) (L : dL) (k n : Nat) (x2 : Int32) (x3 : Int32) (x5 : Option Nat) (hk : k ≤ bc ∧ n ≤ bs) (h : jAd_grow_96 N bc bs Q a0 M P L k n x2 x3 x5) : cq_V l (dG g L P) X (esJ20_grow bc bs) cJ20_grow 96 [(0, .ref a0), (2, .int x2), (3, .int x3), (5, va_rf x5)] [] M k n (cd_fin g X (esJ20_grow bc bs) cd_rV Q) := by
  unfold jAd_grow_96 at h
  refine cq_iload_n 2 dJ20_grow_96 rfl ?_
  refine cq_iload_n 1 dJ20_grow_97 rfl ?_
  refine cq_isub dJ20_grow_98 ?_
  refine cq_letI h (fun v1 h => ?_)
  refine cq_istore [(6, .int v1), (0, .ref a0), (2, .int x2), (3, .int x3), (5, va_rf x5)] dJ20_grow_99 (cx_lt rfl) (by cases x5 <;> rfl) ?_
  refine cd_aload (v := x5) 4 dJ20_grow_101 rfl ?_
  refine cq_aload_n 1 dJ20_grow_103 rfl ?_
  refine cq_nd H.1.1 (fun hn => cq_getI h.2 (dG_FI H.1.1 hn h.1 dCl_J20 (cx_lt rfl) rfl rfl rfl) q932 dJ20_grow_104 (fun v2 h => ?_))
  refine cd_aload (v := x5) 4 dJ20_grow_107 rfl ?_
  refine cq_aload_n 1 dJ20_grow_109 rfl ?_
  refine cq_nd H.1.1 (fun hn => cq_getI h.2 (dG_FI H.1.1 hn h.1 dCl_J20 (cx_lt rfl) rfl rfl rfl) q932 dJ20_grow_110 (fun v3 h => ?_))
  refine cq_iload 0 dJ20_grow_113 rfl ?_
  refine cq_iadd dJ20_grow_115 ?_
  refine cq_iload_n 2 dJ20_grow_116 rfl ?_
  refine cq_aload_n 1 dJ20_grow_117 rfl ?_
  refine cq_nd H.1.1 (fun hn => cq_getI h.2 (dG_FI H.1.1 hn h.1 dCl_J20 (cx_lt rfl) rfl rfl rfl) q932 dJ20_grow_118 (fun v4 h => ?_))
  refine cq_isub dJ20_grow_121 ?_
  obtain ⟨a5, e9, h⟩ := cd_nn_some h
  subst e9
  obtain ⟨z6, z7, hm0, hm1, h⟩ := h
  refine cq_nd H.1.1 (fun hn => cd_copyR H.1.1 H.2.1 hn hm0 hm1 h d16 dCast dJ20_grow_122 q2235 (cx_le rfl) (cx_le rfl) (fun P8 h => ?_))
  refine cq_aload_n 1 dJ20_grow_125 rfl ?_
  refine cq_nd H.1.1 (fun hn => cq_getI h.2 (dG_FI H.1.1 hn h.1 dCl_J20 (cx_lt rfl) rfl rfl rfl) q932 dJ20_grow_126 (fun v9 h => ?_))
  refine cq_istore [(7, .int v9), (6, .int v1), (0, .ref a0), (2, .int x2), (3, .int x3), (5, .ref a5)] dJ20_grow_129 (cx_lt rfl) rfl ?_
  refine cq_aload_n 2 dJ20_grow_131 rfl ?_
  refine cq_dup dJ20_grow_132 rfl ?_
  refine cq_nd H.1.1 (fun hn => cq_getI h.2 (dG_FI H.1.1 hn h.1 dCl_J20 (cx_lt rfl) rfl rfl rfl) q932 dJ20_grow_133 (fun v10 h => ?_))
  refine cq_iload 1 dJ20_grow_136 rfl ?_
  refine cq_iadd dJ20_grow_138 ?_
  refine cq_letI h (fun v11 h => ?_)
  refine cq_dup_x1 dJ20_grow_139 rfl rfl ?_
  refine cq_nd H.1.1 (fun hn => cq_putI h.2 (dG_FI H.1.1 hn h.1 dCl_J20 (cx_lt rfl) rfl rfl rfl) rfl rfl rfl q932 dJ20_grow_140 (fun M12 h => ?_))
  refine cq_istore [(8, .int v11), (7, .int v9), (6, .int v1), (0, .ref a0), (2, .int x2), (3, .int x3), (5, .ref a5)] dJ20_grow_143 (cx_lt rfl) rfl ?_
  refine cq_sub (lv' := [(5, .ref a5), (7, .int v9), (8, .int v11)]) [6, 1, 0] rfl ?_
  exact jAd_grow_145_v H hX N.1 M12 P8 L k n a5 v9 v11 hk h
def jAd_grow_49 (N : dNt) (bc bs : Nat) (Q : cd_Qt) (a0 : Nat) (M : cx_M) (P : dP) (L : dL) (k n : Nat) (x2 : Int32) (x3 : Int32) : Prop :=
  (a0, (0, 19, 0)) ∈ L ∧ cd_let (P a0 0) fun r1 =>
  cd_nn r1 fun a2 =>
  jR_copyOf_2 N (bc - k) (bs - n) M P L a2 x3 (fun M3 P4 L5 v6 r7 e9 k8 n9 => e9 = 0 → cd_add k k8 n n9 fun k10 n11 =>
  (a0, (0, 19, 0)) ∈ L5 ∧ cd_put P4 a0 0 r7 fun P12 =>
  (a0, (0, 19, 0)) ∈ L5 ∧ cq_get M3 (dc a0) 2 fun v13 =>
  (a0, (0, 19, 0)) ∈ L5 ∧ cq_get M3 (dc a0) 1 fun v14 =>
  if v13 < v14 then (
    jAd_grow_96 N bc bs Q a0 M3 P12 L5 k10 n11 x2 x3 r7)
  else (
    (a0, (0, 19, 0)) ∈ L5 ∧ cq_get M3 (dc a0) 2 fun v15 =>
    (a0, (0, 19, 0)) ∈ L5 ∧ cq_get M3 (dc a0) 1 fun v16 =>
    if v15 = v16 then (
      (a0, (0, 19, 0)) ∈ L5 ∧ cq_get M3 (dc a0) 1 fun v17 =>
      cd_nn r7 fun a18 =>
      ∃ z20, (a18, (3, 4, z20)) ∈ L5 ∧ cd_ldR P12 a18 z20 v17 fun r19 =>
      cd_if r19 (
        Q M3 P12 L5 0 none 0 k10 n11)
      (fun a21 =>
        jAd_grow_96 N bc bs Q a0 M3 P12 L5 k10 n11 x2 x3 ((some a18))))
    else (
      Q M3 P12 L5 0 none 0 k10 n11)))
set_option maxRecDepth 100000 in
theorem jAd_grow_49_v {l : Launch} {g : cx_G} {X : cx_X} {N : dNt} {bc bs : Nat} {Q : cd_Qt} {a0 : Nat} (H : dI g N.2) (hX : X.2.2.2.2.2.2.1.name = "grow") (M : cx_M) (P : dP) (L : dL) (k n : Nat) (x2 : Int32) (x3 : Int32) (hk : k ≤ bc ∧ n ≤ bs) (h : jAd_grow_49 N bc bs Q a0 M P L k n x2 x3) : cq_V l (dG g L P) X (esJ20_grow bc bs) cJ20_grow 49 [(0, .ref a0), (2, .int x2), (3, .int x3)] [] M k n (cd_fin g X (esJ20_grow bc bs) cd_rV Q) := by
  unfold jAd_grow_49 at h
  refine cq_aload_n 0 dJ20_grow_49 rfl ?_
  refine cq_aload_n 0 dJ20_grow_50 rfl ?_
  refine cq_getR (dG_FR (k := 0) H.1.1 h.1 dCl_J20 (cx_lt rfl) rfl rfl) q931 dJ20_grow_51 ?_
  refine cd_letI h.2 (fun r1 h => ?_)
  refine cq_iload_n 2 dJ20_grow_54 rfl ?_
  obtain ⟨a2, e9, h⟩ := cd_nn_some h
  subst e9
  refine cd_cS [.ref a2, .int x3] [.ref a0] (jR_copyOf_2_m H (N := N) (bc := bc - k) (bs := bs - n) M P L a2 x3 h) dJ20_grow_55 gd_J20_14 hgd_J20_14 ⟨cx_le rfl, cx_le rfl⟩ (cd_bud hk) rfl (cx_le rfl) (fun M3 P4 L5 v6 r7 k8 n9 hk2 h => ?_)
  refine cd_addI (h rfl) (cd_bk hk hk2) (fun k10 n11 h hk => ?_)
  refine cq_dup_x1 dJ20_grow_58 (va_rf_cat _) rfl ?_
  refine cq_nd H.1.1 (fun hn => cd_putR (v := r7) H.1.1 hn h.1 h.2 dCl_J20 (cx_lt rfl) rfl rfl rfl cd_nfA rfl q931 dJ20_grow_59 (fun P12 h => ?_))
  refine cd_astore (v := r7) (fun v => [(5, v), (0, .ref a0), (2, .int x2), (3, .int x3)]) dJ20_grow_62 (cx_lt rfl) (fun v => rfl) ?_
  refine cq_aload_n 1 dJ20_grow_64 rfl ?_
  refine cq_nd H.1.1 (fun hn => cq_getI h.2 (dG_FI H.1.1 hn h.1 dCl_J20 (cx_lt rfl) rfl rfl rfl) q933 dJ20_grow_65 (fun v13 h => ?_))
  refine cq_aload_n 1 dJ20_grow_68 rfl ?_
  refine cq_nd H.1.1 (fun hn => cq_getI h.2 (dG_FI H.1.1 hn h.1 dCl_J20 (cx_lt rfl) rfl rfl rfl) q932 dJ20_grow_69 (fun v14 h => ?_))
  refine cq_icmp_lt 96 h dJ20_grow_72 rfl (fun h => ?_) (fun h => ?_)
  · refine cq_sub (lv' := [(0, .ref a0), (2, .int x2), (3, .int x3), (5, va_rf r7)]) [1, 2, 3, 0] rfl ?_
    exact jAd_grow_96_v H hX M3 P12 L5 k10 n11 x2 x3 r7 hk h
  · refine cq_aload_n 1 dJ20_grow_75 rfl ?_
    refine cq_nd H.1.1 (fun hn => cq_getI h.2 (dG_FI H.1.1 hn h.1 dCl_J20 (cx_lt rfl) rfl rfl rfl) q933 dJ20_grow_76 (fun v15 h => ?_))
    refine cq_aload_n 1 dJ20_grow_79 rfl ?_
    refine cq_nd H.1.1 (fun hn => cq_getI h.2 (dG_FI H.1.1 hn h.1 dCl_J20 (cx_lt rfl) rfl rfl rfl) q932 dJ20_grow_80 (fun v16 h => ?_))
    refine cq_icmp_ne 164 h dJ20_grow_83 rfl (fun h => ?_) (fun h => ?_)
    · exact cd_vret hk h rfl dJ20_grow_164
    · refine cd_aload (v := r7) 0 dJ20_grow_86 rfl ?_
      refine cq_aload_n 1 dJ20_grow_88 rfl ?_
      refine cq_nd H.1.1 (fun hn => cq_getI h.2 (dG_FI H.1.1 hn h.1 dCl_J20 (cx_lt rfl) rfl rfl rfl) q932 dJ20_grow_89 (fun v17 h => ?_))
      obtain ⟨a18, e9, h⟩ := cd_nn_some h
      subst e9
      obtain ⟨z20, hm, h⟩ := h
      refine cd_ldRrow H.1.1 hm h rfl dJ20_grow_92 (fun r19 h => ?_)
      refine cd_ifnull 164 h dJ20_grow_93 rfl (fun e9 h => ?_) (fun a21 e9 h => ?_)
      · subst e9
        exact cd_vret hk h rfl dJ20_grow_164
      · subst e9
        refine cq_sub (lv' := [(0, .ref a0), (2, .int x2), (3, .int x3), (5, va_rf (some a18))]) [1, 2, 3, 0] rfl ?_
        exact jAd_grow_96_v H hX M3 P12 L5 k10 n11 x2 x3 ((some a18)) hk h
def jAd_grow_21 (N : dNt) (bc bs : Nat) (Q : cd_Qt) (a0 : Nat) (M : cx_M) (P : dP) (L : dL) (k n : Nat) (x1 : Int32) (x2 : Int32) (z0 : Int32) : Prop :=
  if z0 < x1 then (
    False)
  else (
    cq_let (x2 + z0) fun v1 =>
    if (v1 - 2147483639) ≤ 0 then (
      jAd_grow_49 N bc bs Q a0 M P L k n x2 v1)
    else (
      False))
set_option maxRecDepth 100000 in
theorem jAd_grow_21_v {l : Launch} {g : cx_G} {X : cx_X} {N : dNt} {bc bs : Nat} {Q : cd_Qt} {a0 : Nat} (H : dI g N.2) (hX : X.2.2.2.2.2.2.1.name = "grow") (M : cx_M) (P : dP) (L : dL) (k n : Nat) (x1 : Int32) (x2 : Int32) (z0 : Int32) (hk : k ≤ bc ∧ n ≤ bs) (h : jAd_grow_21 N bc bs Q a0 M P L k n x1 x2 z0) : cq_V l (dG g L P) X (esJ20_grow bc bs) cJ20_grow 21 [(0, .ref a0), (1, .int x1), (2, .int x2)] [.int z0] M k n (cd_fin g X (esJ20_grow bc bs) cd_rV Q) := by
  unfold jAd_grow_21 at h
  refine cq_istore [(4, .int z0), (0, .ref a0), (1, .int x1), (2, .int x2)] dJ20_grow_21 (cx_lt rfl) rfl ?_
  refine cq_iload 0 dJ20_grow_23 rfl ?_
  refine cq_iload_n 2 dJ20_grow_25 rfl ?_
  refine cq_icmp_lt 41 h dJ20_grow_26 rfl (fun h => ?_) (fun h => ?_)
  · cases h
  · refine cq_iload_n 3 dJ20_grow_29 rfl ?_
    refine cq_iload 0 dJ20_grow_30 rfl ?_
    refine cq_iadd dJ20_grow_32 ?_
    refine cq_letI h (fun v1 h => ?_)
    refine cq_dup dJ20_grow_33 rfl ?_
    refine cq_istore_n [(3, .int v1), (4, .int z0), (0, .ref a0), (1, .int x1), (2, .int x2)] dJ20_grow_34 (cx_lt rfl) rfl ?_
    refine cq_ldc 2147483639 dJ20_grow_35 q2228 ?_
    refine cq_isub dJ20_grow_37 ?_
    refine cq_if_le 49 h dJ20_grow_38 rfl (fun h => ?_) (fun h => ?_)
    · refine cq_sub (lv' := [(0, .ref a0), (2, .int x2), (3, .int v1)]) [2, 4, 0] rfl ?_
      exact jAd_grow_49_v H hX M P L k n x2 v1 hk h
    · cases h
def jAd_grow_0 (N : dNt) (bc bs : Nat) (Q : cd_Qt) (a0 : Nat) (M : cx_M) (P : dP) (L : dL) (k n : Nat) (x1 : Int32) : Prop :=
  (a0, (0, 19, 0)) ∈ L ∧ cd_let (P a0 0) fun r1 =>
  cd_nn r1 fun a2 =>
  ∃ z3, (a2, (3, 4, z3)) ∈ L ∧
  cq_let (nI z3) fun v4 =>
  if 64 ≤ v4 then (
    jAd_grow_21 N bc bs Q a0 M P L k n x1 v4 (v4 >>> (1 &&& 31)))
  else (
    jAd_grow_21 N bc bs Q a0 M P L k n x1 v4 (v4 + 2))
set_option maxRecDepth 100000 in
theorem jAd_grow_0_v {l : Launch} {g : cx_G} {X : cx_X} {N : dNt} {bc bs : Nat} {Q : cd_Qt} {a0 : Nat} (H : dI g N.2) (hX : X.2.2.2.2.2.2.1.name = "grow") (M : cx_M) (P : dP) (L : dL) (k n : Nat) (x1 : Int32) (hk : k ≤ bc ∧ n ≤ bs) (h : jAd_grow_0 N bc bs Q a0 M P L k n x1) : cq_V l (dG g L P) X (esJ20_grow bc bs) cJ20_grow 0 [(0, .ref a0), (1, .int x1)] [] M k n (cd_fin g X (esJ20_grow bc bs) cd_rV Q) := by
  unfold jAd_grow_0 at h
  refine cq_aload_n 0 dJ20_grow_0 rfl ?_
  refine cq_getR (dG_FR (k := 0) H.1.1 h.1 dCl_J20 (cx_lt rfl) rfl rfl) q931 dJ20_grow_1 ?_
  refine cd_letI h.2 (fun r1 h => ?_)
  obtain ⟨a2, e9, h⟩ := cd_nn_some h
  subst e9
  obtain ⟨z3, hm, h⟩ := h
  refine cd_alenR H.1.1 hm rfl dJ20_grow_4 ?_
  refine cq_letI h (fun v4 h => ?_)
  refine cq_istore_n [(2, .int v4), (0, .ref a0), (1, .int x1)] dJ20_grow_5 (cx_lt rfl) rfl ?_
  refine cq_iload_n 0 dJ20_grow_6 rfl ?_
  refine cq_bipush 64 dJ20_grow_7 cx_bp_64 ?_
  refine cq_icmp_ge 18 h dJ20_grow_9 rfl (fun h => ?_) (fun h => ?_)
  · refine cq_iload_n 0 dJ20_grow_18 rfl ?_
    refine cq_iconst 1 dJ20_grow_19 cx_ic_1 ?_
    refine cq_ishr dJ20_grow_20 ?_
    refine cq_sub (lv' := [(0, .ref a0), (1, .int x1), (2, .int v4)]) [1, 2, 0] rfl ?_
    exact jAd_grow_21_v H hX M P L k n x1 v4 (v4 >>> (1 &&& 31)) hk h
  · refine cq_iload_n 0 dJ20_grow_12 rfl ?_
    refine cq_iconst 2 dJ20_grow_13 cx_ic_2 ?_
    refine cq_iadd dJ20_grow_14 ?_
    refine cq_goto 21 dJ20_grow_15 rfl ?_
    refine cq_sub (lv' := [(0, .ref a0), (1, .int x1), (2, .int v4)]) [1, 2, 0] rfl ?_
    exact jAd_grow_21_v H hX M P L k n x1 v4 (v4 + 2) hk h
def jAd_grow (N : dNt) (bc bs : Nat) (M : cx_M) (P : dP) (L : dL) (a0 : Nat) (x1 : Int32) (Q : cd_Qt) : Prop := jAd_grow_0 N bc bs Q a0 M P L 0 0 x1
set_option maxRecDepth 100000 in
theorem jAd_grow_m {l : Launch} {g : cx_G} {N : dNt} {bc bs : Nat} {Q : cd_Qt} (H : dI g N.2) (M : cx_M) (P : dP) (L : dL) (a0 : Nat) (x1 : Int32) (h : jAd_grow N bc bs M P L a0 x1 Q) : cd_Met l g yJ20_grow cJ20_grow (esJ20_grow bc bs) cd_rV [.ref a0, .int x1] M P L Q :=
  cd_met (by decide +kernel) rfl rfl (lv := [(0, .ref a0), (1, .int x1)]) rfl (cx_le rfl) (fun X hX => cq_sub (lv' := [(0, .ref a0), (1, .int x1)]) [0, 1] rfl (jAd_grow_0_v H hX M P L 0 0 x1 ⟨Nat.zero_le _, Nat.zero_le _⟩ h))

abbrev esJ20_peekLast (bc bs : Nat) : cx_S := (2, RJ20, cx_rI, { frames := 1, cells := bc, slots := bs, locals := 21 }, some (.object "java/lang/Object"), false)
def jAd_peekLast_0 (N : dNt) (bc bs : Nat) (Q : cd_Qt) (a0 : Nat) (M : cx_M) (P : dP) (L : dL) (k n : Nat) : Prop :=
  (a0, (0, 19, 0)) ∈ L ∧ cd_let (P a0 0) fun r1 =>
  (a0, (0, 19, 0)) ∈ L ∧ cq_get M (dc a0) 2 fun v2 =>
  cd_nn r1 fun a3 =>
  ∃ z4, (a3, (3, 4, z4)) ∈ L ∧
  jAd_dec N (bc - k) (bs - n) M P L v2 (nI z4) (fun M5 P6 L7 v8 r9 e9 k10 n11 => e9 = 0 → cd_add k k10 n n11 fun k12 n13 =>
  jAd_elementAt N (bc - k12) (bs - n13) M5 P6 L7 a3 v8 (fun M14 P15 L16 v17 r18 e9 k19 n20 => e9 = 0 → cd_add k12 k19 n13 n20 fun k21 n22 =>
  Q M14 P15 L16 0 r18 0 k21 n22))
set_option maxRecDepth 100000 in
theorem jAd_peekLast_0_v {l : Launch} {g : cx_G} {X : cx_X} {N : dNt} {bc bs : Nat} {Q : cd_Qt} {a0 : Nat} (H : dI g N.2) (hX : X.2.2.2.2.2.2.1.name = "peekLast") (M : cx_M) (P : dP) (L : dL) (k n : Nat) (hk : k ≤ bc ∧ n ≤ bs) (h : jAd_peekLast_0 N bc bs Q a0 M P L k n) : cq_V l (dG g L P) X (esJ20_peekLast bc bs) cJ20_peekLast 0 [(0, .ref a0)] [] M k n (cd_fin g X (esJ20_peekLast bc bs) cd_rA Q) := by
  unfold jAd_peekLast_0 at h
  refine cq_aload_n 0 dJ20_peekLast_0 rfl ?_
  refine cq_getR (dG_FR (k := 0) H.1.1 h.1 dCl_J20 (cx_lt rfl) rfl rfl) q931 dJ20_peekLast_1 ?_
  refine cd_letI h.2 (fun r1 h => ?_)
  refine cq_dup dJ20_peekLast_4 (va_rf_cat _) ?_
  refine cd_astore_n (v := r1) (fun v => [(1, v), (0, .ref a0)]) dJ20_peekLast_5 (cx_lt rfl) (fun v => rfl) ?_
  refine cq_aload_n 1 dJ20_peekLast_6 rfl ?_
  refine cq_nd H.1.1 (fun hn => cq_getI h.2 (dG_FI H.1.1 hn h.1 dCl_J20 (cx_lt rfl) rfl rfl rfl) q933 dJ20_peekLast_7 (fun v2 h => ?_))
  refine cd_aload_n (v := r1) 0 dJ20_peekLast_10 rfl ?_
  obtain ⟨a3, e9, h⟩ := cd_nn_some h
  subst e9
  obtain ⟨z4, hm, h⟩ := h
  refine cd_alenR H.1.1 hm rfl dJ20_peekLast_11 ?_
  refine cd_cS [.int v2, .int (nI z4)] [.ref a3] (jAd_dec_m H (N := N) (bc := bc - k) (bs := bs - n) M P L v2 (nI z4) h) dJ20_peekLast_12 gd_J20_68 hgd_J20_68 ⟨cx_le rfl, cx_le rfl⟩ (cd_bud hk) rfl (cx_le rfl) (fun M5 P6 L7 v8 r9 k10 n11 hk2 h => ?_)
  refine cd_addI (h rfl) (cd_bk hk hk2) (fun k12 n13 h hk => ?_)
  refine cd_cS [.ref a3, .int v8] [] (jAd_elementAt_m H (N := N) (bc := bc - k12) (bs := bs - n13) M5 P6 L7 a3 v8 h) dJ20_peekLast_15 gd_J20_103 hgd_J20_103 ⟨cx_le rfl, cx_le rfl⟩ (cd_bud hk) rfl (cx_le rfl) (fun M14 P15 L16 v17 r18 k19 n20 hk2 h => ?_)
  refine cd_addI (h rfl) (cd_bk hk hk2) (fun k21 n22 h hk => ?_)
  exact cd_aret (v := r18) hk h rfl (Or.inl ⟨_, rfl⟩) dJ20_peekLast_18
def jAd_peekLast (N : dNt) (bc bs : Nat) (M : cx_M) (P : dP) (L : dL) (a0 : Nat) (Q : cd_Qt) : Prop := jAd_peekLast_0 N bc bs Q a0 M P L 0 0
set_option maxRecDepth 100000 in
theorem jAd_peekLast_m {l : Launch} {g : cx_G} {N : dNt} {bc bs : Nat} {Q : cd_Qt} (H : dI g N.2) (M : cx_M) (P : dP) (L : dL) (a0 : Nat) (h : jAd_peekLast N bc bs M P L a0 Q) : cd_Met l g yJ20_peekLast cJ20_peekLast (esJ20_peekLast bc bs) cd_rA [.ref a0] M P L Q :=
  cd_met (by decide +kernel) rfl rfl (lv := [(0, .ref a0)]) rfl (cx_le rfl) (fun X hX => cq_sub (lv' := [(0, .ref a0)]) [0] rfl (jAd_peekLast_0_v H hX M P L 0 0 ⟨Nat.zero_le _, Nat.zero_le _⟩ h))

abbrev esJ20_peekFirst (bc bs : Nat) : cx_S := (1, RJ20, cx_rI, { frames := 1, cells := bc, slots := bs, locals := 21 }, some (.object "java/lang/Object"), false)
def jAd_peekFirst_0 (N : dNt) (bc bs : Nat) (Q : cd_Qt) (a0 : Nat) (M : cx_M) (P : dP) (L : dL) (k n : Nat) : Prop :=
  (a0, (0, 19, 0)) ∈ L ∧ cd_let (P a0 0) fun r1 =>
  (a0, (0, 19, 0)) ∈ L ∧ cq_get M (dc a0) 1 fun v2 =>
  cd_nn r1 fun a3 =>
  jAd_elementAt N (bc - k) (bs - n) M P L a3 v2 (fun M4 P5 L6 v7 r8 e9 k9 n10 => e9 = 0 → cd_add k k9 n n10 fun k11 n12 =>
  Q M4 P5 L6 0 r8 0 k11 n12)
set_option maxRecDepth 100000 in
theorem jAd_peekFirst_0_v {l : Launch} {g : cx_G} {X : cx_X} {N : dNt} {bc bs : Nat} {Q : cd_Qt} {a0 : Nat} (H : dI g N.2) (hX : X.2.2.2.2.2.2.1.name = "peekFirst") (M : cx_M) (P : dP) (L : dL) (k n : Nat) (hk : k ≤ bc ∧ n ≤ bs) (h : jAd_peekFirst_0 N bc bs Q a0 M P L k n) : cq_V l (dG g L P) X (esJ20_peekFirst bc bs) cJ20_peekFirst 0 [(0, .ref a0)] [] M k n (cd_fin g X (esJ20_peekFirst bc bs) cd_rA Q) := by
  unfold jAd_peekFirst_0 at h
  refine cq_aload_n 0 dJ20_peekFirst_0 rfl ?_
  refine cq_getR (dG_FR (k := 0) H.1.1 h.1 dCl_J20 (cx_lt rfl) rfl rfl) q931 dJ20_peekFirst_1 ?_
  refine cd_letI h.2 (fun r1 h => ?_)
  refine cq_aload_n 0 dJ20_peekFirst_4 rfl ?_
  refine cq_nd H.1.1 (fun hn => cq_getI h.2 (dG_FI H.1.1 hn h.1 dCl_J20 (cx_lt rfl) rfl rfl rfl) q932 dJ20_peekFirst_5 (fun v2 h => ?_))
  obtain ⟨a3, e9, h⟩ := cd_nn_some h
  subst e9
  refine cd_cS [.ref a3, .int v2] [] (jAd_elementAt_m H (N := N) (bc := bc - k) (bs := bs - n) M P L a3 v2 h) dJ20_peekFirst_8 gd_J20_103 hgd_J20_103 ⟨cx_le rfl, cx_le rfl⟩ (cd_bud hk) rfl (cx_le rfl) (fun M4 P5 L6 v7 r8 k9 n10 hk2 h => ?_)
  refine cd_addI (h rfl) (cd_bk hk hk2) (fun k11 n12 h hk => ?_)
  exact cd_aret (v := r8) hk h rfl (Or.inl ⟨_, rfl⟩) dJ20_peekFirst_11
def jAd_peekFirst (N : dNt) (bc bs : Nat) (M : cx_M) (P : dP) (L : dL) (a0 : Nat) (Q : cd_Qt) : Prop := jAd_peekFirst_0 N bc bs Q a0 M P L 0 0
set_option maxRecDepth 100000 in
theorem jAd_peekFirst_m {l : Launch} {g : cx_G} {N : dNt} {bc bs : Nat} {Q : cd_Qt} (H : dI g N.2) (M : cx_M) (P : dP) (L : dL) (a0 : Nat) (h : jAd_peekFirst N bc bs M P L a0 Q) : cd_Met l g yJ20_peekFirst cJ20_peekFirst (esJ20_peekFirst bc bs) cd_rA [.ref a0] M P L Q :=
  cd_met (by decide +kernel) rfl rfl (lv := [(0, .ref a0)]) rfl (cx_le rfl) (fun X hX => cq_sub (lv' := [(0, .ref a0)]) [0] rfl (jAd_peekFirst_0_v H hX M P L 0 0 ⟨Nat.zero_le _, Nat.zero_le _⟩ h))

abbrev esJ20_pollLast (bc bs : Nat) : cx_S := (4, RJ20, cx_rI, { frames := 1, cells := bc, slots := bs, locals := 21 }, some (.object "java/lang/Object"), false)
def jAd_pollLast_0 (N : dNt) (bc bs : Nat) (Q : cd_Qt) (a0 : Nat) (M : cx_M) (P : dP) (L : dL) (k n : Nat) : Prop :=
  (a0, (0, 19, 0)) ∈ L ∧ cd_let (P a0 0) fun r1 =>
  (a0, (0, 19, 0)) ∈ L ∧ cq_get M (dc a0) 2 fun v2 =>
  cd_nn r1 fun a3 =>
  ∃ z4, (a3, (3, 4, z4)) ∈ L ∧
  jAd_dec N (bc - k) (bs - n) M P L v2 (nI z4) (fun M5 P6 L7 v8 r9 e9 k10 n11 => e9 = 0 → cd_add k k10 n n11 fun k12 n13 =>
  jAd_elementAt N (bc - k12) (bs - n13) M5 P6 L7 a3 v8 (fun M14 P15 L16 v17 r18 e9 k19 n20 => e9 = 0 → cd_add k12 k19 n13 n20 fun k21 n22 =>
  cd_if r18 (
    Q M14 P15 L16 0 none 0 k21 n22)
  (fun a23 =>
    (a0, (0, 19, 0)) ∈ L16 ∧ cq_put M14 (dc a0) 2 v8 fun M24 =>
    ∃ z25, (a3, (3, 4, z25)) ∈ L16 ∧ cd_ais (dia N.2) L16 none ∧ cd_stR P15 a3 z25 v8 none fun P26 =>
    Q M24 P26 L16 0 (some a23) 0 k21 n22)))
set_option maxRecDepth 100000 in
theorem jAd_pollLast_0_v {l : Launch} {g : cx_G} {X : cx_X} {N : dNt} {bc bs : Nat} {Q : cd_Qt} {a0 : Nat} (H : dI g N.2) (hX : X.2.2.2.2.2.2.1.name = "pollLast") (M : cx_M) (P : dP) (L : dL) (k n : Nat) (hk : k ≤ bc ∧ n ≤ bs) (h : jAd_pollLast_0 N bc bs Q a0 M P L k n) : cq_V l (dG g L P) X (esJ20_pollLast bc bs) cJ20_pollLast 0 [(0, .ref a0)] [] M k n (cd_fin g X (esJ20_pollLast bc bs) cd_rA Q) := by
  unfold jAd_pollLast_0 at h
  refine cq_aload_n 0 dJ20_pollLast_0 rfl ?_
  refine cq_getR (dG_FR (k := 0) H.1.1 h.1 dCl_J20 (cx_lt rfl) rfl rfl) q931 dJ20_pollLast_1 ?_
  refine cd_letI h.2 (fun r1 h => ?_)
  refine cq_dup dJ20_pollLast_4 (va_rf_cat _) ?_
  refine cd_astore_n (v := r1) (fun v => [(1, v), (0, .ref a0)]) dJ20_pollLast_5 (cx_lt rfl) (fun v => rfl) ?_
  refine cq_aload_n 1 dJ20_pollLast_6 rfl ?_
  refine cq_nd H.1.1 (fun hn => cq_getI h.2 (dG_FI H.1.1 hn h.1 dCl_J20 (cx_lt rfl) rfl rfl rfl) q933 dJ20_pollLast_7 (fun v2 h => ?_))
  refine cd_aload_n (v := r1) 0 dJ20_pollLast_10 rfl ?_
  obtain ⟨a3, e9, h⟩ := cd_nn_some h
  subst e9
  obtain ⟨z4, hm, h⟩ := h
  refine cd_alenR H.1.1 hm rfl dJ20_pollLast_11 ?_
  refine cd_cS [.int v2, .int (nI z4)] [.ref a3] (jAd_dec_m H (N := N) (bc := bc - k) (bs := bs - n) M P L v2 (nI z4) h) dJ20_pollLast_12 gd_J20_68 hgd_J20_68 ⟨cx_le rfl, cx_le rfl⟩ (cd_bud hk) rfl (cx_le rfl) (fun M5 P6 L7 v8 r9 k10 n11 hk2 h => ?_)
  refine cd_addI (h rfl) (cd_bk hk hk2) (fun k12 n13 h hk => ?_)
  refine cq_dup dJ20_pollLast_15 rfl ?_
  refine cq_istore_n [(2, .int v8), (1, .ref a3), (0, .ref a0)] dJ20_pollLast_16 (cx_lt rfl) rfl ?_
  refine cd_cS [.ref a3, .int v8] [] (jAd_elementAt_m H (N := N) (bc := bc - k12) (bs := bs - n13) M5 P6 L7 a3 v8 h) dJ20_pollLast_17 gd_J20_103 hgd_J20_103 ⟨cx_le rfl, cx_le rfl⟩ (cd_bud hk) rfl (cx_le rfl) (fun M14 P15 L16 v17 r18 k19 n20 hk2 h => ?_)
  refine cd_addI (h rfl) (cd_bk hk hk2) (fun k21 n22 h hk => ?_)
  refine cd_astore_n (v := r18) (fun v => [(3, v), (2, .int v8), (1, .ref a3), (0, .ref a0)]) dJ20_pollLast_20 (cx_lt rfl) (fun v => rfl) ?_
  refine cd_aload_n (v := r18) 0 dJ20_pollLast_21 rfl ?_
  refine cd_ifnull 34 h dJ20_pollLast_22 rfl (fun e9 h => ?_) (fun a23 e9 h => ?_)
  · subst e9
    refine cd_aload_n (v := none) 0 dJ20_pollLast_34 rfl ?_
    exact cd_aret (v := none) hk h rfl (Or.inl ⟨_, rfl⟩) dJ20_pollLast_35
  · subst e9
    refine cq_aload_n 2 dJ20_pollLast_25 rfl ?_
    refine cq_aload_n 3 dJ20_pollLast_26 rfl ?_
    refine cq_iload_n 1 dJ20_pollLast_27 rfl ?_
    refine cq_dup_x1 dJ20_pollLast_28 rfl rfl ?_
    refine cq_nd H.1.1 (fun hn => cq_putI h.2 (dG_FI H.1.1 hn h.1 dCl_J20 (cx_lt rfl) rfl rfl rfl) rfl rfl rfl q933 dJ20_pollLast_29 (fun M24 h => ?_))
    refine cq_null dJ20_pollLast_32 ?_
    obtain ⟨z25, hm, hai, h⟩ := h
    refine cq_nd H.1.1 (fun hn => cd_aast (v := none) H.1.1 H.2.1 hn hm hai h rfl d16 dCast dJ20_pollLast_33 (fun P26 h => ?_))
    refine cq_aload_n 0 dJ20_pollLast_34 rfl ?_
    exact cd_aret (v := (some a23)) hk h rfl (Or.inl ⟨_, rfl⟩) dJ20_pollLast_35
def jAd_pollLast (N : dNt) (bc bs : Nat) (M : cx_M) (P : dP) (L : dL) (a0 : Nat) (Q : cd_Qt) : Prop := jAd_pollLast_0 N bc bs Q a0 M P L 0 0
set_option maxRecDepth 100000 in
theorem jAd_pollLast_m {l : Launch} {g : cx_G} {N : dNt} {bc bs : Nat} {Q : cd_Qt} (H : dI g N.2) (M : cx_M) (P : dP) (L : dL) (a0 : Nat) (h : jAd_pollLast N bc bs M P L a0 Q) : cd_Met l g yJ20_pollLast cJ20_pollLast (esJ20_pollLast bc bs) cd_rA [.ref a0] M P L Q :=
  cd_met (by decide +kernel) rfl rfl (lv := [(0, .ref a0)]) rfl (cx_le rfl) (fun X hX => cq_sub (lv' := [(0, .ref a0)]) [0] rfl (jAd_pollLast_0_v H hX M P L 0 0 ⟨Nat.zero_le _, Nat.zero_le _⟩ h))

abbrev esJ20_pollFirst (bc bs : Nat) : cx_S := (4, RJ20, cx_rI, { frames := 1, cells := bc, slots := bs, locals := 21 }, some (.object "java/lang/Object"), false)
def jAd_pollFirst_0 (N : dNt) (bc bs : Nat) (Q : cd_Qt) (a0 : Nat) (M : cx_M) (P : dP) (L : dL) (k n : Nat) : Prop :=
  (a0, (0, 19, 0)) ∈ L ∧ cd_let (P a0 0) fun r1 =>
  (a0, (0, 19, 0)) ∈ L ∧ cq_get M (dc a0) 1 fun v2 =>
  cd_nn r1 fun a3 =>
  jAd_elementAt N (bc - k) (bs - n) M P L a3 v2 (fun M4 P5 L6 v7 r8 e9 k9 n10 => e9 = 0 → cd_add k k9 n n10 fun k11 n12 =>
  cd_if r8 (
    Q M4 P5 L6 0 none 0 k11 n12)
  (fun a13 =>
    ∃ z14, (a3, (3, 4, z14)) ∈ L6 ∧ cd_ais (dia N.2) L6 none ∧ cd_stR P5 a3 z14 v2 none fun P15 =>
    ∃ z16, (a3, (3, 4, z16)) ∈ L6 ∧
    jAd_inc N (bc - k11) (bs - n12) M4 P15 L6 v2 (nI z16) (fun M17 P18 L19 v20 r21 e9 k22 n23 => e9 = 0 → cd_add k11 k22 n12 n23 fun k24 n25 =>
    (a0, (0, 19, 0)) ∈ L19 ∧ cq_put M17 (dc a0) 1 v20 fun M26 =>
    Q M26 P18 L19 0 (some a13) 0 k24 n25)))
set_option maxRecDepth 100000 in
theorem jAd_pollFirst_0_v {l : Launch} {g : cx_G} {X : cx_X} {N : dNt} {bc bs : Nat} {Q : cd_Qt} {a0 : Nat} (H : dI g N.2) (hX : X.2.2.2.2.2.2.1.name = "pollFirst") (M : cx_M) (P : dP) (L : dL) (k n : Nat) (hk : k ≤ bc ∧ n ≤ bs) (h : jAd_pollFirst_0 N bc bs Q a0 M P L k n) : cq_V l (dG g L P) X (esJ20_pollFirst bc bs) cJ20_pollFirst 0 [(0, .ref a0)] [] M k n (cd_fin g X (esJ20_pollFirst bc bs) cd_rA Q) := by
  unfold jAd_pollFirst_0 at h
  refine cq_aload_n 0 dJ20_pollFirst_0 rfl ?_
  refine cq_getR (dG_FR (k := 0) H.1.1 h.1 dCl_J20 (cx_lt rfl) rfl rfl) q931 dJ20_pollFirst_1 ?_
  refine cd_letI h.2 (fun r1 h => ?_)
  refine cq_dup dJ20_pollFirst_4 (va_rf_cat _) ?_
  refine cd_astore_n (v := r1) (fun v => [(1, v), (0, .ref a0)]) dJ20_pollFirst_5 (cx_lt rfl) (fun v => rfl) ?_
  refine cq_aload_n 1 dJ20_pollFirst_6 rfl ?_
  refine cq_nd H.1.1 (fun hn => cq_getI h.2 (dG_FI H.1.1 hn h.1 dCl_J20 (cx_lt rfl) rfl rfl rfl) q932 dJ20_pollFirst_7 (fun v2 h => ?_))
  refine cq_dup dJ20_pollFirst_10 rfl ?_
  refine cq_istore_n [(2, .int v2), (1, va_rf r1), (0, .ref a0)] dJ20_pollFirst_11 (cx_lt rfl) (by cases r1 <;> rfl) ?_
  obtain ⟨a3, e9, h⟩ := cd_nn_some h
  subst e9
  refine cd_cS [.ref a3, .int v2] [] (jAd_elementAt_m H (N := N) (bc := bc - k) (bs := bs - n) M P L a3 v2 h) dJ20_pollFirst_12 gd_J20_103 hgd_J20_103 ⟨cx_le rfl, cx_le rfl⟩ (cd_bud hk) rfl (cx_le rfl) (fun M4 P5 L6 v7 r8 k9 n10 hk2 h => ?_)
  refine cd_addI (h rfl) (cd_bk hk hk2) (fun k11 n12 h hk => ?_)
  refine cd_astore_n (v := r8) (fun v => [(3, v), (2, .int v2), (1, .ref a3), (0, .ref a0)]) dJ20_pollFirst_15 (cx_lt rfl) (fun v => rfl) ?_
  refine cd_aload_n (v := r8) 0 dJ20_pollFirst_16 rfl ?_
  refine cd_ifnull 34 h dJ20_pollFirst_17 rfl (fun e9 h => ?_) (fun a13 e9 h => ?_)
  · subst e9
    refine cd_aload_n (v := none) 0 dJ20_pollFirst_34 rfl ?_
    exact cd_aret (v := none) hk h rfl (Or.inl ⟨_, rfl⟩) dJ20_pollFirst_35
  · subst e9
    refine cq_aload_n 2 dJ20_pollFirst_20 rfl ?_
    refine cq_iload_n 1 dJ20_pollFirst_21 rfl ?_
    refine cq_null dJ20_pollFirst_22 ?_
    obtain ⟨z14, hm, hai, h⟩ := h
    refine cq_nd H.1.1 (fun hn => cd_aast (v := none) H.1.1 H.2.1 hn hm hai h rfl d16 dCast dJ20_pollFirst_23 (fun P15 h => ?_))
    refine cq_aload_n 3 dJ20_pollFirst_24 rfl ?_
    refine cq_iload_n 1 dJ20_pollFirst_25 rfl ?_
    refine cq_aload_n 2 dJ20_pollFirst_26 rfl ?_
    obtain ⟨z16, hm, h⟩ := h
    refine cd_alenR H.1.1 hm rfl dJ20_pollFirst_27 ?_
    refine cd_cS [.int v2, .int (nI z16)] [.ref a0] (jAd_inc_m H (N := N) (bc := bc - k11) (bs := bs - n12) M4 P15 L6 v2 (nI z16) h) dJ20_pollFirst_28 gd_J20_74 hgd_J20_74 ⟨cx_le rfl, cx_le rfl⟩ (cd_bud hk) rfl (cx_le rfl) (fun M17 P18 L19 v20 r21 k22 n23 hk2 h => ?_)
    refine cd_addI (h rfl) (cd_bk hk hk2) (fun k24 n25 h hk => ?_)
    refine cq_nd H.1.1 (fun hn => cq_putI h.2 (dG_FI H.1.1 hn h.1 dCl_J20 (cx_lt rfl) rfl rfl rfl) rfl rfl rfl q932 dJ20_pollFirst_31 (fun M26 h => ?_))
    refine cq_aload_n 0 dJ20_pollFirst_34 rfl ?_
    exact cd_aret (v := (some a13)) hk h rfl (Or.inl ⟨_, rfl⟩) dJ20_pollFirst_35
def jAd_pollFirst (N : dNt) (bc bs : Nat) (M : cx_M) (P : dP) (L : dL) (a0 : Nat) (Q : cd_Qt) : Prop := jAd_pollFirst_0 N bc bs Q a0 M P L 0 0
set_option maxRecDepth 100000 in
theorem jAd_pollFirst_m {l : Launch} {g : cx_G} {N : dNt} {bc bs : Nat} {Q : cd_Qt} (H : dI g N.2) (M : cx_M) (P : dP) (L : dL) (a0 : Nat) (h : jAd_pollFirst N bc bs M P L a0 Q) : cd_Met l g yJ20_pollFirst cJ20_pollFirst (esJ20_pollFirst bc bs) cd_rA [.ref a0] M P L Q :=
  cd_met (by decide +kernel) rfl rfl (lv := [(0, .ref a0)]) rfl (cx_le rfl) (fun X hX => cq_sub (lv' := [(0, .ref a0)]) [0] rfl (jAd_pollFirst_0_v H hX M P L 0 0 ⟨Nat.zero_le _, Nat.zero_le _⟩ h))

abbrev esJ20_addLast (bc bs : Nat) : cx_S := (3, RJ20, cx_rI, { frames := 4, cells := bc, slots := bs, locals := 112 }, none, false)
def jAd_addLast_0 (N : dNt) (bc bs : Nat) (Q : cd_Qt) (a0 : Nat) (M : cx_M) (P : dP) (L : dL) (k n : Nat) (x1 : Option Nat) : Prop :=
  cd_if x1 (
    False)
  (fun a1 =>
    (a0, (0, 19, 0)) ∈ L ∧ cd_let (P a0 0) fun r2 =>
    (a0, (0, 19, 0)) ∈ L ∧ cq_get M (dc a0) 2 fun v3 =>
    cd_nn r2 fun a4 =>
    ∃ z5, (a4, (3, 4, z5)) ∈ L ∧ cd_ais (dia N.2) L (some a1) ∧ cd_stR P a4 z5 v3 (some a1) fun P6 =>
    (a0, (0, 19, 0)) ∈ L ∧ cq_get M (dc a0) 1 fun v7 =>
    (a0, (0, 19, 0)) ∈ L ∧ cq_get M (dc a0) 2 fun v8 =>
    ∃ z9, (a4, (3, 4, z9)) ∈ L ∧
    jAd_inc N (bc - k) (bs - n) M P6 L v8 (nI z9) (fun M10 P11 L12 v13 r14 e9 k15 n16 => e9 = 0 → cd_add k k15 n n16 fun k17 n18 =>
    (a0, (0, 19, 0)) ∈ L12 ∧ cq_put M10 (dc a0) 2 v13 fun M19 =>
    if v7 = v13 then (
      (a0, (0, 19, 0)) ∈ L12 ∧
      jAd_grow N (bc - k17) (bs - n18) M19 P11 L12 a0 1 (fun M20 P21 L22 v23 r24 e9 k25 n26 => e9 = 0 → cd_add k17 k25 n18 n26 fun k27 n28 =>
      Q M20 P21 L22 0 none 0 k27 n28))
    else (
      Q M19 P11 L12 0 none 0 k17 n18)))
set_option maxRecDepth 100000 in
theorem jAd_addLast_0_v {l : Launch} {g : cx_G} {X : cx_X} {N : dNt} {bc bs : Nat} {Q : cd_Qt} {a0 : Nat} (H : dI g N.2) (hX : X.2.2.2.2.2.2.1.name = "addLast") (M : cx_M) (P : dP) (L : dL) (k n : Nat) (x1 : Option Nat) (hk : k ≤ bc ∧ n ≤ bs) (h : jAd_addLast_0 N bc bs Q a0 M P L k n x1) : cq_V l (dG g L P) X (esJ20_addLast bc bs) cJ20_addLast 0 [(0, .ref a0), (1, va_rf x1)] [] M k n (cd_fin g X (esJ20_addLast bc bs) cd_rV Q) := by
  unfold jAd_addLast_0 at h
  refine cd_aload_n (v := x1) 1 dJ20_addLast_0 rfl ?_
  refine cd_ifnonnullT 12 h dJ20_addLast_1 rfl (fun a1 e9 h => ?_) (fun e9 h => ?_)
  · subst e9
    refine cq_aload_n 0 dJ20_addLast_12 rfl ?_
    refine cq_getR (dG_FR (k := 0) H.1.1 h.1 dCl_J20 (cx_lt rfl) rfl rfl) q931 dJ20_addLast_13 ?_
    refine cd_letI h.2 (fun r2 h => ?_)
    refine cd_astore_n (v := r2) (fun v => [(2, v), (0, .ref a0), (1, .ref a1)]) dJ20_addLast_16 (cx_lt rfl) (fun v => rfl) ?_
    refine cd_aload_n (v := r2) 0 dJ20_addLast_17 rfl ?_
    refine cq_aload_n 1 dJ20_addLast_18 rfl ?_
    refine cq_nd H.1.1 (fun hn => cq_getI h.2 (dG_FI H.1.1 hn h.1 dCl_J20 (cx_lt rfl) rfl rfl rfl) q933 dJ20_addLast_19 (fun v3 h => ?_))
    refine cq_aload_n 2 dJ20_addLast_22 rfl ?_
    obtain ⟨a4, e9, h⟩ := cd_nn_some h
    subst e9
    obtain ⟨z5, hm, hai, h⟩ := h
    refine cq_nd H.1.1 (fun hn => cd_aast (v := (some a1)) H.1.1 H.2.1 hn hm hai h rfl d16 dCast dJ20_addLast_23 (fun P6 h => ?_))
    refine cq_aload_n 1 dJ20_addLast_24 rfl ?_
    refine cq_nd H.1.1 (fun hn => cq_getI h.2 (dG_FI H.1.1 hn h.1 dCl_J20 (cx_lt rfl) rfl rfl rfl) q932 dJ20_addLast_25 (fun v7 h => ?_))
    refine cq_aload_n 1 dJ20_addLast_28 rfl ?_
    refine cq_aload_n 1 dJ20_addLast_29 rfl ?_
    refine cq_nd H.1.1 (fun hn => cq_getI h.2 (dG_FI H.1.1 hn h.1 dCl_J20 (cx_lt rfl) rfl rfl rfl) q933 dJ20_addLast_30 (fun v8 h => ?_))
    refine cq_aload_n 0 dJ20_addLast_33 rfl ?_
    obtain ⟨z9, hm, h⟩ := h
    refine cd_alenR H.1.1 hm rfl dJ20_addLast_34 ?_
    refine cd_cS [.int v8, .int (nI z9)] [.ref a0, .int v7] (jAd_inc_m H (N := N) (bc := bc - k) (bs := bs - n) M P6 L v8 (nI z9) h) dJ20_addLast_35 gd_J20_74 hgd_J20_74 ⟨cx_le rfl, cx_le rfl⟩ (cd_bud hk) rfl (cx_le rfl) (fun M10 P11 L12 v13 r14 k15 n16 hk2 h => ?_)
    refine cd_addI (h rfl) (cd_bk hk hk2) (fun k17 n18 h hk => ?_)
    refine cq_dup_x1 dJ20_addLast_38 rfl rfl ?_
    refine cq_nd H.1.1 (fun hn => cq_putI h.2 (dG_FI H.1.1 hn h.1 dCl_J20 (cx_lt rfl) rfl rfl rfl) rfl rfl rfl q933 dJ20_addLast_39 (fun M19 h => ?_))
    refine cq_icmp_ne 50 h dJ20_addLast_42 rfl (fun h => ?_) (fun h => ?_)
    · exact cd_vret hk h rfl dJ20_addLast_50
    · refine cq_aload_n 1 dJ20_addLast_45 rfl ?_
      refine cq_iconst 1 dJ20_addLast_46 cx_ic_1 ?_
      obtain ⟨hmr, h⟩ := h
      refine cd_cV [.int 1] [] (jAd_grow_m H (N := N) (bc := bc - k17) (bs := bs - n18) M19 P11 L12 a0 1 h) (dG_Rc H.1.1 hmr dCl_J20) dJ20_addLast_47 gd_J20_71 hgd_J20_71 ⟨cx_le rfl, cx_le rfl⟩ (cd_bud hk) rfl (cx_le rfl) (fun M20 P21 L22 v23 r24 k25 n26 hk2 h => ?_)
      refine cd_addI (h rfl) (cd_bk hk hk2) (fun k27 n28 h hk => ?_)
      exact cd_vret hk h rfl dJ20_addLast_50
  · subst e9
    cases h
def jAd_addLast (N : dNt) (bc bs : Nat) (M : cx_M) (P : dP) (L : dL) (a0 : Nat) (x1 : Option Nat) (Q : cd_Qt) : Prop := jAd_addLast_0 N bc bs Q a0 M P L 0 0 x1
set_option maxRecDepth 100000 in
theorem jAd_addLast_m {l : Launch} {g : cx_G} {N : dNt} {bc bs : Nat} {Q : cd_Qt} (H : dI g N.2) (M : cx_M) (P : dP) (L : dL) (a0 : Nat) (x1 : Option Nat) (h : jAd_addLast N bc bs M P L a0 x1 Q) : cd_Met l g yJ20_addLast cJ20_addLast (esJ20_addLast bc bs) cd_rV [.ref a0, va_rf x1] M P L Q :=
  cd_met (by decide +kernel) rfl rfl (lv := [(0, .ref a0), (1, va_rf x1)]) (by cases x1 <;> rfl) (by cases x1 <;> exact cx_le rfl) (fun X hX => cq_sub (lv' := [(0, .ref a0), (1, va_rf x1)]) [0, 1] rfl (jAd_addLast_0_v H hX M P L 0 0 x1 ⟨Nat.zero_le _, Nat.zero_le _⟩ h))
