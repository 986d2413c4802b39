/-! WHAT IS KNOWN: by program (gen/know.py) -/
def kVn : List String := ["PACKET", "TIME", "LAST", "FLYING"]
def kSn : List String := ["WORD", "NUMBER", "SIGN", "BAD", "END"]
abbrev kCa : Term := .static "java/lang/Integer$IntegerCache" "cache" "[Ljava/lang/Integer;"
/-- what the numbers of the world stand for: Strings, constants, the cache of Integers -/
def KN (s : State) (args : Array Value) (adr : Nat → Nat) : Prop :=
  (∀ w, w < 16 → kStr s args (.string "CircuitCellsModel" (kTi.getD w 0)) (twSlen.getD w 0) (twSbyt.getD w []) (adr (1000000 + w)) (adr (1000100 + w))) ∧
  (∀ w, w < 26 → kStr s args (.string "CircuitCells$Reader" (kRi.getD w 0)) (rdS.getD w []).length (rdS.getD w []) (adr (1100000 + w)) (adr (1200000 + w))) ∧
  (∀ e, e < 4 → (Term.static "CircuitCells$Value" (kVn.getD e "") "LCircuitCells$Value;").eval args s none [] s = some (.ref (adr (9200 + e))) ∧ cx_RO "CircuitCells$Value" (adr (9200 + e)) s) ∧
  (∀ e, e < 5 → (Term.static "CircuitCells$Sort" (kSn.getD e "") "LCircuitCells$Sort;").eval args s none [] s = some (.ref (adr (9210 + e)))) ∧
  (Term.static "CircuitCells$Value" "$VALUES" "[LCircuitCells$Value;").eval args s none [] s = some (.ref (adr 9299)) ∧
  (kCa.eval args s none [] s = some (.ref (adr 2000999)) ∧ vb_C (dia adr) (kA s) s s.heap ∧ ∀ j, j < 256 → (Term.elem kCa (.int (Int32.ofNat j))).eval args s none [] s = some (.ref (dia adr j))) ∧
  va_Mi "[Ljava/lang/Object;" (adr 2000998) s
section KF
variable {s : State} {args : Array Value} {D : va_G} {dA : Nat → ClassId} {adr : Nat → Nat}
theorem kn_w {w : Cond} (h1 : w.onTables = true) (h2 : w.keeps = true ∨ ∃ ty, w = .arrayClass ty) (h0 : w.before args s = true) {U : State} (h : cx_K (vG0 D dA (kA s) (kZ s)) U) : va_Nw w U :=
  h.2.2.2 (fun U => va_Nw w U) (va_Nw.of h1 h0) (fun u V hu hv _ _ => hv.elim (fun hW => lm_before h1 h2 hW hu) (fun e => va_Nw.same h1 e hu))
theorem kn_twHs (hts : ∀ w ∈ lw_tbl, w.before args s = true) (hK : KN s args adr) : tw_Hs (vG0 D dA (kA s) (kZ s)) adr := fun U h => ⟨⟨fun i hi => kn_O (hK.1 i hi) h, fun i j hi hj e => Decidable.byContradiction (fun hne => kStr_ne (hK.1 i hi) (hK.1 j hj) ((by decide +kernel : ∀ i, i < 16 → ∀ j, j < 16 → twSlen.getD i 0 < 2 ^ 31 ∧ twSlen.getD j 0 < 2 ^ 31) i hi j hj) ((by decide +kernel : ∀ i, i < 16 → ∀ j, j < 16 → ¬ i = j → twSlen.getD i 0 ≠ twSlen.getD j 0 ∨ ∃ q, q < twSlen.getD i 0 ∧ q < twSlen.getD j 0 ∧ (twSbyt.getD i []).getD q 0 ≠ (twSbyt.getD j []).getD q 0) i hi j hj hne) e)⟩, kn_kR (vk_R.of (hts _ q2655) (hK.1 13 (by decide)).1) h, kn_kR (vk_R.of (hts _ q2676) (hK.1 14 (by decide)).1) h, kn_kR (vk_R.of (hts _ q2677) (hK.1 15 (by decide)).1) h⟩
theorem kn_dMk (hts : ∀ w ∈ lw_tbl, w.before args s = true) (hK : KN s args adr) : dMk (vG0 D dA (kA s) (kZ s)) adr := ⟨fun U h => kn_kR (vk_R.of (hts _ q2377) (hK.1 0 (by decide)).1) h,
  fun U h => kn_kR (vk_R.of (hts _ q2378) (hK.1 1 (by decide)).1) h,
  fun U h => kn_kR (vk_R.of (hts _ q2379) (hK.1 2 (by decide)).1) h,
  fun U h => kn_kR (vk_R.of (hts _ q2380) (hK.1 3 (by decide)).1) h,
  fun U h => kn_kR (vk_R.of (hts _ q2381) (hK.1 4 (by decide)).1) h,
  fun U h => kn_kR (vk_R.of (hts _ q2382) (hK.1 5 (by decide)).1) h,
  fun U h => kn_kR (vk_R.of (hts _ q2383) (hK.1 6 (by decide)).1) h,
  fun U h => kn_kR (vk_R.of (hts _ q2384) (hK.1 7 (by decide)).1) h,
  fun U h => kn_kR (vk_R.of (hts _ q2385) (hK.1 8 (by decide)).1) h,
  fun U h => kn_kR (vk_R.of (hts _ q2386) (hK.1 9 (by decide)).1) h,
  fun U h => kn_kR (vk_R.of (hts _ q2387) (hK.1 10 (by decide)).1) h,
  fun U h => kn_kR (vk_R.of (hts _ q2388) (hK.1 11 (by decide)).1) h,
  fun U h => kn_kR (vk_R.of (hts _ q2389) (hK.1 12 (by decide)).1) h⟩
theorem kn_dRk (hts : ∀ w ∈ lw_tbl, w.before args s = true) (hK : KN s args adr) : dRk (vG0 D dA (kA s) (kZ s)) adr := ⟨fun U h => kn_kR (vk_R.of (hts _ q1380) (hK.2.1 0 (by decide)).1) h,
  fun U h => kn_kR (vk_R.of (hts _ q1744) (hK.2.1 1 (by decide)).1) h,
  fun U h => kn_kR (vk_R.of (hts _ q1578) (hK.2.1 2 (by decide)).1) h,
  fun U h => kn_kR (vk_R.of (hts _ q1586) (hK.2.1 3 (by decide)).1) h,
  fun U h => kn_kR (vk_R.of (hts _ q1587) (hK.2.1 4 (by decide)).1) h,
  fun U h => kn_kR (vk_R.of (hts _ q1588) (hK.2.1 5 (by decide)).1) h,
  fun U h => kn_kR (vk_R.of (hts _ q1589) (hK.2.1 6 (by decide)).1) h,
  fun U h => kn_kR (vk_R.of (hts _ q1590) (hK.2.1 7 (by decide)).1) h,
  fun U h => kn_kR (vk_R.of (hts _ q1591) (hK.2.1 8 (by decide)).1) h,
  fun U h => kn_kR (vk_R.of (hts _ q1592) (hK.2.1 9 (by decide)).1) h,
  fun U h => kn_kR (vk_R.of (hts _ q1593) (hK.2.1 10 (by decide)).1) h,
  fun U h => kn_kR (vk_R.of (hts _ q1607) (hK.2.1 11 (by decide)).1) h,
  fun U h => kn_kR (vk_R.of (hts _ q1638) (hK.2.1 12 (by decide)).1) h,
  fun U h => kn_kR (vk_R.of (hts _ q1743) (hK.2.1 13 (by decide)).1) h,
  fun U h => kn_kR (vk_R.of (hts _ q1742) (hK.2.1 14 (by decide)).1) h,
  fun U h => kn_kR (vk_R.of (hts _ q1647) (hK.2.1 15 (by decide)).1) h,
  fun U h => kn_kR (vk_R.of (hts _ q1730) (hK.2.1 16 (by decide)).1) h,
  fun U h => kn_kR (vk_R.of (hts _ q1731) (hK.2.1 17 (by decide)).1) h,
  fun U h => kn_kR (vk_R.of (hts _ q1729) (hK.2.1 18 (by decide)).1) h,
  fun U h => kn_kR (vk_R.of (hts _ q1700) (hK.2.1 19 (by decide)).1) h,
  fun U h => kn_kR (vk_R.of (hts _ q1701) (hK.2.1 20 (by decide)).1) h,
  fun U h => kn_kR (vk_R.of (hts _ q1673) (hK.2.1 21 (by decide)).1) h,
  fun U h => kn_kR (vk_R.of (hts _ q1682) (hK.2.1 22 (by decide)).1) h,
  fun U h => kn_kR (vk_R.of (hts _ q1683) (hK.2.1 23 (by decide)).1) h,
  fun U h => kn_kR (vk_R.of (hts _ q1684) (hK.2.1 24 (by decide)).1) h,
  fun U h => kn_kR (vk_R.of (hts _ q1685) (hK.2.1 25 (by decide)).1) h⟩
theorem kn_rdStr (hK : KN s args adr) : ∀ w, w < 26 → cx_Str (vG0 D dA (kA s) (kZ s)) (adr (1100000 + w)) (adr (1200000 + w)) (rdSn w) (rdSf w) ∧ ¬ (vG0 D dA (kA s) (kZ s)).2.2.2.1 (adr (1100000 + w)) := fun w hw => kn_Str rfl (hK.2.1 w hw)
theorem kn_dSo (hts : ∀ w ∈ lw_tbl, w.before args s = true) (hK : KN s args adr) : dSo (vG0 D dA (kA s) (kZ s)) adr := fun U h => ⟨kn_Z (hts _ q1425) (hts _ (List.mem_filter.mp q149).1) (hK.2.2.2.1 0 (by decide)) h, kn_Z (hts _ q1430) (hts _ (List.mem_filter.mp q149).1) (hK.2.2.2.1 1 (by decide)) h, kn_Z (hts _ q1435) (hts _ (List.mem_filter.mp q149).1) (hK.2.2.2.1 2 (by decide)) h, kn_Z (hts _ q1437) (hts _ (List.mem_filter.mp q149).1) (hK.2.2.2.1 3 (by decide)) h, kn_Z (hts _ q1394) (hts _ (List.mem_filter.mp q149).1) (hK.2.2.2.1 4 (by decide)) h⟩
theorem kn_BitSet (hts : ∀ w ∈ lw_tbl, w.before args s = true) (hgv : (Jvm.Cond.and given_1 narrow_1).before args s = true) : ∀ U : State, cx_K (vG0 D dA (kA s) (kZ s)) U → va_Z "java/util/BitSet" "$assertionsDisabled" "Z" (.int 1) (kA s) U U.heap := fun U h => kn_Z (hts _ q1155) (hts _ (List.mem_filter.mp q142).1) (ev_int (flat_n hgv _ (by decide +kernel))) h
theorem kn_Mi (hK : KN s args adr) : ∀ U : State, cx_K (vG0 D dA (kA s) (kZ s)) U → va_Mi "[Ljava/lang/Object;" (adr 2000998) U := fun U h => kZ_tb (G := fun U => va_Mi "[Ljava/lang/Object;" (adr 2000998) U) (fun hvm h => va_Mi.moved hvm h) hK.2.2.2.2.2.2 h.2.2.2
theorem kn_Ev (hgv : (Jvm.Cond.and given_1 narrow_1).before args s = true) (hK : KN s args adr) : va_Ef 4 "java/lang/Enum" "ordinal" "I" (fun e => .int (nI e)) (fun e => adr (9200 + e)) (kA s) s s.heap :=
  va_Efof (E := "CircuitCells$Value") (d0 := "LCircuitCells$Value;") (nm := kVn) (tm := fun e => .int (nI e)) (fun i hi => (hK.2.2.1 i hi).1) (fun i hi => flat_n hgv _ (by
    match i, hi with
    | 0, _ => decide +kernel
    | 1, _ => decide +kernel
    | 2, _ => decide +kernel
    | 3, _ => decide +kernel
    | i + 4, hi => exact absurd hi (by omega))) (fun i hi => rfl) (fun a h => kA_old h)
theorem kn_cEn (hts : ∀ w ∈ lw_tbl, w.before args s = true) (hgv : (Jvm.Cond.and given_1 narrow_1).before args s = true) (hK : KN s args adr) : cEn_H0 (vG0 D dA (kA s) (kZ s)) adr := fun U h => ⟨kn_Z (hts _ q1174) (hts _ (List.mem_filter.mp q139).1) (hK.2.2.1 0 (by decide)).1 h, kn_Z (hts _ q1186) (hts _ (List.mem_filter.mp q139).1) (hK.2.2.1 1 (by decide)).1 h, kn_Z (hts _ q1188) (hts _ (List.mem_filter.mp q139).1) (hK.2.2.1 2 (by decide)).1 h, kn_Z (hts _ q1190) (hts _ (List.mem_filter.mp q139).1) (hK.2.2.1 3 (by decide)).1 h, fun e he => ⟨kn_RO (hK.2.2.1 e he).2 h, by
  have h1 := kZ_mv (G := fun U H => va_Ef 4 "java/lang/Enum" "ordinal" "I" (fun e => .int (nI e)) (fun e => adr (9200 + e)) (kA s) U H) (fun hvm h => va_Ef.moved hvm h) (fun h hq => va_Ef.kept h hq) (kn_Ev hgv hK) h.2.2.2
  obtain ⟨cf, k, fi, fl, cell, c1, c2, c3, c4, c5, -⟩ := h1 e he
  exact ⟨cf, k, fi, fl, cell, c1, c2, c3, c4, c5⟩⟩⟩
theorem kn_T (hgv : (Jvm.Cond.and given_1 narrow_1).before args s = true) (hK : KN s args adr) : va_T (.object "java/lang/Integer") (adr 2000999) 256 (fun k => .ref (dia adr k)) (kA s) s s.heap := by
  obtain ⟨t, h1, h2⟩ := va_Tof (s := s) (args := args) (tm := kCa) (ty := .object "java/lang/Integer") (N := 256) (f := fun k => .ref (dia adr k)) (A := kA s) (by decide) (flat_n hgv _ (by decide +kernel)) (ev_int (t := .length kCa) (v := 256) (flat_n hgv _ (by decide +kernel))) hK.2.2.2.2.2.1.2.2 (fun a h => kA_old h)
  rw [hK.2.2.2.2.2.1.1] at h1
  cases h1
  exact h2
theorem kn_dIc (hts : ∀ w ∈ lw_tbl, w.before args s = true) (hgv : (Jvm.Cond.and given_1 narrow_1).before args s = true) (hK : KN s args adr) : dIc (vG0 D dA (kA s) (kZ s)) (dia adr) (adr 2000999) := fun U h => ⟨kn_Z (hts _ q1617) (hts _ (List.mem_filter.mp q151).1) (ev_int (flat_n hgv _ (by decide +kernel))) h, kn_Z (hts _ q1619) (hts _ (List.mem_filter.mp q151).1) hK.2.2.2.2.2.1.1 h, kZ_mv (G := fun U H => va_T (.object "java/lang/Integer") (adr 2000999) 256 (fun k => .ref (dia adr k)) (kA s) U H) (fun hvm h => va_T.moved hvm h) (fun h hq => va_T.kept h hq) (kn_T hgv hK) h.2.2.2, kZ_mv (G := fun U H => vb_C (dia adr) (kA s) U H) (fun hvm h => vb_C.moved hvm h) (fun h hq => vb_C.kept h hq) hK.2.2.2.2.2.1.2.1 h.2.2.2⟩
theorem kn_Fw {x y : MethodName} (hx : x.cls ≠ "java/lang/invoke/MethodHandle" ∧ x.cls ≠ "java/lang/invoke/VarHandle") (h0 : va_Fw "java/util/LinkedList$ListItr" x y s) {U : State} (h : cx_K (vG0 D dA (kA s) (kZ s)) U) : va_Fw "java/util/LinkedList$ListItr" x y U := kZ_tb (G := fun U => va_Fw "java/util/LinkedList$ListItr" x y U) (fun hvm h => va_Fw.moved hx hvm h) h0 h.2.2.2
theorem kn_Fws (hts : ∀ w ∈ lw_tbl, w.before args s = true) : ∀ U, cx_K (vG0 D dA (kA s) (kZ s)) U → va_Fw "java/util/LinkedList$ListItr" ⟨"java/util/Iterator", "hasNext", "()Z"⟩ yJ29_hasNext U ∧ va_Fw "java/util/LinkedList$ListItr" ⟨"java/util/Iterator", "next", "()Ljava/lang/Object;"⟩ yJ29_next U ∧ va_Fw "java/util/LinkedList$ListItr" ⟨"java/util/Iterator", "remove", "()V"⟩ yJ29_remove U := fun U h => ⟨kn_Fw (by decide) (va_Fw.of (hts _ (by decide +kernel)) (hts _ (by decide +kernel)) (hts _ (by decide +kernel)) (hts _ (by decide +kernel)) (hts _ (by decide +kernel))) h, kn_Fw (by decide) (va_Fw.of (hts _ (by decide +kernel)) (hts _ (by decide +kernel)) (hts _ (by decide +kernel)) (hts _ (by decide +kernel)) (hts _ (by decide +kernel))) h, kn_Fw (by decide) (va_Fw.of (hts _ (by decide +kernel)) (hts _ (by decide +kernel)) (hts _ (by decide +kernel)) (hts _ (by decide +kernel)) (hts _ (by decide +kernel))) h⟩
theorem kn_dT {l : Launch} (hl : l.stackTraces = false) (hts : ∀ w ∈ lw_tbl, w.before args s = true) (hgv : (Jvm.Cond.and given_1 narrow_1).before args s = true) : dT l (vG0 D dA (kA s) (kZ s)) := ⟨hl, fun U h => ⟨kZ_mv (G := fun U H => xe_Zq "java/lang/Throwable" "UNASSIGNED_STACK" "[Ljava/lang/StackTraceElement;" (kA s) U H) (fun hvm h => xe_Zq.moved hvm h) (fun h hq => xe_Zq.kept h hq) (xe_Zqof (hts _ (by decide +kernel)) (hts _ (by decide +kernel)) (flat_n hgv _ (by decide +kernel)) (fun a h => kA_old h)) h.2.2.2, kZ_mv (G := fun U H => xe_Zq "java/lang/Throwable" "SUPPRESSED_SENTINEL" "Ljava/util/List;" (kA s) U H) (fun hvm h => xe_Zq.moved hvm h) (fun h hq => xe_Zq.kept h hq) (xe_Zqof (hts _ (by decide +kernel)) (hts _ (by decide +kernel)) (flat_n hgv _ (by decide +kernel)) (fun a h => kA_old h)) h.2.2.2⟩⟩
theorem kn_selp {C : String} {y z : MethodName} (hz : (Cond.selects C z z).before args s = true) (hzy : z.cls = y.cls) (hy : y.cls ≠ "java/lang/invoke/MethodHandle" ∧ y.cls ≠ "java/lang/invoke/VarHandle") (hpriv : (Cond.privateMethod y).before args s = true) (hinst : (Cond.instanceMethod y).before args s = true) : (Cond.selects C y y).before args s = true := by
  obtain ⟨mk, methM, hnamed, hmethM, -, -⟩ := Cond.instanceMethod_spec hinst
  have hfound : s.methodFound? y.cls y.name y.desc = some mk := State.methodFound?_of_named hnamed hy
  simp only [Cond.before, Cond.holds, Cond.value] at hz
  cases hc : s.vm.findClass C with
  | none => simp [hc] at hz
  | some c =>
    cases hf : s.methodFound? z.cls z.name z.desc with
    | none => simp [hc, hf] at hz
    | some r =>
      cases hm : s.methodNamed? z with
      | none => simp [hc, hf, hm] at hz
      | some m =>
        have e1 := findClass_of_methodNamed hm
        rw [hzy] at e1
        have hcls : mk.cls = m.cls := Option.some.inj ((findClass_of_methodNamed hnamed).symm.trans e1)
        have hsel : selectMethod {} s.vm c mk = .method mk := selectMethod_private hmethM (Cond.privateMethod_at hpriv mk methM hnamed hmethM)
        simp only [hc, hf, hm] at hz
        have hi : (s.vm.classes[m.cls]?).any (fun k => !k.isInterface) = true := by
          cases hs : selectMethod {} s.vm c r with
          | method m' => rw [hs] at hz; simp only [beq_iff_eq, Option.some.injEq, Bool.and_eq_true] at hz; exact hz.2
          | _ => rw [hs] at hz; simp at hz
        simp only [Cond.before, Cond.holds, Cond.value, hc, hfound, hnamed, hsel, hcls, hi]
        simp
theorem kn_dH (hts : ∀ w ∈ lw_tbl, w.before args s = true) (hgv : (Jvm.Cond.and given_1 narrow_1).before args s = true) (hA : ∀ U : State, cx_K (vG0 D dA (kA s) (kZ s)) U → ∀ q, U.heap.size ≤ q → kA s q) : dH (vG0 D dA (kA s) (kZ s)) := ⟨vG0_dB hA, kn_cJ hts hgv, fun U h => kn_AO (hts (.arrayOver (.object "java/lang/Object")) (by decide +kernel)) h, kn_BitSet hts hgv, fun U h y hy => by
  have hz := hts (.selects "java/lang/StringBuilder" ⟨"java/lang/AbstractStringBuilder", "getValue", "()[B"⟩ ⟨"java/lang/AbstractStringBuilder", "getValue", "()[B"⟩) (by decide +kernel)
  rcases hy with rfl | rfl
  · exact kn_w (w := .selects "java/lang/StringBuilder" ⟨"java/lang/AbstractStringBuilder", "ensureCapacityInternal", "(I)V"⟩ ⟨"java/lang/AbstractStringBuilder", "ensureCapacityInternal", "(I)V"⟩) rfl (Or.inl rfl) (kn_selp (y := ⟨"java/lang/AbstractStringBuilder", "ensureCapacityInternal", "(I)V"⟩) hz rfl (by decide) (hts _ (by decide +kernel)) (hts _ (by decide +kernel))) h
  · exact kn_w (w := .selects "java/lang/StringBuilder" ⟨"java/lang/AbstractStringBuilder", "newCapacity", "(I)I"⟩ ⟨"java/lang/AbstractStringBuilder", "newCapacity", "(I)I"⟩) rfl (Or.inl rfl) (kn_selp (y := ⟨"java/lang/AbstractStringBuilder", "newCapacity", "(I)I"⟩) hz rfl (by decide) (hts _ (by decide +kernel)) (hts _ (by decide +kernel))) h⟩
theorem kn_hA {U : State} (h : cx_K (vG0 D dA (kA s) (kZ s)) U) (q : Nat) (hq : U.heap.size ≤ q) : kA s q := Nat.le_trans (kZ_sz h.2.2.2) hq
theorem kn_dI (hts : ∀ w ∈ lw_tbl, w.before args s = true) (hgv : (Jvm.Cond.and given_1 narrow_1).before args s = true) (hK : KN s args adr) : dI (vG0 D dA (kA s) (kZ s)) adr := ⟨kn_dH hts hgv (fun U h q hq => kn_hA h q hq), kn_dIc hts hgv hK, kn_Mi hK, kn_Fws hts⟩
theorem kn_dM (hts : ∀ w ∈ lw_tbl, w.before args s = true) (hgv : (Jvm.Cond.and given_1 narrow_1).before args s = true) (hK : KN s args adr) : dM (vG0 D dA (kA s) (kZ s)) adr := ⟨kn_dH hts hgv (fun U h q hq => kn_hA h q hq), fun U h => kn_AO (hts (.arrayOver (.object "java/lang/String")) (by decide +kernel)) h, fun w hw U h => kn_ROs (hK.1 w hw) h, kn_dMk hts hK⟩
end KF
