/-! texts: what the JDK's own methods need; chars -/
def cJ_H (g : cx_G) : Prop := ∀ U, cx_K g U → va_Z "java/lang/String" "COMPACT_STRINGS" "Z" (.int 1) g.2.2.2.1 U U.heap ∧ va_Zq "jdk/internal/util/Preconditions" "SIOOBE_FORMATTER" "Ljava/util/function/BiFunction;" g.2.2.2.1 U U.heap
def cx_BAg (g : cx_G) (v n : Nat) (f : Nat → Int32) : Prop := ∀ (M : cx_M) (U : State), cx_w g M U.heap → cx_K g U → cx_BA v n f U
def cx_char (x : Int32) : Int32 := (x.toUInt32 % 65536).toInt32
def cx_cr (v : Int32) (o : Option cx_R) : Option cx_R := if cx_char v = v then o else none
section CXC
variable {l : Launch} {g : cx_G} {X : cx_X} {S : cx_S} {cc : ByteArray} {pc : Nat} {lv : List (Nat × Value)} {st : List Value} {M : cx_M} {k n : Nat} {rs : cx_R}
theorem cx_getsQ {C nm ds : String} {index : Nat} (hz : ∀ U, cx_K g U → va_Zq C nm ds g.2.2.2.1 U U.heap) (hq : Cond.fieldLink S.2.1 index C nm ds ∈ lw_all) (d : decode cc pc = .ok (.getstatic index, 3)) (K0 : cx_V l g X S cc (pc + 3) lv (.null :: st) M k n rs) (K1 : ∀ t, cx_V l g X S cc (pc + 3) lv (.ref t :: st) M k n rs) : cx_V l g X S cc pc lv st M k n rs := by
  intro hk H locs ls hw hS hl
  rcases hz _ hk.2.2.2.2.2.2.2 with z | ⟨t, z⟩
  · exact va_gets hk.1 hk.2.1 z hS hk.2.2.2.1 (hk.2.2.2.2.1 _ hq) (fun _ h => h) d (K0 hk H locs ls hw hS hl)
  · exact va_gets hk.1 hk.2.1 z hS hk.2.2.2.1 (hk.2.2.2.2.1 _ hq) (fun _ h => h) d (K1 t hk H locs ls hw hS hl)
theorem cx_i2c {x : Int32} (d : decode cc pc = .ok (.i2c, 1)) (K : cx_V l g X S cc (pc + 1) lv (.int (cx_char x) :: st) M k n rs) : cx_V l g X S cc pc lv (.int x :: st) M k n rs := fun hk H locs ls hw hS hl => lv_i2c hk.1 hk.2.1 d rfl (K hk H locs ls hw hS hl)
theorem cx_crI {v : Int32} {o : Option cx_R} (h : cx_cr v o = some rs) (K : narrow .char (.int v) = .int v → o = some rs → cx_V l g X S cc pc lv (.int v :: st) M k n rs) : cx_V l g X S cc pc lv (.int v :: st) M k n rs := by
  unfold cx_cr at h
  split at h
  · next q => exact K (by rw [← q]; exact pk_nc v) h
  · cases h
/-- an answer of a narrow type -/
theorem cx_nret {v : Int32} {ty : FieldType} (h : some (M, v, 0) = some rs) (hz : narrow ty (.int v) = .int v) (hr : S.2.2.2.2.1 = some ty) (hk1 : S.2.2.1 = cx_rI) (hc : k ≤ S.2.2.2.1.cells) (hn : n ≤ S.2.2.2.1.slots) (d : decode cc pc = .ok (.ireturn, 1)) : cx_V l g X S cc pc lv [.int v] M k n rs := by
  intro hk H locs ls hw hS hl
  cases h
  exact W.widen hc hn (cx_finW (fun t q => cx_fin_ret rfl q) (W.zret hk.1 hk.2.1 (by rw [hk.2.2.2.2.2.2.1, hr]) hz (fun t ht hW => ⟨by rw [hk1]; rfl, by rw [ht]; exact hw, hS.F ht⟩) hS.2.2 d (hlocks := hk.2.2.2.2.2.1.1)))
/-- a call through a receiver of which the class is known at the heap at hand; no cell is made; an int comes back -/
theorem cx_cRi {y : MethodName} {cc' : ByteArray} {S' : cx_S} {b index : Nat} {C : String} {o : Option cx_R} {F : cx_M → Int32 → Option cx_R} (As rest : List Value) {st0 : List Value} (h : cx_cal o F = some rs) (hM : ∀ rs', o = some rs' → cx_Met l g y cc' S' (.ref b :: As) M rs') (hB : ∀ (M : cx_M) (U : State), cx_w g M U.heap → cx_K g U → cx_RO C b U)
    (d : decode cc pc = .ok (.invokevirtual index, 3)) (hG : GoodIn lw_all (wsV S.2.1 index C y (ws_ y cc' S'.1 S'.2.2.2.2.1))) (hd : y.cls = C ∧ y.cls ≠ "java/lang/invoke/MethodHandle" ∧ y.cls ≠ "java/lang/invoke/VarHandle" ∧ (parseMethodDescriptor y.desc).map (fun d => d.parameters.length) = some As.length)
    (hR : S'.2.2.2.1.frames + 1 ≤ S.2.2.2.1.frames ∧ 8 + (S'.1 + 11) + S'.2.2.2.1.locals ≤ S.2.2.2.1.locals) (hk1 : S'.2.2.1 = cx_rI) (hz : S'.2.2.2.1.cells = 0 ∧ S'.2.2.2.1.slots = 0) (hf : k ≤ S.2.2.2.1.cells ∧ n ≤ S.2.2.2.1.slots) (hst : st0 = As.reverse ++ .ref b :: rest) (hcat : (rest.map fun v => v.category).sum ≤ 8)
    (K : ∀ M' r, F M' r = some rs → cx_V l g X S cc (pc + 3) lv (.int r :: rest) M' k n rs) : cx_V l g X S cc pc lv st0 M k n rs := by
  refine cx_callR As rest h hM hB d hG hd hR (by rw [hz.1, hz.2]; exact hf) hst hcat (fun M' r h => ?_)
  rw [hz.1, hz.2, hk1]
  exact K M' r h
/-- a call of a method that the receiver's class inherits -/
theorem cx_cUi {x y : MethodName} {cc' : ByteArray} {S' : cx_S} {b index : Nat} {C owner : String} {o : Option cx_R} {F : cx_M → Int32 → Option cx_R} (As rest : List Value) {st0 : List Value} (h : cx_cal o F = some rs) (hM : ∀ rs', o = some rs' → cx_Met l g y cc' S' (.ref b :: As) M rs') (hB : ∀ (M : cx_M) (U : State), cx_w g M U.heap → cx_K g U → cx_RO C b U)
    (d : decode cc pc = .ok (.invokevirtual index, 3)) (hG : GoodIn lw_all (va_wsU S.2.1 index C owner x y (ws_ y cc' S'.1 S'.2.2.2.2.1))) (hyx : y = ⟨owner, x.name, x.desc⟩) (hd : owner ≠ "java/lang/invoke/MethodHandle" ∧ owner ≠ "java/lang/invoke/VarHandle" ∧ (parseMethodDescriptor x.desc).map (fun d => d.parameters.length) = some As.length) (hde : Cond.code y cc' S'.1 S'.2.2.2.2.1 ∈ lw_all)
    (hR : S'.2.2.2.1.frames + 1 ≤ S.2.2.2.1.frames ∧ 8 + (S'.1 + 11) + S'.2.2.2.1.locals ≤ S.2.2.2.1.locals) (hk1 : S'.2.2.1 = cx_rI) (hz : S'.2.2.2.1.cells = 0 ∧ S'.2.2.2.1.slots = 0) (hf : k ≤ S.2.2.2.1.cells ∧ n ≤ S.2.2.2.1.slots) (hst : st0 = As.reverse ++ .ref b :: rest) (hcat : (rest.map fun v => v.category).sum ≤ 8)
    (K : ∀ M' r, F M' r = some rs → cx_V l g X S cc (pc + 3) lv (.int r :: rest) M' k n rs) : cx_V l g X S cc pc lv st0 M k n rs := by
  intro hk H locs ls hw hS hl
  obtain ⟨rs', ho, h⟩ := cx_cal_some h
  subst hst
  refine cx_run hk hS hl (va_runU (mc := S'.2.2.2.1.cells) (ms := S'.2.2.2.1.slots) ⟨hk.1, hk.2.1, hk.2.2.1, hk.2.2.2.1, hk.2.2.2.2.1⟩ (hM rs' ho) (va_cwU As.length hk.2.2.2.2.1 hG rfl rfl rfl hyx hd hR) ⟨cx_blind, hB _ { X.2.2.1 with heap := H } hw (hk.2.2.2.2.2.2.2.at hS), fun U hU hW => ⟨rfl, by rw [hU]; exact hw, cx_K.warm hk.2.2.2.2.2.2.2 hW (by rw [hU]; exact hS)⟩⟩ rfl rfl hl.1 rfl (lv_room hcat) d (by rw [hz.1, hz.2]; exact hf)) ?_
  rw [hz.1, hz.2, hk1]
  exact K _ _ h
end CXC
theorem cx_ic_1 : Int32.ofInt 1 = 1 := by decide +kernel
theorem cx_z_1 : narrow .boolean (.int 1) = .int 1 := by decide +kernel
theorem cx_sp_255 : (Int16.ofInt 255).toInt32 = 255 := by decide +kernel
theorem g_J9_335 : GoodIn lw_all (wsV RJ9 335 RJ9 yJ9_coder (ws_ yJ9_coder cJ9_coder 1 (some .byte))) := lw_V q357 q358 q359 q127 q360
theorem hg_J9_335 : yJ9_coder.cls = RJ9 ∧ yJ9_coder.cls ≠ "java/lang/invoke/MethodHandle" ∧ yJ9_coder.cls ≠ "java/lang/invoke/VarHandle" ∧ (parseMethodDescriptor yJ9_coder.desc).map (fun d => d.parameters.length) = some 0 := by decide +kernel
theorem g_J9_1059 : GoodIn lw_all (va_wsS RJ9 1059 yJ14_checkIndex (ws_ yJ14_checkIndex cJ14_checkIndex 3 (some .int))) := lw_S q1422 q1104 q133 q1105
theorem hg_J9_1059 : yJ14_checkIndex.cls ≠ "java/lang/invoke/MethodHandle" ∧ yJ14_checkIndex.cls ≠ "java/lang/invoke/VarHandle" ∧ (parseMethodDescriptor yJ14_checkIndex.desc).map (fun d => d.parameters.length) = some 3 := by decide +kernel
theorem g_J15_9 : GoodIn lw_all (va_wsS RJ15 9 yJ9_checkIndex (ws_ yJ9_checkIndex cJ9_checkIndex 2 none)) := lw_S q1709 q1420 q127 q1421
theorem hg_J15_9 : yJ9_checkIndex.cls ≠ "java/lang/invoke/MethodHandle" ∧ yJ9_checkIndex.cls ≠ "java/lang/invoke/VarHandle" ∧ (parseMethodDescriptor yJ9_checkIndex.desc).map (fun d => d.parameters.length) = some 2 := by decide +kernel
theorem g_J9_492 : GoodIn lw_all (wsV RJ9 492 RJ9 yJ9_isLatin1 (ws_ yJ9_isLatin1 cJ9_isLatin1 1 (some .boolean))) := lw_V q1521 q1522 q1523 q127 q1524
theorem hg_J9_492 : yJ9_isLatin1.cls = RJ9 ∧ yJ9_isLatin1.cls ≠ "java/lang/invoke/MethodHandle" ∧ yJ9_isLatin1.cls ≠ "java/lang/invoke/VarHandle" ∧ (parseMethodDescriptor yJ9_isLatin1.desc).map (fun d => d.parameters.length) = some 0 := by decide +kernel
theorem g_J9_495 : GoodIn lw_all (va_wsS RJ9 495 yJ15_charAt (ws_ yJ15_charAt cJ15_charAt 2 (some .char))) := lw_S q1706 q1707 q134 q1708
theorem hg_J9_495 : yJ15_charAt.cls ≠ "java/lang/invoke/MethodHandle" ∧ yJ15_charAt.cls ≠ "java/lang/invoke/VarHandle" ∧ (parseMethodDescriptor yJ15_charAt.desc).map (fun d => d.parameters.length) = some 2 := by decide +kernel
abbrev sJ9_coder : cx_S := (1, RJ9, cx_rI, { frames := 0, cells := 0, slots := 0, locals := 0 }, some .byte, false)
noncomputable def jSt_coder_0 (N : Nat) (n : Nat) (f : Nat → Int32) (M : cx_M) : Option cx_R :=
  some (M, 0, 0)
set_option maxRecDepth 100000 in
theorem jSt_coder_0_v {l : Launch} {g : cx_G} {X : cx_X} {N : Nat} {a : Nat} {v : Nat} {n : Nat} {f : Nat → Int32} (H : cJ_H g) (hf : cx_Str g a v n f) (M : cx_M) (rs : cx_R) (h : jSt_coder_0 N n f M = some rs) : cx_V l (g) X sJ9_coder cJ9_coder 0 [(0, .ref a)] [] M 0 0 rs := by
  unfold jSt_coder_0 at h
  refine cx_gets (fun U k => (H U k).1) q361 dJ9_coder_0 ?_
  refine cx_if_eq 13 (A := none) (B := _) ((if_neg (by decide)).trans h) dJ9_coder_3 rfl (fun h => by cases h) (fun h => ?_)
  refine cx_aload_n 0 dJ9_coder_6 rfl ?_
  refine cx_getS (fun M U p q => (hf M U p q).2.1) q503 dJ9_coder_7 ?_
  refine cx_goto 14 dJ9_coder_10 rfl ?_
  exact cx_nret h (by decide +kernel) rfl rfl (cx_le rfl) (cx_le rfl) dJ9_coder_14
noncomputable def jSt_coder (N : Nat) (n : Nat) (f : Nat → Int32) (M : cx_M) : Option cx_R := jSt_coder_0 N n f M
theorem jSt_coder_m {l : Launch} {g : cx_G} {N : Nat} {a : Nat} {v : Nat} {n : Nat} {f : Nat → Int32} (H : cJ_H g) (hf : cx_Str g a v n f) (M : cx_M) (rs : cx_R) (h : jSt_coder N n f M = some rs) : cx_Met l (g) yJ9_coder cJ9_coder sJ9_coder [.ref a] M rs :=
  cx_met (by decide +kernel) rfl rfl (lv := [(0, .ref a)]) rfl (cx_le rfl) (fun X => cx_sub (lv' := [(0, .ref a)]) [0] rfl (jSt_coder_0_v H hf M rs h))

abbrev sJ9_isLatin1 : cx_S := (1, RJ9, cx_rI, { frames := 0, cells := 0, slots := 0, locals := 0 }, some .boolean, false)
noncomputable def jSt_isLatin1_0 (N : Nat) (n : Nat) (f : Nat → Int32) (M : cx_M) : Option cx_R :=
  some (M, 1, 0)
set_option maxRecDepth 100000 in
theorem jSt_isLatin1_0_v {l : Launch} {g : cx_G} {X : cx_X} {N : Nat} {a : Nat} {v : Nat} {n : Nat} {f : Nat → Int32} (H : cJ_H g) (hf : cx_Str g a v n f) (M : cx_M) (rs : cx_R) (h : jSt_isLatin1_0 N n f M = some rs) : cx_V l (g) X sJ9_isLatin1 cJ9_isLatin1 0 [(0, .ref a)] [] M 0 0 rs := by
  unfold jSt_isLatin1_0 at h
  refine cx_gets (fun U k => (H U k).1) q361 dJ9_isLatin1_0 ?_
  refine cx_if_eq 17 (A := none) (B := _) ((if_neg (by decide)).trans h) dJ9_isLatin1_3 rfl (fun h => by cases h) (fun h => ?_)
  refine cx_aload_n 0 dJ9_isLatin1_6 rfl ?_
  refine cx_getS (fun M U p q => (hf M U p q).2.1) q503 dJ9_isLatin1_7 ?_
  refine cx_if_ne 17 (A := _) (B := none) ((if_pos (by decide)).trans h) dJ9_isLatin1_10 rfl (fun h => by cases h) (fun h => ?_)
  refine cx_iconst 1 dJ9_isLatin1_13 cx_ic_1 ?_
  refine cx_goto 18 dJ9_isLatin1_14 rfl ?_
  exact cx_zret h cx_z_1 rfl rfl (cx_le rfl) (cx_le rfl) dJ9_isLatin1_18
noncomputable def jSt_isLatin1 (N : Nat) (n : Nat) (f : Nat → Int32) (M : cx_M) : Option cx_R := jSt_isLatin1_0 N n f M
theorem jSt_isLatin1_m {l : Launch} {g : cx_G} {N : Nat} {a : Nat} {v : Nat} {n : Nat} {f : Nat → Int32} (H : cJ_H g) (hf : cx_Str g a v n f) (M : cx_M) (rs : cx_R) (h : jSt_isLatin1 N n f M = some rs) : cx_Met l (g) yJ9_isLatin1 cJ9_isLatin1 sJ9_isLatin1 [.ref a] M rs :=
  cx_met (by decide +kernel) rfl rfl (lv := [(0, .ref a)]) rfl (cx_le rfl) (fun X => cx_sub (lv' := [(0, .ref a)]) [0] rfl (jSt_isLatin1_0_v H hf M rs h))

abbrev sJ9_length : cx_S := (1, RJ9, cx_rI, { frames := 1, cells := 0, slots := 0, locals := 20 }, some .int, false)
noncomputable def jSt_length_0 (N : Nat) (n : Nat) (f : Nat → Int32) (M : cx_M) : Option cx_R :=
  cx_cal (jSt_coder N n f M) fun M1 v2 =>
  some (M1, (nI n) >>> (v2 &&& 31), 0)
set_option maxRecDepth 100000 in
theorem jSt_length_0_v {l : Launch} {g : cx_G} {X : cx_X} {N : Nat} {a : Nat} {v : Nat} {n : Nat} {f : Nat → Int32} (H : cJ_H g) (hf : cx_Str g a v n f) (M : cx_M) (rs : cx_R) (h : jSt_length_0 N n f M = some rs) : cx_V l (g) X sJ9_length cJ9_length 0 [(0, .ref a)] [] M 0 0 rs := by
  unfold jSt_length_0 at h
  refine cx_aload_n 0 dJ9_length_0 rfl ?_
  refine cx_getS (fun M U p q => (hf M U p q).2.2.1) q502 dJ9_length_1 ?_
  refine cx_alenB (nI n) (fun M U p q => (hf M U p q).2.2.2) rfl dJ9_length_4 ?_
  refine cx_aload_n 0 dJ9_length_5 rfl ?_
  refine cx_cRi [] [.int (nI n)] h (fun rs' h' => jSt_coder_m (N := N) H hf M rs' h') (fun M U p q => (hf M U p q).1) dJ9_length_6 g_J9_335 hg_J9_335 ⟨cx_le rfl, cx_le rfl⟩ rfl ⟨rfl, rfl⟩ ⟨cx_le rfl, cx_le rfl⟩ rfl (cx_le rfl) (fun M1 v2 h => ?_)
  refine cx_ishr dJ9_length_9 ?_
  exact cx_iret h rfl rfl (cx_le rfl) (cx_le rfl) dJ9_length_10
noncomputable def jSt_length (N : Nat) (n : Nat) (f : Nat → Int32) (M : cx_M) : Option cx_R := jSt_length_0 N n f M
theorem jSt_length_m {l : Launch} {g : cx_G} {N : Nat} {a : Nat} {v : Nat} {n : Nat} {f : Nat → Int32} (H : cJ_H g) (hf : cx_Str g a v n f) (M : cx_M) (rs : cx_R) (h : jSt_length N n f M = some rs) : cx_Met l (g) yJ9_length cJ9_length sJ9_length [.ref a] M rs :=
  cx_met (by decide +kernel) rfl rfl (lv := [(0, .ref a)]) rfl (cx_le rfl) (fun X => cx_sub (lv' := [(0, .ref a)]) [0] rfl (jSt_length_0_v H hf M rs h))

abbrev sJ14_checkIndex : cx_S := (3, RJ14, cx_rI, { frames := 0, cells := 0, slots := 0, locals := 0 }, some .int, false)
noncomputable def jPc_checkIndex_0 (N : Nat) (M : cx_M) (x0 : Int32) (x1 : Int32) : Option cx_R :=
  if x0 < 0 then (
    none)
  else (
    if x0 < x1 then (
      some (M, x0, 0))
    else (
      none))
set_option maxRecDepth 100000 in
theorem jPc_checkIndex_0_v {l : Launch} {g : cx_G} {X : cx_X} {N : Nat} {sio : Nat} (H : cJ_H g) (M : cx_M) (x0 : Int32) (x1 : Int32) (rs : cx_R) (h : jPc_checkIndex_0 N M x0 x1 = some rs) : cx_V l (g) X sJ14_checkIndex cJ14_checkIndex 0 [(0, .int x0), (1, .int x1), (2, .ref sio)] [] M 0 0 rs := by
  unfold jPc_checkIndex_0 at h
  refine cx_iload_n 0 dJ14_checkIndex_0 rfl ?_
  refine cx_if_lt 9 h dJ14_checkIndex_1 rfl (fun h => ?_) (fun h => ?_)
  · cases h
  · refine cx_iload_n 0 dJ14_checkIndex_4 rfl ?_
    refine cx_iload_n 1 dJ14_checkIndex_5 rfl ?_
    refine cx_icmp_lt 16 h dJ14_checkIndex_6 rfl (fun h => ?_) (fun h => ?_)
    · refine cx_iload_n 0 dJ14_checkIndex_16 rfl ?_
      exact cx_iret h rfl rfl (cx_le rfl) (cx_le rfl) dJ14_checkIndex_17
    · cases h
noncomputable def jPc_checkIndex (N : Nat) (M : cx_M) (x0 : Int32) (x1 : Int32) : Option cx_R := jPc_checkIndex_0 N M x0 x1
theorem jPc_checkIndex_m {l : Launch} {g : cx_G} {N : Nat} {sio : Nat} (H : cJ_H g) (M : cx_M) (x0 : Int32) (x1 : Int32) (rs : cx_R) (h : jPc_checkIndex N M x0 x1 = some rs) : cx_Met l (g) yJ14_checkIndex cJ14_checkIndex sJ14_checkIndex [.int x0, .int x1, .ref sio] M rs :=
  cx_met (by decide +kernel) rfl rfl (lv := [(0, .int x0), (1, .int x1), (2, .ref sio)]) rfl (cx_le rfl) (fun X => cx_sub (lv' := [(0, .int x0), (1, .int x1), (2, .ref sio)]) [0, 1, 2] rfl (jPc_checkIndex_0_v H M x0 x1 rs h))

noncomputable def jPc_checkIndexN_0 (N : Nat) (M : cx_M) (x0 : Int32) (x1 : Int32) : Option cx_R :=
  if x0 < 0 then (
    none)
  else (
    if x0 < x1 then (
      some (M, x0, 0))
    else (
      none))
set_option maxRecDepth 100000 in
theorem jPc_checkIndexN_0_v {l : Launch} {g : cx_G} {X : cx_X} {N : Nat} (H : cJ_H g) (M : cx_M) (x0 : Int32) (x1 : Int32) (rs : cx_R) (h : jPc_checkIndexN_0 N M x0 x1 = some rs) : cx_V l (g) X sJ14_checkIndex cJ14_checkIndex 0 [(0, .int x0), (1, .int x1), (2, .null)] [] M 0 0 rs := by
  unfold jPc_checkIndexN_0 at h
  refine cx_iload_n 0 dJ14_checkIndex_0 rfl ?_
  refine cx_if_lt 9 h dJ14_checkIndex_1 rfl (fun h => ?_) (fun h => ?_)
  · cases h
  · refine cx_iload_n 0 dJ14_checkIndex_4 rfl ?_
    refine cx_iload_n 1 dJ14_checkIndex_5 rfl ?_
    refine cx_icmp_lt 16 h dJ14_checkIndex_6 rfl (fun h => ?_) (fun h => ?_)
    · refine cx_iload_n 0 dJ14_checkIndex_16 rfl ?_
      exact cx_iret h rfl rfl (cx_le rfl) (cx_le rfl) dJ14_checkIndex_17
    · cases h
noncomputable def jPc_checkIndexN (N : Nat) (M : cx_M) (x0 : Int32) (x1 : Int32) : Option cx_R := jPc_checkIndexN_0 N M x0 x1
theorem jPc_checkIndexN_m {l : Launch} {g : cx_G} {N : Nat} (H : cJ_H g) (M : cx_M) (x0 : Int32) (x1 : Int32) (rs : cx_R) (h : jPc_checkIndexN N M x0 x1 = some rs) : cx_Met l (g) yJ14_checkIndex cJ14_checkIndex sJ14_checkIndex [.int x0, .int x1, .null] M rs :=
  cx_met (by decide +kernel) rfl rfl (lv := [(0, .int x0), (1, .int x1), (2, .null)]) rfl (cx_le rfl) (fun X => cx_sub (lv' := [(0, .int x0), (1, .int x1), (2, .null)]) [0, 1, 2] rfl (jPc_checkIndexN_0_v H M x0 x1 rs h))

abbrev sJ9_checkIndex : cx_S := (2, RJ9, cx_rV, { frames := 1, cells := 0, slots := 0, locals := 22 }, none, false)
noncomputable def jSt_checkIndex_0 (N : Nat) (M : cx_M) (x0 : Int32) (x1 : Int32) : Option cx_R :=
  cx_cal (jPc_checkIndex N M x0 x1) fun M1 v2 =>
  some (M1, 0, 0)
set_option maxRecDepth 100000 in
theorem jSt_checkIndex_0_v {l : Launch} {g : cx_G} {X : cx_X} {N : Nat} (H : cJ_H g) (M : cx_M) (x0 : Int32) (x1 : Int32) (rs : cx_R) (h : jSt_checkIndex_0 N M x0 x1 = some rs) : cx_V l (g) X sJ9_checkIndex cJ9_checkIndex 0 [(0, .int x0), (1, .int x1)] [] M 0 0 rs := by
  unfold jSt_checkIndex_0 at h
  refine cx_iload_n 0 dJ9_checkIndex_0 rfl ?_
  refine cx_iload_n 1 dJ9_checkIndex_1 rfl ?_
  refine cx_getsQ (fun U k => (H U k).2) q339 dJ9_checkIndex_2 ?_ (fun sio => ?_)
  · refine cx_cSi [.int x0, .int x1, .null] [] h (fun rs' h' => jPc_checkIndexN_m (N := N) H M x0 x1 rs' h') dJ9_checkIndex_5 g_J9_1059 hg_J9_1059 ⟨cx_le rfl, cx_le rfl⟩ rfl ⟨rfl, rfl⟩ ⟨cx_le rfl, cx_le rfl⟩ rfl (cx_le rfl) (fun M1 v2 h => ?_)
    refine cx_pop dJ9_checkIndex_8 rfl ?_
    exact cx_vret h rfl rfl (cx_le rfl) (cx_le rfl) dJ9_checkIndex_9
  · refine cx_cSi [.int x0, .int x1, .ref sio] [] h (fun rs' h' => jPc_checkIndex_m (N := N) H M x0 x1 rs' h') dJ9_checkIndex_5 g_J9_1059 hg_J9_1059 ⟨cx_le rfl, cx_le rfl⟩ rfl ⟨rfl, rfl⟩ ⟨cx_le rfl, cx_le rfl⟩ rfl (cx_le rfl) (fun M1 v2 h => ?_)
    refine cx_pop dJ9_checkIndex_8 rfl ?_
    exact cx_vret h rfl rfl (cx_le rfl) (cx_le rfl) dJ9_checkIndex_9
noncomputable def jSt_checkIndex (N : Nat) (M : cx_M) (x0 : Int32) (x1 : Int32) : Option cx_R := jSt_checkIndex_0 N M x0 x1
theorem jSt_checkIndex_m {l : Launch} {g : cx_G} {N : Nat} (H : cJ_H g) (M : cx_M) (x0 : Int32) (x1 : Int32) (rs : cx_R) (h : jSt_checkIndex N M x0 x1 = some rs) : cx_Met l (g) yJ9_checkIndex cJ9_checkIndex sJ9_checkIndex [.int x0, .int x1] M rs :=
  cx_met (by decide +kernel) rfl rfl (lv := [(0, .int x0), (1, .int x1)]) rfl (cx_le rfl) (fun X => cx_sub (lv' := [(0, .int x0), (1, .int x1)]) [0, 1] rfl (jSt_checkIndex_0_v H M x0 x1 rs h))

abbrev sJ15_charAt : cx_S := (2, RJ15, cx_rI, { frames := 2, cells := 0, slots := 0, locals := 43 }, some .char, false)
noncomputable def jLa_charAt_0 (N : Nat) (n0 : Nat) (f0 : Nat → Int32) (M : cx_M) (x1 : Int32) : Option cx_R :=
  cx_cal (jSt_checkIndex N M x1 (nI n0)) fun M1 _ =>
  cx_chk x1 n0 (f0 x1.toNatClampNeg) fun v2 =>
  cx_cr (cx_char (v2 &&& 255)) (some (M1, cx_char (v2 &&& 255), 0))
set_option maxRecDepth 100000 in
theorem jLa_charAt_0_v {l : Launch} {g : cx_G} {X : cx_X} {N : Nat} {v0 : Nat} {n0 : Nat} {f0 : Nat → Int32} (H : cJ_H g) (hf0 : cx_BAg g v0 n0 f0) (M : cx_M) (x1 : Int32) (rs : cx_R) (h : jLa_charAt_0 N n0 f0 M x1 = some rs) : cx_V l (g) X sJ15_charAt cJ15_charAt 0 [(0, .ref v0), (1, .int x1)] [] M 0 0 rs := by
  unfold jLa_charAt_0 at h
  refine cx_iload_n 1 dJ15_charAt_0 rfl ?_
  refine cx_aload_n 0 dJ15_charAt_1 rfl ?_
  refine cx_alenB (nI n0) hf0 rfl dJ15_charAt_2 ?_
  refine cx_cSv [.int x1, .int (nI n0)] [] h (fun rs' h' => jSt_checkIndex_m (N := N) H M x1 (nI n0) rs' h') dJ15_charAt_3 g_J15_9 hg_J15_9 ⟨cx_le rfl, cx_le rfl⟩ rfl ⟨rfl, rfl⟩ ⟨cx_le rfl, cx_le rfl⟩ rfl (cx_le rfl) (fun M1 _ h => ?_)
  refine cx_aload_n 0 dJ15_charAt_6 rfl ?_
  refine cx_iload_n 1 dJ15_charAt_7 rfl ?_
  refine cx_ldB h hf0 dJ15_charAt_8 (fun v2 h => ?_)
  refine cx_sipush 255 dJ15_charAt_9 cx_sp_255 ?_
  refine cx_iand dJ15_charAt_12 ?_
  refine cx_i2c dJ15_charAt_13 ?_
  refine cx_crI h (fun hz h => ?_)
  exact cx_nret h hz rfl rfl (cx_le rfl) (cx_le rfl) dJ15_charAt_14
noncomputable def jLa_charAt (N : Nat) (n0 : Nat) (f0 : Nat → Int32) (M : cx_M) (x1 : Int32) : Option cx_R := jLa_charAt_0 N n0 f0 M x1
theorem jLa_charAt_m {l : Launch} {g : cx_G} {N : Nat} {v0 : Nat} {n0 : Nat} {f0 : Nat → Int32} (H : cJ_H g) (hf0 : cx_BAg g v0 n0 f0) (M : cx_M) (x1 : Int32) (rs : cx_R) (h : jLa_charAt N n0 f0 M x1 = some rs) : cx_Met l (g) yJ15_charAt cJ15_charAt sJ15_charAt [.ref v0, .int x1] M rs :=
  cx_met (by decide +kernel) rfl rfl (lv := [(0, .ref v0), (1, .int x1)]) rfl (cx_le rfl) (fun X => cx_sub (lv' := [(0, .ref v0), (1, .int x1)]) [0, 1] rfl (jLa_charAt_0_v H hf0 M x1 rs h))

abbrev sJ9_charAt : cx_S := (2, RJ9, cx_rI, { frames := 3, cells := 0, slots := 0, locals := 64 }, some .char, false)
noncomputable def jSt_charAt_0 (N : Nat) (n : Nat) (f : Nat → Int32) (M : cx_M) (x1 : Int32) : Option cx_R :=
  cx_cal (jSt_isLatin1 N n f M) fun M1 v2 =>
  if v2 = 0 then (
    none)
  else (
    cx_cal (jLa_charAt N n f M1 x1) fun M3 v4 =>
    cx_cr v4 (some (M3, v4, 0)))
set_option maxRecDepth 100000 in
theorem jSt_charAt_0_v {l : Launch} {g : cx_G} {X : cx_X} {N : Nat} {a : Nat} {v : Nat} {n : Nat} {f : Nat → Int32} (H : cJ_H g) (hf : cx_Str g a v n f) (M : cx_M) (x1 : Int32) (rs : cx_R) (h : jSt_charAt_0 N n f M x1 = some rs) : cx_V l (g) X sJ9_charAt cJ9_charAt 0 [(0, .ref a), (1, .int x1)] [] M 0 0 rs := by
  unfold jSt_charAt_0 at h
  refine cx_aload_n 0 dJ9_charAt_0 rfl ?_
  refine cx_cRi [] [] h (fun rs' h' => jSt_isLatin1_m (N := N) H hf M rs' h') (fun M U p q => (hf M U p q).1) dJ9_charAt_1 g_J9_492 hg_J9_492 ⟨cx_le rfl, cx_le rfl⟩ rfl ⟨rfl, rfl⟩ ⟨cx_le rfl, cx_le rfl⟩ rfl (cx_le rfl) (fun M1 v2 h => ?_)
  refine cx_if_eq 16 h dJ9_charAt_4 rfl (fun h => ?_) (fun h => ?_)
  · cases h
  · refine cx_aload_n 0 dJ9_charAt_7 rfl ?_
    refine cx_getS (fun M U p q => (hf M U p q).2.2.1) q502 dJ9_charAt_8 ?_
    refine cx_iload_n 1 dJ9_charAt_11 rfl ?_
    refine cx_cSi [.ref v, .int x1] [] h (fun rs' h' => jLa_charAt_m (N := N) H (fun M U p q => (hf M U p q).2.2.2) M1 x1 rs' h') dJ9_charAt_12 g_J9_495 hg_J9_495 ⟨cx_le rfl, cx_le rfl⟩ rfl ⟨rfl, rfl⟩ ⟨cx_le rfl, cx_le rfl⟩ rfl (cx_le rfl) (fun M3 v4 h => ?_)
    refine cx_crI h (fun hz h => ?_)
    exact cx_nret h hz rfl rfl (cx_le rfl) (cx_le rfl) dJ9_charAt_15
noncomputable def jSt_charAt (N : Nat) (n : Nat) (f : Nat → Int32) (M : cx_M) (x1 : Int32) : Option cx_R := jSt_charAt_0 N n f M x1
theorem jSt_charAt_m {l : Launch} {g : cx_G} {N : Nat} {a : Nat} {v : Nat} {n : Nat} {f : Nat → Int32} (H : cJ_H g) (hf : cx_Str g a v n f) (M : cx_M) (x1 : Int32) (rs : cx_R) (h : jSt_charAt N n f M x1 = some rs) : cx_Met l (g) yJ9_charAt cJ9_charAt sJ9_charAt [.ref a, .int x1] M rs :=
  cx_met (by decide +kernel) rfl rfl (lv := [(0, .ref a), (1, .int x1)]) rfl (cx_le rfl) (fun X => cx_sub (lv' := [(0, .ref a), (1, .int x1)]) [0, 1] rfl (jSt_charAt_0_v H hf M x1 rs h))
