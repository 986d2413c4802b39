/-! boxes (Integers made, or the cache's), arrays of references, calls through an interface -/
def dBm (ic : Nat → Nat) (L : dL) (a : Nat) : Prop := (a, (0, 16, 0)) ∈ L ∨ ∃ j : Nat, j < 256 ∧ a = ic j
def dBx (ic : Nat → Nat) (L : dL) (P : dP) (a : Nat) (v : Int32) : Prop := ((a, (0, 16, 0)) ∈ L ∧ v = nI ((P a 0).getD 0)) ∨ ∃ j : Nat, j < 256 ∧ a = ic j ∧ v = vb_c j
/-- a is an object of the class ci -/
def dCi (ic : Nat → Nat) (L : dL) (ci a : Nat) : Prop := (a, (0, ci, 0)) ∈ L ∨ (ci = 16 ∧ ∃ j : Nat, j < 256 ∧ a = ic j)
def cd_box (ic : Nat → Nat) (L : dL) (P : dP) (a : Nat) (F : Int32 → Prop) : Prop := ∃ v, dBx ic L P a v ∧ F v
def cd_ais (ic : Nat → Nat) (L : dL) (v : Option Nat) : Prop := ∀ x, v = some x → ∃ ci, ci < 26 ∧ dCi ic L ci x
def cd_cpyR (ic : Nat → Nat) (L : dL) (P : dP) (a0 z0 a1 z1 : Nat) (sp dp n : Int32) (F : dP → Prop) : Prop :=
  ¬ sp < 0 ∧ ¬ dp < 0 ∧ ¬ n < 0 ∧ sp.toNatClampNeg + n.toNatClampNeg ≤ z0 ∧ dp.toNatClampNeg + n.toNatClampNeg ≤ z1 ∧ (∃ ci, ci < 26 ∧ ∀ i, i < n.toNatClampNeg → ∀ y, P a0 (sp.toNatClampNeg + i) = some y → dCi ic L ci y) ∧ F (dPs P a1 (va_cpy (P a0) (P a1) sp.toNatClampNeg dp.toNatClampNeg n.toNatClampNeg))
def dIc (g : cx_G) (ic : Nat → Nat) (ca : Nat) : Prop := ∀ U : State, cx_K g U → va_Z "java/lang/Integer$IntegerCache" "high" "I" (.int 127) g.2.2.2.1 U U.heap ∧ va_Z "java/lang/Integer$IntegerCache" "cache" "[Ljava/lang/Integer;" (.ref ca) g.2.2.2.1 U U.heap ∧ va_T (.object "java/lang/Integer") ca 256 (fun k => .ref (ic k)) g.2.2.2.1 U U.heap ∧ vb_C ic g.2.2.2.1 U U.heap
theorem dI_RO {g : cx_G} {L : dL} {P : dP} {ic : Nat → Nat} {ca a N : Nat} {T : u_T} {ty0 : Nat → FieldType} (hb : dB g) (hi : dIc g ic ca) (hc : cx_Cl 16 "java/lang/Integer" T N ty0) (hm : dBm ic L a) : ∀ (M : cx_M) (U : State), cx_w (dG g L P) M U.heap → cx_K (dG g L P) U → cx_RO "java/lang/Integer" a U := by
  intro M U hw hK
  rcases hm with hm | ⟨j, hj, rfl⟩
  · obtain ⟨i, hi⟩ := List.mem_iff_getElem?.mp hm
    obtain ⟨z, hz⟩ := hb.1
    exact va_recv hK.1 hw.1 hc.1 (dG_get hz hi)
  · obtain ⟨cell, h1, h2, h3, -⟩ := (hi U hK).2.2.2.1 j hj
    exact ⟨cell, h1, h2, h3⟩
theorem dCi_RO {g : cx_G} {L : dL} {P : dP} {ic : Nat → Nat} {ca ci a N : Nat} {C : String} {T : u_T} (hb : dB g) (hi : dIc g ic ca) (h16 : ∃ T9 N9, vwCl[16]? = some ("java/lang/Integer", T9, N9)) (hc : vwCl[ci]? = some (C, T, N)) (hm : dCi ic L ci a) : ∀ (M : cx_M) (U : State), cx_w (dG g L P) M U.heap → cx_K (dG g L P) U → cx_RO C a U := by
  intro M U hw hK
  rcases hm with hm | ⟨rfl, j, hj, rfl⟩
  · obtain ⟨i, hi⟩ := List.mem_iff_getElem?.mp hm
    obtain ⟨z, hz⟩ := hb.1
    exact va_recv hK.1 hw.1 hc (dG_get hz hi)
  · obtain ⟨T9, N9, e9⟩ := h16
    cases e9.symm.trans hc
    obtain ⟨cell, h1, h2, h3, -⟩ := (hi U hK).2.2.2.1 j hj
    exact ⟨cell, h1, h2, h3⟩
section CQF
variable {l : Launch} {g : cx_G} {L : dL} {P : dP} {X : cx_X} {S : cx_S} {cc : ByteArray} {pc : Nat} {lv : List (Nat × Value)} {st : List Value} {M : cx_M} {k n : Nat} {Q : State → Prop}
theorem cd_getBox {ic : Nat → Nat} {ca a N index : Nat} {C : String} {T : u_T} {ty0 : Nat → FieldType} {f : String × String × String × Bool} {F : Int32 → Prop} (h : cd_box ic L P a F) (hb : dB g) (hi : dIc g ic ca) (hc : cx_Cl 16 C T N ty0) (hN : 0 < N) (hT : T 0 = f) (hf : f.1 = "java/lang/Integer" ∧ f.2.1 = "value" ∧ f.2.2.1 = "I") (hq : Cond.fieldLink S.2.1 index f.1 f.2.1 f.2.2.1 ∈ lw_all) (d : decode cc pc = .ok (.getfield index, 3))
    (K : ∀ v, F v → cq_V l (dG g L P) X S cc (pc + 3) lv (.int v :: st) M k n Q) : cq_V l (dG g L P) X S cc pc lv (.ref a :: st) M k n Q := by
  obtain ⟨v, hx, h⟩ := h
  rcases hx with ⟨hm, rfl⟩ | ⟨j, hj, rfl, rfl⟩
  · exact cq_getR (dG_FN hb hm hc hN hT rfl) hq d (K _ h)
  · obtain ⟨e1, e2, e3⟩ := hf
    rw [e1, e2, e3] at hq
    refine cq_getS (o := "java/lang/Integer") (nm := "value") (ds := "I") (fun M U p q => ?_) hq d (K _ h)
    obtain ⟨cf, kf, fi, f, cell, h1, h2, h3, h4, h5, -⟩ := (hi U q).2.2.2.2 j hj
    exact ⟨cf, kf, fi, f, cell, h1, h2, h3, h4, h5⟩
theorem cd_castBox {ic : Nat → Nat} {ca N index : Nat} {v : Option Nat} {T : u_T} {ty0 : Nat → FieldType} (hb : dB g) (hi : dIc g ic ca) (hc : cx_Cl 16 "java/lang/Integer" T N ty0) (hm : ∀ x, v = some x → dBm ic L x) (hq : Cond.classLink S.2.1 index "java/lang/Integer" ∈ lw_all) (d : decode cc pc = .ok (.checkcast index, 3)) (K : cq_V l (dG g L P) X S cc (pc + 3) lv (va_rf v :: st) M k n Q) : cq_V l (dG g L P) X S cc pc lv (va_rf v :: st) M k n Q := by
  cases v with
  | none => exact cd_castN d K
  | some a => exact cq_cast (dI_RO hb hi hc (hm a rfl)) hq d K
theorem cd_ldIc {ic : Nat → Nat} {ca : Nat} {i : Int32} {F : Nat → Prop} (hi : dIc g ic ca) (h : cq_ix i 256 F) (d : decode cc pc = .ok (.aaload, 1)) (K : ∀ j, j < 256 → F j → cq_V l (dG g L P) X S cc (pc + 1) lv (.ref (ic j) :: st) M k n Q) : cq_V l (dG g L P) X S cc pc lv (.int i :: .ref ca :: st) M k n Q := by
  intro hk H locs ls hw hS hl
  unfold cq_ix at h
  split at h
  · cases h
  · next q =>
    have hn : i.toNatClampNeg < 256 := Nat.not_le.mp fun z => q (Or.inr z)
    exact vb_tq hk.1 hk.2.1 (hi _ hk.2.2.2.2.2.2.2).2.2.1 hS q (v := .ref (ic i.toNatClampNeg)) rfl d (K _ hn h hk H locs ls hw hS hl)
theorem cd_aast {ic : Nat → Nat} {ca a t nn : Nat} {v : Option Nat} {E : String} {i : Int32} {F : dP → Prop} (hb : dB g) (hi : dIc g ic ca) (hn : dN L) (hm : (a, (3, t, nn)) ∈ L) (hv : cd_ais ic L v) (h : cd_stR P a nn i v F) (ht : (cx_tys g.2.1)[t]? = some (g.2.1 t, .object E)) (h16 : ∃ T9 N9, vwCl[16]? = some ("java/lang/Integer", T9, N9)) (hca : ∀ ci, ci < 26 → ∃ C T N, vwCl[ci]? = some (C, T, N) ∧ Cond.castable C E ∈ lw_tbl) (d : decode cc pc = .ok (.aastore, 1)) (K : ∀ P', F P' → cq_V l (dG g L P') X S cc (pc + 1) lv st M k n Q) : cq_V l (dG g L P) X S cc pc lv (va_rf v :: .int i :: .ref a :: st) M k n Q := by
  cases v with
  | none => exact cd_stRnull hb hn hm h ht d K
  | some x =>
    obtain ⟨ci, hci, hx⟩ := hv x rfl
    obtain ⟨C, T, N, hcl, hcast⟩ := hca ci hci
    intro hk H locs ls hw hS hl
    unfold cd_stR at h
    split at h
    · cases h
    · next q =>
      obtain ⟨q0, m1, m2⟩ := dPutA (P := P) (M := M) (j := i.toNatClampNeg) (v := some x) hb hn hm
      refine vb_astq hk.1 hk.2.1 hk.2.2.2.2.2.2.2.1 hw.1 hw.2 hS q0 t m1 ht (dCi_RO hb hi h16 hcl hx M { X.2.2.1 with heap := H } hw (hk.2.2.2.2.2.2.2.at hS)) (vb_asgC (hk.2.2.2.2.2.2.2.2.1 _ hcast rfl)) q d ?_
      intro H1 locs1 hP hD hS1
      rw [m2] at hP hD
      exact K _ h hk H1 locs1 ls ⟨hP, hD⟩ hS1 hl
theorem dPutS {a t nn : Nat} {f : Nat → Option Nat} (hb : dB g) (hn : dN L) (hm : (a, (3, t, nn)) ∈ L) : ∃ i : Nat, ((dG g L P).2.2.1 M)[i]? = some (a, .inl (g.2.1 t, nn, .inr (.inr (.inr (.inr (P a)))))) ∧
    ((dG g L P).2.2.1 M).set i (a, .inl (g.2.1 t, nn, .inr (.inr (.inr (.inr f))))) = (dG g L (dPs P a f)).2.2.1 M := by
  obtain ⟨i, hi⟩ := List.mem_iff_getElem?.mp hm
  obtain ⟨z, hz⟩ := hb.1
  refine ⟨z + i, dG_get hz hi, ?_⟩
  have e : (Sum.inl (g.2.1 t, nn, Sum.inr (Sum.inr (Sum.inr (Sum.inr f)))) : va_E) = dE g.2.1 (3, t, nn) (M (dc a)) (dPs P a f a) := by
    unfold dPs
    rw [if_pos rfl]
    rfl
  rw [e]
  exact dG_set (kd := (3, t, nn)) (M' := M) hz rfl hn hi (fun b _ => rfl) (fun b hb => by unfold dPs; rw [if_neg hb])
theorem cd_copyR {ic : Nat → Nat} {ca a0 z0 a1 z1 index : Nat} {sp dp m : Int32} {F : dP → Prop} (hb : dB g) (hi : dIc g ic ca) (hn : dN L) (hm0 : (a0, (3, 4, z0)) ∈ L) (hm1 : (a1, (3, 4, z1)) ∈ L) (h : cd_cpyR ic L P a0 z0 a1 z1 sp dp m F) (h16 : ∃ T9 N9, vwCl[16]? = some ("java/lang/Integer", T9, N9)) (hca : ∀ ci, ci < 26 → ∃ C T N, vwCl[ci]? = some (C, T, N) ∧ Cond.castable C "java/lang/Object" ∈ lw_tbl) (d : decode cc pc = .ok (.invokestatic index, 3)) (hq : Cond.methodLink S.2.1 index arraycopyName ∈ lw_all)
    (hfr : 1 ≤ S.2.2.2.1.frames) (hlo : (st.map fun v => v.category).sum + (nativeFrameWords "java/lang/System" "arraycopy" 5 + 11) ≤ S.2.2.2.1.locals) (K : ∀ P', F P' → cq_V l (dG g L P') X S cc (pc + 3) lv st M k n Q) : cq_V l (dG g L P) X S cc pc lv (.int m :: .int dp :: .ref a1 :: .int sp :: .ref a0 :: st) M k n Q := by
  intro hk H locs ls hw hS hl
  obtain ⟨h1, h2, h3, h4, h5, ⟨ci, hci, h6⟩, h⟩ := h
  obtain ⟨C, T, N, hcl, hcast⟩ := hca ci hci
  obtain ⟨q0, m0, -⟩ := dPutS (P := P) (M := M) (f := P a0) hb hn hm0
  obtain ⟨q1, m1, m2⟩ := dPutS (P := P) (M := M) (f := va_cpy (P a0) (P a1) sp.toNatClampNeg dp.toNatClampNeg m.toNatClampNeg) hb hn hm1
  refine va_copyq hk.1 hk.2.1 (hk.2.2.1.trans hl.1.symm) hk.2.2.2.1 (hk.2.2.2.2.1 _ hq) (hk.2.2.2.2.1 _ q321) (hk.2.2.2.2.1 _ q320) (hk.2.2.2.2.1 _ q132) hk.2.2.2.2.2.2.2.1 hw.1 hw.2 hS q0 q1 4 4 m0 m1 rfl rfl h1 h2 h3 h4 h5 (C := C) (fun i hi9 y hy => dCi_RO hb hi h16 hcl (h6 i hi9 y hy) M { X.2.2.1 with heap := H } hw (hk.2.2.2.2.2.2.2.at hS)) (vb_asgC (hk.2.2.2.2.2.2.2.2.1 _ hcast rfl)) hfr hlo d ?_
  intro H1 locs1 hP hD hS1
  rw [m2] at hP hD
  exact K _ h hk H1 locs1 ls ⟨hP, hD⟩ hS1 hl
theorem cd_ldcM {index mi : Nat} {C : String} (hM : ∀ U, cx_K g U → va_Mi C mi U) (hq : Cond.classLink S.2.1 index C ∈ lw_all) (d : decode cc pc = .ok (.ldc index, 2)) (K : cq_V l g X S cc (pc + 2) lv (.ref mi :: st) M k n Q) : cq_V l g X S cc pc lv st M k n Q :=
  fun hk H locs ls hw hS hl => va_ldcM hk.1 hk.2.1 hk.2.2.2.1 (hk.2.2.2.2.1 _ hq) (hM _ hk.2.2.2.2.2.2.2) d (K hk H locs ls hw hS hl)
theorem cd_getC {a nn index mi : Nat} (hb : dB g) (hm : (a, (3, 4, nn)) ∈ L) (hM : ∀ U, cx_K g U → va_Mi "[Ljava/lang/Object;" mi U) (hq : Cond.methodLink S.2.1 index ⟨"java/lang/Object", "getClass", "()Ljava/lang/Class;"⟩ ∈ lw_all) (hdecl : Cond.declares ⟨"java/lang/Object", "getClass", "()Ljava/lang/Class;"⟩ ∈ lw_tbl)
    (hsel : Cond.selects "[Ljava/lang/Object;" ⟨"java/lang/Object", "getClass", "()Ljava/lang/Class;"⟩ ⟨"java/lang/Object", "getClass", "()Ljava/lang/Class;"⟩ ∈ lw_all) (hinst : Cond.instanceMethod ⟨"java/lang/Object", "getClass", "()Ljava/lang/Class;"⟩ ∈ lw_all) (hnat : Cond.native ⟨"java/lang/Object", "getClass", "()Ljava/lang/Class;"⟩ ∈ lw_all) (hfr : 1 ≤ S.2.2.2.1.frames) (hlo : (st.map fun v => v.category).sum + 14 ≤ S.2.2.2.1.locals) (d : decode cc pc = .ok (.invokevirtual index, 3))
    (K : cq_V l (dG g L P) X S cc (pc + 3) lv (.ref mi :: st) M k n Q) : cq_V l (dG g L P) X S cc pc lv (.ref a :: st) M k n Q := by
  intro hk H locs ls hw hS hl
  obtain ⟨i, hi⟩ := List.mem_iff_getElem?.mp hm
  obtain ⟨z, hz⟩ := hb.1
  have hc : H[a]? = some (vp_cell (g.2.1 4) (nn, .inr (.inr (.inr (.inr (P a)))))) := hw.1 (z + i) _ (dG_get hz hi)
  exact va_getC hk.1 hk.2.1 (hk.2.2.1.trans hl.1.symm) hk.2.2.2.1 (hk.2.2.2.2.1 _ hq) (va_Nw.use rfl (hk.2.2.2.2.2.2.2.2.1 _ hdecl rfl)) (hk.2.2.2.2.1 _ hsel) (hk.2.2.2.2.1 _ hinst) (hk.2.2.2.2.1 _ hnat) (hM _ hk.2.2.2.2.2.2.2) ⟨_, hc, rfl, va_nmO (hk.2.2.2.2.2.2.2.1.2 4 _ rfl).2 (by decide)⟩ hfr hlo d (K hk H locs ls hw hS hl)
theorem cd_cVO {rv : Int32 → Option Nat → Option Value} {y : MethodName} {cc' : ByteArray} {S' : cx_S} {b index : Nat} {C : String} {F : cd_Qt} (As rest : List Value) {st0 : List Value} (hM : cd_Met l g y cc' S' rv (.ref b :: As) M P L F) (hB : ∀ (M : cx_M) (U : State), cx_w (dG g L P) M U.heap → cx_K (dG g L P) U → cx_RO C b U)
    (d : decode cc pc = .ok (.invokevirtual index, 3)) (hG : GoodIn lw_all (wsV S.2.1 index C y (ws_ y cc' S'.1 S'.2.2.2.2.1))) (hd : y.cls = C ∧ y.cls ≠ "java/lang/invoke/MethodHandle" ∧ y.cls ≠ "java/lang/invoke/VarHandle" ∧ (parseMethodDescriptor y.desc).map (fun d => d.parameters.length) = some As.length)
    (hR : S'.2.2.2.1.frames + 1 ≤ S.2.2.2.1.frames ∧ 8 + (S'.1 + 11) + S'.2.2.2.1.locals ≤ S.2.2.2.1.locals) (hf : k + S'.2.2.2.1.cells ≤ S.2.2.2.1.cells ∧ n + S'.2.2.2.1.slots ≤ S.2.2.2.1.slots) (hst : st0 = As.reverse ++ .ref b :: rest) (hcat : (rest.map fun v => v.category).sum ≤ 8)
    (K : ∀ (M' : cx_M) (P' : dP) (L' : dL) (x : Int32) (r : Option Nat) (k' n' : Nat), (k' ≤ S'.2.2.2.1.cells ∧ n' ≤ S'.2.2.2.1.slots) → F M' P' L' x r 0 k' n' → cq_V l (dG g L' P') X S cc (pc + 3) lv ((rv x r).toList ++ rest) M' (k + k') (n + n') Q) : cq_V l (dG g L P) X S cc pc lv st0 M k n Q := by
  intro hk H locs ls hw hS hl
  subst hst
  exact cd_run hk hS hl (va_runV ⟨hk.1, hk.2.1, hk.2.2.1, hk.2.2.2.1, hk.2.2.2.2.1⟩ hM (cwV As.length hk.2.2.2.2.1 hG rfl rfl rfl hd hR) ⟨cd_blind, hB M { X.2.2.1 with heap := H } hw (hk.2.2.2.2.2.2.2.at hS), fun U hU hW => ⟨rfl, by rw [hU]; exact hw, cx_K.warm (g := g) hk.2.2.2.2.2.2.2 hW (by rw [hU]; exact hS)⟩⟩ rfl rfl hl.1 rfl (lv_room hcat) d hf) K
theorem cd_run5 {rv : Int32 → Option Nat → Option Value} {rest st0 : List Value} {a : Array Value} {mc ms : Nat} {F : cd_Qt}
    (hk : cx_ok (dG g L P) X S cc) {H : Heap} {locs : List Loc} {ls : Array Slot} (hS : va_S g.2.2.2.1 X.2.2.1.heap H locs) (hl : lv_has ls S.1 lv)
    (hr : va_Run5 X.1 l X.2.1 S.2.2.2.1 X.2.2.1 X.2.2.2.1 X.2.2.2.2.1 X.2.2.2.2.2.1 X.2.2.2.2.2.2.1 X.2.2.2.2.2.2.2 H locs k n mc ms (F0 X.2.2.2.1 pc ls st0) rest (cd_Q g rv mc ms F a) g.2.2.2.1)
    (K : ∀ (M' : cx_M) (P' : dP) (L' : dL) (x : Int32) (r : Option Nat) (k' n' : Nat), (k' ≤ mc ∧ n' ≤ ms) → F M' P' L' x r 0 k' n' → cq_V l (dG g L' P') X S cc (pc + 5) lv ((rv x r).toList ++ rest) M' (k + k') (n + n') Q) :
    W X.1 l X.2.1 S.2.2.2.1 X.2.2.1 X.2.2.2.1 X.2.2.2.2.1 X.2.2.2.2.2.1 X.2.2.2.2.2.2.1 X.2.2.2.2.2.2.2 H locs k n Q (F0 X.2.2.2.1 pc ls st0) := by
  intro T hT XT
  obtain ⟨v, st₀, t, T', L1, h0, X', hL, e1, e2, ⟨M', P', L', x, r, k', n', hq, hv, hw', ⟨hz, hq2⟩, hsz, hbb⟩, stp⟩ := hr T hT XT
  cases hv
  rw [h0] at hz hq2 hsz
  have sz1 := cd_szOf XT.same
  rw [hT] at sz1
  have sz := cd_szT sz1 hsz
  rw [← e1] at sz
  obtain ⟨t2, a1, b1⟩ := K M' P' L' x r k' n' hbb hq hk T'.heap (locs ++ L1) ls (by rw [e1]; exact hw')
    ⟨Nat.le_trans hS.1 (by rw [e1]; exact hz), fun q h1 h2 => by rw [e1, hq2 q (Nat.lt_of_lt_of_le h1 hS.1) h2]; exact hS.2.1 q h1 h2, fun q hq => by
      rcases List.mem_append.mp hq with h | h
      · exact hS.2.2 q h
      · exact hL q h⟩ hl T' rfl (cd_stand X' sz)
  exact ⟨t2, stp t2 a1, b1⟩
theorem cd_cF {rv : Int32 → Option Nat → Option Value} {x y : MethodName} {cc' : ByteArray} {S' : cx_S} {b index count : Nat} {C : String} {F : cd_Qt} (As rest : List Value) {st0 : List Value} (hM : cd_Met l g y cc' S' rv (.ref b :: As) M P L F) (hB : cx_Rc (dG g L P) b C)
    (d : decode cc pc = .ok (.invokeinterface index count, 5)) (hG : GoodIn lw_all (va_wsF S.2.1 index C x y (ws_ y cc' S'.1 S'.2.2.2.2.1))) (hF : ∀ U, cx_K g U → va_Fw C x y U) (hd : x.cls ≠ "java/lang/invoke/MethodHandle" ∧ x.cls ≠ "java/lang/invoke/VarHandle" ∧ (parseMethodDescriptor x.desc).map (fun d => d.parameters.length) = some As.length)
    (hR : S'.2.2.2.1.frames + 1 ≤ S.2.2.2.1.frames ∧ 8 + (S'.1 + 11) + S'.2.2.2.1.locals ≤ S.2.2.2.1.locals) (hf : k + S'.2.2.2.1.cells ≤ S.2.2.2.1.cells ∧ n + S'.2.2.2.1.slots ≤ S.2.2.2.1.slots) (hst : st0 = As.reverse ++ .ref b :: rest) (hcat : (rest.map fun v => v.category).sum ≤ 8)
    (K : ∀ (M' : cx_M) (P' : dP) (L' : dL) (v : Int32) (r : Option Nat) (k' n' : Nat), (k' ≤ S'.2.2.2.1.cells ∧ n' ≤ S'.2.2.2.1.slots) → F M' P' L' v r 0 k' n' → cq_V l (dG g L' P') X S cc (pc + 5) lv ((rv v r).toList ++ rest) M' (k + k') (n + n') Q) : cq_V l (dG g L P) X S cc pc lv st0 M k n Q := by
  intro hk H locs ls hw hS hl
  obtain ⟨ci, q0, T, N, hc, hfs⟩ := hB
  obtain ⟨fs, hfs⟩ := hfs M
  subst hst
  exact cd_run5 hk hS hl (va_runF (hk.2.2.2.2.2.2.2.1.1 ci _ hc).2 ⟨hk.1, hk.2.1, hk.2.2.1, hk.2.2.2.1, hk.2.2.2.2.1⟩ hM (va_cwF As.length hk.2.2.2.2.1 hG rfl rfl rfl (hF _ hk.2.2.2.2.2.2.2) hd hR) ⟨cd_blind, va_recv hk.2.2.2.2.2.2.2.1 hw.1 hc hfs, fun U hU hW => ⟨rfl, by rw [hU]; exact hw, cx_K.warm (g := g) hk.2.2.2.2.2.2.2 hW (by rw [hU]; exact hS)⟩⟩ rfl rfl hl.1 rfl (lv_room hcat) d hf) K
theorem cd_cA {rv : Int32 → Option Nat → Option Value} {x y : MethodName} {cc' : ByteArray} {S' : cx_S} {b index : Nat} {C owner : String} {F : cd_Qt} (As rest : List Value) {st0 : List Value} (hM : cd_Met l g y cc' S' rv (.ref b :: As) M P L F) (hB : cx_Rc (dG g L P) b C)
    (d : decode cc pc = .ok (.invokevirtual index, 3)) (hG : GoodIn lw_all (va_wsU S.2.1 index C owner x y (ws_ y cc' S'.1 S'.2.2.2.2.1))) (hd : Cond.declares ⟨owner, x.name, x.desc⟩ ∈ lw_tbl ∧ owner ≠ "java/lang/invoke/MethodHandle" ∧ owner ≠ "java/lang/invoke/VarHandle" ∧ (parseMethodDescriptor x.desc).map (fun d => d.parameters.length) = some As.length)
    (hR : S'.2.2.2.1.frames + 1 ≤ S.2.2.2.1.frames ∧ 8 + (S'.1 + 11) + S'.2.2.2.1.locals ≤ S.2.2.2.1.locals) (hf : k + S'.2.2.2.1.cells ≤ S.2.2.2.1.cells ∧ n + S'.2.2.2.1.slots ≤ S.2.2.2.1.slots) (hst : st0 = As.reverse ++ .ref b :: rest) (hcat : (rest.map fun v => v.category).sum ≤ 8)
    (K : ∀ (M' : cx_M) (P' : dP) (L' : dL) (x : Int32) (r : Option Nat) (k' n' : Nat), (k' ≤ S'.2.2.2.1.cells ∧ n' ≤ S'.2.2.2.1.slots) → F M' P' L' x r 0 k' n' → cq_V l (dG g L' P') X S cc (pc + 3) lv ((rv x r).toList ++ rest) M' (k + k') (n + n') Q) : cq_V l (dG g L P) X S cc pc lv st0 M k n Q := by
  intro hk H locs ls hw hS hl
  obtain ⟨ci, q0, T, N, hc, hfs⟩ := hB
  obtain ⟨fs, hfs⟩ := hfs M
  subst hst
  exact cd_run hk hS hl (va_runU ⟨hk.1, hk.2.1, hk.2.2.1, hk.2.2.2.1, hk.2.2.2.2.1⟩ hM (va_cwA As.length hk.2.2.2.2.1 hG rfl rfl rfl (hk.2.2.2.2.2.2.2.2.1 _ hd.1 rfl) hd.2 hR) ⟨cd_blind, va_recv hk.2.2.2.2.2.2.2.1 hw.1 hc hfs, fun U hU hW => ⟨rfl, by rw [hU]; exact hw, cx_K.warm (g := g) hk.2.2.2.2.2.2.2 hW (by rw [hU]; exact hS)⟩⟩ rfl rfl hl.1 rfl (lv_room hcat) d hf) K
theorem cd_cIN {y : MethodName} {cc' : ByteArray} {S' : cx_S} {b index : Nat} {host : String} {F : cd_Qt} (As rest : List Value) {st0 : List Value} (hM : cd_Met l g y cc' S' cd_rV (.ref b :: As) M P L F)
    (d : decode cc pc = .ok (.invokespecial index, 3)) (hG : GoodIn lw_all (ws_ y cc' S'.1 none)) (hrt : S'.2.2.2.2.1 = none) (hini : Cond.initialized y.cls ∈ lw_all) (hml : Cond.methodLinkNest S.2.1 index y host ∈ lw_tbl) (him : Cond.instanceMethod y ∈ lw_all) (hy1 : y.name = "<init>") (hd : y.cls ≠ "java/lang/invoke/MethodHandle" ∧ y.cls ≠ "java/lang/invoke/VarHandle" ∧ (parseMethodDescriptor y.desc).map (fun d => d.parameters.length) = some As.length)
    (hR : S'.2.2.2.1.frames + 1 ≤ S.2.2.2.1.frames ∧ 8 + (S'.1 + 11) + S'.2.2.2.1.locals ≤ S.2.2.2.1.locals) (hf : k + S'.2.2.2.1.cells ≤ S.2.2.2.1.cells ∧ n + S'.2.2.2.1.slots ≤ S.2.2.2.1.slots) (hst : st0 = As.reverse ++ .ref b :: rest) (hcat : (rest.map fun v => v.category).sum ≤ 8)
    (K : ∀ (M' : cx_M) (P' : dP) (L' : dL) (x : Int32) (r : Option Nat) (k' n' : Nat), (k' ≤ S'.2.2.2.1.cells ∧ n' ≤ S'.2.2.2.1.slots) → F M' P' L' x r 0 k' n' → cq_V l (dG g L' P') X S cc (pc + 3) lv rest M' (k + k') (n + n') Q) : cq_V l (dG g L P) X S cc pc lv st0 M k n Q := by
  intro hk H locs ls hw hS hl
  subst hst
  unfold cd_Met at hM
  rw [hrt] at hM
  exact cd_run hk hS hl (va_runIN ⟨hk.1, hk.2.1, hk.2.2.1, hk.2.2.2.1, hk.2.2.2.2.1⟩ hM ⟨va_cnB As.length hk.2.2.2.2.1 hG rfl rfl rfl (hk.2.2.2.2.2.2.2.2.1 _ hml rfl) (hk.2.2.2.2.1 _ hini) hd hR, hy1, hk.2.2.2.2.1 _ him⟩ ⟨cd_blind, fun U hU hW => ⟨rfl, by rw [hU]; exact hw, cx_K.warm (g := g) hk.2.2.2.2.2.2.2 hW (by rw [hU]; exact hS)⟩⟩ rfl rfl hl.1 rfl (lv_room hcat) d hf) K
theorem cd_acmpEA {a : Nat} {off : Int} (tgt : Nat) (d : decode cc pc = .ok (.if_acmp .ne off, 3)) (ht : (pc : Int) + off = (tgt : Int)) (K : cq_V l g X S cc (pc + 3) lv st M k n Q) : cq_V l g X S cc pc lv (.ref a :: .ref a :: st) M k n Q :=
  fun hk H locs ls hw hS hl => lv_acmp_ne (rx := some a) (ry := some a) hk.1 hk.2.1 d ht (fun q => absurd rfl q) (fun _ => K hk H locs ls hw hS hl)
end CQF
