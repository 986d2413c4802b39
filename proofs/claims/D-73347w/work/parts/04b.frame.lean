/-! more rows: nest mates' fields, references that may be null, arraycopy, statics, nest mates' methods -/
def cx_on (v : Int32) (r : Nat) : Value := if v = 0 then .null else .ref r
/-- a field of references that is null where the memory says 0, else r -/
def cx_FO (g : cx_G) (c k a : Nat) (f : String × String × String × Bool) (r : Nat) : Prop :=
  ∃ (ci q0 : Nat) (C : String) (T : u_T) (N : Nat) (ty0 : Nat → FieldType) (ty : FieldType), cx_Cl ci C T N ty0 ∧ k < N ∧ T k = f ∧ parseFieldDescriptor f.2.2.1 = some ty ∧ (∀ v, narrow ty (cx_on v r) = cx_on v r ∧ fits ty (cx_on v r) = true) ∧
    ∀ M, ∃ fs, (g.2.2.1 M)[q0]? = some (a, .inr (ci, fs)) ∧ fs[k]? = some (cx_on (M c k) r) ∧ ∀ v, (g.2.2.1 M).set q0 (a, .inr (ci, fs.set k (cx_on v r))) = g.2.2.1 (cx_up M c k v)
def cx_cpm (M : cx_M) (c0 c1 sp dp n : Nat) : cx_M := cx_set M c1 (va_cpy (M c0) (M c1) sp dp n)
def cx_cpy (M : cx_M) (c0 z0 c1 z1 : Nat) (sp dp n : Int32) (f : cx_M → Option cx_R) : Option cx_R :=
  if sp < 0 ∨ dp < 0 ∨ n < 0 ∨ z0 < sp.toNatClampNeg + n.toNatClampNeg ∨ z1 < dp.toNatClampNeg + n.toNatClampNeg then none else f (cx_cpm M c0 c1 sp.toNatClampNeg dp.toNatClampNeg n.toNatClampNeg)
section CXW
variable {l : Launch} {g : cx_G} {X : cx_X} {S : cx_S} {cc : ByteArray} {pc : Nat} {lv : List (Nat × Value)} {st : List Value} {M : cx_M} {k n : Nat} {rs : cx_R}
theorem cx_getIN {c f a index : Nat} {host : String} {F : Int32 → Option cx_R} {o : String × String × String × Bool} {ty : FieldType} (h : cx_get M c f F = some rs) (hF : cx_FI g c f a o ty) (hq : Cond.fieldLinkNest S.2.1 index o.1 o.2.1 o.2.2.1 host ∈ lw_tbl) (d : decode cc pc = .ok (.getfield index, 3)) (K : ∀ v, F v = some rs → cx_V l g X S cc (pc + 3) lv (.int v :: st) M k n rs) : cx_V l g X S cc pc lv (.ref a :: st) M k n rs := by
  intro hk H locs ls hw hS hl
  obtain ⟨ci, q0, C, T, N, ty0, ⟨c1, c2, c3, c4⟩, hN, hT, hty, hM⟩ := hF
  obtain ⟨fs, m1, m2, m3⟩ := hM M
  subst hT
  exact va_getN hk.1 hk.2.1 (T := T) (Ts := lw_all) hk.2.2.2.2.1 c2 hk.2.2.2.1 hk.2.2.2.2.2.2.2.1 hw.1 q0 m1 c1 f hN (va_Nw.use rfl (hk.2.2.2.2.2.2.2.2.1 _ hq rfl)) (fun _ h => h) m2 d (K _ h hk H locs ls hw hS hl)
theorem cx_getRN {f a index : Nat} {host : String} {o : String × String × String × Bool} {v : Value} (hF : cx_FR g f a o v) (hq : Cond.fieldLinkNest S.2.1 index o.1 o.2.1 o.2.2.1 host ∈ lw_tbl) (d : decode cc pc = .ok (.getfield index, 3)) (K : cx_V l g X S cc (pc + 3) lv (v :: st) M k n rs) : cx_V l g X S cc pc lv (.ref a :: st) M k n rs := by
  intro hk H locs ls hw hS hl
  obtain ⟨ci, q0, C, T, N, ty0, ⟨c1, c2, c3, c4⟩, hN, hT, hM⟩ := hF
  obtain ⟨fs, m1, m2⟩ := hM M
  subst hT
  exact va_getN hk.1 hk.2.1 (T := T) (Ts := lw_all) hk.2.2.2.2.1 c2 hk.2.2.2.1 hk.2.2.2.2.2.2.2.1 hw.1 q0 m1 c1 f hN (va_Nw.use rfl (hk.2.2.2.2.2.2.2.2.1 _ hq rfl)) (fun _ h => h) m2 d (K hk H locs ls hw hS hl)
theorem cx_putIN {c f a index : Nat} {host : String} {v : Int32} {F : cx_M → Option cx_R} {o : String × String × String × Bool} {ty : FieldType} (h : cx_put M c f v F = some rs) (hF : cx_FI g c f a o ty) (hn : narrow ty (.int v) = .int v) (hfit : fits ty (.int v) = true) (hfin : o.2.2.2 = false) (hq : Cond.fieldLinkNest S.2.1 index o.1 o.2.1 o.2.2.1 host ∈ lw_tbl) (d : decode cc pc = .ok (.putfield index, 3)) (K : ∀ M', F M' = some rs → cx_V l g X S cc (pc + 3) lv st M' k n rs) : cx_V l g X S cc pc lv (.int v :: .ref a :: st) M k n rs := by
  intro hk H locs ls hw hS hl
  obtain ⟨ci, q0, C, T, N, ty0, ⟨c1, c2, c3, c4⟩, hN, hT, hty, hM⟩ := hF
  obtain ⟨fs, m1, m2, m3⟩ := hM M
  subst hT
  refine va_putN hk.1 hk.2.1 (T := T) (Ts := lw_all) hk.2.2.2.2.1 c2 ty0 c3 c4 hk.2.2.2.1 hk.2.2.2.2.2.2.2.1 hw.1 hw.2 hS q0 m1 c1 f hN (va_Nw.use rfl (hk.2.2.2.2.2.2.2.2.1 _ hq rfl)) (fun _ h => h) hfin hty hn hfit (List.getElem?_eq_some_iff.mp m2).1 d ?_
  intro H1 locs1 hP hD hS1
  rw [m3] at hP hD
  exact K _ h hk H1 locs1 ls ⟨hP, hD⟩ hS1 hl
theorem cx_getO {c f a r index : Nat} {F : Int32 → Option cx_R} {o : String × String × String × Bool} (h : cx_get M c f F = some rs) (hF : cx_FO g c f a o r) (hq : Cond.fieldLink S.2.1 index o.1 o.2.1 o.2.2.1 ∈ lw_all) (d : decode cc pc = .ok (.getfield index, 3)) (K : ∀ v, F v = some rs → cx_V l g X S cc (pc + 3) lv (cx_on v r :: st) M k n rs) : cx_V l g X S cc pc lv (.ref a :: st) M k n rs := by
  intro hk H locs ls hw hS hl
  obtain ⟨ci, q0, C, T, N, ty0, ty, ⟨c1, c2, c3, c4⟩, hN, hT, hty, hnf, hM⟩ := hF
  obtain ⟨fs, m1, m2, m3⟩ := hM M
  subst hT
  exact va_get hk.1 hk.2.1 (T := T) (Ts := lw_all) hk.2.2.2.2.1 c2 hk.2.2.2.1 hk.2.2.2.2.2.2.2.1 hw.1 q0 m1 c1 f hN (hk.2.2.2.2.1 _ hq) (fun _ h => h) m2 d (K _ h hk H locs ls hw hS hl)
theorem cx_getON {c f a r index : Nat} {host : String} {F : Int32 → Option cx_R} {o : String × String × String × Bool} (h : cx_get M c f F = some rs) (hF : cx_FO g c f a o r) (hq : Cond.fieldLinkNest S.2.1 index o.1 o.2.1 o.2.2.1 host ∈ lw_tbl) (d : decode cc pc = .ok (.getfield index, 3)) (K : ∀ v, F v = some rs → cx_V l g X S cc (pc + 3) lv (cx_on v r :: st) M k n rs) : cx_V l g X S cc pc lv (.ref a :: st) M k n rs := by
  intro hk H locs ls hw hS hl
  obtain ⟨ci, q0, C, T, N, ty0, ty, ⟨c1, c2, c3, c4⟩, hN, hT, hty, hnf, hM⟩ := hF
  obtain ⟨fs, m1, m2, m3⟩ := hM M
  subst hT
  exact va_getN hk.1 hk.2.1 (T := T) (Ts := lw_all) hk.2.2.2.2.1 c2 hk.2.2.2.1 hk.2.2.2.2.2.2.2.1 hw.1 q0 m1 c1 f hN (va_Nw.use rfl (hk.2.2.2.2.2.2.2.2.1 _ hq rfl)) (fun _ h => h) m2 d (K _ h hk H locs ls hw hS hl)
theorem cx_putON {c f a r index : Nat} {host : String} {u : Value} {v : Int32} {F : cx_M → Option cx_R} {o : String × String × String × Bool} (h : cx_put M c f v F = some rs) (hF : cx_FO g c f a o r) (hu : cx_on v r = u) (hfin : o.2.2.2 = false) (hq : Cond.fieldLinkNest S.2.1 index o.1 o.2.1 o.2.2.1 host ∈ lw_tbl) (d : decode cc pc = .ok (.putfield index, 3)) (K : ∀ M', F M' = some rs → cx_V l g X S cc (pc + 3) lv st M' k n rs) : cx_V l g X S cc pc lv (u :: .ref a :: st) M k n rs := by
  subst hu
  intro hk H locs ls hw hS hl
  obtain ⟨ci, q0, C, T, N, ty0, ty, ⟨c1, c2, c3, c4⟩, hN, hT, hty, hnf, hM⟩ := hF
  obtain ⟨fs, m1, m2, m3⟩ := hM M
  subst hT
  refine va_putN hk.1 hk.2.1 (T := T) (Ts := lw_all) hk.2.2.2.2.1 c2 ty0 c3 c4 hk.2.2.2.1 hk.2.2.2.2.2.2.2.1 hw.1 hw.2 hS q0 m1 c1 f hN (va_Nw.use rfl (hk.2.2.2.2.2.2.2.2.1 _ hq rfl)) (fun _ h => h) hfin hty (hnf v).1 (hnf v).2 (List.getElem?_eq_some_iff.mp m2).1 d ?_
  intro H1 locs1 hP hD hS1
  rw [m3] at hP hD
  exact K _ h hk H1 locs1 ls ⟨hP, hD⟩ hS1 hl
theorem cx_null (d : decode cc pc = .ok (.aconst_null, 1)) (K : cx_V l g X S cc (pc + 1) lv (.null :: st) M k n rs) : cx_V l g X S cc pc lv st M k n rs := fun hk H locs ls hw hS hl => lv_null hk.1 hk.2.1 d (K hk H locs ls hw hS hl)
theorem cx_ifnull {v : Int32} {r : Nat} {off : Int} {A B : Option cx_R} (tgt : Nat) (h : (if v = 0 then A else B) = some rs) (d : decode cc pc = .ok (.ifnull off, 3)) (ht : (pc : Int) + off = (tgt : Int)) (kt : A = some rs → cx_V l g X S cc tgt lv st M k n rs) (kf : B = some rs → cx_V l g X S cc (pc + 3) lv st M k n rs) : cx_V l g X S cc pc lv (cx_on v r :: st) M k n rs := by
  intro hk H locs ls hw hS hl
  unfold cx_on
  split at h
  · next q => rw [if_pos q]; exact lv_ifnullN hk.1 hk.2.1 d ht (kt h hk H locs ls hw hS hl)
  · next q => rw [if_neg q]; exact lv_ifnull hk.1 hk.2.1 d (kf h hk H locs ls hw hS hl)
theorem cx_ifnonnull {v : Int32} {r : Nat} {off : Int} {A B : Option cx_R} (tgt : Nat) (h : (if v = 0 then A else B) = some rs) (d : decode cc pc = .ok (.ifnonnull off, 3)) (ht : (pc : Int) + off = (tgt : Int)) (kt : B = some rs → cx_V l g X S cc tgt lv st M k n rs) (kf : A = some rs → cx_V l g X S cc (pc + 3) lv st M k n rs) : cx_V l g X S cc pc lv (cx_on v r :: st) M k n rs := by
  intro hk H locs ls hw hS hl
  unfold cx_on
  split at h
  · next q => rw [if_pos q]; exact lv_ifnonnullN hk.1 hk.2.1 d (kf h hk H locs ls hw hS hl)
  · next q => rw [if_neg q]; exact lv_ifnonnull hk.1 hk.2.1 d ht (kt h hk H locs ls hw hS hl)
/-- a reference is used: it isn't null -/
theorem cx_nn {v : Int32} {r : Nat} {o : Option cx_R} {P : Prop} (h : cx_nz v o = some rs) (K : cx_on v r = .ref r → o = some rs → P) : P := by
  unfold cx_nz at h
  split at h
  · cases h
  · next q => exact K (by unfold cx_on; rw [if_neg q]) h
theorem cx_copy {c0 z0 a0 t0 c1 z1 a1 t1 index : Nat} {sp dp m : Int32} {F : cx_M → Option cx_R} (h : cx_cpy M c0 z0 c1 z1 sp dp m F = some rs) (hA0 : cx_AI g c0 z0 a0 t0 .int) (hA1 : cx_AI g c1 z1 a1 t1 .int) (d : decode cc pc = .ok (.invokestatic index, 3)) (hq : Cond.methodLink S.2.1 index arraycopyName ∈ lw_all)
    (hfr : 1 ≤ S.2.2.2.1.frames) (hlo : (st.map fun v => v.category).sum + (nativeFrameWords "java/lang/System" "arraycopy" 5 + 11) ≤ S.2.2.2.1.locals) (K : ∀ M', F M' = some rs → cx_V l g X S cc (pc + 3) lv st M' k n rs) : cx_V l g X S cc pc lv (.int m :: .int dp :: .ref a1 :: .int sp :: .ref a0 :: st) M k n rs := by
  intro hk H locs ls hw hS hl
  unfold cx_cpy at h
  split at h
  · cases h
  · next q =>
    obtain ⟨e0, q0, m0⟩ := hA0
    obtain ⟨e1, q1, m1⟩ := hA1
    refine va_copyi hk.1 hk.2.1 (hk.2.2.1.trans hl.1.symm) hk.2.2.2.1 (hk.2.2.2.2.1 _ hq) (hk.2.2.2.2.1 _ q321) (hk.2.2.2.2.1 _ q320) (hk.2.2.2.2.1 _ q132) hk.2.2.2.2.2.2.2.1 hw.1 hw.2 hS q0 q1 t0 t1 (m0 M).1 (m1 M).1 e0 e1 rfl (fun z => q (Or.inl z)) (fun z => q (Or.inr (Or.inl z))) (fun z => q (Or.inr (Or.inr (Or.inl z)))) (Nat.le_of_not_lt fun z => q (Or.inr (Or.inr (Or.inr (Or.inl z))))) (Nat.le_of_not_lt fun z => q (Or.inr (Or.inr (Or.inr (Or.inr z))))) (fun _ _ => rfl) hfr hlo d ?_
    intro H1 locs1 hP hD hS1
    rw [(m1 M).2] at hP hD
    exact K _ h hk H1 locs1 ls ⟨hP, hD⟩ hS1 hl
theorem cx_gets {C nm ds : String} {index : Nat} {v : Value} (hz : ∀ U, cx_K g U → va_Z C nm ds v g.2.2.2.1 U U.heap) (hq : Cond.fieldLink S.2.1 index C nm ds ∈ lw_all) (d : decode cc pc = .ok (.getstatic index, 3)) (K : cx_V l g X S cc (pc + 3) lv (v :: st) M k n rs) : cx_V l g X S cc pc lv st M k n rs :=
  fun hk H locs ls hw hS hl => va_gets hk.1 hk.2.1 (hz _ hk.2.2.2.2.2.2.2) hS hk.2.2.2.1 (hk.2.2.2.2.1 _ hq) (fun _ h => h) d (K hk H locs ls hw hS hl)
end CXW
/-! facts of single objects that nobody writes while they are used: fields, byte arrays, receivers -/
def cx_OF (o n d : String) (v : Value) (a : Nat) (U : State) : Prop := ∃ (cf : ClassId) (k : Class) (fi : Nat) (f : Field) (cell : Cell), U.fieldFound? o n d = some (cf, k, fi, f) ∧ f.isStatic = false ∧ U.heap[a]? = some cell ∧ cell.vm ≠ .unknown ∧ cell.slots[f.slot]? = some v
def cx_BA (a n : Nat) (f : Nat → Int32) (U : State) : Prop := ∃ cell : Cell, U.heap[a]? = some cell ∧ U.isArrayOf cell .byte ∧ cell.vm ≠ .unknown ∧ (n ≤ cell.slots.size ∧ cell.slots.size.toInt32 = Int32.ofNat n) ∧ ∀ j : Nat, j < n → cell.slots[j]? = some (.int (f j))
def cx_RO (C : String) (a : Nat) (U : State) : Prop := ∃ cell : Cell, U.heap[a]? = some cell ∧ cell.vm.isStatics = false ∧ U.vm.findClass C = some cell.cls
/-- a text: a Latin-1 String at a, its n bytes f at v -/
def cx_Str (g : cx_G) (a v n : Nat) (f : Nat → Int32) : Prop := ∀ (M : cx_M) (U : State), cx_w g M U.heap → cx_K g U → cx_RO "java/lang/String" a U ∧ cx_OF "java/lang/String" "coder" "B" (.int 0) a U ∧ cx_OF "java/lang/String" "value" "[B" (.ref v) a U ∧ cx_BA v n f U
def cx_chk (i : Int32) (n : Nat) (x : Int32) (f : Int32 → Option cx_R) : Option cx_R := if i < 0 ∨ n ≤ i.toNatClampNeg then none else f x
def cx_ix (i : Int32) (n : Nat) (f : Nat → Option cx_R) : Option cx_R := if i < 0 ∨ n ≤ i.toNatClampNeg then none else f i.toNatClampNeg
def cx_QI (g : cx_G) (a n t : Nat) (C : String) (fr : Nat → Nat) : Prop := (cx_tys g.2.1)[t]? = some (g.2.1 t, .object C) ∧ ∃ q0 : Nat, ∀ M : cx_M, (g.2.2.1 M)[q0]? = some (a, .inl (g.2.1 t, n, .inr (.inr (.inr (.inr (fun j => some (fr j)))))))
section CXS
variable {l : Launch} {g : cx_G} {X : cx_X} {S : cx_S} {cc : ByteArray} {pc : Nat} {lv : List (Nat × Value)} {st : List Value} {M : cx_M} {k n : Nat} {rs : cx_R}
theorem cx_getS {a index : Nat} {o nm ds : String} {v : Value} (hF : ∀ (M : cx_M) (U : State), cx_w g M U.heap → cx_K g U → cx_OF o nm ds v a U) (hq : Cond.fieldLink S.2.1 index o nm ds ∈ lw_all) (d : decode cc pc = .ok (.getfield index, 3)) (K : cx_V l g X S cc (pc + 3) lv (v :: st) M k n rs) : cx_V l g X S cc pc lv (.ref a :: st) M k n rs := by
  intro hk H locs ls hw hS hl
  obtain ⟨cf, kf, fi, f, cell, h1, h2, h3, h4, h5⟩ := hF _ { X.2.2.1 with heap := H } hw (hk.2.2.2.2.2.2.2.at hS)
  exact W.getf hk.1 hk.2.1 hk.2.2.2.1 (hk.2.2.2.2.1 _ hq) h1 h2 h3 h4 (v := v) h5 rfl rfl d (K hk H locs ls hw hS hl)
theorem cx_ldB {a z : Nat} {i : Int32} {f : Nat → Int32} {F : Int32 → Option cx_R} (h : cx_chk i z (f i.toNatClampNeg) F = some rs) (hB : ∀ (M : cx_M) (U : State), cx_w g M U.heap → cx_K g U → cx_BA a z f U) (d : decode cc pc = .ok (.baload, 1)) (K : ∀ v, F v = some rs → cx_V l g X S cc (pc + 1) lv (.int v :: st) M k n rs) : cx_V l g X S cc pc lv (.int i :: .ref a :: st) M k n rs := by
  intro hk H locs ls hw hS hl
  unfold cx_chk at h
  split at h
  · cases h
  · next q =>
    obtain ⟨cell, h1, h2, h3, h4, h5⟩ := hB _ { X.2.2.1 with heap := H } hw (hk.2.2.2.2.2.2.2.at hS)
    have h1 : H[a]? = some cell := h1
    have h2 : X.2.2.1.isArrayOf cell .byte := State.isArrayOf_alike (show ({ X.2.2.1 with heap := H } : State).vm.Alike X.2.2.1.vm from Vm.Alike.refl _) h2
    exact W.bald (v := .int (f i.toNatClampNeg)) hk.1 hk.2.1 h1 h2 h3 (fun z => q (z.elim Or.inl fun z => Or.inr (Nat.le_trans h4.1 z))) (h5 _ (Nat.lt_of_not_le fun z => q (Or.inr z))) rfl rfl d (K _ h hk H locs ls hw hS hl)
theorem cx_alenB {a z : Nat} {f : Nat → Int32} (v : Int32) (hB : ∀ (M : cx_M) (U : State), cx_w g M U.heap → cx_K g U → cx_BA a z f U) (hv : Int32.ofNat z = v) (d : decode cc pc = .ok (.arraylength, 1)) (K : cx_V l g X S cc (pc + 1) lv (.int v :: st) M k n rs) : cx_V l g X S cc pc lv (.ref a :: st) M k n rs := by
  intro hk H locs ls hw hS hl
  obtain ⟨cell, h1, h2, h3, h4, h5⟩ := hB _ { X.2.2.1 with heap := H } hw (hk.2.2.2.2.2.2.2.at hS)
  have h1 : H[a]? = some cell := h1
  have h2 : X.2.2.1.isArrayOf cell .byte := State.isArrayOf_alike (show ({ X.2.2.1 with heap := H } : State).vm.Alike X.2.2.1.vm from Vm.Alike.refl _) h2
  exact W.alen (n := v) hk.1 hk.2.1 h1 h2 (h4.2.trans hv) rfl rfl d (K hk H locs ls hw hS hl)
/-- a call through a receiver of which the class is known at the heap at hand -/
theorem cx_callR {y : MethodName} {cc' : ByteArray} {S' : cx_S} {b index : Nat} {C : String} {o : Option cx_R} {F : cx_M → Int32 → Option cx_R} (As rest : List Value) {st0 : List Value} (h : cx_cal o F = some rs) (hM : ∀ rs', o = some rs' → cx_Met l g y cc' S' (.ref b :: As) M rs') (hB : ∀ (M : cx_M) (U : State), cx_w g M U.heap → cx_K g U → cx_RO C b U)
    (d : decode cc pc = .ok (.invokevirtual index, 3)) (hG : GoodIn lw_all (wsV S.2.1 index C y (ws_ y cc' S'.1 S'.2.2.2.2.1))) (hd : y.cls = C ∧ y.cls ≠ "java/lang/invoke/MethodHandle" ∧ y.cls ≠ "java/lang/invoke/VarHandle" ∧ (parseMethodDescriptor y.desc).map (fun d => d.parameters.length) = some As.length)
    (hR : S'.2.2.2.1.frames + 1 ≤ S.2.2.2.1.frames ∧ 8 + (S'.1 + 11) + S'.2.2.2.1.locals ≤ S.2.2.2.1.locals) (hf : k + S'.2.2.2.1.cells ≤ S.2.2.2.1.cells ∧ n + S'.2.2.2.1.slots ≤ S.2.2.2.1.slots) (hst : st0 = As.reverse ++ .ref b :: rest) (hcat : (rest.map fun v => v.category).sum ≤ 8)
    (K : ∀ M' r, F M' r = some rs → cx_V l g X S cc (pc + 3) lv ((S'.2.2.1 r).toList ++ rest) M' (k + S'.2.2.2.1.cells) (n + S'.2.2.2.1.slots) rs) : cx_V l g X S cc pc lv st0 M k n rs := by
  intro hk H locs ls hw hS hl
  obtain ⟨rs', ho, h⟩ := cx_cal_some h
  subst hst
  refine cx_run hk hS hl (va_runV ⟨hk.1, hk.2.1, hk.2.2.1, hk.2.2.2.1, hk.2.2.2.2.1⟩ (hM rs' ho) (cwV As.length hk.2.2.2.2.1 hG rfl rfl rfl hd hR) ⟨cx_blind, hB _ { X.2.2.1 with heap := H } hw (hk.2.2.2.2.2.2.2.at hS), fun U hU hW => ⟨rfl, by rw [hU]; exact hw, cx_K.warm hk.2.2.2.2.2.2.2 hW (by rw [hU]; exact hS)⟩⟩ rfl rfl hl.1 rfl (lv_room hcat) d hf) (K _ _ h)
/-- a row of references that nobody writes -/
theorem cx_ldQ {a z t : Nat} {i : Int32} {C : String} {fr : Nat → Nat} {F : Nat → Option cx_R} (h : cx_ix i z F = some rs) (hA : cx_QI g a z t C fr) (d : decode cc pc = .ok (.aaload, 1)) (K : ∀ j, j < z → F j = some rs → cx_V l g X S cc (pc + 1) lv (.ref (fr j) :: st) M k n rs) : cx_V l g X S cc pc lv (.int i :: .ref a :: st) M k n rs := by
  intro hk H locs ls hw hS hl
  obtain ⟨t1, q0, hM⟩ := hA
  unfold cx_ix at h
  split at h
  · cases h
  · next q => exact va_aldq hk.1 hk.2.1 hk.2.2.2.2.2.2.2.1 hw.1 q0 t (hM M) t1 q d (K _ (Nat.lt_of_not_le fun z => q (Or.inr z)) h hk H locs ls hw hS hl)
theorem cx_alenQ {a z t : Nat} {C : String} {fr : Nat → Nat} (v : Int32) (hA : cx_QI g a z t C fr) (hv : Int32.ofNat z = v) (d : decode cc pc = .ok (.arraylength, 1)) (K : cx_V l g X S cc (pc + 1) lv (.int v :: st) M k n rs) : cx_V l g X S cc pc lv (.ref a :: st) M k n rs := by
  intro hk H locs ls hw hS hl
  obtain ⟨t1, q0, hM⟩ := hA
  exact va_alen hk.1 hk.2.1 hk.2.2.2.2.2.2.2.1 hw.1 q0 t (hM M) t1 hv d (K hk H locs ls hw hS hl)
end CXS
/-! rows for bytes, casts, calls that answer a known object, nest mates' static methods; lists by their contents -/
def cx_byte (x : Int32) : Int32 := x.toInt8.toInt32
def cx_nb (x : Int32) : Int32 := vp_nar .byte x
theorem cx_on0 {r : Nat} : cx_on 0 r = .null := by unfold cx_on; rw [if_pos rfl]
theorem cx_on1 {r : Nat} : cx_on 1 r = .ref r := by unfold cx_on; rw [if_neg (by decide)]
/-- the bases of all states: now, tried, forty ahead, the image's now and its forty -/
def cSt_all : List Nat := [1000, 1100, 6000] ++ (List.range 40).map (fun i => 1200 + 100 * i) ++ (List.range 40).map (fun i => 20000 + 100 * i)
/-- a list of states as a cell: the bases by places, how many at the place 100 -/
def cx_ahd (f : Nat → Int32) (i : Int32) (F : Nat → Option cx_R) : Option cx_R := if i < 0 ∨ (f 100).toNatClampNeg ≤ i.toNatClampNeg ∨ 40 < (f 100).toNatClampNeg then none else if (f i.toNatClampNeg).toNatClampNeg ∈ cSt_all then F (f i.toNatClampNeg).toNatClampNeg else none
/-- all places of a list of states hold states -/
def cx_alls (f : Nat → Int32) : Bool := (List.range (f 100).toNatClampNeg).all (fun q => decide ((f q).toNatClampNeg ∈ cSt_all))
def cx_arem (M : cx_M) (c : Nat) (i : Int32) (F : cx_M → Nat → Option cx_R) : Option cx_R := if cx_alls (M c) = false then none else cx_ahd (M c) i fun j => F (cx_set M c (fun q => if q = 100 then M c 100 - 1 else if q = 101 then M c 101 + 1 else if q < i.toNatClampNeg then M c q else M c (q + 1))) j
def cx_aadd (M : cx_M) (c j : Nat) (F : cx_M → Option cx_R) : Option cx_R := if M c 100 < 0 ∨ 40 ≤ (M c 100).toNatClampNeg then none else F (cx_set M c (fun q => if q = 100 then M c 100 + 1 else if q = 101 then M c 101 + 1 else if q = (M c 100).toNatClampNeg then nI j else M c q))
def cBk_st (b : Nat) : Nat := if b = 600 then 1000 else 6000
section CXY
variable {l : Launch} {g : cx_G} {X : cx_X} {S : cx_S} {cc : ByteArray} {pc : Nat} {lv : List (Nat × Value)} {st : List Value} {M : cx_M} {k n : Nat} {rs : cx_R}
theorem cx_i2b {x : Int32} (d : decode cc pc = .ok (.i2b, 1)) (K : cx_V l g X S cc (pc + 1) lv (.int (cx_byte x) :: st) M k n rs) : cx_V l g X S cc pc lv (.int x :: st) M k n rs := fun hk H locs ls hw hS hl => lv_i2b hk.1 hk.2.1 d rfl (K hk H locs ls hw hS hl)
theorem cx_stBy {c z a t : Nat} {i x : Int32} {F : cx_M → Option cx_R} (h : cx_st M c z i (cx_nb x) F = some rs) (hA : cx_AI g c z a t .byte) (d : decode cc pc = .ok (.bastore, 1)) (K : ∀ M', F M' = some rs → cx_V l g X S cc (pc + 1) lv st M' k n rs) : cx_V l g X S cc pc lv (.int x :: .int i :: .ref a :: st) M k n rs := by
  intro hk H locs ls hw hS hl
  obtain ⟨t1, q0, hM⟩ := hA
  obtain ⟨hin, h⟩ := cx_st_some h
  refine va_bast hk.1 hk.2.1 hk.2.2.2.2.2.2.2.1 hw.1 hw.2 hS q0 t (hM M).1 t1 hin d ?_
  intro H1 locs1 hP hD hS1
  rw [(hM M).2] at hP hD
  exact K _ h hk H1 locs1 ls ⟨hP, hD⟩ hS1 hl
theorem cx_cast {a index : Nat} {C : String} (hB : ∀ (M : cx_M) (U : State), cx_w g M U.heap → cx_K g U → cx_RO C a U) (hq : Cond.classLink S.2.1 index C ∈ lw_all) (d : decode cc pc = .ok (.checkcast index, 3)) (K : cx_V l g X S cc (pc + 3) lv (.ref a :: st) M k n rs) : cx_V l g X S cc pc lv (.ref a :: st) M k n rs :=
  fun hk H locs ls hw hS hl => va_castE hk.1 hk.2.1 hk.2.2.2.1 (hk.2.2.2.2.1 _ hq) (hB _ { X.2.2.1 with heap := H } hw (hk.2.2.2.2.2.2.2.at hS)) d (K hk H locs ls hw hS hl)
theorem cx_castR {a index : Nat} {C : String} (hB : cx_Rc g a C) (hq : Cond.classLink S.2.1 index C ∈ lw_all) (d : decode cc pc = .ok (.checkcast index, 3)) (K : cx_V l g X S cc (pc + 3) lv (.ref a :: st) M k n rs) : cx_V l g X S cc pc lv (.ref a :: st) M k n rs := by
  intro hk H locs ls hw hS hl
  obtain ⟨ci, q0, T, N, hc, hfs⟩ := hB
  obtain ⟨fs, hfs⟩ := hfs M
  exact va_castE hk.1 hk.2.1 hk.2.2.2.1 (hk.2.2.2.2.1 _ hq) (va_recv hk.2.2.2.2.2.2.2.1 hw.1 hc hfs) d (K hk H locs ls hw hS hl)
theorem cx_cVr {y : MethodName} {cc' : ByteArray} {S' : cx_S} {b index : Nat} {C : String} {o : Option cx_R} {F : cx_M → Int32 → Option cx_R} {v : Value} (As rest : List Value) {st0 : List Value} (h : cx_cal o F = some rs) (hM : ∀ rs', o = some rs' → cx_Met l g y cc' S' (.ref b :: As) M rs') (hB : cx_Rc g b C)
    (d : decode cc pc = .ok (.invokevirtual index, 3)) (hG : GoodIn lw_all (wsV S.2.1 index C y (ws_ y cc' S'.1 S'.2.2.2.2.1))) (hd : y.cls = C ∧ y.cls ≠ "java/lang/invoke/MethodHandle" ∧ y.cls ≠ "java/lang/invoke/VarHandle" ∧ (parseMethodDescriptor y.desc).map (fun d => d.parameters.length) = some As.length)
    (hR : S'.2.2.2.1.frames + 1 ≤ S.2.2.2.1.frames ∧ 8 + (S'.1 + 11) + S'.2.2.2.1.locals ≤ S.2.2.2.1.locals) (hk1 : S'.2.2.1 = fun _ => some v) (hz : S'.2.2.2.1.cells = 0 ∧ S'.2.2.2.1.slots = 0) (hf : k ≤ S.2.2.2.1.cells ∧ n ≤ S.2.2.2.1.slots) (hst : st0 = As.reverse ++ .ref b :: rest) (hcat : (rest.map fun v => v.category).sum ≤ 8)
    (K : ∀ M' r, F M' r = some rs → cx_V l g X S cc (pc + 3) lv (v :: rest) M' k n rs) : cx_V l g X S cc pc lv st0 M k n rs := by
  refine cx_callV As rest h hM hB d hG hd hR (by rw [hz.1, hz.2]; exact hf) hst hcat (fun M' r h => ?_)
  rw [hz.1, hz.2, hk1]
  exact K M' r h
theorem cx_cSNv {y : MethodName} {cc' : ByteArray} {S' : cx_S} {index : Nat} {host : String} {o : Option cx_R} {F : cx_M → Int32 → Option cx_R} (As rest : List Value) {st0 : List Value} (h : cx_cal o F = some rs) (hM : ∀ rs', o = some rs' → cx_Met l g y cc' S' As M rs')
    (d : decode cc pc = .ok (.invokestatic index, 3)) (hG : Cond.methodLinkNest S.2.1 index y host ∈ lw_tbl ∧ Cond.static y ∈ lw_all ∧ Cond.initialized y.cls ∈ lw_all ∧ GoodIn lw_all (ws_ y cc' S'.1 S'.2.2.2.2.1)) (hd : y.cls ≠ "java/lang/invoke/MethodHandle" ∧ y.cls ≠ "java/lang/invoke/VarHandle" ∧ (parseMethodDescriptor y.desc).map (fun d => d.parameters.length) = some As.length)
    (hR : S'.2.2.2.1.frames + 1 ≤ S.2.2.2.1.frames ∧ 8 + (S'.1 + 11) + S'.2.2.2.1.locals ≤ S.2.2.2.1.locals) (hk1 : S'.2.2.1 = cx_rV) (hz : S'.2.2.2.1.cells = 0 ∧ S'.2.2.2.1.slots = 0) (hf : k ≤ S.2.2.2.1.cells ∧ n ≤ S.2.2.2.1.slots) (hst : st0 = As.reverse ++ rest) (hcat : (rest.map fun v => v.category).sum ≤ 8)
    (K : ∀ M' r, F M' r = some rs → cx_V l g X S cc (pc + 3) lv rest M' k n rs) : cx_V l g X S cc pc lv st0 M k n rs := by
  intro hk H locs ls hw hS hl
  obtain ⟨rs', ho, h⟩ := cx_cal_some h
  subst hst
  refine cx_run hk hS hl (va_runSN (mc := S'.2.2.2.1.cells) (ms := S'.2.2.2.1.slots) ⟨hk.1, hk.2.1, hk.2.2.1, hk.2.2.2.1, hk.2.2.2.2.1⟩ (hM rs' ho) ⟨va_cnB As.length hk.2.2.2.2.1 hG.2.2.2 rfl rfl rfl (hk.2.2.2.2.2.2.2.2.1 _ hG.1 rfl) (hk.2.2.2.2.1 _ hG.2.2.1) hd hR, hk.2.2.2.2.1 _ hG.2.1, trivial⟩ ⟨cx_blind, fun U hU hW => ⟨rfl, by rw [hU]; exact hw, cx_K.warm hk.2.2.2.2.2.2.2 hW (by rw [hU]; exact hS)⟩⟩ rfl rfl hl.1 rfl (lv_room hcat) d (by rw [hz.1, hz.2]; exact hf)) ?_
  rw [hz.1, hz.2, hk1]
  exact K _ _ h
end CXY
