/-! ROWS for functions that are propositions: from this place on the machine comes to a state with Q -/
def cq_V (l : Launch) (g : cx_G) (X : cx_X) (S : cx_S) (cc : ByteArray) (pc : Nat) (lv : List (Nat × Value)) (st : List Value) (M : cx_M) (k n : Nat) (Q : State → Prop) : Prop :=
  cx_ok g X S cc → ∀ (H : Heap) (locs : List Loc) (ls : Array Slot), cx_w g M H → va_S g.2.2.2.1 X.2.2.1.heap H locs → lv_has ls S.1 lv →
    W X.1 l X.2.1 S.2.2.2.1 X.2.2.1 X.2.2.2.1 X.2.2.2.2.1 X.2.2.2.2.2.1 X.2.2.2.2.2.2.1 X.2.2.2.2.2.2.2 H locs k n Q (F0 X.2.2.2.1 pc ls st)
theorem cq_of {l : Launch} {g : cx_G} {X : cx_X} {S : cx_S} {cc : ByteArray} {pc : Nat} {lv : List (Nat × Value)} {st : List Value} {M : cx_M} {k n : Nat} {rs : cx_R} (h : cq_V l g X S cc pc lv st M k n (cx_fin g X S rs)) : cx_V l g X S cc pc lv st M k n rs := h
def cq_cal (o : Option cx_R) (f : cx_M → Int32 → Prop) : Prop := match o with
  | none => False
  | some r => f r.1 r.2.1
theorem cq_cal_some {o : Option cx_R} {f : cx_M → Int32 → Prop} (h : cq_cal o f) : ∃ r, o = some r ∧ f r.1 r.2.1 := by
  cases o with
  | none => cases h
  | some r => exact ⟨r, rfl, h⟩
def cq_sw (x : Int32) (lo : Int) (Bs : List Prop) (D : Prop) : Prop := if x.toInt < lo ∨ lo + Bs.length ≤ x.toInt then D else Bs.getD (x.toInt - lo).toNat False
theorem cq_sw_in {x : Int32} {lo : Int} {Bs : List Prop} {D : Prop} (h : cq_sw x lo Bs D) : ((x.toInt < lo ∨ lo + Bs.length ≤ x.toInt) ∧ D) ∨ ∃ j B, ¬ x.toInt < lo ∧ ¬ lo + Bs.length ≤ x.toInt ∧ (x.toInt - lo).toNat = j ∧ Bs[j]? = some B ∧ B := by
  unfold cq_sw at h
  split at h
  · next q => exact Or.inl ⟨q, h⟩
  · next q =>
    have hlt : (x.toInt - lo).toNat < Bs.length := by omega
    refine Or.inr ⟨(x.toInt - lo).toNat, Bs[(x.toInt - lo).toNat], fun z => q (Or.inl z), fun z => q (Or.inr z), rfl, List.getElem?_eq_getElem hlt, ?_⟩
    rw [List.getD_eq_getElem?_getD, List.getElem?_eq_getElem hlt] at h
    exact h
theorem cq_table {l : Launch} {g : cx_G} {X : cx_X} {S : cx_S} {cc : ByteArray} {pc : Nat} {lv : List (Nat × Value)} {st : List Value} {M : cx_M} {k n : Nat} {Q : State → Prop} {x : Int32} {dflt lo hi : Int} {offs : Array Int} {len : Nat} {Bs : List Prop} {D : Prop} (tgtD : Nat) (ts : List Nat) (nB : Nat) (h : cq_sw x lo Bs D) (d : decode cc pc = .ok (.tableswitch dflt lo hi offs, len)) (hhi : lo + (nB : Int) = hi + 1) (hnB : Bs.length = nB) (hnt : ts.length = nB) (htD : (pc : Int) + dflt = (tgtD : Int))
    (hts : offs.toList.map (fun o => (pc : Int) + o) = ts.map (fun t : Nat => (t : Int))) (KD : D → cq_V l g X S cc tgtD lv st M k n Q) (K : ∀ j B, Bs[j]? = some B → B → cq_V l g X S cc (ts.getD j 0) lv st M k n Q) : cq_V l g X S cc pc lv (.int x :: st) M k n Q := by
  intro hk H locs ls hw hS hl
  rw [← hnB] at hhi
  rcases cq_sw_in h with ⟨q, h⟩ | ⟨j, B, q1, q2, q3, q4, h⟩
  · exact lv_tableOut hk.1 hk.2.1 d (by omega) htD (KD h hk H locs ls hw hS hl)
  · obtain ⟨off, o1, o2⟩ := cx_tgts hts j (by rw [hnt, ← hnB]; exact (List.getElem?_eq_some_iff.mp q4).1)
    exact lv_tableIn hk.1 hk.2.1 d q1 (by omega) (by rw [q3]; exact o1) o2 (K j B q4 h hk H locs ls hw hS hl)
def cq_let (a : Int32) (f : Int32 → Prop) : Prop := f a
def cq_get (M : cx_M) (c k : Nat) (f : Int32 → Prop) : Prop := f (M c k)
def cq_put (M : cx_M) (c k : Nat) (v : Int32) (f : cx_M → Prop) : Prop := f (cx_up M c k v)
def cq_ld (M : cx_M) (c n : Nat) (i : Int32) (f : Int32 → Prop) : Prop := if i < 0 ∨ n ≤ i.toNatClampNeg then False else f (M c i.toNatClampNeg)
def cq_st (M : cx_M) (c n : Nat) (i v : Int32) (f : cx_M → Prop) : Prop := if i < 0 ∨ n ≤ i.toNatClampNeg then False else f (cx_up M c i.toNatClampNeg v)
def cq_nz (b : Int32) (f : Prop) : Prop := if b = 0 then False else f
def cq_bl (v : Int32) (f : Prop) : Prop := if v = 0 ∨ v = 1 then f else False
def cq_cpy (M : cx_M) (c0 z0 c1 z1 : Nat) (sp dp n : Int32) (f : cx_M → Prop) : Prop :=
  if sp < 0 ∨ dp < 0 ∨ n < 0 ∨ z0 < sp.toNatClampNeg + n.toNatClampNeg ∨ z1 < dp.toNatClampNeg + n.toNatClampNeg then False else f (cx_cpm M c0 c1 sp.toNatClampNeg dp.toNatClampNeg n.toNatClampNeg)
def cq_chk (i : Int32) (n : Nat) (x : Int32) (f : Int32 → Prop) : Prop := if i < 0 ∨ n ≤ i.toNatClampNeg then False else f x
def cq_ix (i : Int32) (n : Nat) (f : Nat → Prop) : Prop := if i < 0 ∨ n ≤ i.toNatClampNeg then False else f i.toNatClampNeg
def cq_ahd (f : Nat → Int32) (i : Int32) (F : Nat → Prop) : Prop := if i < 0 ∨ (f 100).toNatClampNeg ≤ i.toNatClampNeg ∨ 40 < (f 100).toNatClampNeg then False else if (f i.toNatClampNeg).toNatClampNeg ∈ cSt_all then F (f i.toNatClampNeg).toNatClampNeg else False
def cq_arem (M : cx_M) (c : Nat) (i : Int32) (F : cx_M → Nat → Prop) : Prop := if cx_alls (M c) = false then False else cq_ahd (M c) i fun j => F (cx_set M c (fun q => if q = 100 then M c 100 - 1 else if q = 101 then M c 101 + 1 else if q < i.toNatClampNeg then M c q else M c (q + 1))) j
def cq_aadd (M : cx_M) (c j : Nat) (F : cx_M → Prop) : Prop := if M c 100 < 0 ∨ 40 ≤ (M c 100).toNatClampNeg then False else F (cx_set M c (fun q => if q = 100 then M c 100 + 1 else if q = 101 then M c 101 + 1 else if q = (M c 100).toNatClampNeg then nI j else M c q))
def cq_cr (v : Int32) (o : Prop) : Prop := if cx_char v = v then o else False
def cq_ldw (M : cx_M) (c n : Nat) (i : Int32) (f : Int64 → Prop) : Prop := if i < 0 ∨ n ≤ i.toNatClampNeg then False else f (bt_w (M c) i.toNatClampNeg)
def cq_stw (M : cx_M) (c n : Nat) (i : Int32) (v : Int64) (f : cx_M → Prop) : Prop := if i < 0 ∨ n ≤ i.toNatClampNeg then False else f (cx_set M c (bt_put (M c) i.toNatClampNeg v))
def cq_let64 (a : Int64) (f : Int64 → Prop) : Prop := f a
def cq_cpyW (M : cx_M) (c0 z0 c1 z1 : Nat) (sp dp n : Int32) (f : cx_M → Prop) : Prop :=
  if sp < 0 ∨ dp < 0 ∨ n < 0 ∨ z0 < sp.toNatClampNeg + n.toNatClampNeg ∨ z1 < dp.toNatClampNeg + n.toNatClampNeg then False else f (cx_set M c1 (bt_cpy (M c0) (M c1) sp.toNatClampNeg dp.toNatClampNeg n.toNatClampNeg))
theorem cq_ld_some {M : cx_M} {c n : Nat} {i : Int32} {f : Int32 → Prop} (h : cq_ld M c n i f) : vp_in i n ∧ f (M c i.toNatClampNeg) := by
  unfold cq_ld at h
  split at h
  · cases h
  · next q => exact ⟨q, h⟩
theorem cq_st_some {M : cx_M} {c n : Nat} {i v : Int32} {f : cx_M → Prop} (h : cq_st M c n i v f) : vp_in i n ∧ f (cx_up M c i.toNatClampNeg v) := by
  unfold cq_st at h
  split at h
  · cases h
  · next q => exact ⟨q, h⟩
theorem cq_nn {v : Int32} {r : Nat} {o : Prop} {P : Prop} (h : cq_nz v o) (K : cx_on v r = .ref r → o → P) : P := by
  unfold cq_nz at h
  split at h
  · cases h
  · next q => exact K (by unfold cx_on; rw [if_neg q]) h
section CQV
variable {l : Launch} {g : cx_G} {X : cx_X} {S : cx_S} {cc : ByteArray} {pc : Nat} {lv : List (Nat × Value)} {st : List Value} {M : cx_M} {k n : Nat} {Q : State → Prop}
theorem cq_sub {lv' : List (Nat × Value)} (ks : List Nat) (hl : lv_pick lv ks = lv') (K : cq_V l g X S cc pc lv' st M k n Q) : cq_V l g X S cc pc lv st M k n Q :=
  fun hk H locs ls hw hS h => K hk H locs ls hw hS (lv_sub h ks hl)
theorem cq_letI {a : Int32} {f : Int32 → Prop} (h : cq_let a f) (K : ∀ v, f v → cq_V l g X S cc pc lv (.int v :: st) M k n Q) : cq_V l g X S cc pc lv (.int a :: st) M k n Q := K a h
theorem cq_iconst {i : Int} (v : Int32) (d : decode cc pc = .ok (.iconst i, 1)) (hv : Int32.ofInt i = v) (K : cq_V l g X S cc (pc + 1) lv (.int v :: st) M k n Q) : cq_V l g X S cc pc lv st M k n Q :=
  fun hk H locs ls hw hS hl => lv_iconst hk.1 hk.2.1 d hv (K hk H locs ls hw hS hl)
theorem cq_bipush {i : Int} (v : Int32) (d : decode cc pc = .ok (.bipush i, 2)) (hv : (Int8.ofInt i).toInt32 = v) (K : cq_V l g X S cc (pc + 2) lv (.int v :: st) M k n Q) : cq_V l g X S cc pc lv st M k n Q :=
  fun hk H locs ls hw hS hl => lv_bipush hk.1 hk.2.1 d hv (K hk H locs ls hw hS hl)
theorem cq_sipush {i : Int} (v : Int32) (d : decode cc pc = .ok (.sipush i, 3)) (hv : (Int16.ofInt i).toInt32 = v) (K : cq_V l g X S cc (pc + 3) lv (.int v :: st) M k n Q) : cq_V l g X S cc pc lv st M k n Q :=
  fun hk H locs ls hw hS hl => lv_sipush hk.1 hk.2.1 d hv (K hk H locs ls hw hS hl)
theorem cq_ldc {i : Nat} (v : Int32) (d : decode cc pc = .ok (.ldc i, 2)) (hq : Cond.constant S.2.1 i v ∈ lw_all) (K : cq_V l g X S cc (pc + 2) lv (.int v :: st) M k n Q) : cq_V l g X S cc pc lv st M k n Q :=
  fun hk H locs ls hw hS hl => lv_ldc hk.1 hk.2.1 hk.2.2.2.1 (hk.2.2.2.2.1 _ hq) d (K hk H locs ls hw hS hl)
theorem cq_ldcw {i : Nat} (v : Int32) (d : decode cc pc = .ok (.ldc_w i, 3)) (hq : Cond.constant S.2.1 i v ∈ lw_all) (K : cq_V l g X S cc (pc + 3) lv (.int v :: st) M k n Q) : cq_V l g X S cc pc lv st M k n Q :=
  fun hk H locs ls hw hS hl => lv_ldcw hk.1 hk.2.1 hk.2.2.2.1 (hk.2.2.2.2.1 _ hq) d (K hk H locs ls hw hS hl)
theorem cq_ldc2 {i : Nat} (v : Int64) (d : decode cc pc = .ok (.ldc2_w i, 3)) (hq : Cond.constantLong S.2.1 i v ∈ lw_all) (K : cq_V l g X S cc (pc + 3) lv (.long v :: st) M k n Q) : cq_V l g X S cc pc lv st M k n Q :=
  fun hk H locs ls hw hS hl => lv_ldc2 hk.1 hk.2.1 hk.2.2.2.1 (hk.2.2.2.2.1 _ hq) d (K hk H locs ls hw hS hl)
theorem cq_lconst {i : Fin 2} (v : Int64) (d : decode cc pc = .ok (.lconst i, 1)) (hv : Int64.ofNat (i : Nat) = v) (K : cq_V l g X S cc (pc + 1) lv (.long v :: st) M k n Q) : cq_V l g X S cc pc lv st M k n Q :=
  fun hk H locs ls hw hS hl => lv_lconst hk.1 hk.2.1 d hv (K hk H locs ls hw hS hl)
theorem cq_iload_n {i : Fin 4} {x : Int32} (j : Nat) (d : decode cc pc = .ok (.iload_n i, 1)) (hj : lv[j]? = some ((i : Nat), .int x)) (K : cq_V l g X S cc (pc + 1) lv (.int x :: st) M k n Q) : cq_V l g X S cc pc lv st M k n Q :=
  fun hk H locs ls hw hS hl => lv_iload_n hk.1 hk.2.1 d rfl (lv_at hl j hj) (K hk H locs ls hw hS hl)
theorem cq_iload {i : Nat} {x : Int32} (j : Nat) (d : decode cc pc = .ok (.iload i, 2)) (hj : lv[j]? = some (i, .int x)) (K : cq_V l g X S cc (pc + 2) lv (.int x :: st) M k n Q) : cq_V l g X S cc pc lv st M k n Q :=
  fun hk H locs ls hw hS hl => lv_iload hk.1 hk.2.1 d (lv_at hl j hj) (K hk H locs ls hw hS hl)
theorem cq_lload_n {i : Fin 4} {x : Int64} (j : Nat) (d : decode cc pc = .ok (.lload_n i, 1)) (hj : lv[j]? = some ((i : Nat), .long x)) (K : cq_V l g X S cc (pc + 1) lv (.long x :: st) M k n Q) : cq_V l g X S cc pc lv st M k n Q :=
  fun hk H locs ls hw hS hl => lv_lload_n hk.1 hk.2.1 d rfl (lv_at hl j hj) (K hk H locs ls hw hS hl)
theorem cq_lload {i : Nat} {x : Int64} (j : Nat) (d : decode cc pc = .ok (.lload i, 2)) (hj : lv[j]? = some (i, .long x)) (K : cq_V l g X S cc (pc + 2) lv (.long x :: st) M k n Q) : cq_V l g X S cc pc lv st M k n Q :=
  fun hk H locs ls hw hS hl => lv_lload hk.1 hk.2.1 d (lv_at hl j hj) (K hk H locs ls hw hS hl)
theorem cq_aload_n {i : Fin 4} {x : Nat} (j : Nat) (d : decode cc pc = .ok (.aload_n i, 1)) (hj : lv[j]? = some ((i : Nat), .ref x)) (K : cq_V l g X S cc (pc + 1) lv (.ref x :: st) M k n Q) : cq_V l g X S cc pc lv st M k n Q :=
  fun hk H locs ls hw hS hl => lv_aload_n hk.1 hk.2.1 d rfl (lv_at hl j hj) (K hk H locs ls hw hS hl)
theorem cq_aload {i : Nat} {x : Nat} (j : Nat) (d : decode cc pc = .ok (.aload i, 2)) (hj : lv[j]? = some (i, .ref x)) (K : cq_V l g X S cc (pc + 2) lv (.ref x :: st) M k n Q) : cq_V l g X S cc pc lv st M k n Q :=
  fun hk H locs ls hw hS hl => lv_aload hk.1 hk.2.1 d (lv_at hl j hj) (K hk H locs ls hw hS hl)
theorem cq_istore_n {i : Fin 4} {x : Int32} (lv' : List (Nat × Value)) (d : decode cc pc = .ok (.istore_n i, 1)) (hn : (i : Nat) < S.1) (hl : ((i : Nat), Value.int x) :: lv.filter (fun q => !(q.1 == (i : Nat)) && !(q.1 + 1 == (i : Nat) && q.2.category == 2)) = lv') (K : cq_V l g X S cc (pc + 1) lv' st M k n Q) : cq_V l g X S cc pc lv (.int x :: st) M k n Q :=
  fun hk H locs _ hw hS h => lv_istore_n hk.1 hk.2.1 d rfl h hn hl (fun ls hl => K hk H locs ls hw hS hl)
theorem cq_istore {i : Nat} {x : Int32} (lv' : List (Nat × Value)) (d : decode cc pc = .ok (.istore i, 2)) (hn : i < S.1) (hl : (i, Value.int x) :: lv.filter (fun q => !(q.1 == i) && !(q.1 + 1 == i && q.2.category == 2)) = lv') (K : cq_V l g X S cc (pc + 2) lv' st M k n Q) : cq_V l g X S cc pc lv (.int x :: st) M k n Q :=
  fun hk H locs _ hw hS h => lv_istore hk.1 hk.2.1 d h hn hl (fun ls hl => K hk H locs ls hw hS hl)
theorem cq_astore_n {i : Fin 4} {x : Nat} (lv' : List (Nat × Value)) (d : decode cc pc = .ok (.astore_n i, 1)) (hn : (i : Nat) < S.1) (hl : ((i : Nat), Value.ref x) :: lv.filter (fun q => !(q.1 == (i : Nat)) && !(q.1 + 1 == (i : Nat) && q.2.category == 2)) = lv') (K : cq_V l g X S cc (pc + 1) lv' st M k n Q) : cq_V l g X S cc pc lv (.ref x :: st) M k n Q :=
  fun hk H locs _ hw hS h => lv_astore_n hk.1 hk.2.1 d rfl h hn hl (fun ls hl => K hk H locs ls hw hS hl)
theorem cq_astore {i : Nat} {x : Nat} (lv' : List (Nat × Value)) (d : decode cc pc = .ok (.astore i, 2)) (hn : i < S.1) (hl : (i, Value.ref x) :: lv.filter (fun q => !(q.1 == i) && !(q.1 + 1 == i && q.2.category == 2)) = lv') (K : cq_V l g X S cc (pc + 2) lv' st M k n Q) : cq_V l g X S cc pc lv (.ref x :: st) M k n Q :=
  fun hk H locs _ hw hS h => lv_astore hk.1 hk.2.1 d h hn hl (fun ls hl => K hk H locs ls hw hS hl)
theorem cq_iinc {i : Nat} {z : Int} {x : Int32} {f : Int32 → Prop} (j : Nat) (v : Int32) (lv' : Int32 → List (Nat × Value)) (h : cq_let (x + v) f) (d : decode cc pc = .ok (.iinc i z, 3)) (hj : lv[j]? = some (i, .int x)) (hv : Int32.ofInt z = v) (hn : i < S.1)
    (hl : ∀ y : Int32, (i, Value.int y) :: lv.filter (fun q => !(q.1 == i) && !(q.1 + 1 == i && q.2.category == 2)) = lv' y) (K : ∀ y, f y → cq_V l g X S cc (pc + 3) (lv' y) st M k n Q) : cq_V l g X S cc pc lv st M k n Q :=
  fun hk H locs _ hw hS h2 => lv_iinc hk.1 hk.2.1 d h2 hj (by rw [hv]) hn (hl (x + v)) (fun ls h3 => K (x + v) h hk H locs ls hw hS h3)
theorem cq_lv {lv' : List (Nat × Value)} (hl : lv = lv') (K : cq_V l g X S cc pc lv' st M k n Q) : cq_V l g X S cc pc lv st M k n Q := hl ▸ K
theorem cq_iadd {x y : Int32} (d : decode cc pc = .ok (.iadd, 1)) (K : cq_V l g X S cc (pc + 1) lv (.int (x + y) :: st) M k n Q) : cq_V l g X S cc pc lv (.int y :: .int x :: st) M k n Q := fun hk H locs ls hw hS hl => lv_iadd hk.1 hk.2.1 d (K hk H locs ls hw hS hl)
theorem cq_isub {x y : Int32} (d : decode cc pc = .ok (.isub, 1)) (K : cq_V l g X S cc (pc + 1) lv (.int (x - y) :: st) M k n Q) : cq_V l g X S cc pc lv (.int y :: .int x :: st) M k n Q := fun hk H locs ls hw hS hl => lv_isub hk.1 hk.2.1 d (K hk H locs ls hw hS hl)
theorem cq_imul {x y : Int32} (d : decode cc pc = .ok (.imul, 1)) (K : cq_V l g X S cc (pc + 1) lv (.int (x * y) :: st) M k n Q) : cq_V l g X S cc pc lv (.int y :: .int x :: st) M k n Q := fun hk H locs ls hw hS hl => lv_imul hk.1 hk.2.1 d (K hk H locs ls hw hS hl)
theorem cq_iand {x y : Int32} (d : decode cc pc = .ok (.iand, 1)) (K : cq_V l g X S cc (pc + 1) lv (.int (x &&& y) :: st) M k n Q) : cq_V l g X S cc pc lv (.int y :: .int x :: st) M k n Q := fun hk H locs ls hw hS hl => lv_iand hk.1 hk.2.1 d (K hk H locs ls hw hS hl)
theorem cq_ior {x y : Int32} (d : decode cc pc = .ok (.ior, 1)) (K : cq_V l g X S cc (pc + 1) lv (.int (x ||| y) :: st) M k n Q) : cq_V l g X S cc pc lv (.int y :: .int x :: st) M k n Q := fun hk H locs ls hw hS hl => lv_ior hk.1 hk.2.1 d (K hk H locs ls hw hS hl)
theorem cq_ishl {x y : Int32} (d : decode cc pc = .ok (.ishl, 1)) (K : cq_V l g X S cc (pc + 1) lv (.int (x <<< (y &&& 31)) :: st) M k n Q) : cq_V l g X S cc pc lv (.int y :: .int x :: st) M k n Q := fun hk H locs ls hw hS hl => lv_ishl hk.1 hk.2.1 d (K hk H locs ls hw hS hl)
theorem cq_ishr {x y : Int32} (d : decode cc pc = .ok (.ishr, 1)) (K : cq_V l g X S cc (pc + 1) lv (.int (x >>> (y &&& 31)) :: st) M k n Q) : cq_V l g X S cc pc lv (.int y :: .int x :: st) M k n Q := fun hk H locs ls hw hS hl => lv_ishr hk.1 hk.2.1 d (K hk H locs ls hw hS hl)
theorem cq_ineg {x : Int32} (d : decode cc pc = .ok (.ineg, 1)) (K : cq_V l g X S cc (pc + 1) lv (.int (-x) :: st) M k n Q) : cq_V l g X S cc pc lv (.int x :: st) M k n Q := fun hk H locs ls hw hS hl => lv_ineg hk.1 hk.2.1 d (K hk H locs ls hw hS hl)
theorem cq_idiv {x y : Int32} {o : Prop} (h : cq_nz y o) (d : decode cc pc = .ok (.idiv, 1)) (K : o → cq_V l g X S cc (pc + 1) lv (.int (x / y) :: st) M k n Q) : cq_V l g X S cc pc lv (.int y :: .int x :: st) M k n Q := by
  unfold cq_nz at h
  split at h
  · cases h
  · next q => exact fun hk H locs ls hw hS hl => lv_idiv hk.1 hk.2.1 d q (K h hk H locs ls hw hS hl)
theorem cq_irem {x y : Int32} {o : Prop} (h : cq_nz y o) (d : decode cc pc = .ok (.irem, 1)) (K : o → cq_V l g X S cc (pc + 1) lv (.int (cx_rem x y) :: st) M k n Q) : cq_V l g X S cc pc lv (.int y :: .int x :: st) M k n Q := by
  unfold cq_nz at h
  split at h
  · cases h
  · next q => exact fun hk H locs ls hw hS hl => lv_irem hk.1 hk.2.1 d q (K h hk H locs ls hw hS hl)
theorem cq_idivC {x y : Int32} (hy : ¬ y = 0) (d : decode cc pc = .ok (.idiv, 1)) (K : cq_V l g X S cc (pc + 1) lv (.int (x / y) :: st) M k n Q) : cq_V l g X S cc pc lv (.int y :: .int x :: st) M k n Q := fun hk H locs ls hw hS hl => lv_idiv hk.1 hk.2.1 d hy (K hk H locs ls hw hS hl)
theorem cq_iremC {x y : Int32} (hy : ¬ y = 0) (d : decode cc pc = .ok (.irem, 1)) (K : cq_V l g X S cc (pc + 1) lv (.int (cx_rem x y) :: st) M k n Q) : cq_V l g X S cc pc lv (.int y :: .int x :: st) M k n Q := fun hk H locs ls hw hS hl => lv_irem hk.1 hk.2.1 d hy (K hk H locs ls hw hS hl)
theorem cq_i2l {x : Int32} (d : decode cc pc = .ok (.i2l, 1)) (K : cq_V l g X S cc (pc + 1) lv (.long x.toInt64 :: st) M k n Q) : cq_V l g X S cc pc lv (.int x :: st) M k n Q := fun hk H locs ls hw hS hl => lv_i2l hk.1 hk.2.1 d rfl (K hk H locs ls hw hS hl)
theorem cq_lcmp {x y : Int64} (d : decode cc pc = .ok (.lcmp, 1)) (K : cq_V l g X S cc (pc + 1) lv (.int (lg_cmp x y) :: st) M k n Q) : cq_V l g X S cc pc lv (.long y :: .long x :: st) M k n Q := fun hk H locs ls hw hS hl => W.lcmp hk.1 hk.2.1 d (K hk H locs ls hw hS hl)
theorem cq_dup {v : Value} (d : decode cc pc = .ok (.dup, 1)) (hv : v.category = 1) (K : cq_V l g X S cc (pc + 1) lv (v :: v :: st) M k n Q) : cq_V l g X S cc pc lv (v :: st) M k n Q := fun hk H locs ls hw hS hl => lv_dup hk.1 hk.2.1 d hv (K hk H locs ls hw hS hl)
theorem cq_pop {v : Value} (d : decode cc pc = .ok (.pop, 1)) (hv : v.category = 1) (K : cq_V l g X S cc (pc + 1) lv st M k n Q) : cq_V l g X S cc pc lv (v :: st) M k n Q := fun hk H locs ls hw hS hl => lv_pop hk.1 hk.2.1 d hv (K hk H locs ls hw hS hl)
theorem cq_dup_x1 {v u : Value} (d : decode cc pc = .ok (.dup_x1, 1)) (hv : v.category = 1) (hu : u.category = 1) (K : cq_V l g X S cc (pc + 1) lv (v :: u :: v :: st) M k n Q) : cq_V l g X S cc pc lv (v :: u :: st) M k n Q := fun hk H locs ls hw hS hl => lv_dup_x1 hk.1 hk.2.1 d hv hu (K hk H locs ls hw hS hl)
theorem cq_dup2 {v u : Value} (d : decode cc pc = .ok (.dup2, 1)) (hv : v.category = 1) (hu : u.category = 1) (K : cq_V l g X S cc (pc + 1) lv (v :: u :: v :: u :: st) M k n Q) : cq_V l g X S cc pc lv (v :: u :: st) M k n Q := fun hk H locs ls hw hS hl => lv_dup2_11 hk.1 hk.2.1 d hv hu (K hk H locs ls hw hS hl)
theorem cq_goto {off : Int} (tgt : Nat) (d : decode cc pc = .ok (.goto off, 3)) (ht : (pc : Int) + off = (tgt : Int)) (K : cq_V l g X S cc tgt lv st M k n Q) : cq_V l g X S cc pc lv st M k n Q := fun hk H locs ls hw hS hl => lv_goto hk.1 hk.2.1 d ht (K hk H locs ls hw hS hl)
theorem cq_icmp_eq {x y : Int32} {A B : Prop} {off : Int} (tgt : Nat) (h : (if x = y then A else B)) (d : decode cc pc = .ok (.if_icmp .eq off, 3)) (ht : (pc : Int) + off = (tgt : Int)) (kt : A → cq_V l g X S cc tgt lv st M k n Q) (kf : B → cq_V l g X S cc (pc + 3) lv st M k n Q) : cq_V l g X S cc pc lv (.int y :: .int x :: st) M k n Q := by
  intro hk H locs ls hw hS hl
  refine lv_icmp_eq hk.1 hk.2.1 d ht (fun q => kt ?_ hk H locs ls hw hS hl) (fun q => kf ?_ hk H locs ls hw hS hl)
  · rwa [if_pos q] at h
  · rwa [if_neg q] at h
theorem cq_if_eq {x : Int32} {A B : Prop} {off : Int} (tgt : Nat) (h : (if x = 0 then A else B)) (d : decode cc pc = .ok (.ifCond .eq off, 3)) (ht : (pc : Int) + off = (tgt : Int)) (kt : A → cq_V l g X S cc tgt lv st M k n Q) (kf : B → cq_V l g X S cc (pc + 3) lv st M k n Q) : cq_V l g X S cc pc lv (.int x :: st) M k n Q := by
  intro hk H locs ls hw hS hl
  refine lv_if_eq hk.1 hk.2.1 d ht (fun q => kt ?_ hk H locs ls hw hS hl) (fun q => kf ?_ hk H locs ls hw hS hl)
  · rwa [if_pos q] at h
  · rwa [if_neg q] at h
theorem cq_icmp_ne {x y : Int32} {A B : Prop} {off : Int} (tgt : Nat) (h : (if x = y then A else B)) (d : decode cc pc = .ok (.if_icmp .ne off, 3)) (ht : (pc : Int) + off = (tgt : Int)) (kt : B → cq_V l g X S cc tgt lv st M k n Q) (kf : A → cq_V l g X S cc (pc + 3) lv st M k n Q) : cq_V l g X S cc pc lv (.int y :: .int x :: st) M k n Q := by
  intro hk H locs ls hw hS hl
  refine lv_icmp_ne hk.1 hk.2.1 d ht (fun q => kt ?_ hk H locs ls hw hS hl) (fun q => kf ?_ hk H locs ls hw hS hl)
  · rwa [if_neg q] at h
  · rwa [if_pos q] at h
theorem cq_if_ne {x : Int32} {A B : Prop} {off : Int} (tgt : Nat) (h : (if x = 0 then A else B)) (d : decode cc pc = .ok (.ifCond .ne off, 3)) (ht : (pc : Int) + off = (tgt : Int)) (kt : B → cq_V l g X S cc tgt lv st M k n Q) (kf : A → cq_V l g X S cc (pc + 3) lv st M k n Q) : cq_V l g X S cc pc lv (.int x :: st) M k n Q := by
  intro hk H locs ls hw hS hl
  refine lv_if_ne hk.1 hk.2.1 d ht (fun q => kt ?_ hk H locs ls hw hS hl) (fun q => kf ?_ hk H locs ls hw hS hl)
  · rwa [if_neg q] at h
  · rwa [if_pos q] at h
theorem cq_icmp_lt {x y : Int32} {A B : Prop} {off : Int} (tgt : Nat) (h : (if x < y then A else B)) (d : decode cc pc = .ok (.if_icmp .lt off, 3)) (ht : (pc : Int) + off = (tgt : Int)) (kt : A → cq_V l g X S cc tgt lv st M k n Q) (kf : B → cq_V l g X S cc (pc + 3) lv st M k n Q) : cq_V l g X S cc pc lv (.int y :: .int x :: st) M k n Q := by
  intro hk H locs ls hw hS hl
  refine lv_icmp_lt hk.1 hk.2.1 d ht (fun q => kt ?_ hk H locs ls hw hS hl) (fun q => kf ?_ hk H locs ls hw hS hl)
  · rwa [if_pos q] at h
  · rwa [if_neg q] at h
theorem cq_if_lt {x : Int32} {A B : Prop} {off : Int} (tgt : Nat) (h : (if x < 0 then A else B)) (d : decode cc pc = .ok (.ifCond .lt off, 3)) (ht : (pc : Int) + off = (tgt : Int)) (kt : A → cq_V l g X S cc tgt lv st M k n Q) (kf : B → cq_V l g X S cc (pc + 3) lv st M k n Q) : cq_V l g X S cc pc lv (.int x :: st) M k n Q := by
  intro hk H locs ls hw hS hl
  refine lv_if_lt hk.1 hk.2.1 d ht (fun q => kt ?_ hk H locs ls hw hS hl) (fun q => kf ?_ hk H locs ls hw hS hl)
  · rwa [if_pos q] at h
  · rwa [if_neg q] at h
theorem cq_icmp_ge {x y : Int32} {A B : Prop} {off : Int} (tgt : Nat) (h : (if y ≤ x then A else B)) (d : decode cc pc = .ok (.if_icmp .ge off, 3)) (ht : (pc : Int) + off = (tgt : Int)) (kt : A → cq_V l g X S cc tgt lv st M k n Q) (kf : B → cq_V l g X S cc (pc + 3) lv st M k n Q) : cq_V l g X S cc pc lv (.int y :: .int x :: st) M k n Q := by
  intro hk H locs ls hw hS hl
  refine lv_icmp_ge hk.1 hk.2.1 d ht (fun q => kt ?_ hk H locs ls hw hS hl) (fun q => kf ?_ hk H locs ls hw hS hl)
  · rwa [if_pos q] at h
  · rwa [if_neg q] at h
theorem cq_if_ge {x : Int32} {A B : Prop} {off : Int} (tgt : Nat) (h : (if 0 ≤ x then A else B)) (d : decode cc pc = .ok (.ifCond .ge off, 3)) (ht : (pc : Int) + off = (tgt : Int)) (kt : A → cq_V l g X S cc tgt lv st M k n Q) (kf : B → cq_V l g X S cc (pc + 3) lv st M k n Q) : cq_V l g X S cc pc lv (.int x :: st) M k n Q := by
  intro hk H locs ls hw hS hl
  refine lv_if_ge hk.1 hk.2.1 d ht (fun q => kt ?_ hk H locs ls hw hS hl) (fun q => kf ?_ hk H locs ls hw hS hl)
  · rwa [if_pos q] at h
  · rwa [if_neg q] at h
theorem cq_icmp_gt {x y : Int32} {A B : Prop} {off : Int} (tgt : Nat) (h : (if y < x then A else B)) (d : decode cc pc = .ok (.if_icmp .gt off, 3)) (ht : (pc : Int) + off = (tgt : Int)) (kt : A → cq_V l g X S cc tgt lv st M k n Q) (kf : B → cq_V l g X S cc (pc + 3) lv st M k n Q) : cq_V l g X S cc pc lv (.int y :: .int x :: st) M k n Q := by
  intro hk H locs ls hw hS hl
  refine lv_icmp_gt hk.1 hk.2.1 d ht (fun q => kt ?_ hk H locs ls hw hS hl) (fun q => kf ?_ hk H locs ls hw hS hl)
  · rwa [if_pos q] at h
  · rwa [if_neg q] at h
theorem cq_if_gt {x : Int32} {A B : Prop} {off : Int} (tgt : Nat) (h : (if 0 < x then A else B)) (d : decode cc pc = .ok (.ifCond .gt off, 3)) (ht : (pc : Int) + off = (tgt : Int)) (kt : A → cq_V l g X S cc tgt lv st M k n Q) (kf : B → cq_V l g X S cc (pc + 3) lv st M k n Q) : cq_V l g X S cc pc lv (.int x :: st) M k n Q := by
  intro hk H locs ls hw hS hl
  refine lv_if_gt hk.1 hk.2.1 d ht (fun q => kt ?_ hk H locs ls hw hS hl) (fun q => kf ?_ hk H locs ls hw hS hl)
  · rwa [if_pos q] at h
  · rwa [if_neg q] at h
theorem cq_icmp_le {x y : Int32} {A B : Prop} {off : Int} (tgt : Nat) (h : (if x ≤ y then A else B)) (d : decode cc pc = .ok (.if_icmp .le off, 3)) (ht : (pc : Int) + off = (tgt : Int)) (kt : A → cq_V l g X S cc tgt lv st M k n Q) (kf : B → cq_V l g X S cc (pc + 3) lv st M k n Q) : cq_V l g X S cc pc lv (.int y :: .int x :: st) M k n Q := by
  intro hk H locs ls hw hS hl
  refine lv_icmp_le hk.1 hk.2.1 d ht (fun q => kt ?_ hk H locs ls hw hS hl) (fun q => kf ?_ hk H locs ls hw hS hl)
  · rwa [if_pos q] at h
  · rwa [if_neg q] at h
theorem cq_if_le {x : Int32} {A B : Prop} {off : Int} (tgt : Nat) (h : (if x ≤ 0 then A else B)) (d : decode cc pc = .ok (.ifCond .le off, 3)) (ht : (pc : Int) + off = (tgt : Int)) (kt : A → cq_V l g X S cc tgt lv st M k n Q) (kf : B → cq_V l g X S cc (pc + 3) lv st M k n Q) : cq_V l g X S cc pc lv (.int x :: st) M k n Q := by
  intro hk H locs ls hw hS hl
  refine lv_if_le hk.1 hk.2.1 d ht (fun q => kt ?_ hk H locs ls hw hS hl) (fun q => kf ?_ hk H locs ls hw hS hl)
  · rwa [if_pos q] at h
  · rwa [if_neg q] at h
theorem cq_getI {c f a index : Nat} {F : Int32 → Prop} {o : String × String × String × Bool} {ty : FieldType} (h : cq_get M c f F) (hF : cx_FI g c f a o ty) (hq : Cond.fieldLink S.2.1 index o.1 o.2.1 o.2.2.1 ∈ lw_all) (d : decode cc pc = .ok (.getfield index, 3)) (K : ∀ v, F v → cq_V l g X S cc (pc + 3) lv (.int v :: st) M k n Q) : cq_V l g X S cc pc lv (.ref a :: st) M k n Q := by
  intro hk H locs ls hw hS hl
  obtain ⟨ci, q0, C, T, N, ty0, ⟨c1, c2, c3, c4⟩, hN, hT, hty, hM⟩ := hF
  obtain ⟨fs, m1, m2, m3⟩ := hM M
  subst hT
  exact va_get hk.1 hk.2.1 (T := T) (Ts := lw_all) hk.2.2.2.2.1 c2 hk.2.2.2.1 hk.2.2.2.2.2.2.2.1 hw.1 q0 m1 c1 f hN (hk.2.2.2.2.1 _ hq) (fun _ h => h) m2 d (K _ h hk H locs ls hw hS hl)
theorem cq_getR {f a index : Nat} {o : String × String × String × Bool} {v : Value} (hF : cx_FR g f a o v) (hq : Cond.fieldLink S.2.1 index o.1 o.2.1 o.2.2.1 ∈ lw_all) (d : decode cc pc = .ok (.getfield index, 3)) (K : cq_V l g X S cc (pc + 3) lv (v :: st) M k n Q) : cq_V l g X S cc pc lv (.ref a :: st) M k n Q := by
  intro hk H locs ls hw hS hl
  obtain ⟨ci, q0, C, T, N, ty0, ⟨c1, c2, c3, c4⟩, hN, hT, hM⟩ := hF
  obtain ⟨fs, m1, m2⟩ := hM M
  subst hT
  exact va_get hk.1 hk.2.1 (T := T) (Ts := lw_all) hk.2.2.2.2.1 c2 hk.2.2.2.1 hk.2.2.2.2.2.2.2.1 hw.1 q0 m1 c1 f hN (hk.2.2.2.2.1 _ hq) (fun _ h => h) m2 d (K hk H locs ls hw hS hl)
theorem cq_putI {c f a index : Nat} {v : Int32} {F : cx_M → Prop} {o : String × String × String × Bool} {ty : FieldType} (h : cq_put M c f v F) (hF : cx_FI g c f a o ty) (hn : narrow ty (.int v) = .int v) (hfit : fits ty (.int v) = true) (hfin : o.2.2.2 = false) (hq : Cond.fieldLink S.2.1 index o.1 o.2.1 o.2.2.1 ∈ lw_all) (d : decode cc pc = .ok (.putfield index, 3)) (K : ∀ M', F M' → cq_V l g X S cc (pc + 3) lv st M' k n Q) : cq_V l g X S cc pc lv (.int v :: .ref a :: st) M k n Q := by
  intro hk H locs ls hw hS hl
  obtain ⟨ci, q0, C, T, N, ty0, ⟨c1, c2, c3, c4⟩, hN, hT, hty, hM⟩ := hF
  obtain ⟨fs, m1, m2, m3⟩ := hM M
  subst hT
  refine va_put hk.1 hk.2.1 (T := T) (Ts := lw_all) hk.2.2.2.2.1 c2 ty0 c3 c4 hk.2.2.2.1 hk.2.2.2.2.2.2.2.1 hw.1 hw.2 hS q0 m1 c1 f hN (hk.2.2.2.2.1 _ hq) (fun _ h => h) hfin hty hn hfit (List.getElem?_eq_some_iff.mp m2).1 d ?_
  intro H1 locs1 hP hD hS1
  rw [m3] at hP hD
  exact K _ h hk H1 locs1 ls ⟨hP, hD⟩ hS1 hl
theorem cq_ldI {c z a t : Nat} {i : Int32} {F : Int32 → Prop} (h : cq_ld M c z i F) (hA : cx_AI g c z a t .int) (d : decode cc pc = .ok (.iaload, 1)) (K : ∀ v, F v → cq_V l g X S cc (pc + 1) lv (.int v :: st) M k n Q) : cq_V l g X S cc pc lv (.int i :: .ref a :: st) M k n Q := by
  intro hk H locs ls hw hS hl
  obtain ⟨t1, q0, hM⟩ := hA
  obtain ⟨hin, h⟩ := cq_ld_some h
  exact va_iald hk.1 hk.2.1 hk.2.2.2.2.2.2.2.1 hw.1 q0 t (hM M).1 t1 hin d (K _ h hk H locs ls hw hS hl)
theorem cq_ldC {c z a t j : Nat} {i : Int32} {F : Int32 → Prop} (h : cq_get M c j F) (hA : cx_AI g c z a t .int) (hi : i.toNatClampNeg = j) (hin : vp_in i z) (d : decode cc pc = .ok (.iaload, 1)) (K : ∀ v, F v → cq_V l g X S cc (pc + 1) lv (.int v :: st) M k n Q) : cq_V l g X S cc pc lv (.int i :: .ref a :: st) M k n Q := by
  intro hk H locs ls hw hS hl
  obtain ⟨t1, q0, hM⟩ := hA
  subst hi
  exact va_iald hk.1 hk.2.1 hk.2.2.2.2.2.2.2.1 hw.1 q0 t (hM M).1 t1 hin d (K _ h hk H locs ls hw hS hl)
theorem cq_ldZ {c z a t : Nat} {i : Int32} {F : Int32 → Prop} (h : cq_ld M c z i F) (hA : cx_AI g c z a t .boolean) (d : decode cc pc = .ok (.baload, 1)) (K : ∀ v, F v → cq_V l g X S cc (pc + 1) lv (.int v :: st) M k n Q) : cq_V l g X S cc pc lv (.int i :: .ref a :: st) M k n Q := by
  intro hk H locs ls hw hS hl
  obtain ⟨t1, q0, hM⟩ := hA
  obtain ⟨hin, h⟩ := cq_ld_some h
  exact va_zald hk.1 hk.2.1 hk.2.2.2.2.2.2.2.1 hw.1 q0 t (hM M).1 t1 hin d (K _ h hk H locs ls hw hS hl)
theorem cq_stI {c z a t : Nat} {i x : Int32} {F : cx_M → Prop} (h : cq_st M c z i x F) (hA : cx_AI g c z a t .int) (d : decode cc pc = .ok (.iastore, 1)) (K : ∀ M', F M' → cq_V l g X S cc (pc + 1) lv st M' k n Q) : cq_V l g X S cc pc lv (.int x :: .int i :: .ref a :: st) M k n Q := by
  intro hk H locs ls hw hS hl
  obtain ⟨t1, q0, hM⟩ := hA
  obtain ⟨hin, h⟩ := cq_st_some h
  refine va_iast hk.1 hk.2.1 hk.2.2.2.2.2.2.2.1 hw.1 hw.2 hS q0 t (hM M).1 t1 hin d ?_
  intro H1 locs1 hP hD hS1
  rw [(hM M).2] at hP hD
  exact K _ h hk H1 locs1 ls ⟨hP, hD⟩ hS1 hl
theorem cq_stC {c z a t j : Nat} {i x : Int32} {F : cx_M → Prop} (h : cq_put M c j x F) (hA : cx_AI g c z a t .int) (hi : i.toNatClampNeg = j) (hin : vp_in i z) (d : decode cc pc = .ok (.iastore, 1)) (K : ∀ M', F M' → cq_V l g X S cc (pc + 1) lv st M' k n Q) : cq_V l g X S cc pc lv (.int x :: .int i :: .ref a :: st) M k n Q := by
  intro hk H locs ls hw hS hl
  obtain ⟨t1, q0, hM⟩ := hA
  subst hi
  refine va_iast hk.1 hk.2.1 hk.2.2.2.2.2.2.2.1 hw.1 hw.2 hS q0 t (hM M).1 t1 hin d ?_
  intro H1 locs1 hP hD hS1
  rw [(hM M).2] at hP hD
  exact K _ h hk H1 locs1 ls ⟨hP, hD⟩ hS1 hl
theorem cq_stZ {c z a t : Nat} {i x : Int32} {F : cx_M → Prop} (h : cq_st M c z i x F) (hA : cx_AI g c z a t .boolean) (hx : vp_nar .boolean x = x) (d : decode cc pc = .ok (.bastore, 1)) (K : ∀ M', F M' → cq_V l g X S cc (pc + 1) lv st M' k n Q) : cq_V l g X S cc pc lv (.int x :: .int i :: .ref a :: st) M k n Q := by
  intro hk H locs ls hw hS hl
  obtain ⟨t1, q0, hM⟩ := hA
  obtain ⟨hin, h⟩ := cq_st_some h
  refine va_zast hk.1 hk.2.1 hk.2.2.2.2.2.2.2.1 hw.1 hw.2 hS q0 t (hM M).1 t1 hin d ?_
  intro H1 locs1 hP hD hS1
  rw [hx, (hM M).2] at hP hD
  exact K _ h hk H1 locs1 ls ⟨hP, hD⟩ hS1 hl
theorem cq_alen {c z a t : Nat} {ty : FieldType} (v : Int32) (hA : cx_AI g c z a t ty) (hv : Int32.ofNat z = v) (d : decode cc pc = .ok (.arraylength, 1)) (K : cq_V l g X S cc (pc + 1) lv (.int v :: st) M k n Q) : cq_V l g X S cc pc lv (.ref a :: st) M k n Q := by
  intro hk H locs ls hw hS hl
  obtain ⟨t1, q0, hM⟩ := hA
  exact va_alen hk.1 hk.2.1 hk.2.2.2.2.2.2.2.1 hw.1 q0 t (hM M).1 t1 hv d (K hk H locs ls hw hS hl)
theorem cq_blI {v : Int32} {o : Prop} (h : cq_bl v o) (K : (narrow .boolean (.int v) = .int v ∧ fits .boolean (.int v) = true ∧ vp_nar .boolean v = v) → o → cq_V l g X S cc pc lv (.int v :: st) M k n Q) : cq_V l g X S cc pc lv (.int v :: st) M k n Q := by
  unfold cq_bl at h
  split at h
  · next q => rcases q with rfl | rfl
              · exact K ⟨by decide +kernel, by decide +kernel, by decide +kernel⟩ h
              · exact K ⟨by decide +kernel, by decide +kernel, by decide +kernel⟩ h
  · cases h
theorem cq_at {pc2 : Nat} (h : pc = pc2) (K : cq_V l g X S cc pc2 lv st M k n Q) : cq_V l g X S cc pc lv st M k n Q := h ▸ K
theorem cq_mmax {x y : Int32} {index : Nat} (d : decode cc pc = .ok (.invokestatic index, 3)) (hq : Cond.methodLink S.2.1 index Lib.Math.max.name ∈ lw_all) (hfr : 1 ≤ S.2.2.2.1.frames) (hlo : (st.map fun v => v.category).sum + 13 ≤ S.2.2.2.1.locals) (hc : k ≤ S.2.2.2.1.cells) (hn : n ≤ S.2.2.2.1.slots) (K : cq_V l g X S cc (pc + 3) lv (.int (cx_max x y) :: st) M k n Q) : cq_V l g X S cc pc lv (.int y :: .int x :: st) M k n Q :=
  fun hk H locs ls hw hS hl => va_mmax hk.1 hk.2.1 (hk.2.2.1.trans hl.1.symm) hk.2.2.2.1 (hk.2.2.2.2.1 _ hq) (hk.2.2.2.2.1 _ q299) (hk.2.2.2.2.1 _ q130) (hk.2.2.2.2.1 _ q300) hfr hlo hc hn d (K hk H locs ls hw hS hl)
theorem cq_mmin {x y : Int32} {index : Nat} (d : decode cc pc = .ok (.invokestatic index, 3)) (hq : Cond.methodLink S.2.1 index Lib.Math.min.name ∈ lw_all) (hfr : 1 ≤ S.2.2.2.1.frames) (hlo : (st.map fun v => v.category).sum + 13 ≤ S.2.2.2.1.locals) (hc : k ≤ S.2.2.2.1.cells) (hn : n ≤ S.2.2.2.1.slots) (K : cq_V l g X S cc (pc + 3) lv (.int (cx_min x y) :: st) M k n Q) : cq_V l g X S cc pc lv (.int y :: .int x :: st) M k n Q :=
  fun hk H locs ls hw hS hl => va_mmin hk.1 hk.2.1 (hk.2.2.1.trans hl.1.symm) hk.2.2.2.1 (hk.2.2.2.2.1 _ hq) (hk.2.2.2.2.1 _ q317) (hk.2.2.2.2.1 _ q130) (hk.2.2.2.2.1 _ q318) hfr hlo hc hn d (K hk H locs ls hw hS hl)
theorem cq_mabs {x : Int32} {index : Nat} (d : decode cc pc = .ok (.invokestatic index, 3)) (hq : Cond.methodLink S.2.1 index Lib.Math.abs.name ∈ lw_all) (hfr : 1 ≤ S.2.2.2.1.frames) (hlo : (st.map fun v => v.category).sum + 13 ≤ S.2.2.2.1.locals) (hc : k ≤ S.2.2.2.1.cells) (hn : n ≤ S.2.2.2.1.slots) (K : cq_V l g X S cc (pc + 3) lv (.int (cx_abs x) :: st) M k n Q) : cq_V l g X S cc pc lv (.int x :: st) M k n Q :=
  fun hk H locs ls hw hS hl => va_mabs hk.1 hk.2.1 (hk.2.2.1.trans hl.1.symm) hk.2.2.2.1 (hk.2.2.2.2.1 _ hq) (hk.2.2.2.2.1 _ q1328) (hk.2.2.2.2.1 _ q130) (hk.2.2.2.2.1 _ q1329) hfr hlo hc hn d (K hk H locs ls hw hS hl)
theorem cq_ldcS {i a : Nat} {tx : String} (hz : ∀ U, cx_K g U → vk_R S.2.1 i tx a U) (d : decode cc pc = .ok (.ldc i, 2)) (K : cq_V l g X S cc (pc + 2) lv (.ref a :: st) M k n Q) : cq_V l g X S cc pc lv st M k n Q :=
  fun hk H locs ls hw hS hl => va_ldcS hk.1 hk.2.1 hk.2.2.2.1 (hz _ hk.2.2.2.2.2.2.2) d (K hk H locs ls hw hS hl)
theorem cq_run {S' : cx_S} {rest st0 : List Value} {a : Array Value} {rs' : cx_R} {mc ms : Nat}
    (hk : cx_ok g X S cc) {H : Heap} {locs : List Loc} {ls : Array Slot} (hS : va_S g.2.2.2.1 X.2.2.1.heap H locs) (hl : lv_has ls S.1 lv)
    (hr : va_Run X.1 l X.2.1 S.2.2.2.1 X.2.2.1 X.2.2.2.1 X.2.2.2.2.1 X.2.2.2.2.2.1 X.2.2.2.2.2.2.1 X.2.2.2.2.2.2.2 H locs k n mc ms (F0 X.2.2.2.1 pc ls st0) rest (cx_Q g S' rs' a) g.2.2.2.1)
    (K : cq_V l g X S cc (pc + 3) lv ((S'.2.2.1 rs'.2.1).toList ++ rest) rs'.1 (k + mc) (n + ms) Q) :
    W X.1 l X.2.1 S.2.2.2.1 X.2.2.1 X.2.2.2.1 X.2.2.2.2.1 X.2.2.2.2.2.1 X.2.2.2.2.2.2.1 X.2.2.2.2.2.2.2 H locs k n Q (F0 X.2.2.2.1 pc ls st0) := by
  intro T hT XT
  obtain ⟨v, st₀, t, T', L, h0, X', hL, e1, e2, ⟨hv, hw', hz, hq⟩, stp⟩ := hr T hT XT
  cases hv
  rw [h0] at hz hq
  obtain ⟨t2, a1, b1⟩ := K hk T'.heap (locs ++ L) ls (by rw [e1]; exact hw')
    ⟨Nat.le_trans hS.1 (by rw [e1]; exact hz), fun q h1 h2 => by rw [e1, hq q (Nat.lt_of_lt_of_le h1 hS.1) h2]; exact hS.2.1 q h1 h2, fun q hq => by
      rcases List.mem_append.mp hq with h | h
      · exact hS.2.2 q h
      · exact hL q h⟩ hl T' rfl X'
  exact ⟨t2, stp t2 a1, b1⟩
theorem cq_callV {y : MethodName} {cc' : ByteArray} {S' : cx_S} {b index : Nat} {C : String} {o : Option cx_R} {F : cx_M → Int32 → Prop} (As rest : List Value) {st0 : List Value} (h : cq_cal o F) (hM : ∀ rs', o = some rs' → cx_Met l g y cc' S' (.ref b :: As) M rs') (hB : cx_Rc g b C)
    (d : decode cc pc = .ok (.invokevirtual index, 3)) (hG : GoodIn lw_all (wsV S.2.1 index C y (ws_ y cc' S'.1 S'.2.2.2.2.1))) (hd : y.cls = C ∧ y.cls ≠ "java/lang/invoke/MethodHandle" ∧ y.cls ≠ "java/lang/invoke/VarHandle" ∧ (parseMethodDescriptor y.desc).map (fun d => d.parameters.length) = some As.length)
    (hR : S'.2.2.2.1.frames + 1 ≤ S.2.2.2.1.frames ∧ 8 + (S'.1 + 11) + S'.2.2.2.1.locals ≤ S.2.2.2.1.locals) (hf : k + S'.2.2.2.1.cells ≤ S.2.2.2.1.cells ∧ n + S'.2.2.2.1.slots ≤ S.2.2.2.1.slots) (hst : st0 = As.reverse ++ .ref b :: rest) (hcat : (rest.map fun v => v.category).sum ≤ 8)
    (K : ∀ M' r, F M' r → cq_V l g X S cc (pc + 3) lv ((S'.2.2.1 r).toList ++ rest) M' (k + S'.2.2.2.1.cells) (n + S'.2.2.2.1.slots) Q) : cq_V l g X S cc pc lv st0 M k n Q := by
  intro hk H locs ls hw hS hl
  obtain ⟨rs', ho, h⟩ := cq_cal_some h
  obtain ⟨ci, q0, T, N, hc, hfs⟩ := hB
  obtain ⟨fs, hfs⟩ := hfs M
  subst hst
  refine cq_run hk hS hl (va_runV ⟨hk.1, hk.2.1, hk.2.2.1, hk.2.2.2.1, hk.2.2.2.2.1⟩ (hM rs' ho) (cwV As.length hk.2.2.2.2.1 hG rfl rfl rfl hd hR) ⟨cx_blind, va_recv hk.2.2.2.2.2.2.2.1 hw.1 hc hfs, fun U hU hW => ⟨rfl, by rw [hU]; exact hw, cx_K.warm hk.2.2.2.2.2.2.2 hW (by rw [hU]; exact hS)⟩⟩ rfl rfl hl.1 rfl (lv_room hcat) d hf) (K _ _ h)
theorem cq_callS {y : MethodName} {cc' : ByteArray} {S' : cx_S} {index : Nat} {o : Option cx_R} {F : cx_M → Int32 → Prop} (As rest : List Value) {st0 : List Value} (h : cq_cal o F) (hM : ∀ rs', o = some rs' → cx_Met l g y cc' S' As M rs')
    (d : decode cc pc = .ok (.invokestatic index, 3)) (hG : GoodIn lw_all (va_wsS S.2.1 index y (ws_ y cc' S'.1 S'.2.2.2.2.1))) (hd : y.cls ≠ "java/lang/invoke/MethodHandle" ∧ y.cls ≠ "java/lang/invoke/VarHandle" ∧ (parseMethodDescriptor y.desc).map (fun d => d.parameters.length) = some As.length)
    (hR : S'.2.2.2.1.frames + 1 ≤ S.2.2.2.1.frames ∧ 8 + (S'.1 + 11) + S'.2.2.2.1.locals ≤ S.2.2.2.1.locals) (hf : k + S'.2.2.2.1.cells ≤ S.2.2.2.1.cells ∧ n + S'.2.2.2.1.slots ≤ S.2.2.2.1.slots) (hst : st0 = As.reverse ++ rest) (hcat : (rest.map fun v => v.category).sum ≤ 8)
    (K : ∀ M' r, F M' r → cq_V l g X S cc (pc + 3) lv ((S'.2.2.1 r).toList ++ rest) M' (k + S'.2.2.2.1.cells) (n + S'.2.2.2.1.slots) Q) : cq_V l g X S cc pc lv st0 M k n Q := by
  intro hk H locs ls hw hS hl
  obtain ⟨rs', ho, h⟩ := cq_cal_some h
  subst hst
  refine cq_run hk hS hl (va_runS ⟨hk.1, hk.2.1, hk.2.2.1, hk.2.2.2.1, hk.2.2.2.2.1⟩ (hM rs' ho) (va_cwS As.length hk.2.2.2.2.1 hG rfl rfl rfl hd hR) ⟨cx_blind, fun U hU hW => ⟨rfl, by rw [hU]; exact hw, cx_K.warm hk.2.2.2.2.2.2.2 hW (by rw [hU]; exact hS)⟩⟩ rfl rfl hl.1 rfl (lv_room hcat) d hf) (K _ _ h)
theorem cq_cVi {y : MethodName} {cc' : ByteArray} {S' : cx_S} {b index : Nat} {C : String} {o : Option cx_R} {F : cx_M → Int32 → Prop} (As rest : List Value) {st0 : List Value} (h : cq_cal o F) (hM : ∀ rs', o = some rs' → cx_Met l g y cc' S' (.ref b :: As) M rs') (hB : cx_Rc g b C) (d : decode cc pc = .ok (.invokevirtual index, 3)) (hG : GoodIn lw_all (wsV S.2.1 index C y (ws_ y cc' S'.1 S'.2.2.2.2.1))) (hd : y.cls = C ∧ y.cls ≠ "java/lang/invoke/MethodHandle" ∧ y.cls ≠ "java/lang/invoke/VarHandle" ∧ (parseMethodDescriptor y.desc).map (fun d => d.parameters.length) = some As.length)
    (hR : S'.2.2.2.1.frames + 1 ≤ S.2.2.2.1.frames ∧ 8 + (S'.1 + 11) + S'.2.2.2.1.locals ≤ S.2.2.2.1.locals) (hk1 : S'.2.2.1 = cx_rI) (hz : S'.2.2.2.1.cells = 0 ∧ S'.2.2.2.1.slots = 0) (hf : k ≤ S.2.2.2.1.cells ∧ n ≤ S.2.2.2.1.slots) (hst : st0 = As.reverse ++ .ref b :: rest) (hcat : (rest.map fun v => v.category).sum ≤ 8)
    (K : ∀ M' r, F M' r → cq_V l g X S cc (pc + 3) lv (.int r :: rest) M' k n Q) : cq_V l g X S cc pc lv st0 M k n Q := by
  refine cq_callV As rest h hM hB d hG hd hR (by rw [hz.1, hz.2]; exact hf) hst hcat (fun M' r h => ?_)
  rw [hz.1, hz.2, hk1]
  exact K M' r h
theorem cq_cVv {y : MethodName} {cc' : ByteArray} {S' : cx_S} {b index : Nat} {C : String} {o : Option cx_R} {F : cx_M → Int32 → Prop} (As rest : List Value) {st0 : List Value} (h : cq_cal o F) (hM : ∀ rs', o = some rs' → cx_Met l g y cc' S' (.ref b :: As) M rs') (hB : cx_Rc g b C) (d : decode cc pc = .ok (.invokevirtual index, 3)) (hG : GoodIn lw_all (wsV S.2.1 index C y (ws_ y cc' S'.1 S'.2.2.2.2.1))) (hd : y.cls = C ∧ y.cls ≠ "java/lang/invoke/MethodHandle" ∧ y.cls ≠ "java/lang/invoke/VarHandle" ∧ (parseMethodDescriptor y.desc).map (fun d => d.parameters.length) = some As.length)
    (hR : S'.2.2.2.1.frames + 1 ≤ S.2.2.2.1.frames ∧ 8 + (S'.1 + 11) + S'.2.2.2.1.locals ≤ S.2.2.2.1.locals) (hk1 : S'.2.2.1 = cx_rV) (hz : S'.2.2.2.1.cells = 0 ∧ S'.2.2.2.1.slots = 0) (hf : k ≤ S.2.2.2.1.cells ∧ n ≤ S.2.2.2.1.slots) (hst : st0 = As.reverse ++ .ref b :: rest) (hcat : (rest.map fun v => v.category).sum ≤ 8)
    (K : ∀ M' r, F M' r → cq_V l g X S cc (pc + 3) lv (rest) M' k n Q) : cq_V l g X S cc pc lv st0 M k n Q := by
  refine cq_callV As rest h hM hB d hG hd hR (by rw [hz.1, hz.2]; exact hf) hst hcat (fun M' r h => ?_)
  rw [hz.1, hz.2, hk1]
  exact K M' r h
theorem cq_cSi {y : MethodName} {cc' : ByteArray} {S' : cx_S} {index : Nat} {o : Option cx_R} {F : cx_M → Int32 → Prop} (As rest : List Value) {st0 : List Value} (h : cq_cal o F) (hM : ∀ rs', o = some rs' → cx_Met l g y cc' S' As M rs') (d : decode cc pc = .ok (.invokestatic index, 3)) (hG : GoodIn lw_all (va_wsS S.2.1 index y (ws_ y cc' S'.1 S'.2.2.2.2.1))) (hd : y.cls ≠ "java/lang/invoke/MethodHandle" ∧ y.cls ≠ "java/lang/invoke/VarHandle" ∧ (parseMethodDescriptor y.desc).map (fun d => d.parameters.length) = some As.length)
    (hR : S'.2.2.2.1.frames + 1 ≤ S.2.2.2.1.frames ∧ 8 + (S'.1 + 11) + S'.2.2.2.1.locals ≤ S.2.2.2.1.locals) (hk1 : S'.2.2.1 = cx_rI) (hz : S'.2.2.2.1.cells = 0 ∧ S'.2.2.2.1.slots = 0) (hf : k ≤ S.2.2.2.1.cells ∧ n ≤ S.2.2.2.1.slots) (hst : st0 = As.reverse ++ rest) (hcat : (rest.map fun v => v.category).sum ≤ 8)
    (K : ∀ M' r, F M' r → cq_V l g X S cc (pc + 3) lv (.int r :: rest) M' k n Q) : cq_V l g X S cc pc lv st0 M k n Q := by
  refine cq_callS As rest h hM d hG hd hR (by rw [hz.1, hz.2]; exact hf) hst hcat (fun M' r h => ?_)
  rw [hz.1, hz.2, hk1]
  exact K M' r h
theorem cq_cSv {y : MethodName} {cc' : ByteArray} {S' : cx_S} {index : Nat} {o : Option cx_R} {F : cx_M → Int32 → Prop} (As rest : List Value) {st0 : List Value} (h : cq_cal o F) (hM : ∀ rs', o = some rs' → cx_Met l g y cc' S' As M rs') (d : decode cc pc = .ok (.invokestatic index, 3)) (hG : GoodIn lw_all (va_wsS S.2.1 index y (ws_ y cc' S'.1 S'.2.2.2.2.1))) (hd : y.cls ≠ "java/lang/invoke/MethodHandle" ∧ y.cls ≠ "java/lang/invoke/VarHandle" ∧ (parseMethodDescriptor y.desc).map (fun d => d.parameters.length) = some As.length)
    (hR : S'.2.2.2.1.frames + 1 ≤ S.2.2.2.1.frames ∧ 8 + (S'.1 + 11) + S'.2.2.2.1.locals ≤ S.2.2.2.1.locals) (hk1 : S'.2.2.1 = cx_rV) (hz : S'.2.2.2.1.cells = 0 ∧ S'.2.2.2.1.slots = 0) (hf : k ≤ S.2.2.2.1.cells ∧ n ≤ S.2.2.2.1.slots) (hst : st0 = As.reverse ++ rest) (hcat : (rest.map fun v => v.category).sum ≤ 8)
    (K : ∀ M' r, F M' r → cq_V l g X S cc (pc + 3) lv (rest) M' k n Q) : cq_V l g X S cc pc lv st0 M k n Q := by
  refine cq_callS As rest h hM d hG hd hR (by rw [hz.1, hz.2]; exact hf) hst hcat (fun M' r h => ?_)
  rw [hz.1, hz.2, hk1]
  exact K M' r h
theorem cq_getIN {c f a index : Nat} {host : String} {F : Int32 → Prop} {o : String × String × String × Bool} {ty : FieldType} (h : cq_get M c f F) (hF : cx_FI g c f a o ty) (hq : Cond.fieldLinkNest S.2.1 index o.1 o.2.1 o.2.2.1 host ∈ lw_tbl) (d : decode cc pc = .ok (.getfield index, 3)) (K : ∀ v, F v → cq_V l g X S cc (pc + 3) lv (.int v :: st) M k n Q) : cq_V l g X S cc pc lv (.ref a :: st) M k n Q := by
  intro hk H locs ls hw hS hl
  obtain ⟨ci, q0, C, T, N, ty0, ⟨c1, c2, c3, c4⟩, hN, hT, hty, hM⟩ := hF
  obtain ⟨fs, m1, m2, m3⟩ := hM M
  subst hT
  exact va_getN hk.1 hk.2.1 (T := T) (Ts := lw_all) hk.2.2.2.2.1 c2 hk.2.2.2.1 hk.2.2.2.2.2.2.2.1 hw.1 q0 m1 c1 f hN (va_Nw.use rfl (hk.2.2.2.2.2.2.2.2.1 _ hq rfl)) (fun _ h => h) m2 d (K _ h hk H locs ls hw hS hl)
theorem cq_getRN {f a index : Nat} {host : String} {o : String × String × String × Bool} {v : Value} (hF : cx_FR g f a o v) (hq : Cond.fieldLinkNest S.2.1 index o.1 o.2.1 o.2.2.1 host ∈ lw_tbl) (d : decode cc pc = .ok (.getfield index, 3)) (K : cq_V l g X S cc (pc + 3) lv (v :: st) M k n Q) : cq_V l g X S cc pc lv (.ref a :: st) M k n Q := by
  intro hk H locs ls hw hS hl
  obtain ⟨ci, q0, C, T, N, ty0, ⟨c1, c2, c3, c4⟩, hN, hT, hM⟩ := hF
  obtain ⟨fs, m1, m2⟩ := hM M
  subst hT
  exact va_getN hk.1 hk.2.1 (T := T) (Ts := lw_all) hk.2.2.2.2.1 c2 hk.2.2.2.1 hk.2.2.2.2.2.2.2.1 hw.1 q0 m1 c1 f hN (va_Nw.use rfl (hk.2.2.2.2.2.2.2.2.1 _ hq rfl)) (fun _ h => h) m2 d (K hk H locs ls hw hS hl)
theorem cq_putIN {c f a index : Nat} {host : String} {v : Int32} {F : cx_M → Prop} {o : String × String × String × Bool} {ty : FieldType} (h : cq_put M c f v F) (hF : cx_FI g c f a o ty) (hn : narrow ty (.int v) = .int v) (hfit : fits ty (.int v) = true) (hfin : o.2.2.2 = false) (hq : Cond.fieldLinkNest S.2.1 index o.1 o.2.1 o.2.2.1 host ∈ lw_tbl) (d : decode cc pc = .ok (.putfield index, 3)) (K : ∀ M', F M' → cq_V l g X S cc (pc + 3) lv st M' k n Q) : cq_V l g X S cc pc lv (.int v :: .ref a :: st) M k n Q := by
  intro hk H locs ls hw hS hl
  obtain ⟨ci, q0, C, T, N, ty0, ⟨c1, c2, c3, c4⟩, hN, hT, hty, hM⟩ := hF
  obtain ⟨fs, m1, m2, m3⟩ := hM M
  subst hT
  refine va_putN hk.1 hk.2.1 (T := T) (Ts := lw_all) hk.2.2.2.2.1 c2 ty0 c3 c4 hk.2.2.2.1 hk.2.2.2.2.2.2.2.1 hw.1 hw.2 hS q0 m1 c1 f hN (va_Nw.use rfl (hk.2.2.2.2.2.2.2.2.1 _ hq rfl)) (fun _ h => h) hfin hty hn hfit (List.getElem?_eq_some_iff.mp m2).1 d ?_
  intro H1 locs1 hP hD hS1
  rw [m3] at hP hD
  exact K _ h hk H1 locs1 ls ⟨hP, hD⟩ hS1 hl
theorem cq_getO {c f a r index : Nat} {F : Int32 → Prop} {o : String × String × String × Bool} (h : cq_get M c f F) (hF : cx_FO g c f a o r) (hq : Cond.fieldLink S.2.1 index o.1 o.2.1 o.2.2.1 ∈ lw_all) (d : decode cc pc = .ok (.getfield index, 3)) (K : ∀ v, F v → cq_V l g X S cc (pc + 3) lv (cx_on v r :: st) M k n Q) : cq_V l g X S cc pc lv (.ref a :: st) M k n Q := by
  intro hk H locs ls hw hS hl
  obtain ⟨ci, q0, C, T, N, ty0, ty, ⟨c1, c2, c3, c4⟩, hN, hT, hty, hnf, hM⟩ := hF
  obtain ⟨fs, m1, m2, m3⟩ := hM M
  subst hT
  exact va_get hk.1 hk.2.1 (T := T) (Ts := lw_all) hk.2.2.2.2.1 c2 hk.2.2.2.1 hk.2.2.2.2.2.2.2.1 hw.1 q0 m1 c1 f hN (hk.2.2.2.2.1 _ hq) (fun _ h => h) m2 d (K _ h hk H locs ls hw hS hl)
theorem cq_getON {c f a r index : Nat} {host : String} {F : Int32 → Prop} {o : String × String × String × Bool} (h : cq_get M c f F) (hF : cx_FO g c f a o r) (hq : Cond.fieldLinkNest S.2.1 index o.1 o.2.1 o.2.2.1 host ∈ lw_tbl) (d : decode cc pc = .ok (.getfield index, 3)) (K : ∀ v, F v → cq_V l g X S cc (pc + 3) lv (cx_on v r :: st) M k n Q) : cq_V l g X S cc pc lv (.ref a :: st) M k n Q := by
  intro hk H locs ls hw hS hl
  obtain ⟨ci, q0, C, T, N, ty0, ty, ⟨c1, c2, c3, c4⟩, hN, hT, hty, hnf, hM⟩ := hF
  obtain ⟨fs, m1, m2, m3⟩ := hM M
  subst hT
  exact va_getN hk.1 hk.2.1 (T := T) (Ts := lw_all) hk.2.2.2.2.1 c2 hk.2.2.2.1 hk.2.2.2.2.2.2.2.1 hw.1 q0 m1 c1 f hN (va_Nw.use rfl (hk.2.2.2.2.2.2.2.2.1 _ hq rfl)) (fun _ h => h) m2 d (K _ h hk H locs ls hw hS hl)
theorem cq_putON {c f a r index : Nat} {host : String} {u : Value} {v : Int32} {F : cx_M → Prop} {o : String × String × String × Bool} (h : cq_put M c f v F) (hF : cx_FO g c f a o r) (hu : cx_on v r = u) (hfin : o.2.2.2 = false) (hq : Cond.fieldLinkNest S.2.1 index o.1 o.2.1 o.2.2.1 host ∈ lw_tbl) (d : decode cc pc = .ok (.putfield index, 3)) (K : ∀ M', F M' → cq_V l g X S cc (pc + 3) lv st M' k n Q) : cq_V l g X S cc pc lv (u :: .ref a :: st) M k n Q := by
  subst hu
  intro hk H locs ls hw hS hl
  obtain ⟨ci, q0, C, T, N, ty0, ty, ⟨c1, c2, c3, c4⟩, hN, hT, hty, hnf, hM⟩ := hF
  obtain ⟨fs, m1, m2, m3⟩ := hM M
  subst hT
  refine va_putN hk.1 hk.2.1 (T := T) (Ts := lw_all) hk.2.2.2.2.1 c2 ty0 c3 c4 hk.2.2.2.1 hk.2.2.2.2.2.2.2.1 hw.1 hw.2 hS q0 m1 c1 f hN (va_Nw.use rfl (hk.2.2.2.2.2.2.2.2.1 _ hq rfl)) (fun _ h => h) hfin hty (hnf v).1 (hnf v).2 (List.getElem?_eq_some_iff.mp m2).1 d ?_
  intro H1 locs1 hP hD hS1
  rw [m3] at hP hD
  exact K _ h hk H1 locs1 ls ⟨hP, hD⟩ hS1 hl
theorem cq_null (d : decode cc pc = .ok (.aconst_null, 1)) (K : cq_V l g X S cc (pc + 1) lv (.null :: st) M k n Q) : cq_V l g X S cc pc lv st M k n Q := fun hk H locs ls hw hS hl => lv_null hk.1 hk.2.1 d (K hk H locs ls hw hS hl)
theorem cq_ifnull {v : Int32} {r : Nat} {off : Int} {A B : Prop} (tgt : Nat) (h : (if v = 0 then A else B)) (d : decode cc pc = .ok (.ifnull off, 3)) (ht : (pc : Int) + off = (tgt : Int)) (kt : A → cq_V l g X S cc tgt lv st M k n Q) (kf : B → cq_V l g X S cc (pc + 3) lv st M k n Q) : cq_V l g X S cc pc lv (cx_on v r :: st) M k n Q := by
  intro hk H locs ls hw hS hl
  unfold cx_on
  split at h
  · next q => rw [if_pos q]; exact lv_ifnullN hk.1 hk.2.1 d ht (kt h hk H locs ls hw hS hl)
  · next q => rw [if_neg q]; exact lv_ifnull hk.1 hk.2.1 d (kf h hk H locs ls hw hS hl)
theorem cq_ifnonnull {v : Int32} {r : Nat} {off : Int} {A B : Prop} (tgt : Nat) (h : (if v = 0 then A else B)) (d : decode cc pc = .ok (.ifnonnull off, 3)) (ht : (pc : Int) + off = (tgt : Int)) (kt : B → cq_V l g X S cc tgt lv st M k n Q) (kf : A → cq_V l g X S cc (pc + 3) lv st M k n Q) : cq_V l g X S cc pc lv (cx_on v r :: st) M k n Q := by
  intro hk H locs ls hw hS hl
  unfold cx_on
  split at h
  · next q => rw [if_pos q]; exact lv_ifnonnullN hk.1 hk.2.1 d (kf h hk H locs ls hw hS hl)
  · next q => rw [if_neg q]; exact lv_ifnonnull hk.1 hk.2.1 d ht (kt h hk H locs ls hw hS hl)
theorem cq_copy {c0 z0 a0 t0 c1 z1 a1 t1 index : Nat} {sp dp m : Int32} {F : cx_M → Prop} (h : cq_cpy M c0 z0 c1 z1 sp dp m F) (hA0 : cx_AI g c0 z0 a0 t0 .int) (hA1 : cx_AI g c1 z1 a1 t1 .int) (d : decode cc pc = .ok (.invokestatic index, 3)) (hq : Cond.methodLink S.2.1 index arraycopyName ∈ lw_all)
    (hfr : 1 ≤ S.2.2.2.1.frames) (hlo : (st.map fun v => v.category).sum + (nativeFrameWords "java/lang/System" "arraycopy" 5 + 11) ≤ S.2.2.2.1.locals) (K : ∀ M', F M' → cq_V l g X S cc (pc + 3) lv st M' k n Q) : cq_V l g X S cc pc lv (.int m :: .int dp :: .ref a1 :: .int sp :: .ref a0 :: st) M k n Q := by
  intro hk H locs ls hw hS hl
  unfold cq_cpy at h
  split at h
  · cases h
  · next q =>
    obtain ⟨e0, q0, m0⟩ := hA0
    obtain ⟨e1, q1, m1⟩ := hA1
    refine va_copyi hk.1 hk.2.1 (hk.2.2.1.trans hl.1.symm) hk.2.2.2.1 (hk.2.2.2.2.1 _ hq) (hk.2.2.2.2.1 _ q321) (hk.2.2.2.2.1 _ q320) (hk.2.2.2.2.1 _ q132) hk.2.2.2.2.2.2.2.1 hw.1 hw.2 hS q0 q1 t0 t1 (m0 M).1 (m1 M).1 e0 e1 rfl (fun z => q (Or.inl z)) (fun z => q (Or.inr (Or.inl z))) (fun z => q (Or.inr (Or.inr (Or.inl z)))) (Nat.le_of_not_lt fun z => q (Or.inr (Or.inr (Or.inr (Or.inl z))))) (Nat.le_of_not_lt fun z => q (Or.inr (Or.inr (Or.inr (Or.inr z))))) (fun _ _ => rfl) hfr hlo d ?_
    intro H1 locs1 hP hD hS1
    rw [(m1 M).2] at hP hD
    exact K _ h hk H1 locs1 ls ⟨hP, hD⟩ hS1 hl
theorem cq_gets {C nm ds : String} {index : Nat} {v : Value} (hz : ∀ U, cx_K g U → va_Z C nm ds v g.2.2.2.1 U U.heap) (hq : Cond.fieldLink S.2.1 index C nm ds ∈ lw_all) (d : decode cc pc = .ok (.getstatic index, 3)) (K : cq_V l g X S cc (pc + 3) lv (v :: st) M k n Q) : cq_V l g X S cc pc lv st M k n Q :=
  fun hk H locs ls hw hS hl => va_gets hk.1 hk.2.1 (hz _ hk.2.2.2.2.2.2.2) hS hk.2.2.2.1 (hk.2.2.2.2.1 _ hq) (fun _ h => h) d (K hk H locs ls hw hS hl)
theorem cq_getS {a index : Nat} {o nm ds : String} {v : Value} (hF : ∀ (M : cx_M) (U : State), cx_w g M U.heap → cx_K g U → cx_OF o nm ds v a U) (hq : Cond.fieldLink S.2.1 index o nm ds ∈ lw_all) (d : decode cc pc = .ok (.getfield index, 3)) (K : cq_V l g X S cc (pc + 3) lv (v :: st) M k n Q) : cq_V l g X S cc pc lv (.ref a :: st) M k n Q := by
  intro hk H locs ls hw hS hl
  obtain ⟨cf, kf, fi, f, cell, h1, h2, h3, h4, h5⟩ := hF _ { X.2.2.1 with heap := H } hw (hk.2.2.2.2.2.2.2.at hS)
  exact W.getf hk.1 hk.2.1 hk.2.2.2.1 (hk.2.2.2.2.1 _ hq) h1 h2 h3 h4 (v := v) h5 rfl rfl d (K hk H locs ls hw hS hl)
theorem cq_ldB {a z : Nat} {i : Int32} {f : Nat → Int32} {F : Int32 → Prop} (h : cq_chk i z (f i.toNatClampNeg) F) (hB : ∀ (M : cx_M) (U : State), cx_w g M U.heap → cx_K g U → cx_BA a z f U) (d : decode cc pc = .ok (.baload, 1)) (K : ∀ v, F v → cq_V l g X S cc (pc + 1) lv (.int v :: st) M k n Q) : cq_V l g X S cc pc lv (.int i :: .ref a :: st) M k n Q := by
  intro hk H locs ls hw hS hl
  unfold cq_chk at h
  split at h
  · cases h
  · next q =>
    obtain ⟨cell, h1, h2, h3, h4, h5⟩ := hB _ { X.2.2.1 with heap := H } hw (hk.2.2.2.2.2.2.2.at hS)
    have h1 : H[a]? = some cell := h1
    have h2 : X.2.2.1.isArrayOf cell .byte := State.isArrayOf_alike (show ({ X.2.2.1 with heap := H } : State).vm.Alike X.2.2.1.vm from Vm.Alike.refl _) h2
    exact W.bald (v := .int (f i.toNatClampNeg)) hk.1 hk.2.1 h1 h2 h3 (fun z => q (z.elim Or.inl fun z => Or.inr (Nat.le_trans h4.1 z))) (h5 _ (Nat.lt_of_not_le fun z => q (Or.inr z))) rfl rfl d (K _ h hk H locs ls hw hS hl)
theorem cq_alenB {a z : Nat} {f : Nat → Int32} (v : Int32) (hB : ∀ (M : cx_M) (U : State), cx_w g M U.heap → cx_K g U → cx_BA a z f U) (hv : Int32.ofNat z = v) (d : decode cc pc = .ok (.arraylength, 1)) (K : cq_V l g X S cc (pc + 1) lv (.int v :: st) M k n Q) : cq_V l g X S cc pc lv (.ref a :: st) M k n Q := by
  intro hk H locs ls hw hS hl
  obtain ⟨cell, h1, h2, h3, h4, h5⟩ := hB _ { X.2.2.1 with heap := H } hw (hk.2.2.2.2.2.2.2.at hS)
  have h1 : H[a]? = some cell := h1
  have h2 : X.2.2.1.isArrayOf cell .byte := State.isArrayOf_alike (show ({ X.2.2.1 with heap := H } : State).vm.Alike X.2.2.1.vm from Vm.Alike.refl _) h2
  exact W.alen (n := v) hk.1 hk.2.1 h1 h2 (h4.2.trans hv) rfl rfl d (K hk H locs ls hw hS hl)
theorem cq_callR {y : MethodName} {cc' : ByteArray} {S' : cx_S} {b index : Nat} {C : String} {o : Option cx_R} {F : cx_M → Int32 → Prop} (As rest : List Value) {st0 : List Value} (h : cq_cal o F) (hM : ∀ rs', o = some rs' → cx_Met l g y cc' S' (.ref b :: As) M rs') (hB : ∀ (M : cx_M) (U : State), cx_w g M U.heap → cx_K g U → cx_RO C b U)
    (d : decode cc pc = .ok (.invokevirtual index, 3)) (hG : GoodIn lw_all (wsV S.2.1 index C y (ws_ y cc' S'.1 S'.2.2.2.2.1))) (hd : y.cls = C ∧ y.cls ≠ "java/lang/invoke/MethodHandle" ∧ y.cls ≠ "java/lang/invoke/VarHandle" ∧ (parseMethodDescriptor y.desc).map (fun d => d.parameters.length) = some As.length)
    (hR : S'.2.2.2.1.frames + 1 ≤ S.2.2.2.1.frames ∧ 8 + (S'.1 + 11) + S'.2.2.2.1.locals ≤ S.2.2.2.1.locals) (hf : k + S'.2.2.2.1.cells ≤ S.2.2.2.1.cells ∧ n + S'.2.2.2.1.slots ≤ S.2.2.2.1.slots) (hst : st0 = As.reverse ++ .ref b :: rest) (hcat : (rest.map fun v => v.category).sum ≤ 8)
    (K : ∀ M' r, F M' r → cq_V l g X S cc (pc + 3) lv ((S'.2.2.1 r).toList ++ rest) M' (k + S'.2.2.2.1.cells) (n + S'.2.2.2.1.slots) Q) : cq_V l g X S cc pc lv st0 M k n Q := by
  intro hk H locs ls hw hS hl
  obtain ⟨rs', ho, h⟩ := cq_cal_some h
  subst hst
  refine cq_run hk hS hl (va_runV ⟨hk.1, hk.2.1, hk.2.2.1, hk.2.2.2.1, hk.2.2.2.2.1⟩ (hM rs' ho) (cwV As.length hk.2.2.2.2.1 hG rfl rfl rfl hd hR) ⟨cx_blind, hB _ { X.2.2.1 with heap := H } hw (hk.2.2.2.2.2.2.2.at hS), fun U hU hW => ⟨rfl, by rw [hU]; exact hw, cx_K.warm hk.2.2.2.2.2.2.2 hW (by rw [hU]; exact hS)⟩⟩ rfl rfl hl.1 rfl (lv_room hcat) d hf) (K _ _ h)
theorem cq_ldQ {a z t : Nat} {i : Int32} {C : String} {fr : Nat → Nat} {F : Nat → Prop} (h : cq_ix i z F) (hA : cx_QI g a z t C fr) (d : decode cc pc = .ok (.aaload, 1)) (K : ∀ j, j < z → F j → cq_V l g X S cc (pc + 1) lv (.ref (fr j) :: st) M k n Q) : cq_V l g X S cc pc lv (.int i :: .ref a :: st) M k n Q := by
  intro hk H locs ls hw hS hl
  obtain ⟨t1, q0, hM⟩ := hA
  unfold cq_ix at h
  split at h
  · cases h
  · next q => exact va_aldq hk.1 hk.2.1 hk.2.2.2.2.2.2.2.1 hw.1 q0 t (hM M) t1 q d (K _ (Nat.lt_of_not_le fun z => q (Or.inr z)) h hk H locs ls hw hS hl)
theorem cq_alenQ {a z t : Nat} {C : String} {fr : Nat → Nat} (v : Int32) (hA : cx_QI g a z t C fr) (hv : Int32.ofNat z = v) (d : decode cc pc = .ok (.arraylength, 1)) (K : cq_V l g X S cc (pc + 1) lv (.int v :: st) M k n Q) : cq_V l g X S cc pc lv (.ref a :: st) M k n Q := by
  intro hk H locs ls hw hS hl
  obtain ⟨t1, q0, hM⟩ := hA
  exact va_alen hk.1 hk.2.1 hk.2.2.2.2.2.2.2.1 hw.1 q0 t (hM M) t1 hv d (K hk H locs ls hw hS hl)
theorem cq_i2b {x : Int32} (d : decode cc pc = .ok (.i2b, 1)) (K : cq_V l g X S cc (pc + 1) lv (.int (cx_byte x) :: st) M k n Q) : cq_V l g X S cc pc lv (.int x :: st) M k n Q := fun hk H locs ls hw hS hl => lv_i2b hk.1 hk.2.1 d rfl (K hk H locs ls hw hS hl)
theorem cq_stBy {c z a t : Nat} {i x : Int32} {F : cx_M → Prop} (h : cq_st M c z i (cx_nb x) F) (hA : cx_AI g c z a t .byte) (d : decode cc pc = .ok (.bastore, 1)) (K : ∀ M', F M' → cq_V l g X S cc (pc + 1) lv st M' k n Q) : cq_V l g X S cc pc lv (.int x :: .int i :: .ref a :: st) M k n Q := by
  intro hk H locs ls hw hS hl
  obtain ⟨t1, q0, hM⟩ := hA
  obtain ⟨hin, h⟩ := cq_st_some h
  refine va_bast hk.1 hk.2.1 hk.2.2.2.2.2.2.2.1 hw.1 hw.2 hS q0 t (hM M).1 t1 hin d ?_
  intro H1 locs1 hP hD hS1
  rw [(hM M).2] at hP hD
  exact K _ h hk H1 locs1 ls ⟨hP, hD⟩ hS1 hl
theorem cq_cast {a index : Nat} {C : String} (hB : ∀ (M : cx_M) (U : State), cx_w g M U.heap → cx_K g U → cx_RO C a U) (hq : Cond.classLink S.2.1 index C ∈ lw_all) (d : decode cc pc = .ok (.checkcast index, 3)) (K : cq_V l g X S cc (pc + 3) lv (.ref a :: st) M k n Q) : cq_V l g X S cc pc lv (.ref a :: st) M k n Q :=
  fun hk H locs ls hw hS hl => va_castE hk.1 hk.2.1 hk.2.2.2.1 (hk.2.2.2.2.1 _ hq) (hB _ { X.2.2.1 with heap := H } hw (hk.2.2.2.2.2.2.2.at hS)) d (K hk H locs ls hw hS hl)
theorem cq_castR {a index : Nat} {C : String} (hB : cx_Rc g a C) (hq : Cond.classLink S.2.1 index C ∈ lw_all) (d : decode cc pc = .ok (.checkcast index, 3)) (K : cq_V l g X S cc (pc + 3) lv (.ref a :: st) M k n Q) : cq_V l g X S cc pc lv (.ref a :: st) M k n Q := by
  intro hk H locs ls hw hS hl
  obtain ⟨ci, q0, T, N, hc, hfs⟩ := hB
  obtain ⟨fs, hfs⟩ := hfs M
  exact va_castE hk.1 hk.2.1 hk.2.2.2.1 (hk.2.2.2.2.1 _ hq) (va_recv hk.2.2.2.2.2.2.2.1 hw.1 hc hfs) d (K hk H locs ls hw hS hl)
theorem cq_cVr {y : MethodName} {cc' : ByteArray} {S' : cx_S} {b index : Nat} {C : String} {o : Option cx_R} {F : cx_M → Int32 → Prop} {v : Value} (As rest : List Value) {st0 : List Value} (h : cq_cal o F) (hM : ∀ rs', o = some rs' → cx_Met l g y cc' S' (.ref b :: As) M rs') (hB : cx_Rc g b C)
    (d : decode cc pc = .ok (.invokevirtual index, 3)) (hG : GoodIn lw_all (wsV S.2.1 index C y (ws_ y cc' S'.1 S'.2.2.2.2.1))) (hd : y.cls = C ∧ y.cls ≠ "java/lang/invoke/MethodHandle" ∧ y.cls ≠ "java/lang/invoke/VarHandle" ∧ (parseMethodDescriptor y.desc).map (fun d => d.parameters.length) = some As.length)
    (hR : S'.2.2.2.1.frames + 1 ≤ S.2.2.2.1.frames ∧ 8 + (S'.1 + 11) + S'.2.2.2.1.locals ≤ S.2.2.2.1.locals) (hk1 : S'.2.2.1 = fun _ => some v) (hz : S'.2.2.2.1.cells = 0 ∧ S'.2.2.2.1.slots = 0) (hf : k ≤ S.2.2.2.1.cells ∧ n ≤ S.2.2.2.1.slots) (hst : st0 = As.reverse ++ .ref b :: rest) (hcat : (rest.map fun v => v.category).sum ≤ 8)
    (K : ∀ M' r, F M' r → cq_V l g X S cc (pc + 3) lv (v :: rest) M' k n Q) : cq_V l g X S cc pc lv st0 M k n Q := by
  refine cq_callV As rest h hM hB d hG hd hR (by rw [hz.1, hz.2]; exact hf) hst hcat (fun M' r h => ?_)
  rw [hz.1, hz.2, hk1]
  exact K M' r h
theorem cq_cSNv {y : MethodName} {cc' : ByteArray} {S' : cx_S} {index : Nat} {host : String} {o : Option cx_R} {F : cx_M → Int32 → Prop} (As rest : List Value) {st0 : List Value} (h : cq_cal o F) (hM : ∀ rs', o = some rs' → cx_Met l g y cc' S' As M rs')
    (d : decode cc pc = .ok (.invokestatic index, 3)) (hG : Cond.methodLinkNest S.2.1 index y host ∈ lw_tbl ∧ Cond.static y ∈ lw_all ∧ Cond.initialized y.cls ∈ lw_all ∧ GoodIn lw_all (ws_ y cc' S'.1 S'.2.2.2.2.1)) (hd : y.cls ≠ "java/lang/invoke/MethodHandle" ∧ y.cls ≠ "java/lang/invoke/VarHandle" ∧ (parseMethodDescriptor y.desc).map (fun d => d.parameters.length) = some As.length)
    (hR : S'.2.2.2.1.frames + 1 ≤ S.2.2.2.1.frames ∧ 8 + (S'.1 + 11) + S'.2.2.2.1.locals ≤ S.2.2.2.1.locals) (hk1 : S'.2.2.1 = cx_rV) (hz : S'.2.2.2.1.cells = 0 ∧ S'.2.2.2.1.slots = 0) (hf : k ≤ S.2.2.2.1.cells ∧ n ≤ S.2.2.2.1.slots) (hst : st0 = As.reverse ++ rest) (hcat : (rest.map fun v => v.category).sum ≤ 8)
    (K : ∀ M' r, F M' r → cq_V l g X S cc (pc + 3) lv rest M' k n Q) : cq_V l g X S cc pc lv st0 M k n Q := by
  intro hk H locs ls hw hS hl
  obtain ⟨rs', ho, h⟩ := cq_cal_some h
  subst hst
  refine cq_run hk hS hl (va_runSN (mc := S'.2.2.2.1.cells) (ms := S'.2.2.2.1.slots) ⟨hk.1, hk.2.1, hk.2.2.1, hk.2.2.2.1, hk.2.2.2.2.1⟩ (hM rs' ho) ⟨va_cnB As.length hk.2.2.2.2.1 hG.2.2.2 rfl rfl rfl (hk.2.2.2.2.2.2.2.2.1 _ hG.1 rfl) (hk.2.2.2.2.1 _ hG.2.2.1) hd hR, hk.2.2.2.2.1 _ hG.2.1, trivial⟩ ⟨cx_blind, fun U hU hW => ⟨rfl, by rw [hU]; exact hw, cx_K.warm hk.2.2.2.2.2.2.2 hW (by rw [hU]; exact hS)⟩⟩ rfl rfl hl.1 rfl (lv_room hcat) d (by rw [hz.1, hz.2]; exact hf)) ?_
  rw [hz.1, hz.2, hk1]
  exact K _ _ h
theorem cq_getsQ {C nm ds : String} {index : Nat} (hz : ∀ U, cx_K g U → va_Zq C nm ds g.2.2.2.1 U U.heap) (hq : Cond.fieldLink S.2.1 index C nm ds ∈ lw_all) (d : decode cc pc = .ok (.getstatic index, 3)) (K0 : cq_V l g X S cc (pc + 3) lv (.null :: st) M k n Q) (K1 : ∀ t, cq_V l g X S cc (pc + 3) lv (.ref t :: st) M k n Q) : cq_V l g X S cc pc lv st M k n Q := by
  intro hk H locs ls hw hS hl
  rcases hz _ hk.2.2.2.2.2.2.2 with z | ⟨t, z⟩
  · exact va_gets hk.1 hk.2.1 z hS hk.2.2.2.1 (hk.2.2.2.2.1 _ hq) (fun _ h => h) d (K0 hk H locs ls hw hS hl)
  · exact va_gets hk.1 hk.2.1 z hS hk.2.2.2.1 (hk.2.2.2.2.1 _ hq) (fun _ h => h) d (K1 t hk H locs ls hw hS hl)
theorem cq_i2c {x : Int32} (d : decode cc pc = .ok (.i2c, 1)) (K : cq_V l g X S cc (pc + 1) lv (.int (cx_char x) :: st) M k n Q) : cq_V l g X S cc pc lv (.int x :: st) M k n Q := fun hk H locs ls hw hS hl => lv_i2c hk.1 hk.2.1 d rfl (K hk H locs ls hw hS hl)
theorem cq_crI {v : Int32} {o : Prop} (h : cq_cr v o) (K : narrow .char (.int v) = .int v → o → cq_V l g X S cc pc lv (.int v :: st) M k n Q) : cq_V l g X S cc pc lv (.int v :: st) M k n Q := by
  unfold cq_cr at h
  split at h
  · next q => exact K (by rw [← q]; exact pk_nc v) h
  · cases h
theorem cq_cRi {y : MethodName} {cc' : ByteArray} {S' : cx_S} {b index : Nat} {C : String} {o : Option cx_R} {F : cx_M → Int32 → Prop} (As rest : List Value) {st0 : List Value} (h : cq_cal o F) (hM : ∀ rs', o = some rs' → cx_Met l g y cc' S' (.ref b :: As) M rs') (hB : ∀ (M : cx_M) (U : State), cx_w g M U.heap → cx_K g U → cx_RO C b U)
    (d : decode cc pc = .ok (.invokevirtual index, 3)) (hG : GoodIn lw_all (wsV S.2.1 index C y (ws_ y cc' S'.1 S'.2.2.2.2.1))) (hd : y.cls = C ∧ y.cls ≠ "java/lang/invoke/MethodHandle" ∧ y.cls ≠ "java/lang/invoke/VarHandle" ∧ (parseMethodDescriptor y.desc).map (fun d => d.parameters.length) = some As.length)
    (hR : S'.2.2.2.1.frames + 1 ≤ S.2.2.2.1.frames ∧ 8 + (S'.1 + 11) + S'.2.2.2.1.locals ≤ S.2.2.2.1.locals) (hk1 : S'.2.2.1 = cx_rI) (hz : S'.2.2.2.1.cells = 0 ∧ S'.2.2.2.1.slots = 0) (hf : k ≤ S.2.2.2.1.cells ∧ n ≤ S.2.2.2.1.slots) (hst : st0 = As.reverse ++ .ref b :: rest) (hcat : (rest.map fun v => v.category).sum ≤ 8)
    (K : ∀ M' r, F M' r → cq_V l g X S cc (pc + 3) lv (.int r :: rest) M' k n Q) : cq_V l g X S cc pc lv st0 M k n Q := by
  refine cq_callR As rest h hM hB d hG hd hR (by rw [hz.1, hz.2]; exact hf) hst hcat (fun M' r h => ?_)
  rw [hz.1, hz.2, hk1]
  exact K M' r h
theorem cq_cUi {x y : MethodName} {cc' : ByteArray} {S' : cx_S} {b index : Nat} {C owner : String} {o : Option cx_R} {F : cx_M → Int32 → Prop} (As rest : List Value) {st0 : List Value} (h : cq_cal o F) (hM : ∀ rs', o = some rs' → cx_Met l g y cc' S' (.ref b :: As) M rs') (hB : ∀ (M : cx_M) (U : State), cx_w g M U.heap → cx_K g U → cx_RO C b U)
    (d : decode cc pc = .ok (.invokevirtual index, 3)) (hG : GoodIn lw_all (va_wsU S.2.1 index C owner x y (ws_ y cc' S'.1 S'.2.2.2.2.1))) (hyx : y = ⟨owner, x.name, x.desc⟩) (hd : owner ≠ "java/lang/invoke/MethodHandle" ∧ owner ≠ "java/lang/invoke/VarHandle" ∧ (parseMethodDescriptor x.desc).map (fun d => d.parameters.length) = some As.length) (hde : Cond.code y cc' S'.1 S'.2.2.2.2.1 ∈ lw_all)
    (hR : S'.2.2.2.1.frames + 1 ≤ S.2.2.2.1.frames ∧ 8 + (S'.1 + 11) + S'.2.2.2.1.locals ≤ S.2.2.2.1.locals) (hk1 : S'.2.2.1 = cx_rI) (hz : S'.2.2.2.1.cells = 0 ∧ S'.2.2.2.1.slots = 0) (hf : k ≤ S.2.2.2.1.cells ∧ n ≤ S.2.2.2.1.slots) (hst : st0 = As.reverse ++ .ref b :: rest) (hcat : (rest.map fun v => v.category).sum ≤ 8)
    (K : ∀ M' r, F M' r → cq_V l g X S cc (pc + 3) lv (.int r :: rest) M' k n Q) : cq_V l g X S cc pc lv st0 M k n Q := by
  intro hk H locs ls hw hS hl
  obtain ⟨rs', ho, h⟩ := cq_cal_some h
  subst hst
  refine cq_run hk hS hl (va_runU (mc := S'.2.2.2.1.cells) (ms := S'.2.2.2.1.slots) ⟨hk.1, hk.2.1, hk.2.2.1, hk.2.2.2.1, hk.2.2.2.2.1⟩ (hM rs' ho) (va_cwU As.length hk.2.2.2.2.1 hG rfl rfl rfl hyx hd hR) ⟨cx_blind, hB _ { X.2.2.1 with heap := H } hw (hk.2.2.2.2.2.2.2.at hS), fun U hU hW => ⟨rfl, by rw [hU]; exact hw, cx_K.warm hk.2.2.2.2.2.2.2 hW (by rw [hU]; exact hS)⟩⟩ rfl rfl hl.1 rfl (lv_room hcat) d (by rw [hz.1, hz.2]; exact hf)) ?_
  rw [hz.1, hz.2, hk1]
  exact K _ _ h
theorem cq_ldW {c z a : Nat} {i : Int32} {F : Int64 → Prop} (h : cq_ldw M c z i F) (hA : cx_LI g c z a) (d : decode cc pc = .ok (.laload, 1)) (K : ∀ v, F v → cq_V l g X S cc (pc + 1) lv (.long v :: st) M k n Q) : cq_V l g X S cc pc lv (.int i :: .ref a :: st) M k n Q := by
  intro hk H locs ls hw hS hl
  obtain ⟨t1, q0, hM⟩ := hA
  unfold cq_ldw at h
  split at h
  · cases h
  · next q => exact va_lald hk.1 hk.2.1 hk.2.2.2.2.2.2.2.1 hw.1 q0 3 (hM M).1 t1 q d (K _ h hk H locs ls hw hS hl)
theorem cq_stW {c z a : Nat} {i : Int32} {x : Int64} {F : cx_M → Prop} (h : cq_stw M c z i x F) (hA : cx_LI g c z a) (d : decode cc pc = .ok (.lastore, 1)) (K : ∀ M', F M' → cq_V l g X S cc (pc + 1) lv st M' k n Q) : cq_V l g X S cc pc lv (.long x :: .int i :: .ref a :: st) M k n Q := by
  intro hk H locs ls hw hS hl
  obtain ⟨t1, q0, hM⟩ := hA
  unfold cq_stw at h
  split at h
  · cases h
  · next q =>
    refine va_last hk.1 hk.2.1 hk.2.2.2.2.2.2.2.1 hw.1 hw.2 hS q0 3 (hM M).1 t1 q d ?_
    intro H1 locs1 hP hD hS1
    rw [← bt_w_put, (hM M).2] at hP hD
    exact K _ h hk H1 locs1 ls ⟨hP, hD⟩ hS1 hl
theorem cq_land {x y : Int64} (d : decode cc pc = .ok (.land, 1)) (K : cq_V l g X S cc (pc + 1) lv (.long (x &&& y) :: st) M k n Q) : cq_V l g X S cc pc lv (.long y :: .long x :: st) M k n Q := fun hk H locs ls hw hS hl => lv_land hk.1 hk.2.1 d (K hk H locs ls hw hS hl)
theorem cq_lor {x y : Int64} (d : decode cc pc = .ok (.lor, 1)) (K : cq_V l g X S cc (pc + 1) lv (.long (x ||| y) :: st) M k n Q) : cq_V l g X S cc pc lv (.long y :: .long x :: st) M k n Q := fun hk H locs ls hw hS hl => lv_lor hk.1 hk.2.1 d (K hk H locs ls hw hS hl)
theorem cq_lxor {x y : Int64} (d : decode cc pc = .ok (.lxor, 1)) (K : cq_V l g X S cc (pc + 1) lv (.long (x ^^^ y) :: st) M k n Q) : cq_V l g X S cc pc lv (.long y :: .long x :: st) M k n Q := fun hk H locs ls hw hS hl => lv_lxor hk.1 hk.2.1 d (K hk H locs ls hw hS hl)
theorem cq_alenW {c z a : Nat} (v : Int32) (hA : cx_LI g c z a) (hv : Int32.ofNat z = v) (d : decode cc pc = .ok (.arraylength, 1)) (K : cq_V l g X S cc (pc + 1) lv (.int v :: st) M k n Q) : cq_V l g X S cc pc lv (.ref a :: st) M k n Q := by
  intro hk H locs ls hw hS hl
  obtain ⟨t1, q0, hM⟩ := hA
  exact va_alen hk.1 hk.2.1 hk.2.2.2.2.2.2.2.1 hw.1 q0 3 (hM M).1 t1 hv d (K hk H locs ls hw hS hl)
theorem cq_letJ {a : Int64} {f : Int64 → Prop} (h : cq_let64 a f) (K : ∀ v, f v → cq_V l g X S cc pc lv (.long v :: st) M k n Q) : cq_V l g X S cc pc lv (.long a :: st) M k n Q := K a h
theorem cq_lshl {x : Int64} {y : Int32} (d : decode cc pc = .ok (.lshl, 1)) (K : cq_V l g X S cc (pc + 1) lv (.long (cx_shl64 x y) :: st) M k n Q) : cq_V l g X S cc pc lv (.int y :: .long x :: st) M k n Q := fun hk H locs ls hw hS hl => lv_lshl hk.1 hk.2.1 d rfl (K hk H locs ls hw hS hl)
theorem cq_lushr {x : Int64} {y : Int32} (d : decode cc pc = .ok (.lushr, 1)) (K : cq_V l g X S cc (pc + 1) lv (.long (cx_ushr64 x y) :: st) M k n Q) : cq_V l g X S cc pc lv (.int y :: .long x :: st) M k n Q := fun hk H locs ls hw hS hl => lv_lushr hk.1 hk.2.1 d rfl (K hk H locs ls hw hS hl)
theorem cq_l2i {x : Int64} (d : decode cc pc = .ok (.l2i, 1)) (K : cq_V l g X S cc (pc + 1) lv (.int x.toInt32 :: st) M k n Q) : cq_V l g X S cc pc lv (.long x :: st) M k n Q := fun hk H locs ls hw hS hl => lv_l2i hk.1 hk.2.1 d rfl (K hk H locs ls hw hS hl)
theorem cq_iushr {x y : Int32} (d : decode cc pc = .ok (.iushr, 1)) (K : cq_V l g X S cc (pc + 1) lv (.int (cx_ushr x y) :: st) M k n Q) : cq_V l g X S cc pc lv (.int y :: .int x :: st) M k n Q := fun hk H locs ls hw hS hl => lv_iushr hk.1 hk.2.1 d rfl (K hk H locs ls hw hS hl)
theorem cq_lstore_n {i : Fin 4} {x : Int64} (lv' : List (Nat × Value)) (d : decode cc pc = .ok (.lstore_n i, 1)) (hn : (i : Nat) + 1 < S.1) (hl : ((i : Nat), Value.long x) :: lv.filter (fun q => !(q.1 == (i : Nat)) && (!(q.1 == (i : Nat) + 1) && !(q.1 + 1 == (i : Nat) && q.2.category == 2))) = lv') (K : cq_V l g X S cc (pc + 1) lv' st M k n Q) : cq_V l g X S cc pc lv (.long x :: st) M k n Q :=
  fun hk H locs _ hw hS h => lv_lstore_n hk.1 hk.2.1 d rfl h hn hl (fun ls hl => K hk H locs ls hw hS hl)
theorem cq_acmpne {b b2 f a a2 : Nat} {o o2 : String × String × String × Bool} {ty ty2 : FieldType} {off : Int} {A B : Prop} (tgt : Nat) (h : (if b = b2 then A else B)) (hF : cx_FI g b f a o ty) (hF2 : cx_FI g b2 f a2 o2 ty2) (he : b = b2 → a = a2) (d : decode cc pc = .ok (.if_acmp .ne off, 3)) (ht : (pc : Int) + off = (tgt : Int)) (kt : B → cq_V l g X S cc tgt lv st M k n Q) (kf : A → cq_V l g X S cc (pc + 3) lv st M k n Q) : cq_V l g X S cc pc lv (.ref a2 :: .ref a :: st) M k n Q := by
  intro hk H locs ls hw hS hl
  refine lv_acmp_ne (rx := some a) (ry := some a2) hk.1 hk.2.1 d ht (fun q => kt ?_ hk H locs ls hw hS hl) (fun q => kf ?_ hk H locs ls hw hS hl)
  · rwa [if_neg (fun e => q (by rw [he e]))] at h
  · rwa [if_pos (cx_apart hF hF2 hw (Option.some.inj q))] at h
theorem cq_copyW {c0 z0 a0 c1 z1 a1 index : Nat} {sp dp m : Int32} {F : cx_M → Prop} (h : cq_cpyW M c0 z0 c1 z1 sp dp m F) (hA0 : cx_LI g c0 z0 a0) (hA1 : cx_LI g c1 z1 a1) (d : decode cc pc = .ok (.invokestatic index, 3)) (hq : Cond.methodLink S.2.1 index arraycopyName ∈ lw_all)
    (hfr : 1 ≤ S.2.2.2.1.frames) (hlo : (st.map fun v => v.category).sum + (nativeFrameWords "java/lang/System" "arraycopy" 5 + 11) ≤ S.2.2.2.1.locals) (K : ∀ M', F M' → cq_V l g X S cc (pc + 3) lv st M' k n Q) : cq_V l g X S cc pc lv (.int m :: .int dp :: .ref a1 :: .int sp :: .ref a0 :: st) M k n Q := by
  intro hk H locs ls hw hS hl
  unfold cq_cpyW at h
  split at h
  · cases h
  · next q =>
    obtain ⟨e0, q0, m0⟩ := hA0
    obtain ⟨e1, q1, m1⟩ := hA1
    refine va_copyl hk.1 hk.2.1 (hk.2.2.1.trans hl.1.symm) hk.2.2.2.1 (hk.2.2.2.2.1 _ hq) (hk.2.2.2.2.1 _ q321) (hk.2.2.2.2.1 _ q320) (hk.2.2.2.2.1 _ q132) hk.2.2.2.2.2.2.2.1 hw.1 hw.2 hS q0 q1 3 3 (m0 M).1 (m1 M).1 e0 e1 rfl (fun z => q (Or.inl z)) (fun z => q (Or.inr (Or.inl z))) (fun z => q (Or.inr (Or.inr (Or.inl z)))) (Nat.le_of_not_lt fun z => q (Or.inr (Or.inr (Or.inr (Or.inl z))))) (Nat.le_of_not_lt fun z => q (Or.inr (Or.inr (Or.inr (Or.inr z))))) (fun _ _ => rfl) hfr hlo d ?_
    intro H1 locs1 hP hD hS1
    rw [← bt_w_of (va_cpy _ _ _ _ _), (m1 M).2] at hP hD
    exact K _ h hk H1 locs1 ls ⟨hP, hD⟩ hS1 hl
end CQV
