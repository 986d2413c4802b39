/-! arrays of longs as cells of bits -/
def bt_s (f : Nat → Int32) : Nat → Nat
  | 0 => 0
  | n + 1 => bt_s f n + (if f n = 0 then 0 else 2 ^ n)
def bt_w (f : Nat → Int32) (i : Nat) : Int64 := Int64.ofNat (bt_s (fun j => f (64 * i + j)) 64)
def bt_bit (v : Int64) (j : Nat) : Int32 := if v.toBitVec.toNat.testBit j = true then 1 else 0
def bt_put (f : Nat → Int32) (i : Nat) (v : Int64) : Nat → Int32 := fun q => if q / 64 = i then bt_bit v (q % 64) else f q
theorem bt_s_ext {f g : Nat → Int32} : ∀ (n : Nat), (∀ j, j < n → f j = g j) → bt_s f n = bt_s g n
  | 0, _ => rfl
  | n + 1, h => by
    unfold bt_s
    rw [bt_s_ext n (fun j hj => h j (Nat.lt_succ_of_lt hj)), h n (Nat.lt_succ_self n)]
theorem bt_s_bit (v : Int64) : ∀ n : Nat, bt_s (bt_bit v) n = v.toBitVec.toNat % 2 ^ n
  | 0 => by simp [bt_s, Nat.mod_one]
  | n + 1 => by
    unfold bt_s
    rw [bt_s_bit v n, Nat.pow_succ, Nat.mod_mul]
    unfold bt_bit
    rw [Nat.testBit_eq_decide_div_mod_eq]
    by_cases h : v.toBitVec.toNat / 2 ^ n % 2 = 1
    · simp [h]
    · have h0 : v.toBitVec.toNat / 2 ^ n % 2 = 0 := by omega
      simp [h0]
theorem bt_w_put (f : Nat → Int32) (i : Nat) (v : Int64) : bt_w (bt_put f i v) = vp_updL (bt_w f) i v := by
  funext k
  unfold vp_updL bt_w
  by_cases h : k = i
  · subst h
    rw [if_pos rfl]
    rw [bt_s_ext (g := bt_bit v) 64 (fun j hj => by
      show bt_put f k v (64 * k + j) = bt_bit v j
      unfold bt_put
      rw [if_pos (by omega), show (64 * k + j) % 64 = j by omega]), bt_s_bit]
    have hv : v.toBitVec.toNat % 2 ^ 64 = v.toBitVec.toNat := Nat.mod_eq_of_lt v.toBitVec.isLt
    rw [hv]
    apply Int64.toBitVec_inj.mp
    simp
  · rw [if_neg h]
    rw [bt_s_ext (g := fun j => f (64 * k + j)) 64 (fun j hj => by
      show bt_put f i v (64 * k + j) = f (64 * k + j)
      unfold bt_put
      rw [if_neg (by omega)])]
/-- an array of longs at a, the cell c of bits -/
def cx_LI (g : cx_G) (c n a : Nat) : Prop :=
  (cx_tys g.2.1)[3]? = some (g.2.1 3, .long) ∧ ∃ q0 : Nat, ∀ M : cx_M, (g.2.2.1 M)[q0]? = some (a, .inl (g.2.1 3, n, .inr (.inl (bt_w (M c))))) ∧ ∀ f : Nat → Int32, (g.2.2.1 M).set q0 (a, .inl (g.2.1 3, n, .inr (.inl (bt_w f)))) = g.2.2.1 (cx_set M c f)
def cx_ldw (M : cx_M) (c n : Nat) (i : Int32) (f : Int64 → Option cx_R) : Option cx_R := if i < 0 ∨ n ≤ i.toNatClampNeg then none else f (bt_w (M c) i.toNatClampNeg)
def cx_stw (M : cx_M) (c n : Nat) (i : Int32) (v : Int64) (f : cx_M → Option cx_R) : Option cx_R := if i < 0 ∨ n ≤ i.toNatClampNeg then none else f (cx_set M c (bt_put (M c) i.toNatClampNeg v))
section CXL
variable {l : Launch} {g : cx_G} {X : cx_X} {S : cx_S} {cc : ByteArray} {pc : Nat} {lv : List (Nat × Value)} {st : List Value} {M : cx_M} {k n : Nat} {rs : cx_R}
theorem cx_ldW {c z a : Nat} {i : Int32} {F : Int64 → Option cx_R} (h : cx_ldw M c z i F = some rs) (hA : cx_LI g c z a) (d : decode cc pc = .ok (.laload, 1)) (K : ∀ v, F v = some rs → cx_V l g X S cc (pc + 1) lv (.long v :: st) M k n rs) : cx_V l g X S cc pc lv (.int i :: .ref a :: st) M k n rs := by
  intro hk H locs ls hw hS hl
  obtain ⟨t1, q0, hM⟩ := hA
  unfold cx_ldw at h
  split at h
  · cases h
  · next q => exact va_lald hk.1 hk.2.1 hk.2.2.2.2.2.2.2.1 hw.1 q0 3 (hM M).1 t1 q d (K _ h hk H locs ls hw hS hl)
theorem cx_stW {c z a : Nat} {i : Int32} {x : Int64} {F : cx_M → Option cx_R} (h : cx_stw M c z i x F = some rs) (hA : cx_LI g c z a) (d : decode cc pc = .ok (.lastore, 1)) (K : ∀ M', F M' = some rs → cx_V l g X S cc (pc + 1) lv st M' k n rs) : cx_V l g X S cc pc lv (.long x :: .int i :: .ref a :: st) M k n rs := by
  intro hk H locs ls hw hS hl
  obtain ⟨t1, q0, hM⟩ := hA
  unfold cx_stw at h
  split at h
  · cases h
  · next q =>
    refine va_last hk.1 hk.2.1 hk.2.2.2.2.2.2.2.1 hw.1 hw.2 hS q0 3 (hM M).1 t1 q d ?_
    intro H1 locs1 hP hD hS1
    rw [← bt_w_put, (hM M).2] at hP hD
    exact K _ h hk H1 locs1 ls ⟨hP, hD⟩ hS1 hl
end CXL
def cx_let64 (a : Int64) (f : Int64 → Option cx_R) : Option cx_R := f a
section CXM
variable {l : Launch} {g : cx_G} {X : cx_X} {S : cx_S} {cc : ByteArray} {pc : Nat} {lv : List (Nat × Value)} {st : List Value} {M : cx_M} {k n : Nat} {rs : cx_R}
theorem cx_land {x y : Int64} (d : decode cc pc = .ok (.land, 1)) (K : cx_V l g X S cc (pc + 1) lv (.long (x &&& y) :: st) M k n rs) : cx_V l g X S cc pc lv (.long y :: .long x :: st) M k n rs := fun hk H locs ls hw hS hl => lv_land hk.1 hk.2.1 d (K hk H locs ls hw hS hl)
theorem cx_lor {x y : Int64} (d : decode cc pc = .ok (.lor, 1)) (K : cx_V l g X S cc (pc + 1) lv (.long (x ||| y) :: st) M k n rs) : cx_V l g X S cc pc lv (.long y :: .long x :: st) M k n rs := fun hk H locs ls hw hS hl => lv_lor hk.1 hk.2.1 d (K hk H locs ls hw hS hl)
theorem cx_lxor {x y : Int64} (d : decode cc pc = .ok (.lxor, 1)) (K : cx_V l g X S cc (pc + 1) lv (.long (x ^^^ y) :: st) M k n rs) : cx_V l g X S cc pc lv (.long y :: .long x :: st) M k n rs := fun hk H locs ls hw hS hl => lv_lxor hk.1 hk.2.1 d (K hk H locs ls hw hS hl)
theorem cx_alenW {c z a : Nat} (v : Int32) (hA : cx_LI g c z a) (hv : Int32.ofNat z = v) (d : decode cc pc = .ok (.arraylength, 1)) (K : cx_V l g X S cc (pc + 1) lv (.int v :: st) M k n rs) : cx_V l g X S cc pc lv (.ref a :: st) M k n rs := by
  intro hk H locs ls hw hS hl
  obtain ⟨t1, q0, hM⟩ := hA
  exact va_alen hk.1 hk.2.1 hk.2.2.2.2.2.2.2.1 hw.1 q0 3 (hM M).1 t1 hv d (K hk H locs ls hw hS hl)
theorem cx_letJ {a : Int64} {f : Int64 → Option cx_R} (h : cx_let64 a f = some rs) (K : ∀ v, f v = some rs → cx_V l g X S cc pc lv (.long v :: st) M k n rs) : cx_V l g X S cc pc lv (.long a :: st) M k n rs := K a h
def cx_shl64 (x : Int64) (y : Int32) : Int64 := x <<< (y.toInt64 &&& 63)
def cx_ushr64 (x : Int64) (y : Int32) : Int64 := (x.toUInt64 >>> (y.toInt64.toUInt64 &&& Int64.toUInt64 63)).toInt64
def cx_ushr (x y : Int32) : Int32 := (x.toUInt32 >>> (y.toUInt32 &&& Int32.toUInt32 31)).toInt32
theorem cx_lshl {x : Int64} {y : Int32} (d : decode cc pc = .ok (.lshl, 1)) (K : cx_V l g X S cc (pc + 1) lv (.long (cx_shl64 x y) :: st) M k n rs) : cx_V l g X S cc pc lv (.int y :: .long x :: st) M k n rs := fun hk H locs ls hw hS hl => lv_lshl hk.1 hk.2.1 d rfl (K hk H locs ls hw hS hl)
theorem cx_lushr {x : Int64} {y : Int32} (d : decode cc pc = .ok (.lushr, 1)) (K : cx_V l g X S cc (pc + 1) lv (.long (cx_ushr64 x y) :: st) M k n rs) : cx_V l g X S cc pc lv (.int y :: .long x :: st) M k n rs := fun hk H locs ls hw hS hl => lv_lushr hk.1 hk.2.1 d rfl (K hk H locs ls hw hS hl)
theorem cx_l2i {x : Int64} (d : decode cc pc = .ok (.l2i, 1)) (K : cx_V l g X S cc (pc + 1) lv (.int x.toInt32 :: st) M k n rs) : cx_V l g X S cc pc lv (.long x :: st) M k n rs := fun hk H locs ls hw hS hl => lv_l2i hk.1 hk.2.1 d rfl (K hk H locs ls hw hS hl)
theorem cx_iushr {x y : Int32} (d : decode cc pc = .ok (.iushr, 1)) (K : cx_V l g X S cc (pc + 1) lv (.int (cx_ushr x y) :: st) M k n rs) : cx_V l g X S cc pc lv (.int y :: .int x :: st) M k n rs := fun hk H locs ls hw hS hl => lv_iushr hk.1 hk.2.1 d rfl (K hk H locs ls hw hS hl)
theorem cx_lstore_n {i : Fin 4} {x : Int64} (lv' : List (Nat × Value)) (d : decode cc pc = .ok (.lstore_n i, 1)) (hn : (i : Nat) + 1 < S.1) (hl : ((i : Nat), Value.long x) :: lv.filter (fun q => !(q.1 == (i : Nat)) && (!(q.1 == (i : Nat) + 1) && !(q.1 + 1 == (i : Nat) && q.2.category == 2))) = lv') (K : cx_V l g X S cc (pc + 1) lv' st M k n rs) : cx_V l g X S cc pc lv (.long x :: st) M k n rs :=
  fun hk H locs _ hw hS h => lv_lstore_n hk.1 hk.2.1 d rfl h hn hl (fun ls hl => K hk H locs ls hw hS hl)
/-- two objects of the world are one if their cells are -/
theorem cx_apart {b b2 f a a2 : Nat} {o o2 : String × String × String × Bool} {ty ty2 : FieldType} {H : Heap} (hF : cx_FI g b f a o ty) (hF2 : cx_FI g b2 f a2 o2 ty2) (hw : cx_w g M H) (e : a = a2) : b = b2 := by
  obtain ⟨ci, q0, C, T, N, ty0, -, -, -, -, h1⟩ := hF
  obtain ⟨ci', q0', C', T', N', ty0', -, -, -, -, h2⟩ := hF2
  subst e
  obtain ⟨fs, m1, -, -⟩ := h1 M
  obtain ⟨fs', m1', -, -⟩ := h2 M
  have hq : q0 = q0' := hw.2.1 q0 q0' _ _ m1 m1' rfl
  subst hq
  by_cases hb : b = b2
  · exact hb
  · obtain ⟨f1, n1, n2, -⟩ := h1 (fun c _ => if c = b then 0 else 1)
    obtain ⟨f2, n3, n4, -⟩ := h2 (fun c _ => if c = b then 0 else 1)
    rw [n1] at n3
    cases n3
    rw [n2] at n4
    simp [Ne.symm hb] at n4
theorem cx_acmpne {b b2 f a a2 : Nat} {o o2 : String × String × String × Bool} {ty ty2 : FieldType} {off : Int} {A B : Option cx_R} (tgt : Nat) (h : (if b = b2 then A else B) = some rs) (hF : cx_FI g b f a o ty) (hF2 : cx_FI g b2 f a2 o2 ty2) (he : b = b2 → a = a2) (d : decode cc pc = .ok (.if_acmp .ne off, 3)) (ht : (pc : Int) + off = (tgt : Int)) (kt : B = some rs → cx_V l g X S cc tgt lv st M k n rs) (kf : A = some rs → cx_V l g X S cc (pc + 3) lv st M k n rs) : cx_V l g X S cc pc lv (.ref a2 :: .ref a :: st) M k n rs := by
  intro hk H locs ls hw hS hl
  refine lv_acmp_ne (rx := some a) (ry := some a2) hk.1 hk.2.1 d ht (fun q => kt ?_ hk H locs ls hw hS hl) (fun q => kf ?_ hk H locs ls hw hS hl)
  · rwa [if_neg (fun e => q (by rw [he e]))] at h
  · rwa [if_pos (cx_apart hF hF2 hw (Option.some.inj q))] at h
theorem bt_w_of (w : Nat → Int64) : bt_w (fun q => bt_bit (w (q / 64)) (q % 64)) = w := by
  funext i
  unfold bt_w
  rw [bt_s_ext (g := bt_bit (w i)) 64 (fun j hj => by
    show bt_bit (w ((64 * i + j) / 64)) ((64 * i + j) % 64) = bt_bit (w i) j
    rw [show (64 * i + j) / 64 = i by omega, show (64 * i + j) % 64 = j by omega]), bt_s_bit]
  have hv : (w i).toBitVec.toNat % 2 ^ 64 = (w i).toBitVec.toNat := Nat.mod_eq_of_lt (w i).toBitVec.isLt
  rw [hv]
  apply Int64.toBitVec_inj.mp
  simp
def bt_cpy (f0 f1 : Nat → Int32) (sp dp n : Nat) : Nat → Int32 := fun q => bt_bit (va_cpy (bt_w f0) (bt_w f1) sp dp n (q / 64)) (q % 64)
def cx_cpyW (M : cx_M) (c0 z0 c1 z1 : Nat) (sp dp n : Int32) (f : cx_M → Option cx_R) : Option cx_R :=
  if sp < 0 ∨ dp < 0 ∨ n < 0 ∨ z0 < sp.toNatClampNeg + n.toNatClampNeg ∨ z1 < dp.toNatClampNeg + n.toNatClampNeg then none else f (cx_set M c1 (bt_cpy (M c0) (M c1) sp.toNatClampNeg dp.toNatClampNeg n.toNatClampNeg))
theorem cx_copyW {c0 z0 a0 c1 z1 a1 index : Nat} {sp dp m : Int32} {F : cx_M → Option cx_R} (h : cx_cpyW M c0 z0 c1 z1 sp dp m F = some rs) (hA0 : cx_LI g c0 z0 a0) (hA1 : cx_LI g c1 z1 a1) (d : decode cc pc = .ok (.invokestatic index, 3)) (hq : Cond.methodLink S.2.1 index arraycopyName ∈ lw_all)
    (hfr : 1 ≤ S.2.2.2.1.frames) (hlo : (st.map fun v => v.category).sum + (nativeFrameWords "java/lang/System" "arraycopy" 5 + 11) ≤ S.2.2.2.1.locals) (K : ∀ M', F M' = some rs → cx_V l g X S cc (pc + 3) lv st M' k n rs) : cx_V l g X S cc pc lv (.int m :: .int dp :: .ref a1 :: .int sp :: .ref a0 :: st) M k n rs := by
  intro hk H locs ls hw hS hl
  unfold cx_cpyW at h
  split at h
  · cases h
  · next q =>
    obtain ⟨e0, q0, m0⟩ := hA0
    obtain ⟨e1, q1, m1⟩ := hA1
    refine va_copyl hk.1 hk.2.1 (hk.2.2.1.trans hl.1.symm) hk.2.2.2.1 (hk.2.2.2.2.1 _ hq) (hk.2.2.2.2.1 _ q321) (hk.2.2.2.2.1 _ q320) (hk.2.2.2.2.1 _ q132) hk.2.2.2.2.2.2.2.1 hw.1 hw.2 hS q0 q1 3 3 (m0 M).1 (m1 M).1 e0 e1 rfl (fun z => q (Or.inl z)) (fun z => q (Or.inr (Or.inl z))) (fun z => q (Or.inr (Or.inr (Or.inl z)))) (Nat.le_of_not_lt fun z => q (Or.inr (Or.inr (Or.inr (Or.inl z))))) (Nat.le_of_not_lt fun z => q (Or.inr (Or.inr (Or.inr (Or.inr z))))) (fun _ _ => rfl) hfr hlo d ?_
    intro H1 locs1 hP hD hS1
    rw [← bt_w_of (va_cpy _ _ _ _ _), (m1 M).2] at hP hD
    exact K _ h hk H1 locs1 ls ⟨hP, hD⟩ hS1 hl
end CXM
