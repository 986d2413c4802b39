/-! MY FRAME: a judgement over a method's body; a memory of ints by cells and places; each row walks one instruction and takes one step of a function -/
abbrev cx_M : Type := Nat → Nat → Int32
/-- the memory, the int, 0 or the number of what was thrown -/
abbrev cx_R : Type := cx_M × Int32 × Nat
/-- D, array classes, the world's cells by the memory, the area that may change, what is known of a state besides -/
abbrev cx_G : Type := va_G × (Nat → ClassId) × (cx_M → va_W) × (Nat → Prop) × (State → Prop)
abbrev cx_X : Type := Program × Env × State × MethodId × Array Value × List Frame × Method × Code
/-- of a method: its locals, its class, what value it answers for an int of the function, its room, its answer's type, whether it may throw -/
abbrev cx_S : Type := Nat × String × (Int32 → Option Value) × Room × Option FieldType × Bool
def cx_rI : Int32 → Option Value := fun r => some (.int r)
def cx_rV : Int32 → Option Value := fun _ => none
def cx_set (M : cx_M) (c : Nat) (f : Nat → Int32) : cx_M := fun c' => if c' = c then f else M c'
def cx_up (M : cx_M) (c k : Nat) (v : Int32) : cx_M := cx_set M c (upd (M c) k v)
def cx_nst : Cond → Bool
  | .fieldLinkNest _ _ _ _ _ _ => true
  | .methodLinkNest _ _ _ _ => true
  | .castable _ _ => true
  | .declares _ => true
  | _ => false
def cx_tys (dA : Nat → ClassId) : List (ClassId × FieldType) := [(dA 0, .int), (dA 1, .boolean), (dA 2, .byte), (dA 3, .long), (dA 4, .object "java/lang/Object"), (dA 5, .object "java/lang/String")]
/-- what is known besides stays, if the area alone changes -/
def cx_Zc (g : cx_G) : Prop := ∀ s U : State, g.2.2.2.2 s → (s.WarmedH U.vm ∨ s.vm = U.vm) → s.heap.size ≤ U.heap.size → (∀ q : Nat, q < s.heap.size → ¬ g.2.2.2.1 q → U.heap[q]? = s.heap[q]?) → g.2.2.2.2 U
def cx_K (g : cx_G) (U : State) : Prop := va_K g.1 vwCl (cx_tys g.2.1) U ∧ (∀ w ∈ lw_tbl, cx_nst w = true → va_Nw w U) ∧ cx_Zc g ∧ g.2.2.2.2 U
theorem cx_K.warm {g : cx_G} {s U : State} {locs : List Loc} (h : cx_K g s) (hW : s.WarmedH U.vm) (hS : va_S g.2.2.2.1 s.heap U.heap locs) : cx_K g U := by
  refine ⟨va_K.moved hW.alike h.1, fun w hw hn => ?_, h.2.2.1, h.2.2.1 _ _ h.2.2.2 (Or.inl hW) hS.1 hS.2.1⟩
  have h1 := h.2.1 w hw hn
  cases w <;> first
    | exact va_Nw.warmF hW h1
    | exact va_Nw.warmM hW h1
    | exact va_Nw.warmC hW h1
    | exact va_Nw.warmD hW h1
    | exact absurd hn (by simp [cx_nst])
theorem cx_K.same {g : cx_G} {s U : State} {locs : List Loc} (h : cx_K g s) (e : s.vm = U.vm) (hS : va_S g.2.2.2.1 s.heap U.heap locs) : cx_K g U := by
  refine ⟨va_K.moved (by rw [e]; exact Vm.Alike.refl _) h.1, fun w hw hn => ?_, h.2.2.1, h.2.2.1 _ _ h.2.2.2 (Or.inr e) hS.1 hS.2.1⟩
  have h1 := h.2.1 w hw hn
  cases w <;> first
    | exact va_Nw.same rfl e h1
    | exact absurd hn (by simp [cx_nst])
theorem cx_K.at {g : cx_G} {s : State} {H : Heap} {locs : List Loc} (h : cx_K g s) (hS : va_S g.2.2.2.1 s.heap H locs) : cx_K g { s with heap := H } := cx_K.same h rfl hS
def cx_w (g : cx_G) (M : cx_M) (H : Heap) : Prop := va_P g.1 vwCl (g.2.2.1 M) H ∧ va_D g.2.2.2.1 (g.2.2.1 M)
def cx_Q (g : cx_G) (S : cx_S) (rs : cx_R) : Array Value → State → Outcome → State → Prop := fun _ st oc t => oc = .returned (S.2.2.1 rs.2.1) ∧ cx_w g rs.1 t.heap ∧ va_F g.2.2.2.1 st t
/-- what was thrown, by its number: 1, 2 the JDK's, from 10 on a Fault of kind n - 10 at the place r -/
def cx_exn : Nat → String
  | 1 => "java/util/NoSuchElementException"
  | 2 => "java/lang/IllegalArgumentException"
  | _ => "CircuitCells$Fault"
/-- the thrown object: its cell is q (for a Fault: with its fields) -/
def cx_XC (g : cx_G) (rs : cx_R) : String → Addr → State → State → Prop := fun E q st t => E = cx_exn rs.2.2 ∧ rs.2.2 ≠ 0 ∧ cx_w g rs.1 t.heap ∧ va_F g.2.2.2.1 st t ∧ st.heap.size ≤ q ∧
  (10 ≤ rs.2.2 → ∃ fs : List Value, va_at g.1 vwCl (q, .inr (5, fs)) t.heap ∧ fs[6]? = some (.int (nI (rs.2.2 - 10))) ∧ fs[7]? = some (.int rs.2.1))
/-- where a method has thrown q (as the kit's vx_T, but what is said may name the cell) -/
def xe_T (XC : String → Addr → State → State → Prop) (st : State) (q : Addr) (t : State) (mc ms : Nat) (free : Addr → Prop) : Prop :=
  ∃ (E : String) (ce : Cell) (L : List Loc), XC E q st t ∧ t.heap[q]? = some ce ∧ ce.vm = .none ∧ st.vm.findClass E = some ce.cls ∧ st.WarmedH t.vm ∧ st.sameButNew ({ t with vm := st.vm } : State) L mc ms ∧ ∀ z ∈ L, free z.base
def xe_Q (Qc : Array Value → State → Outcome → State → Prop) (XC : String → Addr → State → State → Prop) (mc ms : Nat) (free : Addr → Prop) : Array Value → State → Outcome → State → Prop := fun a st o t =>
  (Qc a st o t ∧ ∃ L, FrameEnd st o t L mc ms ∧ ∀ q ∈ L, free q.base) ∨ ∃ q, o = .threw q ∧ xe_T XC st q t mc ms free
def xe_MQ (below : List Frame) (Qc : Array Value → State → Outcome → State → Prop) (XC : String → Addr → State → State → Prop) (a : Array Value) (s : State) (mc ms : Nat) (free : Addr → Prop) : State → Prop := fun t =>
  ∃ o, t.status = .running ∧ Ended t below o ∧ xe_Q Qc XC mc ms free a s o t
/-- a callee that returns or throws -/
def xe_Met (l : Launch) (y : MethodName) (ws : List Cond) (rm : Room) (Pc : Array Value → State → Prop) (Qc : Array Value → State → Outcome → State → Prop) (XC : String → Addr → State → State → Prop) (mc ms : Nat) (free : Addr → Prop) : Prop :=
  MetFree l y (headSpec ws rm) Pc (fun _ _ _ _ _ => True) (xe_Q Qc XC mc ms free)
/-- a method's end -/
def cx_fin (g : cx_G) (X : cx_X) (S : cx_S) (rs : cx_R) : State → Prop :=
  if S.2.2.2.2.2 = true then xe_MQ X.2.2.2.2.2.1 (fun a st o t => rs.2.2 = 0 ∧ cx_Q g S rs a st o t) (cx_XC g rs) X.2.2.2.2.1 X.2.2.1 S.2.2.2.1.cells S.2.2.2.1.slots g.2.2.2.1
  else MQ X.2.2.2.2.2.1 (cx_Q g S rs) X.2.2.2.2.1 X.2.2.1 S.2.2.2.1.cells S.2.2.2.1.slots g.2.2.2.1
/-- a contract of a method that may throw -/
def cx_MetX (l : Launch) (g : cx_G) (y : MethodName) (cc : ByteArray) (S : cx_S) (args : List Value) (M : cx_M) (rs : cx_R) : Prop :=
  xe_Met l y (ws_ y cc S.1 S.2.2.2.2.1) S.2.2.2.1 (va_Pc args (fun U => cx_w g M U.heap ∧ cx_K g U)) (fun a st o t => rs.2.2 = 0 ∧ cx_Q g S rs a st o t) (cx_XC g rs) S.2.2.2.1.cells S.2.2.2.1.slots g.2.2.2.1
/-- a method's contract: from the memory M it comes to its end with rs -/
def cx_Met (l : Launch) (g : cx_G) (y : MethodName) (cc : ByteArray) (S : cx_S) (args : List Value) (M : cx_M) (rs : cx_R) : Prop :=
  Met l y (ws_ y cc S.1 S.2.2.2.2.1) S.2.2.2.1 (va_Pc args (fun U => cx_w g M U.heap ∧ cx_K g U)) (cx_Q g S rs) S.2.2.2.1.cells S.2.2.2.1.slots g.2.2.2.1
def cx_ok (g : cx_G) (X : cx_X) (S : cx_S) (cc : ByteArray) : Prop :=
  X.1.tables.exec = Jvm.exec ∧ X.2.2.2.2.2.2.2.code = cc ∧ X.2.2.2.2.2.2.2.maxLocals = S.1 ∧ X.2.2.1.vm.findClass S.2.1 = some X.2.2.2.1.cls ∧ (∀ w ∈ lw_all, w.before X.2.2.2.2.1 X.2.2.1 = true) ∧ (X.2.2.2.2.2.2.1.locks = false ∧ (S.2.2.2.2.2 = true → ∀ x ∈ X.2.2.2.2.2.2.2.exceptionTable.toList, False)) ∧ X.2.2.2.2.2.2.1.sig.returnType = S.2.2.2.2.1 ∧ cx_K g X.2.2.1
/-- from this place on it comes to the method's end with rs -/
def cx_V (l : Launch) (g : cx_G) (X : cx_X) (S : cx_S) (cc : ByteArray) (pc : Nat) (lv : List (Nat × Value)) (st : List Value) (M : cx_M) (k n : Nat) (rs : cx_R) : Prop :=
  cx_ok g X S cc → ∀ (H : Heap) (locs : List Loc) (ls : Array Slot), cx_w g M H → va_S g.2.2.2.1 X.2.2.1.heap H locs → lv_has ls S.1 lv →
    W X.1 l X.2.1 S.2.2.2.1 X.2.2.1 X.2.2.2.1 X.2.2.2.2.1 X.2.2.2.2.2.1 X.2.2.2.2.2.2.1 X.2.2.2.2.2.2.2 H locs k n (cx_fin g X S rs) (F0 X.2.2.2.1 pc ls st)
theorem cx_fin_f {g : cx_G} {X : cx_X} {S : cx_S} {rs : cx_R} (h : S.2.2.2.2.2 = false) : cx_fin g X S rs = MQ X.2.2.2.2.2.1 (cx_Q g S rs) X.2.2.2.2.1 X.2.2.1 S.2.2.2.1.cells S.2.2.2.1.slots g.2.2.2.1 := by
  unfold cx_fin
  rw [h]
  rfl
theorem cx_fin_ret {g : cx_G} {X : cx_X} {S : cx_S} {rs : cx_R} (h : rs.2.2 = 0) {t : State} (q : MQ X.2.2.2.2.2.1 (cx_Q g S rs) X.2.2.2.2.1 X.2.2.1 S.2.2.2.1.cells S.2.2.2.1.slots g.2.2.2.1 t) : cx_fin g X S rs t := by
  unfold cx_fin
  split
  · obtain ⟨o, q1, q2, q3, q4⟩ := q
    exact ⟨o, q1, q2, Or.inl ⟨⟨h, q3⟩, q4⟩⟩
  · exact q
theorem cx_finW {p : Program} {l : Launch} {e : Env} {R : Room} {s : State} {m : MethodId} {args : Array Value} {below : List Frame} {meth : Method} {c : Code} {H : Heap} {locs : List Loc} {cells slots : Nat} {P Q : State → Prop} {f : JFrame} (h : ∀ t, P t → Q t) (k : W p l e R s m args below meth c H locs cells slots P f) : W p l e R s m args below meth c H locs cells slots Q f := fun T hT X => by
  obtain ⟨t, a, b⟩ := k T hT X
  exact ⟨t, a, h t b⟩
theorem cx_met {l : Launch} {g : cx_G} {y : MethodName} {cc : ByteArray} {S : cx_S} {args : List Value} {M : cx_M} {rs : cx_R} (hy : plainName y.cls = true) (hown : y.cls = S.2.1) (hmo : S.2.2.2.2.2 = false) {lv : List (Nat × Value)} (hlv : lv_args 0 args = lv) (hsz : (lg_sl args).length ≤ S.1)
    (body : ∀ X : cx_X, cx_V l g X S cc 0 lv [] M 0 0 rs) : cx_Met l g y cc S args M rs := by
  refine Met.ofW (cc := cc) (maxL := S.1) (ret := S.2.2.2.2.1) hy rfl ?_
  intro p e s m args' below meth c s₁ B hml hv
  obtain ⟨rfl, hw, hK⟩ := hv
  have hts := atoms_spec (ws := ws_ y cc S.1 S.2.2.2.2.1) B.pre
  have hts : ∀ w ∈ lw_all, w.before _ s = true := fun w h => hts w (List.mem_cons_of_mem _ h)
  have hownc : s.vm.findClass S.2.1 = some m.cls := by rw [← hown]; exact findClass_of_methodNamed B.named
  rw [lg_entry_eq]
  have K := body (p, e, s, m, _, below, meth, c) ⟨B.exec, B.bytes, hml, hownc, hts, ⟨B.notSynchronized, fun h => by rw [hmo] at h; cases h⟩, B.returns, hK⟩ s.heap [] _ hw va_S.rf (hlv ▸ lv_entry args hsz)
  rw [cx_fin_f hmo] at K
  exact K
theorem cx_le {a b : Nat} (h : Nat.ble a b = true) : a ≤ b := Nat.le_of_ble_eq_true h
theorem cx_lt {a b : Nat} (h : Nat.ble (a + 1) b = true) : a < b := Nat.le_of_ble_eq_true h
/-! the steps of the functions -/
def cx_let (a : Int32) (f : Int32 → Option cx_R) : Option cx_R := f a
def cx_get (M : cx_M) (c k : Nat) (f : Int32 → Option cx_R) : Option cx_R := f (M c k)
def cx_put (M : cx_M) (c k : Nat) (v : Int32) (f : cx_M → Option cx_R) : Option cx_R := f (cx_up M c k v)
def cx_ld (M : cx_M) (c n : Nat) (i : Int32) (f : Int32 → Option cx_R) : Option cx_R := if i < 0 ∨ n ≤ i.toNatClampNeg then none else f (M c i.toNatClampNeg)
def cx_st (M : cx_M) (c n : Nat) (i v : Int32) (f : cx_M → Option cx_R) : Option cx_R := if i < 0 ∨ n ≤ i.toNatClampNeg then none else f (cx_up M c i.toNatClampNeg v)
def cx_nz (b : Int32) (f : Option cx_R) : Option cx_R := if b = 0 then none else f
def cx_bl (v : Int32) (f : Option cx_R) : Option cx_R := if v = 0 ∨ v = 1 then f else none
def cx_cal (o : Option cx_R) (f : cx_M → Int32 → Option cx_R) : Option cx_R := match o with
  | none => none
  | some r => f r.1 r.2.1
def cx_sw (x : Int32) (lo : Int) (Bs : List (Option cx_R)) (D : Option cx_R) : Option cx_R := if x.toInt < lo ∨ lo + Bs.length ≤ x.toInt then D else Bs.getD (x.toInt - lo).toNat none
def cx_rem (x y : Int32) : Int32 := x - x / y * y
def cx_max (x y : Int32) : Int32 := if x < y then y else x
def cx_min (x y : Int32) : Int32 := if y < x then y else x
def cx_abs (x : Int32) : Int32 := if 0 ≤ x then x else 0 - x
def cx_fix {α : Type} (b : α) (F : α → α) : Nat → α
  | 0 => b
  | n + 1 => F (cx_fix b F n)
theorem cx_fixI {α : Type} {b : α} {F : α → α} (P : α → Prop) (h0 : P b) (hs : ∀ r, P r → P (F r)) : ∀ n, P (cx_fix b F n)
  | 0 => h0
  | n + 1 => hs _ (cx_fixI P h0 hs n)
theorem cx_cal_some {o : Option cx_R} {f : cx_M → Int32 → Option cx_R} {rs : cx_R} (h : cx_cal o f = some rs) : ∃ r, o = some r ∧ f r.1 r.2.1 = some rs := by
  cases o with
  | none => cases h
  | some r => exact ⟨r, rfl, h⟩
theorem cx_ld_some {M : cx_M} {c n : Nat} {i : Int32} {f : Int32 → Option cx_R} {rs : cx_R} (h : cx_ld M c n i f = some rs) : vp_in i n ∧ f (M c i.toNatClampNeg) = some rs := by
  unfold cx_ld at h
  split at h
  · cases h
  · next q => exact ⟨q, h⟩
theorem cx_st_some {M : cx_M} {c n : Nat} {i v : Int32} {f : cx_M → Option cx_R} {rs : cx_R} (h : cx_st M c n i v f = some rs) : vp_in i n ∧ f (cx_up M c i.toNatClampNeg v) = some rs := by
  unfold cx_st at h
  split at h
  · cases h
  · next q => exact ⟨q, h⟩
/-! what is known of a world: a field of ints, a field of references, an array, a receiver -/
def cx_Cl (ci : Nat) (C : String) (T : u_T) (N : Nat) (ty0 : Nat → FieldType) : Prop := vwCl[ci]? = some (C, T, N) ∧ (∀ w ∈ u_ws C T N, w ∈ lw_all) ∧ (∀ k, k < N → parseFieldDescriptor (T k).2.2.1 = some (ty0 k)) ∧ (∀ a, a < N → ∀ b, b < N → a ≠ b → (T a).2.1 ≠ (T b).2.1)
def cx_FI (g : cx_G) (c k a : Nat) (f : String × String × String × Bool) (ty : FieldType) : Prop :=
  ∃ (ci q0 : Nat) (C : String) (T : u_T) (N : Nat) (ty0 : Nat → FieldType), cx_Cl ci C T N ty0 ∧ k < N ∧ T k = f ∧ parseFieldDescriptor f.2.2.1 = some ty ∧
    ∀ M, ∃ fs, (g.2.2.1 M)[q0]? = some (a, .inr (ci, fs)) ∧ fs[k]? = some (.int (M c k)) ∧ ∀ v, (g.2.2.1 M).set q0 (a, .inr (ci, fs.set k (.int v))) = g.2.2.1 (cx_up M c k v)
def cx_FR (g : cx_G) (k a : Nat) (f : String × String × String × Bool) (v : Value) : Prop :=
  ∃ (ci q0 : Nat) (C : String) (T : u_T) (N : Nat) (ty0 : Nat → FieldType), cx_Cl ci C T N ty0 ∧ k < N ∧ T k = f ∧
    ∀ M, ∃ fs, (g.2.2.1 M)[q0]? = some (a, .inr (ci, fs)) ∧ fs[k]? = some v
def cx_AI (g : cx_G) (c n a t : Nat) (ty : FieldType) : Prop :=
  (cx_tys g.2.1)[t]? = some (g.2.1 t, ty) ∧ ∃ q0, ∀ M, (g.2.2.1 M)[q0]? = some (a, .inl (g.2.1 t, n, .inl (M c))) ∧ ∀ f, (g.2.2.1 M).set q0 (a, .inl (g.2.1 t, n, .inl f)) = g.2.2.1 (cx_set M c f)
def cx_Rc (g : cx_G) (a : Nat) (C : String) : Prop :=
  ∃ (ci q0 : Nat) (T : u_T) (N : Nat), vwCl[ci]? = some (C, T, N) ∧ ∀ M, ∃ fs, (g.2.2.1 M)[q0]? = some (a, .inr (ci, fs))
section CXV
variable {l : Launch} {g : cx_G} {X : cx_X} {S : cx_S} {cc : ByteArray} {pc : Nat} {lv : List (Nat × Value)} {st : List Value} {M : cx_M} {k n : Nat} {rs : cx_R}
theorem cx_sub {lv' : List (Nat × Value)} (ks : List Nat) (hl : lv_pick lv ks = lv') (K : cx_V l g X S cc pc lv' st M k n rs) : cx_V l g X S cc pc lv st M k n rs :=
  fun hk H locs ls hw hS h => K hk H locs ls hw hS (lv_sub h ks hl)
theorem cx_letI {a : Int32} {f : Int32 → Option cx_R} (h : cx_let a f = some rs) (K : ∀ v, f v = some rs → cx_V l g X S cc pc lv (.int v :: st) M k n rs) : cx_V l g X S cc pc lv (.int a :: st) M k n rs := K a h
theorem cx_iconst {i : Int} (v : Int32) (d : decode cc pc = .ok (.iconst i, 1)) (hv : Int32.ofInt i = v) (K : cx_V l g X S cc (pc + 1) lv (.int v :: st) M k n rs) : cx_V l g X S cc pc lv st M k n rs :=
  fun hk H locs ls hw hS hl => lv_iconst hk.1 hk.2.1 d hv (K hk H locs ls hw hS hl)
theorem cx_bipush {i : Int} (v : Int32) (d : decode cc pc = .ok (.bipush i, 2)) (hv : (Int8.ofInt i).toInt32 = v) (K : cx_V l g X S cc (pc + 2) lv (.int v :: st) M k n rs) : cx_V l g X S cc pc lv st M k n rs :=
  fun hk H locs ls hw hS hl => lv_bipush hk.1 hk.2.1 d hv (K hk H locs ls hw hS hl)
theorem cx_sipush {i : Int} (v : Int32) (d : decode cc pc = .ok (.sipush i, 3)) (hv : (Int16.ofInt i).toInt32 = v) (K : cx_V l g X S cc (pc + 3) lv (.int v :: st) M k n rs) : cx_V l g X S cc pc lv st M k n rs :=
  fun hk H locs ls hw hS hl => lv_sipush hk.1 hk.2.1 d hv (K hk H locs ls hw hS hl)
theorem cx_ldc {i : Nat} (v : Int32) (d : decode cc pc = .ok (.ldc i, 2)) (hq : Cond.constant S.2.1 i v ∈ lw_all) (K : cx_V l g X S cc (pc + 2) lv (.int v :: st) M k n rs) : cx_V l g X S cc pc lv st M k n rs :=
  fun hk H locs ls hw hS hl => lv_ldc hk.1 hk.2.1 hk.2.2.2.1 (hk.2.2.2.2.1 _ hq) d (K hk H locs ls hw hS hl)
theorem cx_ldcw {i : Nat} (v : Int32) (d : decode cc pc = .ok (.ldc_w i, 3)) (hq : Cond.constant S.2.1 i v ∈ lw_all) (K : cx_V l g X S cc (pc + 3) lv (.int v :: st) M k n rs) : cx_V l g X S cc pc lv st M k n rs :=
  fun hk H locs ls hw hS hl => lv_ldcw hk.1 hk.2.1 hk.2.2.2.1 (hk.2.2.2.2.1 _ hq) d (K hk H locs ls hw hS hl)
theorem cx_ldc2 {i : Nat} (v : Int64) (d : decode cc pc = .ok (.ldc2_w i, 3)) (hq : Cond.constantLong S.2.1 i v ∈ lw_all) (K : cx_V l g X S cc (pc + 3) lv (.long v :: st) M k n rs) : cx_V l g X S cc pc lv st M k n rs :=
  fun hk H locs ls hw hS hl => lv_ldc2 hk.1 hk.2.1 hk.2.2.2.1 (hk.2.2.2.2.1 _ hq) d (K hk H locs ls hw hS hl)
theorem cx_lconst {i : Fin 2} (v : Int64) (d : decode cc pc = .ok (.lconst i, 1)) (hv : Int64.ofNat (i : Nat) = v) (K : cx_V l g X S cc (pc + 1) lv (.long v :: st) M k n rs) : cx_V l g X S cc pc lv st M k n rs :=
  fun hk H locs ls hw hS hl => lv_lconst hk.1 hk.2.1 d hv (K hk H locs ls hw hS hl)
theorem cx_iload_n {i : Fin 4} {x : Int32} (j : Nat) (d : decode cc pc = .ok (.iload_n i, 1)) (hj : lv[j]? = some ((i : Nat), .int x)) (K : cx_V l g X S cc (pc + 1) lv (.int x :: st) M k n rs) : cx_V l g X S cc pc lv st M k n rs :=
  fun hk H locs ls hw hS hl => lv_iload_n hk.1 hk.2.1 d rfl (lv_at hl j hj) (K hk H locs ls hw hS hl)
theorem cx_iload {i : Nat} {x : Int32} (j : Nat) (d : decode cc pc = .ok (.iload i, 2)) (hj : lv[j]? = some (i, .int x)) (K : cx_V l g X S cc (pc + 2) lv (.int x :: st) M k n rs) : cx_V l g X S cc pc lv st M k n rs :=
  fun hk H locs ls hw hS hl => lv_iload hk.1 hk.2.1 d (lv_at hl j hj) (K hk H locs ls hw hS hl)
theorem cx_lload_n {i : Fin 4} {x : Int64} (j : Nat) (d : decode cc pc = .ok (.lload_n i, 1)) (hj : lv[j]? = some ((i : Nat), .long x)) (K : cx_V l g X S cc (pc + 1) lv (.long x :: st) M k n rs) : cx_V l g X S cc pc lv st M k n rs :=
  fun hk H locs ls hw hS hl => lv_lload_n hk.1 hk.2.1 d rfl (lv_at hl j hj) (K hk H locs ls hw hS hl)
theorem cx_lload {i : Nat} {x : Int64} (j : Nat) (d : decode cc pc = .ok (.lload i, 2)) (hj : lv[j]? = some (i, .long x)) (K : cx_V l g X S cc (pc + 2) lv (.long x :: st) M k n rs) : cx_V l g X S cc pc lv st M k n rs :=
  fun hk H locs ls hw hS hl => lv_lload hk.1 hk.2.1 d (lv_at hl j hj) (K hk H locs ls hw hS hl)
theorem cx_aload_n {i : Fin 4} {x : Nat} (j : Nat) (d : decode cc pc = .ok (.aload_n i, 1)) (hj : lv[j]? = some ((i : Nat), .ref x)) (K : cx_V l g X S cc (pc + 1) lv (.ref x :: st) M k n rs) : cx_V l g X S cc pc lv st M k n rs :=
  fun hk H locs ls hw hS hl => lv_aload_n hk.1 hk.2.1 d rfl (lv_at hl j hj) (K hk H locs ls hw hS hl)
theorem cx_aload {i : Nat} {x : Nat} (j : Nat) (d : decode cc pc = .ok (.aload i, 2)) (hj : lv[j]? = some (i, .ref x)) (K : cx_V l g X S cc (pc + 2) lv (.ref x :: st) M k n rs) : cx_V l g X S cc pc lv st M k n rs :=
  fun hk H locs ls hw hS hl => lv_aload hk.1 hk.2.1 d (lv_at hl j hj) (K hk H locs ls hw hS hl)
theorem cx_istore_n {i : Fin 4} {x : Int32} (lv' : List (Nat × Value)) (d : decode cc pc = .ok (.istore_n i, 1)) (hn : (i : Nat) < S.1) (hl : ((i : Nat), Value.int x) :: lv.filter (fun q => !(q.1 == (i : Nat)) && !(q.1 + 1 == (i : Nat) && q.2.category == 2)) = lv') (K : cx_V l g X S cc (pc + 1) lv' st M k n rs) : cx_V l g X S cc pc lv (.int x :: st) M k n rs :=
  fun hk H locs _ hw hS h => lv_istore_n hk.1 hk.2.1 d rfl h hn hl (fun ls hl => K hk H locs ls hw hS hl)
theorem cx_istore {i : Nat} {x : Int32} (lv' : List (Nat × Value)) (d : decode cc pc = .ok (.istore i, 2)) (hn : i < S.1) (hl : (i, Value.int x) :: lv.filter (fun q => !(q.1 == i) && !(q.1 + 1 == i && q.2.category == 2)) = lv') (K : cx_V l g X S cc (pc + 2) lv' st M k n rs) : cx_V l g X S cc pc lv (.int x :: st) M k n rs :=
  fun hk H locs _ hw hS h => lv_istore hk.1 hk.2.1 d h hn hl (fun ls hl => K hk H locs ls hw hS hl)
theorem cx_astore_n {i : Fin 4} {x : Nat} (lv' : List (Nat × Value)) (d : decode cc pc = .ok (.astore_n i, 1)) (hn : (i : Nat) < S.1) (hl : ((i : Nat), Value.ref x) :: lv.filter (fun q => !(q.1 == (i : Nat)) && !(q.1 + 1 == (i : Nat) && q.2.category == 2)) = lv') (K : cx_V l g X S cc (pc + 1) lv' st M k n rs) : cx_V l g X S cc pc lv (.ref x :: st) M k n rs :=
  fun hk H locs _ hw hS h => lv_astore_n hk.1 hk.2.1 d rfl h hn hl (fun ls hl => K hk H locs ls hw hS hl)
theorem cx_astore {i : Nat} {x : Nat} (lv' : List (Nat × Value)) (d : decode cc pc = .ok (.astore i, 2)) (hn : i < S.1) (hl : (i, Value.ref x) :: lv.filter (fun q => !(q.1 == i) && !(q.1 + 1 == i && q.2.category == 2)) = lv') (K : cx_V l g X S cc (pc + 2) lv' st M k n rs) : cx_V l g X S cc pc lv (.ref x :: st) M k n rs :=
  fun hk H locs _ hw hS h => lv_astore hk.1 hk.2.1 d h hn hl (fun ls hl => K hk H locs ls hw hS hl)
theorem cx_iinc {i : Nat} {z : Int} {x : Int32} {f : Int32 → Option cx_R} (j : Nat) (v : Int32) (lv' : Int32 → List (Nat × Value)) (h : cx_let (x + v) f = some rs) (d : decode cc pc = .ok (.iinc i z, 3)) (hj : lv[j]? = some (i, .int x)) (hv : Int32.ofInt z = v) (hn : i < S.1)
    (hl : ∀ y : Int32, (i, Value.int y) :: lv.filter (fun q => !(q.1 == i) && !(q.1 + 1 == i && q.2.category == 2)) = lv' y) (K : ∀ y, f y = some rs → cx_V l g X S cc (pc + 3) (lv' y) st M k n rs) : cx_V l g X S cc pc lv st M k n rs :=
  fun hk H locs _ hw hS h2 => lv_iinc hk.1 hk.2.1 d h2 hj (by rw [hv]) hn (hl (x + v)) (fun ls h3 => K (x + v) h hk H locs ls hw hS h3)
theorem cx_lv {lv' : List (Nat × Value)} (hl : lv = lv') (K : cx_V l g X S cc pc lv' st M k n rs) : cx_V l g X S cc pc lv st M k n rs := hl ▸ K
theorem cx_iadd {x y : Int32} (d : decode cc pc = .ok (.iadd, 1)) (K : cx_V l g X S cc (pc + 1) lv (.int (x + y) :: st) M k n rs) : cx_V l g X S cc pc lv (.int y :: .int x :: st) M k n rs := fun hk H locs ls hw hS hl => lv_iadd hk.1 hk.2.1 d (K hk H locs ls hw hS hl)
theorem cx_isub {x y : Int32} (d : decode cc pc = .ok (.isub, 1)) (K : cx_V l g X S cc (pc + 1) lv (.int (x - y) :: st) M k n rs) : cx_V l g X S cc pc lv (.int y :: .int x :: st) M k n rs := fun hk H locs ls hw hS hl => lv_isub hk.1 hk.2.1 d (K hk H locs ls hw hS hl)
theorem cx_imul {x y : Int32} (d : decode cc pc = .ok (.imul, 1)) (K : cx_V l g X S cc (pc + 1) lv (.int (x * y) :: st) M k n rs) : cx_V l g X S cc pc lv (.int y :: .int x :: st) M k n rs := fun hk H locs ls hw hS hl => lv_imul hk.1 hk.2.1 d (K hk H locs ls hw hS hl)
theorem cx_iand {x y : Int32} (d : decode cc pc = .ok (.iand, 1)) (K : cx_V l g X S cc (pc + 1) lv (.int (x &&& y) :: st) M k n rs) : cx_V l g X S cc pc lv (.int y :: .int x :: st) M k n rs := fun hk H locs ls hw hS hl => lv_iand hk.1 hk.2.1 d (K hk H locs ls hw hS hl)
theorem cx_ior {x y : Int32} (d : decode cc pc = .ok (.ior, 1)) (K : cx_V l g X S cc (pc + 1) lv (.int (x ||| y) :: st) M k n rs) : cx_V l g X S cc pc lv (.int y :: .int x :: st) M k n rs := fun hk H locs ls hw hS hl => lv_ior hk.1 hk.2.1 d (K hk H locs ls hw hS hl)
theorem cx_ishl {x y : Int32} (d : decode cc pc = .ok (.ishl, 1)) (K : cx_V l g X S cc (pc + 1) lv (.int (x <<< (y &&& 31)) :: st) M k n rs) : cx_V l g X S cc pc lv (.int y :: .int x :: st) M k n rs := fun hk H locs ls hw hS hl => lv_ishl hk.1 hk.2.1 d (K hk H locs ls hw hS hl)
theorem cx_ishr {x y : Int32} (d : decode cc pc = .ok (.ishr, 1)) (K : cx_V l g X S cc (pc + 1) lv (.int (x >>> (y &&& 31)) :: st) M k n rs) : cx_V l g X S cc pc lv (.int y :: .int x :: st) M k n rs := fun hk H locs ls hw hS hl => lv_ishr hk.1 hk.2.1 d (K hk H locs ls hw hS hl)
theorem cx_ineg {x : Int32} (d : decode cc pc = .ok (.ineg, 1)) (K : cx_V l g X S cc (pc + 1) lv (.int (-x) :: st) M k n rs) : cx_V l g X S cc pc lv (.int x :: st) M k n rs := fun hk H locs ls hw hS hl => lv_ineg hk.1 hk.2.1 d (K hk H locs ls hw hS hl)
theorem cx_idiv {x y : Int32} {o : Option cx_R} (h : cx_nz y o = some rs) (d : decode cc pc = .ok (.idiv, 1)) (K : o = some rs → cx_V l g X S cc (pc + 1) lv (.int (x / y) :: st) M k n rs) : cx_V l g X S cc pc lv (.int y :: .int x :: st) M k n rs := by
  unfold cx_nz at h
  split at h
  · cases h
  · next q => exact fun hk H locs ls hw hS hl => lv_idiv hk.1 hk.2.1 d q (K h hk H locs ls hw hS hl)
theorem cx_irem {x y : Int32} {o : Option cx_R} (h : cx_nz y o = some rs) (d : decode cc pc = .ok (.irem, 1)) (K : o = some rs → cx_V l g X S cc (pc + 1) lv (.int (cx_rem x y) :: st) M k n rs) : cx_V l g X S cc pc lv (.int y :: .int x :: st) M k n rs := by
  unfold cx_nz at h
  split at h
  · cases h
  · next q => exact fun hk H locs ls hw hS hl => lv_irem hk.1 hk.2.1 d q (K h hk H locs ls hw hS hl)
theorem cx_idivC {x y : Int32} (hy : ¬ y = 0) (d : decode cc pc = .ok (.idiv, 1)) (K : cx_V l g X S cc (pc + 1) lv (.int (x / y) :: st) M k n rs) : cx_V l g X S cc pc lv (.int y :: .int x :: st) M k n rs := fun hk H locs ls hw hS hl => lv_idiv hk.1 hk.2.1 d hy (K hk H locs ls hw hS hl)
theorem cx_iremC {x y : Int32} (hy : ¬ y = 0) (d : decode cc pc = .ok (.irem, 1)) (K : cx_V l g X S cc (pc + 1) lv (.int (cx_rem x y) :: st) M k n rs) : cx_V l g X S cc pc lv (.int y :: .int x :: st) M k n rs := fun hk H locs ls hw hS hl => lv_irem hk.1 hk.2.1 d hy (K hk H locs ls hw hS hl)
theorem cx_i2l {x : Int32} (d : decode cc pc = .ok (.i2l, 1)) (K : cx_V l g X S cc (pc + 1) lv (.long x.toInt64 :: st) M k n rs) : cx_V l g X S cc pc lv (.int x :: st) M k n rs := fun hk H locs ls hw hS hl => lv_i2l hk.1 hk.2.1 d rfl (K hk H locs ls hw hS hl)
theorem cx_lcmp {x y : Int64} (d : decode cc pc = .ok (.lcmp, 1)) (K : cx_V l g X S cc (pc + 1) lv (.int (lg_cmp x y) :: st) M k n rs) : cx_V l g X S cc pc lv (.long y :: .long x :: st) M k n rs := fun hk H locs ls hw hS hl => W.lcmp hk.1 hk.2.1 d (K hk H locs ls hw hS hl)
theorem cx_dup {v : Value} (d : decode cc pc = .ok (.dup, 1)) (hv : v.category = 1) (K : cx_V l g X S cc (pc + 1) lv (v :: v :: st) M k n rs) : cx_V l g X S cc pc lv (v :: st) M k n rs := fun hk H locs ls hw hS hl => lv_dup hk.1 hk.2.1 d hv (K hk H locs ls hw hS hl)
theorem cx_pop {v : Value} (d : decode cc pc = .ok (.pop, 1)) (hv : v.category = 1) (K : cx_V l g X S cc (pc + 1) lv st M k n rs) : cx_V l g X S cc pc lv (v :: st) M k n rs := fun hk H locs ls hw hS hl => lv_pop hk.1 hk.2.1 d hv (K hk H locs ls hw hS hl)
theorem cx_dup_x1 {v u : Value} (d : decode cc pc = .ok (.dup_x1, 1)) (hv : v.category = 1) (hu : u.category = 1) (K : cx_V l g X S cc (pc + 1) lv (v :: u :: v :: st) M k n rs) : cx_V l g X S cc pc lv (v :: u :: st) M k n rs := fun hk H locs ls hw hS hl => lv_dup_x1 hk.1 hk.2.1 d hv hu (K hk H locs ls hw hS hl)
theorem cx_dup2 {v u : Value} (d : decode cc pc = .ok (.dup2, 1)) (hv : v.category = 1) (hu : u.category = 1) (K : cx_V l g X S cc (pc + 1) lv (v :: u :: v :: u :: st) M k n rs) : cx_V l g X S cc pc lv (v :: u :: st) M k n rs := fun hk H locs ls hw hS hl => lv_dup2_11 hk.1 hk.2.1 d hv hu (K hk H locs ls hw hS hl)
theorem cx_goto {off : Int} (tgt : Nat) (d : decode cc pc = .ok (.goto off, 3)) (ht : (pc : Int) + off = (tgt : Int)) (K : cx_V l g X S cc tgt lv st M k n rs) : cx_V l g X S cc pc lv st M k n rs := fun hk H locs ls hw hS hl => lv_goto hk.1 hk.2.1 d ht (K hk H locs ls hw hS hl)
theorem cx_icmp_eq {x y : Int32} {A B : Option cx_R} {off : Int} (tgt : Nat) (h : (if x = y then A else B) = some rs) (d : decode cc pc = .ok (.if_icmp .eq off, 3)) (ht : (pc : Int) + off = (tgt : Int)) (kt : A = some rs → cx_V l g X S cc tgt lv st M k n rs) (kf : B = some rs → cx_V l g X S cc (pc + 3) lv st M k n rs) : cx_V l g X S cc pc lv (.int y :: .int x :: st) M k n rs := by
  intro hk H locs ls hw hS hl
  refine lv_icmp_eq hk.1 hk.2.1 d ht (fun q => kt ?_ hk H locs ls hw hS hl) (fun q => kf ?_ hk H locs ls hw hS hl)
  · rwa [if_pos q] at h
  · rwa [if_neg q] at h
theorem cx_if_eq {x : Int32} {A B : Option cx_R} {off : Int} (tgt : Nat) (h : (if x = 0 then A else B) = some rs) (d : decode cc pc = .ok (.ifCond .eq off, 3)) (ht : (pc : Int) + off = (tgt : Int)) (kt : A = some rs → cx_V l g X S cc tgt lv st M k n rs) (kf : B = some rs → cx_V l g X S cc (pc + 3) lv st M k n rs) : cx_V l g X S cc pc lv (.int x :: st) M k n rs := by
  intro hk H locs ls hw hS hl
  refine lv_if_eq hk.1 hk.2.1 d ht (fun q => kt ?_ hk H locs ls hw hS hl) (fun q => kf ?_ hk H locs ls hw hS hl)
  · rwa [if_pos q] at h
  · rwa [if_neg q] at h
theorem cx_icmp_ne {x y : Int32} {A B : Option cx_R} {off : Int} (tgt : Nat) (h : (if x = y then A else B) = some rs) (d : decode cc pc = .ok (.if_icmp .ne off, 3)) (ht : (pc : Int) + off = (tgt : Int)) (kt : B = some rs → cx_V l g X S cc tgt lv st M k n rs) (kf : A = some rs → cx_V l g X S cc (pc + 3) lv st M k n rs) : cx_V l g X S cc pc lv (.int y :: .int x :: st) M k n rs := by
  intro hk H locs ls hw hS hl
  refine lv_icmp_ne hk.1 hk.2.1 d ht (fun q => kt ?_ hk H locs ls hw hS hl) (fun q => kf ?_ hk H locs ls hw hS hl)
  · rwa [if_neg q] at h
  · rwa [if_pos q] at h
theorem cx_if_ne {x : Int32} {A B : Option cx_R} {off : Int} (tgt : Nat) (h : (if x = 0 then A else B) = some rs) (d : decode cc pc = .ok (.ifCond .ne off, 3)) (ht : (pc : Int) + off = (tgt : Int)) (kt : B = some rs → cx_V l g X S cc tgt lv st M k n rs) (kf : A = some rs → cx_V l g X S cc (pc + 3) lv st M k n rs) : cx_V l g X S cc pc lv (.int x :: st) M k n rs := by
  intro hk H locs ls hw hS hl
  refine lv_if_ne hk.1 hk.2.1 d ht (fun q => kt ?_ hk H locs ls hw hS hl) (fun q => kf ?_ hk H locs ls hw hS hl)
  · rwa [if_neg q] at h
  · rwa [if_pos q] at h
theorem cx_icmp_lt {x y : Int32} {A B : Option cx_R} {off : Int} (tgt : Nat) (h : (if x < y then A else B) = some rs) (d : decode cc pc = .ok (.if_icmp .lt off, 3)) (ht : (pc : Int) + off = (tgt : Int)) (kt : A = some rs → cx_V l g X S cc tgt lv st M k n rs) (kf : B = some rs → cx_V l g X S cc (pc + 3) lv st M k n rs) : cx_V l g X S cc pc lv (.int y :: .int x :: st) M k n rs := by
  intro hk H locs ls hw hS hl
  refine lv_icmp_lt hk.1 hk.2.1 d ht (fun q => kt ?_ hk H locs ls hw hS hl) (fun q => kf ?_ hk H locs ls hw hS hl)
  · rwa [if_pos q] at h
  · rwa [if_neg q] at h
theorem cx_if_lt {x : Int32} {A B : Option cx_R} {off : Int} (tgt : Nat) (h : (if x < 0 then A else B) = some rs) (d : decode cc pc = .ok (.ifCond .lt off, 3)) (ht : (pc : Int) + off = (tgt : Int)) (kt : A = some rs → cx_V l g X S cc tgt lv st M k n rs) (kf : B = some rs → cx_V l g X S cc (pc + 3) lv st M k n rs) : cx_V l g X S cc pc lv (.int x :: st) M k n rs := by
  intro hk H locs ls hw hS hl
  refine lv_if_lt hk.1 hk.2.1 d ht (fun q => kt ?_ hk H locs ls hw hS hl) (fun q => kf ?_ hk H locs ls hw hS hl)
  · rwa [if_pos q] at h
  · rwa [if_neg q] at h
theorem cx_icmp_ge {x y : Int32} {A B : Option cx_R} {off : Int} (tgt : Nat) (h : (if y ≤ x then A else B) = some rs) (d : decode cc pc = .ok (.if_icmp .ge off, 3)) (ht : (pc : Int) + off = (tgt : Int)) (kt : A = some rs → cx_V l g X S cc tgt lv st M k n rs) (kf : B = some rs → cx_V l g X S cc (pc + 3) lv st M k n rs) : cx_V l g X S cc pc lv (.int y :: .int x :: st) M k n rs := by
  intro hk H locs ls hw hS hl
  refine lv_icmp_ge hk.1 hk.2.1 d ht (fun q => kt ?_ hk H locs ls hw hS hl) (fun q => kf ?_ hk H locs ls hw hS hl)
  · rwa [if_pos q] at h
  · rwa [if_neg q] at h
theorem cx_if_ge {x : Int32} {A B : Option cx_R} {off : Int} (tgt : Nat) (h : (if 0 ≤ x then A else B) = some rs) (d : decode cc pc = .ok (.ifCond .ge off, 3)) (ht : (pc : Int) + off = (tgt : Int)) (kt : A = some rs → cx_V l g X S cc tgt lv st M k n rs) (kf : B = some rs → cx_V l g X S cc (pc + 3) lv st M k n rs) : cx_V l g X S cc pc lv (.int x :: st) M k n rs := by
  intro hk H locs ls hw hS hl
  refine lv_if_ge hk.1 hk.2.1 d ht (fun q => kt ?_ hk H locs ls hw hS hl) (fun q => kf ?_ hk H locs ls hw hS hl)
  · rwa [if_pos q] at h
  · rwa [if_neg q] at h
theorem cx_icmp_gt {x y : Int32} {A B : Option cx_R} {off : Int} (tgt : Nat) (h : (if y < x then A else B) = some rs) (d : decode cc pc = .ok (.if_icmp .gt off, 3)) (ht : (pc : Int) + off = (tgt : Int)) (kt : A = some rs → cx_V l g X S cc tgt lv st M k n rs) (kf : B = some rs → cx_V l g X S cc (pc + 3) lv st M k n rs) : cx_V l g X S cc pc lv (.int y :: .int x :: st) M k n rs := by
  intro hk H locs ls hw hS hl
  refine lv_icmp_gt hk.1 hk.2.1 d ht (fun q => kt ?_ hk H locs ls hw hS hl) (fun q => kf ?_ hk H locs ls hw hS hl)
  · rwa [if_pos q] at h
  · rwa [if_neg q] at h
theorem cx_if_gt {x : Int32} {A B : Option cx_R} {off : Int} (tgt : Nat) (h : (if 0 < x then A else B) = some rs) (d : decode cc pc = .ok (.ifCond .gt off, 3)) (ht : (pc : Int) + off = (tgt : Int)) (kt : A = some rs → cx_V l g X S cc tgt lv st M k n rs) (kf : B = some rs → cx_V l g X S cc (pc + 3) lv st M k n rs) : cx_V l g X S cc pc lv (.int x :: st) M k n rs := by
  intro hk H locs ls hw hS hl
  refine lv_if_gt hk.1 hk.2.1 d ht (fun q => kt ?_ hk H locs ls hw hS hl) (fun q => kf ?_ hk H locs ls hw hS hl)
  · rwa [if_pos q] at h
  · rwa [if_neg q] at h
theorem cx_icmp_le {x y : Int32} {A B : Option cx_R} {off : Int} (tgt : Nat) (h : (if x ≤ y then A else B) = some rs) (d : decode cc pc = .ok (.if_icmp .le off, 3)) (ht : (pc : Int) + off = (tgt : Int)) (kt : A = some rs → cx_V l g X S cc tgt lv st M k n rs) (kf : B = some rs → cx_V l g X S cc (pc + 3) lv st M k n rs) : cx_V l g X S cc pc lv (.int y :: .int x :: st) M k n rs := by
  intro hk H locs ls hw hS hl
  refine lv_icmp_le hk.1 hk.2.1 d ht (fun q => kt ?_ hk H locs ls hw hS hl) (fun q => kf ?_ hk H locs ls hw hS hl)
  · rwa [if_pos q] at h
  · rwa [if_neg q] at h
theorem cx_if_le {x : Int32} {A B : Option cx_R} {off : Int} (tgt : Nat) (h : (if x ≤ 0 then A else B) = some rs) (d : decode cc pc = .ok (.ifCond .le off, 3)) (ht : (pc : Int) + off = (tgt : Int)) (kt : A = some rs → cx_V l g X S cc tgt lv st M k n rs) (kf : B = some rs → cx_V l g X S cc (pc + 3) lv st M k n rs) : cx_V l g X S cc pc lv (.int x :: st) M k n rs := by
  intro hk H locs ls hw hS hl
  refine lv_if_le hk.1 hk.2.1 d ht (fun q => kt ?_ hk H locs ls hw hS hl) (fun q => kf ?_ hk H locs ls hw hS hl)
  · rwa [if_pos q] at h
  · rwa [if_neg q] at h
theorem cx_getI {c f a index : Nat} {F : Int32 → Option cx_R} {o : String × String × String × Bool} {ty : FieldType} (h : cx_get M c f F = some rs) (hF : cx_FI g c f a o ty) (hq : Cond.fieldLink S.2.1 index o.1 o.2.1 o.2.2.1 ∈ lw_all) (d : decode cc pc = .ok (.getfield index, 3)) (K : ∀ v, F v = some rs → cx_V l g X S cc (pc + 3) lv (.int v :: st) M k n rs) : cx_V l g X S cc pc lv (.ref a :: st) M k n rs := by
  intro hk H locs ls hw hS hl
  obtain ⟨ci, q0, C, T, N, ty0, ⟨c1, c2, c3, c4⟩, hN, hT, hty, hM⟩ := hF
  obtain ⟨fs, m1, m2, m3⟩ := hM M
  subst hT
  exact va_get hk.1 hk.2.1 (T := T) (Ts := lw_all) hk.2.2.2.2.1 c2 hk.2.2.2.1 hk.2.2.2.2.2.2.2.1 hw.1 q0 m1 c1 f hN (hk.2.2.2.2.1 _ hq) (fun _ h => h) m2 d (K _ h hk H locs ls hw hS hl)
theorem cx_getR {f a index : Nat} {o : String × String × String × Bool} {v : Value} (hF : cx_FR g f a o v) (hq : Cond.fieldLink S.2.1 index o.1 o.2.1 o.2.2.1 ∈ lw_all) (d : decode cc pc = .ok (.getfield index, 3)) (K : cx_V l g X S cc (pc + 3) lv (v :: st) M k n rs) : cx_V l g X S cc pc lv (.ref a :: st) M k n rs := by
  intro hk H locs ls hw hS hl
  obtain ⟨ci, q0, C, T, N, ty0, ⟨c1, c2, c3, c4⟩, hN, hT, hM⟩ := hF
  obtain ⟨fs, m1, m2⟩ := hM M
  subst hT
  exact va_get hk.1 hk.2.1 (T := T) (Ts := lw_all) hk.2.2.2.2.1 c2 hk.2.2.2.1 hk.2.2.2.2.2.2.2.1 hw.1 q0 m1 c1 f hN (hk.2.2.2.2.1 _ hq) (fun _ h => h) m2 d (K hk H locs ls hw hS hl)
theorem cx_putI {c f a index : Nat} {v : Int32} {F : cx_M → Option cx_R} {o : String × String × String × Bool} {ty : FieldType} (h : cx_put M c f v F = some rs) (hF : cx_FI g c f a o ty) (hn : narrow ty (.int v) = .int v) (hfit : fits ty (.int v) = true) (hfin : o.2.2.2 = false) (hq : Cond.fieldLink S.2.1 index o.1 o.2.1 o.2.2.1 ∈ lw_all) (d : decode cc pc = .ok (.putfield index, 3)) (K : ∀ M', F M' = some rs → cx_V l g X S cc (pc + 3) lv st M' k n rs) : cx_V l g X S cc pc lv (.int v :: .ref a :: st) M k n rs := by
  intro hk H locs ls hw hS hl
  obtain ⟨ci, q0, C, T, N, ty0, ⟨c1, c2, c3, c4⟩, hN, hT, hty, hM⟩ := hF
  obtain ⟨fs, m1, m2, m3⟩ := hM M
  subst hT
  refine va_put hk.1 hk.2.1 (T := T) (Ts := lw_all) hk.2.2.2.2.1 c2 ty0 c3 c4 hk.2.2.2.1 hk.2.2.2.2.2.2.2.1 hw.1 hw.2 hS q0 m1 c1 f hN (hk.2.2.2.2.1 _ hq) (fun _ h => h) hfin hty hn hfit (List.getElem?_eq_some_iff.mp m2).1 d ?_
  intro H1 locs1 hP hD hS1
  rw [m3] at hP hD
  exact K _ h hk H1 locs1 ls ⟨hP, hD⟩ hS1 hl
theorem cx_ldI {c z a t : Nat} {i : Int32} {F : Int32 → Option cx_R} (h : cx_ld M c z i F = some rs) (hA : cx_AI g c z a t .int) (d : decode cc pc = .ok (.iaload, 1)) (K : ∀ v, F v = some rs → cx_V l g X S cc (pc + 1) lv (.int v :: st) M k n rs) : cx_V l g X S cc pc lv (.int i :: .ref a :: st) M k n rs := by
  intro hk H locs ls hw hS hl
  obtain ⟨t1, q0, hM⟩ := hA
  obtain ⟨hin, h⟩ := cx_ld_some h
  exact va_iald hk.1 hk.2.1 hk.2.2.2.2.2.2.2.1 hw.1 q0 t (hM M).1 t1 hin d (K _ h hk H locs ls hw hS hl)
theorem cx_ldC {c z a t j : Nat} {i : Int32} {F : Int32 → Option cx_R} (h : cx_get M c j F = some rs) (hA : cx_AI g c z a t .int) (hi : i.toNatClampNeg = j) (hin : vp_in i z) (d : decode cc pc = .ok (.iaload, 1)) (K : ∀ v, F v = some rs → cx_V l g X S cc (pc + 1) lv (.int v :: st) M k n rs) : cx_V l g X S cc pc lv (.int i :: .ref a :: st) M k n rs := by
  intro hk H locs ls hw hS hl
  obtain ⟨t1, q0, hM⟩ := hA
  subst hi
  exact va_iald hk.1 hk.2.1 hk.2.2.2.2.2.2.2.1 hw.1 q0 t (hM M).1 t1 hin d (K _ h hk H locs ls hw hS hl)
theorem cx_ldZ {c z a t : Nat} {i : Int32} {F : Int32 → Option cx_R} (h : cx_ld M c z i F = some rs) (hA : cx_AI g c z a t .boolean) (d : decode cc pc = .ok (.baload, 1)) (K : ∀ v, F v = some rs → cx_V l g X S cc (pc + 1) lv (.int v :: st) M k n rs) : cx_V l g X S cc pc lv (.int i :: .ref a :: st) M k n rs := by
  intro hk H locs ls hw hS hl
  obtain ⟨t1, q0, hM⟩ := hA
  obtain ⟨hin, h⟩ := cx_ld_some h
  exact va_zald hk.1 hk.2.1 hk.2.2.2.2.2.2.2.1 hw.1 q0 t (hM M).1 t1 hin d (K _ h hk H locs ls hw hS hl)
theorem cx_stI {c z a t : Nat} {i x : Int32} {F : cx_M → Option cx_R} (h : cx_st M c z i x F = some rs) (hA : cx_AI g c z a t .int) (d : decode cc pc = .ok (.iastore, 1)) (K : ∀ M', F M' = some rs → cx_V l g X S cc (pc + 1) lv st M' k n rs) : cx_V l g X S cc pc lv (.int x :: .int i :: .ref a :: st) M k n rs := by
  intro hk H locs ls hw hS hl
  obtain ⟨t1, q0, hM⟩ := hA
  obtain ⟨hin, h⟩ := cx_st_some h
  refine va_iast hk.1 hk.2.1 hk.2.2.2.2.2.2.2.1 hw.1 hw.2 hS q0 t (hM M).1 t1 hin d ?_
  intro H1 locs1 hP hD hS1
  rw [(hM M).2] at hP hD
  exact K _ h hk H1 locs1 ls ⟨hP, hD⟩ hS1 hl
theorem cx_stC {c z a t j : Nat} {i x : Int32} {F : cx_M → Option cx_R} (h : cx_put M c j x F = some rs) (hA : cx_AI g c z a t .int) (hi : i.toNatClampNeg = j) (hin : vp_in i z) (d : decode cc pc = .ok (.iastore, 1)) (K : ∀ M', F M' = some rs → cx_V l g X S cc (pc + 1) lv st M' k n rs) : cx_V l g X S cc pc lv (.int x :: .int i :: .ref a :: st) M k n rs := by
  intro hk H locs ls hw hS hl
  obtain ⟨t1, q0, hM⟩ := hA
  subst hi
  refine va_iast hk.1 hk.2.1 hk.2.2.2.2.2.2.2.1 hw.1 hw.2 hS q0 t (hM M).1 t1 hin d ?_
  intro H1 locs1 hP hD hS1
  rw [(hM M).2] at hP hD
  exact K _ h hk H1 locs1 ls ⟨hP, hD⟩ hS1 hl
theorem cx_stZ {c z a t : Nat} {i x : Int32} {F : cx_M → Option cx_R} (h : cx_st M c z i x F = some rs) (hA : cx_AI g c z a t .boolean) (hx : vp_nar .boolean x = x) (d : decode cc pc = .ok (.bastore, 1)) (K : ∀ M', F M' = some rs → cx_V l g X S cc (pc + 1) lv st M' k n rs) : cx_V l g X S cc pc lv (.int x :: .int i :: .ref a :: st) M k n rs := by
  intro hk H locs ls hw hS hl
  obtain ⟨t1, q0, hM⟩ := hA
  obtain ⟨hin, h⟩ := cx_st_some h
  refine va_zast hk.1 hk.2.1 hk.2.2.2.2.2.2.2.1 hw.1 hw.2 hS q0 t (hM M).1 t1 hin d ?_
  intro H1 locs1 hP hD hS1
  rw [hx, (hM M).2] at hP hD
  exact K _ h hk H1 locs1 ls ⟨hP, hD⟩ hS1 hl
theorem cx_alen {c z a t : Nat} {ty : FieldType} (v : Int32) (hA : cx_AI g c z a t ty) (hv : Int32.ofNat z = v) (d : decode cc pc = .ok (.arraylength, 1)) (K : cx_V l g X S cc (pc + 1) lv (.int v :: st) M k n rs) : cx_V l g X S cc pc lv (.ref a :: st) M k n rs := by
  intro hk H locs ls hw hS hl
  obtain ⟨t1, q0, hM⟩ := hA
  exact va_alen hk.1 hk.2.1 hk.2.2.2.2.2.2.2.1 hw.1 q0 t (hM M).1 t1 hv d (K hk H locs ls hw hS hl)
theorem cx_blI {v : Int32} {o : Option cx_R} (h : cx_bl v o = some rs) (K : (narrow .boolean (.int v) = .int v ∧ fits .boolean (.int v) = true ∧ vp_nar .boolean v = v) → o = some rs → cx_V l g X S cc pc lv (.int v :: st) M k n rs) : cx_V l g X S cc pc lv (.int v :: st) M k n rs := by
  unfold cx_bl at h
  split at h
  · next q => rcases q with rfl | rfl
              · exact K ⟨by decide +kernel, by decide +kernel, by decide +kernel⟩ h
              · exact K ⟨by decide +kernel, by decide +kernel, by decide +kernel⟩ h
  · cases h
theorem cx_iret {v : Int32} (h : some (M, v, 0) = some rs) (hr : S.2.2.2.2.1 = some .int) (hk1 : S.2.2.1 = cx_rI) (hc : k ≤ S.2.2.2.1.cells) (hn : n ≤ S.2.2.2.1.slots) (d : decode cc pc = .ok (.ireturn, 1)) : cx_V l g X S cc pc lv [.int v] M k n rs := by
  intro hk H locs ls hw hS hl
  cases h
  exact W.widen hc hn (cx_finW (fun t q => cx_fin_ret rfl q) (W.iret hk.1 hk.2.1 (by rw [hk.2.2.2.2.2.2.1, hr]) (fun t ht hW => ⟨by rw [hk1]; rfl, by rw [ht]; exact hw, hS.F ht⟩) hS.2.2 d (hlocks := hk.2.2.2.2.2.1.1)))
theorem cx_zret {v : Int32} (h : some (M, v, 0) = some rs) (hz : narrow .boolean (.int v) = .int v) (hr : S.2.2.2.2.1 = some .boolean) (hk1 : S.2.2.1 = cx_rI) (hc : k ≤ S.2.2.2.1.cells) (hn : n ≤ S.2.2.2.1.slots) (d : decode cc pc = .ok (.ireturn, 1)) : cx_V l g X S cc pc lv [.int v] M k n rs := by
  intro hk H locs ls hw hS hl
  cases h
  exact W.widen hc hn (cx_finW (fun t q => cx_fin_ret rfl q) (W.zret hk.1 hk.2.1 (by rw [hk.2.2.2.2.2.2.1, hr]) hz (fun t ht hW => ⟨by rw [hk1]; rfl, by rw [ht]; exact hw, hS.F ht⟩) hS.2.2 d (hlocks := hk.2.2.2.2.2.1.1)))
theorem cx_vret (h : some (M, 0, 0) = some rs) (hr : S.2.2.2.2.1 = none) (hk1 : S.2.2.1 = cx_rV) (hc : k ≤ S.2.2.2.1.cells) (hn : n ≤ S.2.2.2.1.slots) (d : decode cc pc = .ok (.return_, 1)) : cx_V l g X S cc pc lv [] M k n rs := by
  intro hk H locs ls hw hS hl
  cases h
  exact W.widen hc hn (cx_finW (fun t q => cx_fin_ret rfl q) (W.vret hk.1 hk.2.1 (by rw [hk.2.2.2.2.2.2.1, hr]) (fun t ht hW => ⟨by rw [hk1]; rfl, by rw [ht]; exact hw, hS.F ht⟩) hS.2.2 d (hlocks := hk.2.2.2.2.2.1.1)))
theorem cx_aret {r : Int32} {a : Nat} {ty : FieldType} (h : some (M, r, 0) = some rs) (hr : S.2.2.2.2.1 = some ty) (hty : (∃ n, ty = .object n) ∨ ∃ t, ty = .array t) (hk1 : S.2.2.1 r = some (.ref a)) (hc : k ≤ S.2.2.2.1.cells) (hn : n ≤ S.2.2.2.1.slots) (d : decode cc pc = .ok (.areturn, 1)) : cx_V l g X S cc pc lv [.ref a] M k n rs := by
  intro hk H locs ls hw hS hl
  cases h
  exact W.widen hc hn (cx_finW (fun t q => cx_fin_ret rfl q) (W.aret hk.1 hk.2.1 (by rw [hk.2.2.2.2.2.2.1, hr]) hty (Or.inr ⟨a, rfl⟩) (fun t ht hW => ⟨by rw [hk1], by rw [ht]; exact hw, hS.F ht⟩) hS.2.2 d (hlocks := hk.2.2.2.2.2.1.1)))
theorem cx_sw_in {x : Int32} {lo : Int} {Bs : List (Option cx_R)} {D : Option cx_R} (h : cx_sw x lo Bs D = some rs) : ((x.toInt < lo ∨ lo + Bs.length ≤ x.toInt) ∧ D = some rs) ∨ ∃ j B, ¬ x.toInt < lo ∧ ¬ lo + Bs.length ≤ x.toInt ∧ (x.toInt - lo).toNat = j ∧ Bs[j]? = some B ∧ B = some rs := by
  unfold cx_sw at h
  split at h
  · next q => exact Or.inl ⟨q, h⟩
  · next q =>
    refine Or.inr ⟨(x.toInt - lo).toNat, some rs, fun z => q (Or.inl z), fun z => q (Or.inr z), rfl, ?_, rfl⟩
    have hlt : (x.toInt - lo).toNat < Bs.length := by omega
    rw [List.getD_eq_getElem?_getD] at h
    rw [List.getElem?_eq_getElem hlt] at h ⊢
    simpa using h
theorem cx_tgts {offs : Array Int} {ts : List Nat} {pc : Nat} (h : (offs.toList.map (fun o => (pc : Int) + o)) = ts.map (fun t : Nat => (t : Int))) : ∀ j, j < ts.length → ∃ off, offs[j]? = some off ∧ (pc : Int) + off = ((ts.getD j 0 : Nat) : Int) := by
  intro j hj
  have h1 : (offs.toList.map (fun o => (pc : Int) + o))[j]? = (ts.map (fun t : Nat => (t : Int)))[j]? := by rw [h]
  rw [List.getElem?_map, List.getElem?_map, List.getElem?_eq_getElem hj] at h1
  cases ho : offs.toList[j]? with
  | none => rw [ho] at h1; cases h1
  | some o =>
    rw [ho] at h1
    refine ⟨o, by rw [← Array.getElem?_toList]; exact ho, ?_⟩
    rw [List.getD_eq_getElem?_getD, List.getElem?_eq_getElem hj]
    exact Option.some.inj h1
theorem cx_table {x : Int32} {dflt lo hi : Int} {offs : Array Int} {len : Nat} {Bs : List (Option cx_R)} {D : Option cx_R} (tgtD : Nat) (ts : List Nat) (nB : Nat) (h : cx_sw x lo Bs D = some rs) (d : decode cc pc = .ok (.tableswitch dflt lo hi offs, len)) (hhi : lo + (nB : Int) = hi + 1) (hnB : Bs.length = nB) (hnt : ts.length = nB) (htD : (pc : Int) + dflt = (tgtD : Int))
    (hts : offs.toList.map (fun o => (pc : Int) + o) = ts.map (fun t : Nat => (t : Int))) (KD : D = some rs → cx_V l g X S cc tgtD lv st M k n rs) (K : ∀ j B, Bs[j]? = some B → B = some rs → cx_V l g X S cc (ts.getD j 0) lv st M k n rs) : cx_V l g X S cc pc lv (.int x :: st) M k n rs := by
  intro hk H locs ls hw hS hl
  rw [← hnB] at hhi
  rcases cx_sw_in h with ⟨q, h⟩ | ⟨j, B, q1, q2, q3, q4, h⟩
  · exact lv_tableOut hk.1 hk.2.1 d (by omega) htD (KD h hk H locs ls hw hS hl)
  · obtain ⟨off, o1, o2⟩ := cx_tgts hts j (by rw [hnt, ← hnB]; exact (List.getElem?_eq_some_iff.mp q4).1)
    exact lv_tableIn hk.1 hk.2.1 d q1 (by omega) (by rw [q3]; exact o1) o2 (K j B q4 h hk H locs ls hw hS hl)
theorem cx_at {pc2 : Nat} (h : pc = pc2) (K : cx_V l g X S cc pc2 lv st M k n rs) : cx_V l g X S cc pc lv st M k n rs := h ▸ K
theorem cx_mmax {x y : Int32} {index : Nat} (d : decode cc pc = .ok (.invokestatic index, 3)) (hq : Cond.methodLink S.2.1 index Lib.Math.max.name ∈ lw_all) (hfr : 1 ≤ S.2.2.2.1.frames) (hlo : (st.map fun v => v.category).sum + 13 ≤ S.2.2.2.1.locals) (hc : k ≤ S.2.2.2.1.cells) (hn : n ≤ S.2.2.2.1.slots) (K : cx_V l g X S cc (pc + 3) lv (.int (cx_max x y) :: st) M k n rs) : cx_V l g X S cc pc lv (.int y :: .int x :: st) M k n rs :=
  fun hk H locs ls hw hS hl => va_mmax hk.1 hk.2.1 (hk.2.2.1.trans hl.1.symm) hk.2.2.2.1 (hk.2.2.2.2.1 _ hq) (hk.2.2.2.2.1 _ q299) (hk.2.2.2.2.1 _ q130) (hk.2.2.2.2.1 _ q300) hfr hlo hc hn d (K hk H locs ls hw hS hl)
theorem cx_mmin {x y : Int32} {index : Nat} (d : decode cc pc = .ok (.invokestatic index, 3)) (hq : Cond.methodLink S.2.1 index Lib.Math.min.name ∈ lw_all) (hfr : 1 ≤ S.2.2.2.1.frames) (hlo : (st.map fun v => v.category).sum + 13 ≤ S.2.2.2.1.locals) (hc : k ≤ S.2.2.2.1.cells) (hn : n ≤ S.2.2.2.1.slots) (K : cx_V l g X S cc (pc + 3) lv (.int (cx_min x y) :: st) M k n rs) : cx_V l g X S cc pc lv (.int y :: .int x :: st) M k n rs :=
  fun hk H locs ls hw hS hl => va_mmin hk.1 hk.2.1 (hk.2.2.1.trans hl.1.symm) hk.2.2.2.1 (hk.2.2.2.2.1 _ hq) (hk.2.2.2.2.1 _ q317) (hk.2.2.2.2.1 _ q130) (hk.2.2.2.2.1 _ q318) hfr hlo hc hn d (K hk H locs ls hw hS hl)
theorem cx_mabs {x : Int32} {index : Nat} (d : decode cc pc = .ok (.invokestatic index, 3)) (hq : Cond.methodLink S.2.1 index Lib.Math.abs.name ∈ lw_all) (hfr : 1 ≤ S.2.2.2.1.frames) (hlo : (st.map fun v => v.category).sum + 13 ≤ S.2.2.2.1.locals) (hc : k ≤ S.2.2.2.1.cells) (hn : n ≤ S.2.2.2.1.slots) (K : cx_V l g X S cc (pc + 3) lv (.int (cx_abs x) :: st) M k n rs) : cx_V l g X S cc pc lv (.int x :: st) M k n rs :=
  fun hk H locs ls hw hS hl => va_mabs hk.1 hk.2.1 (hk.2.2.1.trans hl.1.symm) hk.2.2.2.1 (hk.2.2.2.2.1 _ hq) (hk.2.2.2.2.1 _ q1328) (hk.2.2.2.2.1 _ q130) (hk.2.2.2.2.1 _ q1329) hfr hlo hc hn d (K hk H locs ls hw hS hl)
theorem cx_ldcS {i a : Nat} {tx : String} (hz : ∀ U, cx_K g U → vk_R S.2.1 i tx a U) (d : decode cc pc = .ok (.ldc i, 2)) (K : cx_V l g X S cc (pc + 2) lv (.ref a :: st) M k n rs) : cx_V l g X S cc pc lv st M k n rs :=
  fun hk H locs ls hw hS hl => va_ldcS hk.1 hk.2.1 hk.2.2.2.1 (hz _ hk.2.2.2.2.2.2.2) d (K hk H locs ls hw hS hl)
theorem cx_blind {g : cx_G} {args : List Value} {M : cx_M} : FrameBlind (va_Pc args (fun U => cx_w g M U.heap ∧ cx_K g U)) := by
  intro a U f mk q
  obtain ⟨q0, q1, q2⟩ := q
  exact ⟨q0, q1, cx_K.same q2 rfl (locs := []) va_S.rf⟩
/-- what stands behind a call -/
theorem cx_run {S' : cx_S} {rest st0 : List Value} {a : Array Value} {rs' : cx_R} {mc ms : Nat}
    (hk : cx_ok g X S cc) {H : Heap} {locs : List Loc} {ls : Array Slot} (hS : va_S g.2.2.2.1 X.2.2.1.heap H locs) (hl : lv_has ls S.1 lv)
    (hr : va_Run X.1 l X.2.1 S.2.2.2.1 X.2.2.1 X.2.2.2.1 X.2.2.2.2.1 X.2.2.2.2.2.1 X.2.2.2.2.2.2.1 X.2.2.2.2.2.2.2 H locs k n mc ms (F0 X.2.2.2.1 pc ls st0) rest (cx_Q g S' rs' a) g.2.2.2.1)
    (K : cx_V l g X S cc (pc + 3) lv ((S'.2.2.1 rs'.2.1).toList ++ rest) rs'.1 (k + mc) (n + ms) rs) :
    W X.1 l X.2.1 S.2.2.2.1 X.2.2.1 X.2.2.2.1 X.2.2.2.2.1 X.2.2.2.2.2.1 X.2.2.2.2.2.2.1 X.2.2.2.2.2.2.2 H locs k n (cx_fin g X S rs) (F0 X.2.2.2.1 pc ls st0) := by
  intro T hT XT
  obtain ⟨v, st₀, t, T', L, h0, X', hL, e1, e2, ⟨hv, hw', hz, hq⟩, stp⟩ := hr T hT XT
  cases hv
  rw [h0] at hz hq
  obtain ⟨t2, a1, b1⟩ := K hk T'.heap (locs ++ L) ls (by rw [e1]; exact hw')
    ⟨Nat.le_trans hS.1 (by rw [e1]; exact hz), fun q h1 h2 => by rw [e1, hq q (Nat.lt_of_lt_of_le h1 hS.1) h2]; exact hS.2.1 q h1 h2, fun q hq => by
      rcases List.mem_append.mp hq with h | h
      · exact hS.2.2 q h
      · exact hL q h⟩ hl T' rfl X'
  exact ⟨t2, stp t2 a1, b1⟩
theorem cx_callV {y : MethodName} {cc' : ByteArray} {S' : cx_S} {b index : Nat} {C : String} {o : Option cx_R} {F : cx_M → Int32 → Option cx_R} (As rest : List Value) {st0 : List Value} (h : cx_cal o F = some rs) (hM : ∀ rs', o = some rs' → cx_Met l g y cc' S' (.ref b :: As) M rs') (hB : cx_Rc g b C)
    (d : decode cc pc = .ok (.invokevirtual index, 3)) (hG : GoodIn lw_all (wsV S.2.1 index C y (ws_ y cc' S'.1 S'.2.2.2.2.1))) (hd : y.cls = C ∧ y.cls ≠ "java/lang/invoke/MethodHandle" ∧ y.cls ≠ "java/lang/invoke/VarHandle" ∧ (parseMethodDescriptor y.desc).map (fun d => d.parameters.length) = some As.length)
    (hR : S'.2.2.2.1.frames + 1 ≤ S.2.2.2.1.frames ∧ 8 + (S'.1 + 11) + S'.2.2.2.1.locals ≤ S.2.2.2.1.locals) (hf : k + S'.2.2.2.1.cells ≤ S.2.2.2.1.cells ∧ n + S'.2.2.2.1.slots ≤ S.2.2.2.1.slots) (hst : st0 = As.reverse ++ .ref b :: rest) (hcat : (rest.map fun v => v.category).sum ≤ 8)
    (K : ∀ M' r, F M' r = some rs → cx_V l g X S cc (pc + 3) lv ((S'.2.2.1 r).toList ++ rest) M' (k + S'.2.2.2.1.cells) (n + S'.2.2.2.1.slots) rs) : cx_V l g X S cc pc lv st0 M k n rs := by
  intro hk H locs ls hw hS hl
  obtain ⟨rs', ho, h⟩ := cx_cal_some h
  obtain ⟨ci, q0, T, N, hc, hfs⟩ := hB
  obtain ⟨fs, hfs⟩ := hfs M
  subst hst
  refine cx_run hk hS hl (va_runV ⟨hk.1, hk.2.1, hk.2.2.1, hk.2.2.2.1, hk.2.2.2.2.1⟩ (hM rs' ho) (cwV As.length hk.2.2.2.2.1 hG rfl rfl rfl hd hR) ⟨cx_blind, va_recv hk.2.2.2.2.2.2.2.1 hw.1 hc hfs, fun U hU hW => ⟨rfl, by rw [hU]; exact hw, cx_K.warm hk.2.2.2.2.2.2.2 hW (by rw [hU]; exact hS)⟩⟩ rfl rfl hl.1 rfl (lv_room hcat) d hf) (K _ _ h)
theorem cx_callS {y : MethodName} {cc' : ByteArray} {S' : cx_S} {index : Nat} {o : Option cx_R} {F : cx_M → Int32 → Option cx_R} (As rest : List Value) {st0 : List Value} (h : cx_cal o F = some rs) (hM : ∀ rs', o = some rs' → cx_Met l g y cc' S' As M rs')
    (d : decode cc pc = .ok (.invokestatic index, 3)) (hG : GoodIn lw_all (va_wsS S.2.1 index y (ws_ y cc' S'.1 S'.2.2.2.2.1))) (hd : y.cls ≠ "java/lang/invoke/MethodHandle" ∧ y.cls ≠ "java/lang/invoke/VarHandle" ∧ (parseMethodDescriptor y.desc).map (fun d => d.parameters.length) = some As.length)
    (hR : S'.2.2.2.1.frames + 1 ≤ S.2.2.2.1.frames ∧ 8 + (S'.1 + 11) + S'.2.2.2.1.locals ≤ S.2.2.2.1.locals) (hf : k + S'.2.2.2.1.cells ≤ S.2.2.2.1.cells ∧ n + S'.2.2.2.1.slots ≤ S.2.2.2.1.slots) (hst : st0 = As.reverse ++ rest) (hcat : (rest.map fun v => v.category).sum ≤ 8)
    (K : ∀ M' r, F M' r = some rs → cx_V l g X S cc (pc + 3) lv ((S'.2.2.1 r).toList ++ rest) M' (k + S'.2.2.2.1.cells) (n + S'.2.2.2.1.slots) rs) : cx_V l g X S cc pc lv st0 M k n rs := by
  intro hk H locs ls hw hS hl
  obtain ⟨rs', ho, h⟩ := cx_cal_some h
  subst hst
  refine cx_run hk hS hl (va_runS ⟨hk.1, hk.2.1, hk.2.2.1, hk.2.2.2.1, hk.2.2.2.2.1⟩ (hM rs' ho) (va_cwS As.length hk.2.2.2.2.1 hG rfl rfl rfl hd hR) ⟨cx_blind, fun U hU hW => ⟨rfl, by rw [hU]; exact hw, cx_K.warm hk.2.2.2.2.2.2.2 hW (by rw [hU]; exact hS)⟩⟩ rfl rfl hl.1 rfl (lv_room hcat) d hf) (K _ _ h)
theorem cx_cVi {y : MethodName} {cc' : ByteArray} {S' : cx_S} {b index : Nat} {C : String} {o : Option cx_R} {F : cx_M → Int32 → Option cx_R} (As rest : List Value) {st0 : List Value} (h : cx_cal o F = some rs) (hM : ∀ rs', o = some rs' → cx_Met l g y cc' S' (.ref b :: As) M rs') (hB : cx_Rc g b C) (d : decode cc pc = .ok (.invokevirtual index, 3)) (hG : GoodIn lw_all (wsV S.2.1 index C y (ws_ y cc' S'.1 S'.2.2.2.2.1))) (hd : y.cls = C ∧ y.cls ≠ "java/lang/invoke/MethodHandle" ∧ y.cls ≠ "java/lang/invoke/VarHandle" ∧ (parseMethodDescriptor y.desc).map (fun d => d.parameters.length) = some As.length)
    (hR : S'.2.2.2.1.frames + 1 ≤ S.2.2.2.1.frames ∧ 8 + (S'.1 + 11) + S'.2.2.2.1.locals ≤ S.2.2.2.1.locals) (hk1 : S'.2.2.1 = cx_rI) (hz : S'.2.2.2.1.cells = 0 ∧ S'.2.2.2.1.slots = 0) (hf : k ≤ S.2.2.2.1.cells ∧ n ≤ S.2.2.2.1.slots) (hst : st0 = As.reverse ++ .ref b :: rest) (hcat : (rest.map fun v => v.category).sum ≤ 8)
    (K : ∀ M' r, F M' r = some rs → cx_V l g X S cc (pc + 3) lv (.int r :: rest) M' k n rs) : cx_V l g X S cc pc lv st0 M k n rs := by
  refine cx_callV As rest h hM hB d hG hd hR (by rw [hz.1, hz.2]; exact hf) hst hcat (fun M' r h => ?_)
  rw [hz.1, hz.2, hk1]
  exact K M' r h
theorem cx_cVv {y : MethodName} {cc' : ByteArray} {S' : cx_S} {b index : Nat} {C : String} {o : Option cx_R} {F : cx_M → Int32 → Option cx_R} (As rest : List Value) {st0 : List Value} (h : cx_cal o F = some rs) (hM : ∀ rs', o = some rs' → cx_Met l g y cc' S' (.ref b :: As) M rs') (hB : cx_Rc g b C) (d : decode cc pc = .ok (.invokevirtual index, 3)) (hG : GoodIn lw_all (wsV S.2.1 index C y (ws_ y cc' S'.1 S'.2.2.2.2.1))) (hd : y.cls = C ∧ y.cls ≠ "java/lang/invoke/MethodHandle" ∧ y.cls ≠ "java/lang/invoke/VarHandle" ∧ (parseMethodDescriptor y.desc).map (fun d => d.parameters.length) = some As.length)
    (hR : S'.2.2.2.1.frames + 1 ≤ S.2.2.2.1.frames ∧ 8 + (S'.1 + 11) + S'.2.2.2.1.locals ≤ S.2.2.2.1.locals) (hk1 : S'.2.2.1 = cx_rV) (hz : S'.2.2.2.1.cells = 0 ∧ S'.2.2.2.1.slots = 0) (hf : k ≤ S.2.2.2.1.cells ∧ n ≤ S.2.2.2.1.slots) (hst : st0 = As.reverse ++ .ref b :: rest) (hcat : (rest.map fun v => v.category).sum ≤ 8)
    (K : ∀ M' r, F M' r = some rs → cx_V l g X S cc (pc + 3) lv (rest) M' k n rs) : cx_V l g X S cc pc lv st0 M k n rs := by
  refine cx_callV As rest h hM hB d hG hd hR (by rw [hz.1, hz.2]; exact hf) hst hcat (fun M' r h => ?_)
  rw [hz.1, hz.2, hk1]
  exact K M' r h
theorem cx_cSi {y : MethodName} {cc' : ByteArray} {S' : cx_S} {index : Nat} {o : Option cx_R} {F : cx_M → Int32 → Option cx_R} (As rest : List Value) {st0 : List Value} (h : cx_cal o F = some rs) (hM : ∀ rs', o = some rs' → cx_Met l g y cc' S' As M rs') (d : decode cc pc = .ok (.invokestatic index, 3)) (hG : GoodIn lw_all (va_wsS S.2.1 index y (ws_ y cc' S'.1 S'.2.2.2.2.1))) (hd : y.cls ≠ "java/lang/invoke/MethodHandle" ∧ y.cls ≠ "java/lang/invoke/VarHandle" ∧ (parseMethodDescriptor y.desc).map (fun d => d.parameters.length) = some As.length)
    (hR : S'.2.2.2.1.frames + 1 ≤ S.2.2.2.1.frames ∧ 8 + (S'.1 + 11) + S'.2.2.2.1.locals ≤ S.2.2.2.1.locals) (hk1 : S'.2.2.1 = cx_rI) (hz : S'.2.2.2.1.cells = 0 ∧ S'.2.2.2.1.slots = 0) (hf : k ≤ S.2.2.2.1.cells ∧ n ≤ S.2.2.2.1.slots) (hst : st0 = As.reverse ++ rest) (hcat : (rest.map fun v => v.category).sum ≤ 8)
    (K : ∀ M' r, F M' r = some rs → cx_V l g X S cc (pc + 3) lv (.int r :: rest) M' k n rs) : cx_V l g X S cc pc lv st0 M k n rs := by
  refine cx_callS As rest h hM d hG hd hR (by rw [hz.1, hz.2]; exact hf) hst hcat (fun M' r h => ?_)
  rw [hz.1, hz.2, hk1]
  exact K M' r h
theorem cx_cSv {y : MethodName} {cc' : ByteArray} {S' : cx_S} {index : Nat} {o : Option cx_R} {F : cx_M → Int32 → Option cx_R} (As rest : List Value) {st0 : List Value} (h : cx_cal o F = some rs) (hM : ∀ rs', o = some rs' → cx_Met l g y cc' S' As M rs') (d : decode cc pc = .ok (.invokestatic index, 3)) (hG : GoodIn lw_all (va_wsS S.2.1 index y (ws_ y cc' S'.1 S'.2.2.2.2.1))) (hd : y.cls ≠ "java/lang/invoke/MethodHandle" ∧ y.cls ≠ "java/lang/invoke/VarHandle" ∧ (parseMethodDescriptor y.desc).map (fun d => d.parameters.length) = some As.length)
    (hR : S'.2.2.2.1.frames + 1 ≤ S.2.2.2.1.frames ∧ 8 + (S'.1 + 11) + S'.2.2.2.1.locals ≤ S.2.2.2.1.locals) (hk1 : S'.2.2.1 = cx_rV) (hz : S'.2.2.2.1.cells = 0 ∧ S'.2.2.2.1.slots = 0) (hf : k ≤ S.2.2.2.1.cells ∧ n ≤ S.2.2.2.1.slots) (hst : st0 = As.reverse ++ rest) (hcat : (rest.map fun v => v.category).sum ≤ 8)
    (K : ∀ M' r, F M' r = some rs → cx_V l g X S cc (pc + 3) lv (rest) M' k n rs) : cx_V l g X S cc pc lv st0 M k n rs := by
  refine cx_callS As rest h hM d hG hd hR (by rw [hz.1, hz.2]; exact hf) hst hcat (fun M' r h => ?_)
  rw [hz.1, hz.2, hk1]
  exact K M' r h
end CXV
