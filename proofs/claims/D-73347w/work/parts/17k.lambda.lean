/-! LAMBDAS: the classes that the machine's rule makes for a site; calls of their objects -/
/-- of the made class's second method, as far as a call asks: its bytes, its locals, its target's entry in the pool -/
def lm_ok (σ : Lambda.Shape) (bytes : List UInt8) (nL im ci nt n : Nat) : Bool :=
  match σ.file "CircuitCells" with
  | none => false
  | some D => match layoutMethods D with
    | none => false
    | some ms => match ms[1]? with
      | none => false
      | some a => match a.code with
        | none => false
        | some c => decide (c.code.data.toList = bytes) && decide (c.maxLocals = nL) && decide (a.accessFlags = 1) && decide (a.sig.returnType = σ.sam.returnType) && decide (D.constantPool[im]? = some (.methodref ci nt)) && decide (D.constantPool.className? ci = some "CircuitCells") && decide (D.constantPool.nameAndType? nt = some (σ.implName, σ.implDesc.toString)) && decide (D.constantPool[ci]? = some (.class_ n)) && decide (D.constantPool.string? n = some "CircuitCells") && decide (ci ≠ D.thisClass)
theorem lm_spec {σ : Lambda.Shape} {bytes : List UInt8} {nL im ci nt n : Nat} (h : lm_ok σ bytes nL im ci nt n = true) : ∃ (D : ClassFile) (ms : Array Method) (a : Method) (c : Code), σ.file "CircuitCells" = some D ∧ layoutMethods D = some ms ∧ ms[1]? = some a ∧ a.code = some c ∧ c.code.data.toList = bytes ∧ c.maxLocals = nL ∧ a.accessFlags = 1 ∧ a.sig.returnType = σ.sam.returnType ∧
    D.constantPool[im]? = some (.methodref ci nt) ∧ D.constantPool.className? ci = some "CircuitCells" ∧ D.constantPool.nameAndType? nt = some (σ.implName, σ.implDesc.toString) ∧ D.constantPool[ci]? = some (.class_ n) ∧ D.constantPool.string? n = some "CircuitCells" ∧ ci ≠ D.thisClass := by
  unfold lm_ok at h
  split at h
  · cases h
  · next D hD =>
    split at h
    · cases h
    · next ms hms =>
      split at h
      · cases h
      · next a ha =>
        split at h
        · cases h
        · next c hc =>
          simp only [Bool.and_eq_true, decide_eq_true_eq] at h
          obtain ⟨⟨⟨⟨⟨⟨⟨⟨⟨h1, h2⟩, h3⟩, h4⟩, h5⟩, h6⟩, h7⟩, h8⟩, h9⟩, h10⟩ := h
          exact ⟨D, ms, a, c, hD, hms, ha, hc, h1, h2, h3, h4, h5, h6, h7, h8, h9, h10⟩
/-- what a table with such a made class holds -/
def lm_F (vm : Vm) (σ : Lambda.Shape) (cK : ClassId) (bytes : List UInt8) (nL im ci nt : Nat) (methk : Method) (ck : Code) (cls : ClassId) (tk : Class) (t : MethodId) : Prop :=
  ∃ (k : Class) (file : ClassFile), vm.classes[cK]? = some k ∧ k.name = "CircuitCells$$Lambda" ∧ k.cf = some file ∧ file.constantPool[im]? = some (.methodref ci nt) ∧ file.constantPool.nameAndType? nt = some (σ.implName, σ.implDesc.toString) ∧
    vm.method? ⟨cK, 1⟩ = some methk ∧ methk.code = some ck ∧ ck.code = ⟨bytes.toArray⟩ ∧ ck.maxLocals = nL ∧ methk.locks = false ∧ methk.accessFlags = 1 ∧ methk.sig.returnType = σ.sam.returnType ∧
    vm.findClass "CircuitCells" = some cls ∧ vm.classes[cls]? = some tk ∧ tk.isInterface = σ.implItf ∧ ((methodIn cls σ.implName σ.implDesc.toString tk.isInterface none).ask { classPath := fun _ => none } vm).1 = .ok t ∧ vm.methodReady cK im t ∧ vm.classReady cK ci cls
theorem lm_facts {vm : Vm} {d cK : ClassId} {dk : Class} {σ : Lambda.Shape} {bytes : List UInt8} {nL im ci nt n : Nat} (hd : vm.classes[d]? = some dk) (hname : dk.name = "CircuitCells") (h : Lambda.isMade { classPath := fun _ => none } vm d σ cK = true) (himpl : σ.implClass = "CircuitCells") (hok : lm_ok σ bytes nL im ci nt n = true) :
    ∃ methk ck cls tk t, lm_F vm σ cK bytes nL im ci nt methk ck cls tk t := by
  obtain ⟨D, ms, a, x, hD, hms, ha, hx, b1, b2, b3, b4, b5, b6, b7, b8, b9, b10⟩ := lm_spec hok
  obtain ⟨dk', k, ok, tk, file, cf, object, iface, cls, lay, methods, t, found, hd', hk, hfile, hcf, -, -, -, -, hms', ht, htk, hg, -, hrec, -, -, -, hitf, hpool, hmeth, -, -, hres, -⟩ := Lambda.isMade_spec h
  cases hd.symm.trans hd'
  rw [hname, hD] at hcf
  cases hcf
  cases hms.symm.trans hms'
  rw [himpl] at ht
  obtain ⟨b, hb, hsame⟩ := hmeth 1 a ha
  obtain ⟨-, -, s3, s4, x', y, hx', hy, -, y2, y3, -⟩ := Lambda.sameMethod_spec hsame
  cases hx.symm.trans hx'
  refine ⟨b, y, cls, tk, t, k, file, hk, by rw [hrec.1, hname]; rfl, hfile, by rw [hpool.2.1]; exact b5, by rw [hpool.2.1]; exact b7, by simp [Vm.method?, hk, hb], hy, ?_, by rw [y2]; exact b2, ?_, by rw [s4]; exact b3, by rw [s3]; exact b4, ht, htk, hitf, hg, ⟨k, hk, hres im _ (Lambda.resolvedOf_method b5 b6 ht htk b7 hg)⟩, ⟨k, hk, hres ci _ (Lambda.resolvedOf_class b8 b10 b9 ht)⟩⟩
  · rw [y3]
    refine ByteArray.ext ?_
    rw [← b1]
  · simp [Method.locks, Method.isSynchronized, s4, b3, hasFlag, Acc.synchronized]
theorem lm_methodIn {vm : Vm} {c i : Nat} {name desc : String} {ck : Class} {meth : Method} (e : Setting) (hc : vm.classes[c]? = some ck) (hpoly : ∀ y, signaturePolymorphic ck y = false) (hi : ck.findMethod name desc = some i) (hm : ck.methods[i]? = some meth) :
    (methodIn c name desc ck.isInterface none).Gives e vm (.ok ⟨c, i⟩) vm := by
  unfold methodIn
  refine (getClass_gives e hc).bind ?_
  have hany : ∀ j : Nat, Option.any (signaturePolymorphic ck) ck.methods[j]? = false := fun j => by cases ck.methods[j]? <;> simp [hpoly]
  have hlook : lookupInSuperclasses vm name desc (vm.classes.size + 1) c = some ⟨c, i⟩ := by simp [lookupInSuperclasses, hc, hi]
  have hor : ∀ (x : MethodId) (y : Option MethodId), (some x <|> y) = some x := fun _ _ => rfl
  simp only [bne_self_eq_false, Bool.false_eq_true, if_false, hany]
  generalize (List.filter (fun i => Option.any (fun x => x.name == name) ck.methods[i]?) (List.range ck.methods.size)) = L
  cases ck.isInterface <;> rcases L with _ | ⟨j, _ | ⟨j', L⟩⟩ <;>
  · simp only [Option.isSome_none, Option.isNone_none, Bool.false_eq_true, if_false, if_true]
    refine VmM.Gives.getVm.bind ?_
    simp only [hlook, hor, hi]
    refine (getEnv_gives e vm).bind ?_
    refine (getClass_gives e hc).bind ?_
    exact (VmM.Gives.mark _).bind (.pure _)
theorem lm_ask {α : Type} {x : VmM α} {e : Setting} {vm vm' : Vm} {r : Except LinkFail α} (h : x.Gives e vm r vm') : (x.ask e vm).1 = r := by
  obtain ⟨ms', h⟩ := h []
  unfold VmM.ask
  rw [h]
/-- the target that the site found is the method of that name -/
theorem lm_named {s : State} {y : MethodName} {mk t : MethodId} {cls : ClassId} {tk : Class} (hy : y.cls ≠ "java/lang/invoke/MethodHandle" ∧ y.cls ≠ "java/lang/invoke/VarHandle") (hn : s.methodNamed? y = some mk) (hc : s.vm.findClass y.cls = some cls) (hk : s.vm.classes[cls]? = some tk)
    (ht : ((methodIn cls y.name y.desc tk.isInterface none).ask { classPath := fun _ => none } s.vm).1 = .ok t) : t = mk ∧ mk.cls = cls ∧ ∀ z, signaturePolymorphic tk z = false := by
  obtain ⟨k', hk', hkn⟩ := className_of_methodNamed hn
  have hcls : mk.cls = cls := Option.some.inj ((findClass_of_methodNamed hn).symm.trans hc)
  rw [hcls] at hk'
  cases hk.symm.trans hk'
  have hpoly := signaturePolymorphic_of_name (k := tk) (by rw [hkn]; exact hy)
  simp only [State.methodNamed?, hc, hk, Option.bind_eq_bind, Option.bind_some, Option.bind_eq_some_iff, Option.pure_def, Option.some.injEq] at hn
  obtain ⟨i, hi, hmi⟩ := hn
  have hm : ∃ meth, tk.methods[i]? = some meth := by
    have h1 := hi
    unfold Class.findMethod at h1
    exact ⟨_, Array.getElem?_eq_getElem (by
      have := Array.findIdx?_eq_some_iff_findIdx_eq.mp h1
      omega)⟩
  obtain ⟨meth, hm⟩ := hm
  have := lm_ask (lm_methodIn { classPath := fun _ => none } hk hpoly hi hm)
  rw [ht] at this
  refine ⟨?_, hcls, hpoly⟩
  rw [← hmi]
  exact Except.ok.inj this
section LM
variable {p : Program} {l : Launch} {e : Env} {R : Room} {s : State} {m : MethodId} {args : Array Value} {below : List Frame} {meth : Method} {c : Code} {T : State} {locs : List Loc} {cells slots : Nat}
/-- a call of a made object through its interface: what the hidden method does is a walk of its own -/
theorem lm_out {own : String} {index count : Nat} {σ : Lambda.Shape} {d cK : ClassId} {dk : Class} {bytes : List UInt8} {nL im ci nt n : Nat} {As rest : List Value} {a : Addr} {cell : Cell} {g : JFrame} {R' : Room} {Qa : State → Outcome → State → Prop} {free : Addr → Prop}
    (X : Stand p l e R s m args below meth c T locs cells slots) (hexec : p.tables.exec = Jvm.exec) (hown : s.vm.findClass own = some m.cls) (hlink : (Cond.methodLink own index ⟨σ.iface, σ.name, σ.sam.toString⟩).before args s = true) (hdecl : (Cond.declares ⟨σ.iface, σ.name, σ.sam.toString⟩).before args s = true) (hface : (Cond.interfaceMethod σ.iface σ.iface σ.name σ.sam.toString).before args s = true)
    (hnmh : σ.iface ≠ "java/lang/invoke/MethodHandle" ∧ σ.iface ≠ "java/lang/invoke/VarHandle") (hd : s.vm.classes[d]? = some dk) (hdn : dk.name = "CircuitCells") (hmade : Lambda.isMade { classPath := fun _ => none } s.vm d σ cK = true) (hcan : s.lambdaCallable σ cK = true) (himpl : σ.implClass = "CircuitCells") (hok : lm_ok σ bytes nL im ci nt n = true)
    (hcell : T.heap[a]? = some cell) (hcls : cell.cls = cK) (hvm : cell.vm = .none) (hg : g.method = m) (hsize : g.locals.size = c.maxLocals) (hstack : g.stack = As.reverse ++ .ref a :: rest) (hlen : ∀ sig, parseMethodDescriptor σ.sam.toString = some sig → As.length = sig.parameters.length)
    (hdg : decode c.code g.pc = .ok (.invokeinterface index count, 5)) (hW : 2 * g.monitorRoom + (rest.map fun v => v.category).sum ≤ 8) (hfr : R'.frames + 1 ≤ R.frames) (hlo : 8 + (nL + 11) + R'.locals ≤ R.locals) (hcl : cells + R'.cells ≤ R.cells) (hsl : slots + R'.slots ≤ R.slots)
    (body : ∀ (s1 : State) (methk : Method) (ck : Code) (cls : ClassId) (tk : Class) (t : MethodId) (d1 : ClassId) (dk1 : Class), s.WarmedH s1.vm → s1.heap = T.heap → lm_F s1.vm σ cK bytes nL im ci nt methk ck cls tk t → s1.vm.classes[d1]? = some dk1 → dk1.name = "CircuitCells" → Lambda.isMade { classPath := fun _ => none } s1.vm d1 σ cK = true →
      W p l e R' s1 ⟨cK, 1⟩ (.ref a :: As).toArray (.java { g with stack := rest } :: below) methk ck T.heap [] 0 0 (MQ (.java { g with stack := rest } :: below) (fun _ => Qa) (.ref a :: As).toArray s1 0 0 free) (entryFrame ⟨cK, 1⟩ (.ref a :: As).toArray nL)) :
    ∃ (v : Option Value) (st₀ t T' : State) (L : List Loc), st₀.heap = T.heap ∧ Stand p l e R s m args below meth c T' (locs ++ L) (cells + 0) (slots + 0) ∧ (∀ q ∈ L, free q.base) ∧ T'.heap = t.heap ∧ T'.vm = t.vm ∧ Qa st₀ (.returned v) t ∧
      ∀ target, Steps p.tables e below (T'.setTop { g with pc := g.pc + 5, stack := v.toList ++ rest }) target → Steps p.tables e below (T.setTop g) target := by
  obtain ⟨r0, r, hn, hrm, hstR, hsigR⟩ := Cond.declares_spec hdecl
  obtain ⟨cL, kL, r1, hcL, hkL, hiL, hfoundL, hn1⟩ := Cond.interfaceMethod_spec hface
  cases hn.symm.trans hn1
  have hr0cls : r0.cls = cL := Option.some.inj ((findClass_of_methodNamed hn).symm.trans hcL)
  obtain ⟨hnameR, hdescR⟩ := name_of_methodNamed hn hrm
  obtain ⟨dk', k, ok, tk', file, cfK, object, iface, t', lay, methods, tgt, found, -, hk, -, -, -, hi', -, -, -, -, -, -, hfound', -, -, -, -, -, -, -, -, -, -, hsel⟩ := Lambda.isMade_spec hmade
  cases hcL.symm.trans hi'
  have hfr0 : found = r0 := by
    simp only [State.methodFound?, hcL, hkL, Option.bind_eq_bind, Option.bind_some, hiL, hfound'] at hfoundL
    exact Option.some.inj hfoundL
  subst hfr0
  obtain ⟨i2, hi2, hasg, hway⟩ := State.lambdaCallable_spec hcan
  cases hcL.symm.trans hi2
  obtain ⟨methk0, ck0, cls0, tk0, t0, k0, file0, f1, f2, f3, f4, f5, f6, f7, f8, f9, f10, f11, f12, -⟩ := lm_facts hd hdn hmade himpl hok
  obtain ⟨vm', X1, step1⟩ := X.invokeinterface hexec hown hlink hn hrm hstR (by rw [hr0cls]; exact hkL) hiL hnmh hcell (fun c h => by rw [hvm] at h; cases h) (by rw [hcls]; exact hk) (by rw [hcls, hr0cls]; exact hasg) (m' := ⟨cK, 1⟩) (by rw [hcls, Launch.admits_selectMethod X.admits]; exact hsel) f6
    (by rw [hcls, hnameR, hdescR]; exact hway) (by rw [f11]; decide) (by simp [Method.isAbstract, f11, hasFlag, Acc.abstract]) hg (argsL := As) (rest := rest) (hlen _ hsigR) hstack hdg
  have hW1 : s.WarmedH vm' := X1.warmed
  have hmade1 := Lambda.isMade_warmer hW1 hmade
  obtain ⟨dk1, hd1, e1⟩ := hW1.alike.2.2 _ _ hd
  have hdn1 : dk1.name = "CircuitCells" := by rw [e1]; exact hdn
  obtain ⟨methk, ck, cls, tk, t, HF⟩ := lm_facts hd1 hdn1 hmade1 himpl hok
  have HF' := HF
  obtain ⟨k1, file1, h1, h2, h3, h4, h5, h6, h7, h8, h9, h10, h11, h12, -⟩ := HF'
  obtain ⟨Y0, hin⟩ := X1.into (g := { g with stack := rest }) hg hsize hdg (mk := ⟨cK, 1⟩) (methk := methk) (ck := ck) (.ref a :: As).toArray (R' := R') h6 h7 h10 (State.plainMethod.of_name (fun k' hk' => by cases h1.symm.trans hk'; rw [h2]; decide)) hfr (by show 2 * g.monitorRoom + (rest.map fun v => v.category).sum + (ck.maxLocals + 11) + R'.locals ≤ R.locals; rw [h9]; omega) hcl hsl
  generalize hs1 : (T.setVm vm').calling { g with stack := rest } ⟨cK, 1⟩ (.ref a :: As).toArray = s1 at Y0
  generalize hU : (((T.setVm vm').setTop { g with stack := rest }).pushFrame (.java (entryFrame ⟨cK, 1⟩ (.ref a :: As).toArray ck.maxLocals))) = U at Y0 hin
  have hUh : U.heap = T.heap := by rw [← hU]; rfl
  have hsv : s1.vm = vm' := by rw [← hs1]; rfl
  have hsh : s1.heap = T.heap := by rw [← hs1]; rfl
  obtain ⟨tE, stp, o, hrun, hended, hq, L, ⟨⟨v, hv⟩, hWe, hsame⟩, hfree⟩ := body s1 methk ck cls tk t d dk1 (by rw [hsv]; exact hW1) hsh (by rw [hsv]; exact HF) (by rw [hsv]; exact hd1) hdn1 (by rw [hsv]; exact hmade1) U hUh Y0
  subst hv
  rw [← hs1] at hWe hsame
  obtain ⟨T', X', hW', -, ht⟩ := X1.outOf (g := { g with stack := rest }) hg hdg hended hWe hsame
  refine ⟨v, s1, tE, T', L, hsh, X', hfree, by rw [ht]; rfl, by rw [ht]; rfl, hq, fun target hrest => ?_⟩
  refine step1 target (fun acts => ?_)
  rw [hin acts]
  refine Steps.trans (Steps.weaken (mid := [.java { g with stack := rest }]) ?_) hrest
  rw [← ht, h9]
  exact stp
/-- the target's call in the hidden method, kind 6 -/
theorem lm_callS {σ : Lambda.Shape} {bytes : List UInt8} {nL im ci nt n : Nat} {d1 : ClassId} {dk1 : Class} {y : MethodName} {ybytes : ByteArray} {ymax : Nat} {yret : Option FieldType} {ws : List Cond} {rm : Room} {Pc : Array Value → State → Prop} {Qc : Array Value → State → Outcome → State → Prop} {free : Addr → Prop} {As rest : List Value} {cc : ByteArray} {pc : Nat} {ls : Array Slot} {H : Heap} {Q : State → Prop}
    (hexec : p.tables.exec = Jvm.exec) (hb : c.code = cc) (hdg : decode cc pc = .ok (.invokestatic im, 3)) (hsz : ls.size = c.maxLocals) (hd1 : s.vm.classes[d1]? = some dk1) (hdn1 : dk1.name = "CircuitCells") (hmade : Lambda.isMade { classPath := fun _ => none } s.vm d1 σ m.cls = true) (himpl : σ.implClass = "CircuitCells") (hok : lm_ok σ bytes nL im ci nt n = true)
    (hy : y = ⟨"CircuitCells", σ.implName, σ.implDesc.toString⟩) (hcode : (Cond.code y ybytes ymax yret).before args s = true) (hstat : (Cond.static y).before args s = true) (hini : (Cond.initialized "CircuitCells").before args s = true) (hlen : ∀ sig, parseMethodDescriptor y.desc = some sig → As.length = sig.parameters.length)
    (hM : Met l y ws rm Pc Qc 0 0 free) (hbl : FrameBlind Pc) (hrc : rm.cells = 0) (hrs : rm.slots = 0) (hws : ∀ w ∈ ws, ∀ (a' : Array Value) (U : State), s.WarmedH U.vm → w.before a' U = true) (hcw : Cond.code y ybytes ymax yret ∈ ws) (hfr : rm.frames + 1 ≤ R.frames) (hlo : 8 + (ymax + 11) + rm.locals ≤ R.locals) (hcl : cells ≤ R.cells) (hsl : slots ≤ R.slots) (hcat : (rest.map fun v => v.category).sum ≤ 8)
    (hpre : ∀ U : State, U.heap = H → s.WarmedH U.vm → Pc As.toArray U)
    (K : ∀ (v : Option Value) (st₀ t : State) (L : List Loc) (H' : Heap), st₀.heap = H → t.heap = H' → Qc As.toArray st₀ (.returned v) t → (∀ q ∈ L, free q.base) → W p l e R s m args below meth c H' (locs ++ L) cells slots Q (F0 m (pc + 3) ls (v.toList ++ rest))) : W p l e R s m args below meth c H locs cells slots Q (F0 m pc ls (As.reverse ++ rest)) := by
  subst hy
  intro T hT X
  have hK : Back l R p e below s args ⟨"CircuitCells", σ.implName, σ.implDesc.toString⟩ 3 8 (PreOf R 0 0 Pc) (PostOf Qc 0 0 free) := back_of (bytes := ybytes) (maxL := ymax) (ret := yret) hM hbl hrc hrs hfr hlo hws hcw (fun a' U hW => word_at hW (Or.inl (by first | rfl | simp [Cond.onTables, Cond.keeps, Cond.steady])) hini)
  obtain ⟨mk, hnamed⟩ := Cond.code_named hcode
  obtain ⟨methM, cM, hmethM, -, -, -, -, -, -, hsigM⟩ := Cond.code_spec hnamed hcode
  have hstatic : methM.isStatic = true := Cond.static_spec hnamed hmethM hstat
  have hWT := X.warmed
  obtain ⟨dk2, hd2, e2⟩ := hWT.alike.2.2 _ _ hd1
  have hdn2 : dk2.name = "CircuitCells" := by rw [e2]; exact hdn1
  obtain ⟨methk, ck, cls, tk, t, k1, file1, h1, h2, h3, h4, h5, h6, h7, h8, h9, h10, h11, h12, h13, h14, h15, h16, h17, h18⟩ := lm_facts hd2 hdn2 (Lambda.isMade_warmer hWT hmade) himpl hok
  have hnT : T.methodNamed? ⟨"CircuitCells", σ.implName, σ.implDesc.toString⟩ = some mk := X.named hnamed
  obtain ⟨rfl, htc, hpoly⟩ := lm_named (s := T) (y := ⟨"CircuitCells", σ.implName, σ.implDesc.toString⟩) ⟨show "CircuitCells" ≠ _ by decide, show "CircuitCells" ≠ _ by decide⟩ hnT h13 h14 h16
  have hmT : T.vm.method? t = some methM := by rw [hWT.alike.method?]; exact hmethM
  obtain ⟨kc, hkc, -⟩ := className_of_methodNamed hnamed
  have hinitS : kc.init = .initialized := Cond.initialized_spec (findClass_of_methodNamed hnamed) hkc hini
  obtain ⟨kc2, hkc2, ec2⟩ := hWT.alike.2.2 _ _ hkc
  rw [htc] at hkc2
  cases h14.symm.trans hkc2
  obtain ⟨b, hmem⟩ := memberRef_ask' (e := e) (vm := T.vm) (d := m.cls) (index := im) h1 h3 (Or.inl h4) h5
  obtain ⟨v, B, X', hpost, hsteps⟩ := hK m meth c ⟨T, locs, cells, slots⟩ (F0 m pc ls rest) (.invokestatic im) t As.toArray X rfl hsz (by rw [hb]; exact hdg) (by simpa [JFrame.monitorRoom] using hcat) hnT ⟨hcl, hsl, hpre T hT hWT⟩
  obtain ⟨g', mk', t', L, p1, p2, p3, p4, p5, p6, p7⟩ := hpost
  obtain ⟨U', l2, c2, s2⟩ := B
  dsimp only [Pt.U, Pt.locs, Pt.cells, Pt.slots] at X' p1 p2 p3 p4 p6 p7 hsteps
  subst p4
  subst p6
  subst p7
  obtain ⟨tE, stp, hQ⟩ := K v _ t' L U'.heap (by show (T.calling g' mk' As.toArray).heap = H; exact hT) p1.symm p3 p5 U' rfl X'
  refine ⟨tE, ?_, hQ⟩
  jvm_step X.here [hexec, hb, hdg, invokestatic.wp_ready (e := e) (s := T) (m := t) (k := tk) (meth := methM) (args := As) (rest := rest) (f := F0 m pc ls (As.reverse ++ rest)) X.here.top
    ⟨ci, _, _, b, cls, tk, hmem, h18, h14, by simp [hpoly]⟩ h17 (by rw [htc]; exact h14) hmT (hpoly _) hstatic (by rw [ec2]; exact hinitS) (hlen _ hsigM) rfl]
  intro acts
  rw [doInvoke_state]
  exact hsteps.trans stp
end LM
