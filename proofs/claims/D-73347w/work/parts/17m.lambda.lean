/-! LAMBDAS that hold a captured object; invokedynamic -/
def lm_okF (σ : Lambda.Shape) : Bool :=
  match σ.file "CircuitCells" with
  | none => false
  | some D => decide (D.constantPool[15]? = some (.fieldref 2 14)) && decide (D.constantPool.nameAndType? 14 = some ("arg$1", "LCircuitCells;")) &&
    match layoutFields D 0 with
    | none => false
    | some lay => decide (lay.2.1 = #[.object "CircuitCells"]) && decide (lay.1.findIdx? (·.name == "arg$1") = some 0) &&
      match lay.1[0]? with
      | none => false
      | some f => decide (f.isStatic = false) && decide (f.slot = 0)
theorem lm_specF {σ : Lambda.Shape} (h : lm_okF σ = true) : ∃ (D : ClassFile) (lay : Array Field × Array FieldType × Array FieldType) (f : Field), σ.file "CircuitCells" = some D ∧ D.constantPool[15]? = some (.fieldref 2 14) ∧ D.constantPool.nameAndType? 14 = some ("arg$1", "LCircuitCells;") ∧ layoutFields D 0 = some lay ∧ lay.2.1 = #[.object "CircuitCells"] ∧ lay.1.findIdx? (·.name == "arg$1") = some 0 ∧ lay.1[0]? = some f ∧ f.isStatic = false ∧ f.slot = 0 := by
  unfold lm_okF at h
  split at h
  · cases h
  · next D hD =>
    simp only [Bool.and_eq_true, decide_eq_true_eq] at h
    obtain ⟨⟨h1, h2⟩, h⟩ := h
    split at h
    · cases h
    · next lay hlay =>
      simp only [Bool.and_eq_true, decide_eq_true_eq] at h
      obtain ⟨⟨h3, h4⟩, h⟩ := h
      split at h
      · cases h
      · next f hf =>
        simp only [Bool.and_eq_true, decide_eq_true_eq] at h
        exact ⟨D, lay, f, hD, h1, h2, hlay, h3, h4, hf, h.1, h.2⟩
theorem lm_field {vm : Vm} {d cK : ClassId} {dk : Class} {σ : Lambda.Shape} (hd : vm.classes[d]? = some dk) (hname : dk.name = "CircuitCells") (h : Lambda.isMade { classPath := fun _ => none } vm d σ cK = true) (hok : lm_okF σ = true) (hO : ∀ o ok, vm.findClass "java/lang/Object" = some o → vm.classes[o]? = some ok → ok.instanceTypes.size = 0) :
    ∃ (f0 : Field) (kK : Class), vm.fieldReady cK 15 cK f0 ∧ f0.isStatic = false ∧ f0.slot = 0 ∧ vm.classes[cK]? = some kK ∧ kK.instanceTypes = #[.object "CircuitCells"] ∧ kK.kind = .ordinary := by
  obtain ⟨D, lay', f, hD, b1, b2, b3, b4, b5, b6, b7, b8⟩ := lm_specF hok
  obtain ⟨dk', k, ok, tk, file, cf, object, iface, cls, lay, methods, t, found, hd', hk, hfile, hcf, hobj, -, hok', hlay, -, -, -, -, -, hrec, -, -, -, -, -, -, hfields, htypes, hres, -⟩ := Lambda.isMade_spec h
  cases hd.symm.trans hd'
  rw [hname, hD] at hcf
  cases hcf
  have hz := hO object ok hobj hok'
  rw [hz] at hlay
  cases b3.symm.trans hlay
  exact ⟨f, k, ⟨k, 0, k, hk, hres 15 _ (Lambda.resolvedOf_field b1 b2 b5), hk, hfields 0 _ b6⟩, b7, b8, hk, by rw [htypes.1, b4, Array.eq_empty_of_size_eq_zero hz]; rfl, hrec.2.1⟩
theorem lm_shape {cf : ClassFile} {index : Nat} {σ : Lambda.Shape} (h : Lambda.shapeOf? cf index = some σ) : ∃ (b nt : Nat) (name desc : String) (site : MethodDescriptor), cf.constantPool[index]? = some (.invokeDynamic b nt) ∧ cf.constantPool.nameAndType? nt = some (name, desc) ∧ parseMethodDescriptor desc = some site ∧ site.parameters = σ.captured := by
  unfold Lambda.shapeOf? at h
  cases hc : cf.constantPool[index]? with
  | none => rw [hc] at h; cases h
  | some x =>
    rw [hc] at h
    cases x with
    | invokeDynamic b nt =>
      obtain ⟨entries, -, h⟩ := Option.bind_eq_some_iff.mp h
      obtain ⟨bm, -, h⟩ := Option.bind_eq_some_iff.mp h
      generalize cf.constantPool[bm.bootstrapMethodRef]? = q1 at h
      rcases q1 with _ | q1
      · cases h
      cases q1 with
      | methodHandle r0 r =>
        by_cases hr : r0 = 6
        · subst hr
          obtain ⟨u, -, h⟩ := Option.bind_eq_some_iff.mp h
          generalize bm.bootstrapArguments = ba at h
          obtain ⟨ls⟩ := ba
          rcases ls with _ | ⟨a0, _ | ⟨a1, _ | ⟨a2, _ | ⟨a3, l⟩⟩⟩⟩
          · cases h
          · cases h
          · cases h
          · have e0 : ({ toList := [a0, a1, a2] } : Array Nat).getLit 0 (n := 3) rfl (by decide) = a0 := rfl
            have e1 : ({ toList := [a0, a1, a2] } : Array Nat).getLit 1 (n := 3) rfl (by decide) = a1 := rfl
            have e2 : ({ toList := [a0, a1, a2] } : Array Nat).getLit 2 (n := 3) rfl (by decide) = a2 := rfl
            conv at h => lhs; whnf
            rw [e0, e1, e2] at h
            generalize cf.constantPool[a0]? = w0 at h
            rcases w0 with _ | w0
            · cases h
            cases w0 with
            | methodType d0 =>
              generalize cf.constantPool[a1]? = w1 at h
              rcases w1 with _ | w1
              · cases h
              cases w1 with
              | methodHandle kind r1 =>
                generalize cf.constantPool[a2]? = w2 at h
                rcases w2 with _ | w2
                · cases h
                cases w2 with
                | methodType d2 =>
                  obtain ⟨⟨name, desc⟩, hnt, h⟩ := Option.bind_eq_some_iff.mp h
                  obtain ⟨site, hsite, h⟩ := Option.bind_eq_some_iff.mp h
                  dsimp only at h
                  generalize hrt : site.returnType = rt at h
                  rcases rt with _ | rt
                  · cases h
                  cases rt with
                  | object iface =>
                    obtain ⟨⟨y1, y2, y3, y4⟩, -, h⟩ := Option.bind_eq_some_iff.mp h
                    obtain ⟨a1, -, h⟩ := Option.bind_eq_some_iff.mp h
                    obtain ⟨a2, -, h⟩ := Option.bind_eq_some_iff.mp h
                    obtain ⟨a3, -, h⟩ := Option.bind_eq_some_iff.mp h
                    obtain ⟨a4, -, h⟩ := Option.bind_eq_some_iff.mp h
                    obtain ⟨a5, -, h⟩ := Option.bind_eq_some_iff.mp h
                    have h := Option.some.inj h
                    exact ⟨b, nt, name, desc, site, rfl, hnt, hsite, by rw [← h]⟩
                  | _ => cases h
                | _ => cases h
              | _ => cases h
            | _ => cases h
          · cases h
        · exfalso
          revert h
          split
          · next hh => cases hh; exact absurd rfl hr
          · intro h; cases h
      | _ => cases h
    | _ => cases h
section LM5
variable {p : Program} {l : Launch} {e : Env} {R : Room} {s : State} {m : MethodId} {args : Array Value} {below : List Frame} {meth : Method} {c : Code} {T : State} {locs : List Loc} {cells slots : Nat}
theorem lm_getf {cK : ClassId} {a b : Addr} {cell : Cell} {cc : ByteArray} {pc : Nat} {ls : Array Slot} {H : Heap} {Q : State → Prop} {rest : List Value} (hexec : p.tables.exec = Jvm.exec) (hb : c.code = cc) (hdg : decode cc pc = .ok (.getfield 15, 3)) (hm : m.cls = cK)
    (hF : ∀ vm, s.WarmedH vm → ∃ f0 : Field, vm.fieldReady cK 15 cK f0 ∧ f0.isStatic = false ∧ f0.slot = 0) (hcell : H[a]? = some cell) (hvm : cell.vm = .none) (hslot : cell.slots[0]? = some (.ref b))
    (K : W p l e R s m args below meth c H locs cells slots Q (F0 m (pc + 3) ls (.ref b :: rest))) : W p l e R s m args below meth c H locs cells slots Q (F0 m pc ls (.ref a :: rest)) := by
  subst hm
  intro T hT X
  obtain ⟨t, k1, k2⟩ := K T hT X
  obtain ⟨f0, h1, h2, h3⟩ := hF T.vm X.warmed
  refine ⟨t, ?_, k2⟩
  jvm_step X.here [hexec, hb, hdg, getfield.wp_ready (e := e) (s := T) (c := m.cls) (field := f0) (a := a) (rest := rest) (cell := cell) (v := .ref b) (f := F0 m pc ls (.ref a :: rest)) X.here.top h1 h2 rfl (by rw [hT]; exact hcell) (by rw [hvm]; intro z; cases z) (by rw [h3]; exact hslot)]
  exact k1
/-- the target's call in the hidden method, kind 5 -/
theorem lm_callV {σ : Lambda.Shape} {bytes : List UInt8} {nL im ci nt n : Nat} {d1 : ClassId} {dk1 : Class} {y : MethodName} {ybytes : ByteArray} {ymax : Nat} {yret : Option FieldType} {ws : List Cond} {rm : Room} {Pc : Array Value → State → Prop} {Qc : Array Value → State → Outcome → State → Prop} {free : Addr → Prop} {b : Addr} {As rest : List Value} {cc : ByteArray} {pc : Nat} {ls : Array Slot} {H : Heap} {Q : State → Prop}
    (hexec : p.tables.exec = Jvm.exec) (hb : c.code = cc) (hdg : decode cc pc = .ok (.invokevirtual im, 3)) (hsz : ls.size = c.maxLocals) (hd1 : s.vm.classes[d1]? = some dk1) (hdn1 : dk1.name = "CircuitCells") (hmade : Lambda.isMade { classPath := fun _ => none } s.vm d1 σ m.cls = true) (himpl : σ.implClass = "CircuitCells" ∧ σ.implItf = false) (hok : lm_ok σ bytes nL im ci nt n = true)
    (hy : y = ⟨"CircuitCells", σ.implName, σ.implDesc.toString⟩) (hcode : (Cond.code y ybytes ymax yret).before args s = true) (hinst : (Cond.instanceMethod y).before args s = true) (hini : (Cond.initialized "CircuitCells").before args s = true) (hsel : (Cond.selects "CircuitCells" y y).before args s = true) (hlen : ∀ sig, parseMethodDescriptor y.desc = some sig → As.length = sig.parameters.length)
    (hB : ∃ cellB : Cell, H[b]? = some cellB ∧ cellB.vm.isStatics = false ∧ s.vm.findClass "CircuitCells" = some cellB.cls)
    (hM : Met l y ws rm Pc Qc 0 0 free) (hbl : FrameBlind Pc) (hrc : rm.cells = 0) (hrs : rm.slots = 0) (hws : ∀ w ∈ ws, ∀ (a' : Array Value) (U : State), s.WarmedH U.vm → w.before a' U = true) (hcw : Cond.code y ybytes ymax yret ∈ ws) (hfr : rm.frames + 1 ≤ R.frames) (hlo : 8 + (ymax + 11) + rm.locals ≤ R.locals) (hcl : cells ≤ R.cells) (hsl : slots ≤ R.slots) (hcat : (rest.map fun v => v.category).sum ≤ 8)
    (hpre : ∀ U : State, U.heap = H → s.WarmedH U.vm → Pc (Value.ref b :: As).toArray U)
    (K : ∀ (v : Option Value) (st₀ t : State) (L : List Loc) (H' : Heap), st₀.heap = H → t.heap = H' → Qc (Value.ref b :: As).toArray st₀ (.returned v) t → (∀ q ∈ L, free q.base) → W p l e R s m args below meth c H' (locs ++ L) cells slots Q (F0 m (pc + 3) ls (v.toList ++ rest))) : W p l e R s m args below meth c H locs cells slots Q (F0 m pc ls (As.reverse ++ .ref b :: rest)) := by
  subst hy
  intro T hT X
  have hK : Back l R p e below s args ⟨"CircuitCells", σ.implName, σ.implDesc.toString⟩ 3 8 (PreOf R 0 0 Pc) (PostOf Qc 0 0 free) := back_of (bytes := ybytes) (maxL := ymax) (ret := yret) hM hbl hrc hrs hfr hlo hws hcw (fun a' U hW => word_at hW (Or.inl (by first | rfl | simp [Cond.onTables, Cond.keeps, Cond.steady])) hini)
  obtain ⟨mk, hnamed⟩ := Cond.code_named hcode
  obtain ⟨methM, cM, hmethM, -, -, -, -, -, -, hsigM⟩ := Cond.code_spec hnamed hcode
  obtain ⟨mk2, methM2, hn2, hm2, hst2, hab2⟩ := Cond.instanceMethod_spec hinst
  cases hnamed.symm.trans hn2
  cases hmethM.symm.trans hm2
  obtain ⟨methk0, ck0, cls0, tk0, t0, k0, file0, -, -, -, -, -, -, -, -, -, -, -, -, g13, g14, -, g16, -⟩ := lm_facts hd1 hdn1 hmade himpl.1 hok
  obtain ⟨rfl, htc0, hpoly0⟩ := lm_named (s := s) (y := ⟨"CircuitCells", σ.implName, σ.implDesc.toString⟩) ⟨show "CircuitCells" ≠ _ by decide, show "CircuitCells" ≠ _ by decide⟩ hnamed g13 g14 g16
  obtain ⟨c2, r2, m2, s1, s2, s3, s4, -⟩ := Cond.selects_spec hsel
  cases hnamed.symm.trans s3
  have hr2 : r2 = t0 := by
    simp only [State.methodFound?, g13, g14, Option.bind_eq_bind, Option.bind_some, g16] at s2
    exact (Option.some.inj s2).symm
  subst hr2
  obtain ⟨cellB, hcB, hoB, hclB⟩ := hB
  cases s1.symm.trans hclB
  have hWT := X.warmed
  obtain ⟨dk2, hd2, e2⟩ := hWT.alike.2.2 _ _ hd1
  have hdn2 : dk2.name = "CircuitCells" := by rw [e2]; exact hdn1
  obtain ⟨methk, ck, cls, tk, t, k1, file1, h1, h2, h3, h4, h5, h6, h7, h8, h9, h10, h11, h12, h13, h14, h15, h16, h17, h18⟩ := lm_facts hd2 hdn2 (Lambda.isMade_warmer hWT hmade) himpl.1 hok
  have hnT : T.methodNamed? ⟨"CircuitCells", σ.implName, σ.implDesc.toString⟩ = some r2 := X.named hnamed
  obtain ⟨rfl, htc, hpoly⟩ := lm_named (s := T) (y := ⟨"CircuitCells", σ.implName, σ.implDesc.toString⟩) ⟨show "CircuitCells" ≠ _ by decide, show "CircuitCells" ≠ _ by decide⟩ hnT h13 h14 h16
  have hmT : T.vm.method? t = some methM := by rw [hWT.alike.method?]; exact hmethM
  have hselT : selectMethod e.platform T.vm cellB.cls t = .method t := by rw [hWT.alike.selectMethod, Launch.admits_selectMethod X.admits]; exact s4
  obtain ⟨v, B, X', hpost, hsteps⟩ := hK m meth c ⟨T, locs, cells, slots⟩ (F0 m pc ls rest) (.invokevirtual im) t (Value.ref b :: As).toArray X rfl hsz (by rw [hb]; exact hdg) (by simpa [JFrame.monitorRoom] using hcat) hnT ⟨hcl, hsl, hpre T hT hWT⟩
  obtain ⟨g', mk', t', L, p1, p2, p3, p4, p5, p6, p7⟩ := hpost
  obtain ⟨U', l2, c2, s2'⟩ := B
  dsimp only [Pt.U, Pt.locs, Pt.cells, Pt.slots] at X' p1 p2 p3 p4 p6 p7 hsteps
  subst p4
  subst p6
  subst p7
  obtain ⟨tE, stp, hQ⟩ := K v _ t' L U'.heap (by show (T.calling g' mk' (Value.ref b :: As).toArray).heap = H; exact hT) p1.symm p3 p5 U' rfl X'
  refine ⟨tE, ?_, hQ⟩
  jvm_step X.here [hexec, hb, hdg, invokevirtual.wp_ready (e := e) (s := T) (r := t) (m := t) (k := tk) (mk := tk) (rmeth := methM) (meth := methM) (a := b) (args := As) (rest := rest) (cell := cellB) (f := F0 m pc ls (As.reverse ++ .ref b :: rest)) X.here.top
    ⟨k1, file1, ci, nt, cls, tk, h1, h3, h4, h18, h14, by rw [h15]; exact himpl.2⟩ h17 (by rw [htc]; exact h14) hmT (hpoly _) hst2 (hlen _ hsigM) rfl (by rw [hT]; exact hcB) (fun c h => by rw [h] at hoB; cases hoB) hselT hmT hab2 (by rw [htc]; exact h14) (by rw [h15]; exact himpl.2)]
  intro acts
  rw [doInvoke_state]
  exact hsteps.trans stp
end LM5
def lm_code5 : ByteArray := ⟨#[0x2a, 0xb4, 0x00, 0x0f, 0x2b, 0xb6, 0x00, 0x16, 0xac]⟩
theorem lm_d50 : decode lm_code5 0 = .ok (.aload_n 0, 1) := by decide +kernel
theorem lm_d51 : decode lm_code5 1 = .ok (.getfield 15, 3) := by decide +kernel
theorem lm_d54 : decode lm_code5 4 = .ok (.aload_n 1, 1) := by decide +kernel
theorem lm_d55 : decode lm_code5 5 = .ok (.invokevirtual 22, 3) := by decide +kernel
theorem lm_d58 : decode lm_code5 8 = .ok (.ireturn, 1) := by decide +kernel
theorem lm_O {X : cx_X} (h : ∀ w ∈ lw_all, w.before X.2.2.2.2.1 X.2.2.1 = true) (vm : Vm) (hW : X.2.2.1.WarmedH vm) : ∀ o ok, vm.findClass "java/lang/Object" = some o → vm.classes[o]? = some ok → ok.instanceTypes.size = 0 := by
  obtain ⟨c, k, h1, h2, -, -, -, h3⟩ := Cond.instantiable_spec (h _ q3018)
  intro o ok ho hok
  rw [hW.alike.findClass] at ho
  cases h1.symm.trans ho
  obtain ⟨k', hk', e⟩ := hW.alike.2.2 _ _ h2
  cases hk'.symm.trans hok
  rw [e]
  exact h3
section LMR5
variable {l : Launch} {g : cx_G} {X : cx_X} {S : cx_S} {cc : ByteArray} {pc : Nat} {lv : List (Nat × Value)} {st : List Value} {M : cx_M} {k n : Nat} {Q : State → Prop}
theorem lm_siteM {x : MethodName} {pcx idx : Nat} {σ : Lambda.Shape} {cK : ClassId} (hk : cx_ok g X S cc) (hla : ∀ U, cx_K g U → lm_K x pcx idx σ cK none U) (hxc : x.cls = "CircuitCells") :
    ∃ (d : ClassId) (dk : Class), X.2.2.1.vm.classes[d]? = some dk ∧ dk.name = "CircuitCells" ∧ Lambda.isMade { classPath := fun _ => none } X.2.2.1.vm d σ cK = true ∧ X.2.2.1.lambdaCallable σ cK = true := by
  obtain ⟨m, k, cf, i0, p0, l0, a1, a2, -, -, -, -, a3, a4, -⟩ := State.lambdaAt?_spec (hla _ hk.2.2.2.2.2.2.2).1
  obtain ⟨kn, hkn, hnn⟩ := className_of_methodNamed a1
  cases a2.symm.trans hkn
  exact ⟨m.cls, k, a2, by rw [hnn]; exact hxc, a3, a4⟩
/-- a made object's cell, as a world has it -/
def lm_C (g : cx_G) (a : Nat) (cK : ClassId) (b : Nat) : Prop := ∀ M, ∃ q0 : Nat, (g.2.2.1 M)[q0]? = some (a, .inl (cK, 1, .inr (.inr (.inr (.inr (fun _ => some b))))))
theorem lm_cell {cK : ClassId} {b : Nat} : (vp_cell cK (1, .inr (.inr (.inr (.inr (fun _ => some b)))))).cls = cK ∧ (vp_cell cK (1, .inr (.inr (.inr (.inr (fun _ => some b)))))).vm = .none ∧ (vp_cell cK (1, .inr (.inr (.inr (.inr (fun _ => some b)))))).slots[0]? = some (.ref b) := ⟨rfl, rfl, rfl⟩
/-- a call of an object with a captured receiver, of one argument, an int comes back -/
theorem cq_lamV {x : MethodName} {pcx idx : Nat} {σ : Lambda.Shape} {cK : ClassId} {a b w : Addr} {y : MethodName} {cc' : ByteArray} {S' : cx_S} {index count ci nt nn : Nat} {o : Option cx_R} {F : cx_M → Int32 → Prop} (rest : List Value) {st0 : List Value}
    (h : cq_cal o F) (hM : ∀ rs', o = some rs' → cx_Met l g y cc' S' [.ref w, .ref b] M rs') (hla : ∀ U, cx_K g U → lm_K x pcx idx σ cK none U) (hC : lm_C g a cK w) (hW0 : cx_Rc g w "CircuitCells") (hok : lm_ok σ [0x2a, 0xb4, 0x00, 0x0f, 0x2b, 0xb6, 0x00, 0x16, 0xac] 2 22 ci nt nn = true) (hokF : lm_okF σ = true)
    (hσ : x.cls = "CircuitCells" ∧ (σ.implClass = "CircuitCells" ∧ σ.implItf = false) ∧ (σ.iface ≠ "java/lang/invoke/MethodHandle" ∧ σ.iface ≠ "java/lang/invoke/VarHandle") ∧ y = ⟨"CircuitCells", σ.implName, σ.implDesc.toString⟩ ∧ σ.sam.returnType = some .int ∧ (parseMethodDescriptor σ.sam.toString).map (fun d => d.parameters.length) = some 1 ∧ (parseMethodDescriptor y.desc).map (fun d => d.parameters.length) = some 1)
    (d : decode cc pc = .ok (.invokeinterface index count, 5)) (hml : Cond.methodLink S.2.1 index ⟨σ.iface, σ.name, σ.sam.toString⟩ ∈ lw_all) (hG : GoodIn lw_all (ws_ y cc' S'.1 S'.2.2.2.2.1)) (hinst : Cond.instanceMethod y ∈ lw_all) (hini : Cond.initialized "CircuitCells" ∈ lw_all) (hsel : Cond.selects "CircuitCells" y y ∈ lw_all) (hmo : S'.2.2.1 = cx_rI ∧ S'.2.2.2.1.cells = 0 ∧ S'.2.2.2.1.slots = 0)
    (hR : S'.2.2.2.1.frames + 2 ≤ S.2.2.2.1.frames ∧ 8 + 13 + (8 + (S'.1 + 11) + S'.2.2.2.1.locals) ≤ S.2.2.2.1.locals) (hf : k ≤ S.2.2.2.1.cells ∧ n ≤ S.2.2.2.1.slots) (hst : st0 = .ref b :: .ref a :: rest) (hcat : (rest.map fun v => v.category).sum ≤ 8)
    (K : ∀ M' r, F M' r → cq_V l g X S cc (pc + 5) lv (.int r :: rest) M' k n Q) : cq_V l g X S cc pc lv st0 M k n Q := by
  intro hk H locs ls hw hS hl T hT XT
  obtain ⟨rs', ho, h⟩ := cq_cal_some h
  have hMm := hM rs' ho
  unfold cx_Met at hMm
  rw [hmo.2.1, hmo.2.2] at hMm
  obtain ⟨h1, h2, h3, h4, h5, h6, h7⟩ := hσ
  subst hst
  obtain ⟨d0, dk, f1, f2, f3, f4⟩ := lm_siteM hk hla h1
  obtain ⟨q0, hq0⟩ := hC M
  have f5 : H[a]? = some (vp_cell cK (1, .inr (.inr (.inr (.inr (fun _ => some w)))))) := hw.1 q0 _ hq0
  obtain ⟨ciW, qW, TW, NW, hcW, hfW⟩ := hW0
  obtain ⟨fsW, hfW⟩ := hfW M
  have hrecv := va_recv hk.2.2.2.2.2.2.2.1 hw.1 hcW hfW
  obtain ⟨v, s1, t, T', L, p1, X', p2, p3, p4, p5, p6⟩ := lm_out (p := X.1) (l := l) (e := X.2.1) (R := S.2.2.2.1) (s := X.2.2.1) (m := X.2.2.2.1) (args := X.2.2.2.2.1) (below := X.2.2.2.2.2.1) (meth := X.2.2.2.2.2.2.1) (c := X.2.2.2.2.2.2.2) (T := T) (locs := locs) (cells := k) (slots := n)
    (own := S.2.1) (index := index) (count := count) (σ := σ) (d := d0) (cK := cK) (dk := dk) (As := [.ref b]) (rest := rest) (a := a) (g := F0 X.2.2.2.1 pc ls (.ref b :: .ref a :: rest)) (R' := { frames := S'.2.2.2.1.frames + 1, cells := 0, slots := 0, locals := 8 + (S'.1 + 11) + S'.2.2.2.1.locals })
    (Qa := fun st oc t => oc = .returned (some (.int rs'.2.1)) ∧ cx_w g rs'.1 t.heap ∧ va_F g.2.2.2.1 st t) (free := g.2.2.2.1)
    XT hk.1 hk.2.2.2.1 (hk.2.2.2.2.1 _ hml) (va_any rfl (hla _ hk.2.2.2.2.2.2.2).2.1) (va_any rfl (hla _ hk.2.2.2.2.2.2.2).2.2) h3 f1 f2 f3 f4 h2.1 hok (by rw [hT]; exact f5) rfl rfl rfl (by rw [hk.2.2.1]; exact hl.1) rfl (fun sig hs => by rw [hs] at h6; exact (Option.some.inj h6).symm)
    (by rw [hk.2.1]; exact d) (by simpa [JFrame.monitorRoom] using hcat) hR.1 hR.2 hf.1 hf.2 (fun s1 methk ck cls tk tt d1 dk1 hW hh HF e1 e2 e3 => by
      obtain ⟨k1, file1, -, -, -, -, -, -, -, g8, g9, g10, -, g12, -⟩ := HF
      rw [lg_entry_eq]
      have hl2 := lv_entry [.ref a, .ref b] (n := 2) (cx_le rfl)
      generalize ((lg_sl [Value.ref a, .ref b] ++ List.replicate (2 - (lg_sl [Value.ref a, .ref b]).length) Slot.unset).toArray) = ls2 at hl2
      refine lv_aload_n hk.1 g8 lm_d50 rfl (lv_at hl2 0 rfl) ?_
      refine lm_getf (cK := cK) (b := w) hk.1 g8 lm_d51 rfl (fun vm hvm => ?_) (by rw [hT]; exact f5) rfl rfl ?_
      · obtain ⟨dk2, hd2, e4⟩ := hvm.alike.2.2 _ _ e1
        obtain ⟨f0, kK, z1, z2, z3, -⟩ := lm_field hd2 (by rw [e4]; exact e2) (Lambda.isMade_warmer hvm e3) hokF (lm_O hk.2.2.2.2.1 vm (hW.trans hvm))
        exact ⟨f0, z1, z2, z3⟩
      refine lv_aload_n hk.1 g8 lm_d54 rfl (lv_at hl2 1 rfl) ?_
      refine lm_callV (n := nn) (b := w) (As := [.ref b]) (rest := []) (y := y) (ybytes := cc') (ymax := S'.1) (yret := S'.2.2.2.2.1) hk.1 g8 lm_d55 (by rw [g9]; exact hl2.1) e1 e2 e3 h2 hok h4 (word_at hW (hG _ (List.mem_cons_self)).2 (hk.2.2.2.2.1 _ (hG _ (List.mem_cons_self)).1)) (word_at hW (Or.inl rfl) (hk.2.2.2.2.1 _ hinst)) (word_at hW (Or.inl rfl) (hk.2.2.2.2.1 _ hini)) (word_at hW (Or.inl rfl) (hk.2.2.2.2.1 _ hsel))
        (fun sig hs => by rw [hs] at h7; exact (Option.some.inj h7).symm) ?_ hMm cx_blind hmo.2.1 hmo.2.2 (fun w hw a' U hU => pay_in hk.2.2.2.2.1 hG w hw a' U (hW.trans hU)) (List.mem_cons_self) (Nat.le_refl _) (Nat.le_refl _) (Nat.le_refl _) (Nat.le_refl _) (Nat.zero_le _)
        (fun U hU hWU => ⟨rfl, by rw [hU, hT]; exact hw, cx_K.warm hk.2.2.2.2.2.2.2 (hW.trans hWU) (by rw [hU, hT]; exact hS)⟩) ?_
      · obtain ⟨cb, c1, c2, c3⟩ := hrecv
        exact ⟨cb, by rw [hT]; exact c1, c2, by rw [hW.alike.findClass]; exact c3⟩
      intro v st0 t L H' q1 q2 q3 q4
      obtain ⟨q5, q6, q7⟩ := q3
      rw [hmo.1] at q5
      cases q5
      refine W.iret (free := g.2.2.2.1) hk.1 g8 (by rw [g12, h5]) (fun t2 ht2 hWt => ⟨rfl, by rw [ht2, ← q2]; exact q6, ?_⟩) (fun q hq => by simpa using q4 q (by simpa using hq)) lm_d58 (hlocks := g10)
      unfold va_F at q7 ⊢
      rw [ht2, ← q2, hh, ← q1]
      exact q7)
  exact cq_back5 hk hT p1 hS hl X' p2 p3 p5 p6 (K _ _ h)
/-- invokedynamic of a site without captured values -/
theorem cq_indyC {x : MethodName} {idx : Nat} {σ : Lambda.Shape} {cK : ClassId} {a : Addr} (hx : X.2.2.1.methodNamed? x = some X.2.2.2.1) (hla : ∀ U, cx_K g U → lm_K x pc idx σ cK (some a) U) (d : decode cc pc = .ok (.invokedynamic idx, 5)) (hlo : (st.map fun v => v.category).sum + 3072 ≤ S.2.2.2.1.locals)
    (K : cq_V l g X S cc (pc + 5) lv (.ref a :: st) M k n Q) : cq_V l g X S cc pc lv st M k n Q := by
  intro hk H locs ls hw hS hl T hT XT
  obtain ⟨m, kc, cf, i0, p0, l0, a1, a2, -, -, -, a6, -, -, a8⟩ := State.lambdaAt?_spec (hla _ hk.2.2.2.2.2.2.2).1
  cases hx.symm.trans a1
  rcases a8 with ⟨b, cell, rfl, c1, -⟩ | ⟨-, c1, -⟩
  · cases c1
    obtain ⟨t2, z1, z2⟩ := K hk H locs ls hw hS hl T hT XT
    exact ⟨t2, XT.lambdaConstant hk.1 (g := F0 X.2.2.2.1 pc ls st) rfl (by rw [hk.2.2.1]; exact hl.1) (by rw [hk.2.1]; exact d) a2 a6 (by
      have : X.2.1.platform.lambdaLinkWords = 3072 := by rw [XT.admits.platform]
      rw [this]
      simpa [JFrame.monitorRoom] using hlo) z1, z2⟩
  · cases c1
end LMR5
def cd_mk (bc bs k n t : Nat) (w : Nat) (M : cx_M) (P : dP) (L : dL) (F : Nat → cx_M → dP → dL → Nat → Nat → Prop) : Prop := k + 1 ≤ bc ∧ n + 1 ≤ bs ∧ ∀ a, (∀ x ∈ L, x.1 ≠ a) → F a (cx_set M (dc a) (fun _ => 0)) (dPs P a (fun _ => some w)) (L ++ [(a, (3, t, 1))]) (k + 1) (n + 1)
theorem dNewP {g : cx_G} {L : dL} {P : dP} {M : cx_M} {H1 : Heap} {a : Nat} {kd : dk} {e : va_E} {f : Nat → Int32} {pf : Nat → Option Nat} (hb : dB g) (he : e = dE g.2.1 kd f pf) (hP : va_P g.1 vwCl ((dG g L P).2.2.1 M ++ [(a, e)]) H1) (hD : va_D g.2.2.2.1 ((dG g L P).2.2.1 M ++ [(a, e)])) :
    (∀ x ∈ L, x.1 ≠ a) ∧ cx_w (dG g (L ++ [(a, kd)]) (dPs P a pf)) (cx_set M (dc a) f) H1 := by
  obtain ⟨z, hz⟩ := hb.1
  have hf : ∀ x ∈ L, x.1 ≠ a := by
    intro x hx ea
    obtain ⟨i, hi⟩ := List.mem_iff_getElem?.mp hx
    have hl : z + i < ((dG g L P).2.2.1 M).length := (List.getElem?_eq_some_iff.mp (dG_get (P := P) (M := M) hz hi)).1
    have h := hD.1 (z + i) ((dG g L P).2.2.1 M).length _ _ (by rw [List.getElem?_append_left hl]; exact dG_get hz hi) (by rw [List.getElem?_append_right (Nat.le_refl _), Nat.sub_self]; rfl) ea
    omega
  refine ⟨hf, ?_⟩
  have e1 : (dG g (L ++ [(a, kd)]) (dPs P a pf)).2.2.1 (cx_set M (dc a) f) = (dG g L P).2.2.1 M ++ [(a, e)] := by
    show g.2.2.1 (cx_set M (dc a) f) ++ dW g.2.1 (L ++ [(a, kd)]) (dPs P a pf) (cx_set M (dc a) f) = (g.2.2.1 M ++ dW g.2.1 L P M) ++ [(a, e)]
    rw [dB_set hb, List.append_assoc]
    congr 1
    show List.map _ (L ++ [(a, kd)]) = _
    rw [List.map_append]
    congr 1
    · exact dW_same (fun x hx => dC_set (hf x hx)) (fun x hx => by unfold dPs; rw [if_neg (hf x hx)])
    · show [(a, dE g.2.1 kd (cx_set M (dc a) f (dc a)) (dPs P a pf a))] = _
      rw [cx_set_cc, he]
      unfold dPs
      rw [if_pos rfl]
  exact ⟨by rw [e1]; exact hP, by rw [e1]; exact hD⟩
section LMD
variable {l : Launch} {g : cx_G} {L : dL} {P : dP} {X : cx_X} {S : cx_S} {cc : ByteArray} {pc : Nat} {lv : List (Nat × Value)} {st : List Value} {M : cx_M} {k n : Nat} {Q : State → Prop}
/-- invokedynamic of a site that captures one object: a new object -/
theorem cd_indyM {x : MethodName} {idx t bc bs : Nat} {w : Nat} {σ : Lambda.Shape} {F : Nat → cx_M → dP → dL → Nat → Nat → Prop} (hb : dB g) (h : cd_mk bc bs k n t w M P L F) (hB : S.2.2.2.1.cells = bc ∧ S.2.2.2.1.slots = bs) (hx : X.2.2.1.methodNamed? x = some X.2.2.2.1) (hxc : x.cls = "CircuitCells") (hcap : σ.captured = [.object "CircuitCells"]) (hokF : lm_okF σ = true)
    (hla : ∀ U, cx_K g U → lm_K x pc idx σ (g.2.1 t) none U) (d : decode cc pc = .ok (.invokedynamic idx, 5)) (hlo : (st.map fun v => v.category).sum + 3073 ≤ S.2.2.2.1.locals)
    (K : ∀ a M' P' L' k' n', F a M' P' L' k' n' → (k' ≤ bc ∧ n' ≤ bs) → cq_V l (dG g L' P') X S cc (pc + 5) lv (.ref a :: st) M' k' n' Q) : cq_V l (dG g L P) X S cc pc lv (.ref w :: st) M k n Q := by
  obtain ⟨h1, h2, h3⟩ := h
  intro hk H locs ls hw hS hl T hT XT
  obtain ⟨m, kc, cf, i0, p0, l0, a1, a2, a3, a4, -, a6, a7, -, a8⟩ := State.lambdaAt?_spec (hla _ hk.2.2.2.2.2.2.2).1
  cases hx.symm.trans a1
  rcases a8 with ⟨b, cell, -, c1, -⟩ | ⟨rfl, -, -⟩
  · cases c1
  obtain ⟨kn, hkn, hnn⟩ := className_of_methodNamed a1
  cases a2.symm.trans hkn
  obtain ⟨b0, nt, name, desc, site, s1, s2, s3, s4⟩ := lm_shape a4
  obtain ⟨f0, kK, -, -, -, y1, y2, y3⟩ := lm_field a2 (hnn.trans hxc) a7 hokF (lm_O hk.2.2.2.2.1 _ (State.WarmedH.refl _))
  have ez : (((kK.instanceTypes.toList.zip [Value.ref w]).map fun (t, v) => narrow t v).toArray) = #[Value.ref w] := by rw [y2]; rfl
  have ezl : ((kK.instanceTypes.toList.zip [Value.ref w]).map fun (t, v) => narrow t v).length = 1 := by rw [y2]; rfl
  obtain ⟨X1, st1⟩ := XT.lambdaMakes hk.1 (g := F0 X.2.2.2.1 pc ls (.ref w :: st)) rfl (by rw [hk.2.2.1]; exact hl.1) (by rw [hk.2.1]; exact d) a2 a6 a3 s1 s2 (parseLong_of_parse s3) (vals := [.ref w]) (rest := st) (by rw [s4, hcap]; rfl) rfl y1 (by
      have : X.2.1.platform.lambdaLinkWords = 3072 := by rw [XT.admits.platform]
      rw [this]
      show 2 * 0 + (1 + (st.map fun v => v.category).sum) + 3072 ≤ _
      omega) (by rw [hB.1]; exact h1) (by rw [ezl, hB.2]; exact h2) (fun i v hv => by
      rw [ez] at hv
      have hi : i < 1 := (Array.getElem?_eq_some_iff.mp hv).1
      have hi0 : i = 0 := by omega
      subst hi0
      cases hv
      simp [State.fitsSlot, State.slotType?, y1, y2, y3, fits])
  rw [ez] at X1 st1
  have hcell : ({ cls := g.2.1 t, slots := #[Value.ref w], vm := .none } : Cell) = vp_cell (g.2.1 t) (1, .inr (.inr (.inr (.inr (fun _ => some w))))) := rfl
  have hH1 : (T.pushCell { cls := g.2.1 t, slots := #[Value.ref w], vm := .none }).heap = H.push { cls := g.2.1 t, slots := #[Value.ref w], vm := .none } := by rw [← hT]; rfl
  have o1 : ∀ q, q < H.size → (H.push ({ cls := g.2.1 t, slots := #[Value.ref w], vm := .none } : Cell))[q]? = H[q]? := fun q hq => by rw [Array.getElem?_push, if_neg (Nat.ne_of_lt hq)]
  have hA : g.2.2.2.1 H.size := hb.2.2 _ hk.2.2.2.2.2.2.2 _ hS.1
  have hP := (hw.1.kept (H1 := H.push { cls := g.2.1 t, slots := #[Value.ref w], vm := .none }) (fun k x hx => o1 x.1 ((hw.1 k x hx).lt))).app (w2 := [(H.size, .inl (g.2.1 t, 1, .inr (.inr (.inr (.inr (fun _ => some w))))))]) (fun k x hx => by
    have hz : k < 1 := (List.getElem?_eq_some_iff.mp hx).1
    rw [show k = 0 by omega] at hx
    cases hx
    show (H.push _)[H.size]? = some (vp_cell _ _)
    rw [← hcell]
    simp)
  have hD := hw.2.push hw.1 rfl hA (e := .inl (g.2.1 t, 1, .inr (.inr (.inr (.inr (fun _ => some w))))))
  obtain ⟨hf, hw1⟩ := dNewP (g := g) (L := L) (P := P) (kd := (3, t, 1)) (f := fun _ => 0) (pf := fun _ => some w) hb rfl hP hD
  obtain ⟨t2, z1, z2⟩ := K H.size _ _ _ _ _ (h3 H.size hf) ⟨h1, h2⟩ hk (H.push { cls := g.2.1 t, slots := #[Value.ref w], vm := .none }) locs ls hw1 ⟨Nat.le_trans hS.1 (by simp), fun x h1 h2 => (o1 x (Nat.lt_of_lt_of_le h1 hS.1)).trans (hS.2.1 x h1 h2), hS.2.2⟩ hl (T.pushCell { cls := g.2.1 t, slots := #[Value.ref w], vm := .none }) hH1 X1
  refine ⟨t2, st1 t2 ?_, z2⟩
  rw [hT]
  exact z1
end LMD
