section CQXW
variable {l : Launch} {g : cx_G} {L : dL} {P : dP} {X : cx_X} {S : cx_S} {cc : ByteArray} {pc : Nat} {lv : List (Nat × Value)} {st : List Value} {M : cx_M} {k n : Nat} {Q : State → Prop} {Qp : cd_Qt} {rv0 : Int32 → Option Nat → Option Value}
theorem cd_runXh {rv : Int32 → Option Nat → Option Value} {rest st0 : List Value} {a : Array Value} {mc ms : Nat} {F : cd_Qt} (hout : ∀ x ∈ X.2.2.2.2.2.2.2.exceptionTable.toList, covers x pc = false) (hf : k + mc ≤ S.2.2.2.1.cells ∧ n + ms ≤ S.2.2.2.1.slots)
    (hk : cx_ok (dG g L P) X S cc) {H : Heap} {locs : List Loc} {ls : Array Slot} (hS : va_S g.2.2.2.1 X.2.2.1.heap H locs) (hl : lv_has ls S.1 lv)
    (hr : xe_Run X.1 l X.2.1 S.2.2.2.1 X.2.2.1 X.2.2.2.1 X.2.2.2.2.1 X.2.2.2.2.2.1 X.2.2.2.2.2.2.1 X.2.2.2.2.2.2.2 H locs k n mc ms (F0 X.2.2.2.1 pc ls st0) rest (cd_Q g rv mc ms F a) (cd_XC g mc ms F) g.2.2.2.1)
    (K : ∀ (M' : cx_M) (P' : dP) (L' : dL) (x : Int32) (r : Option Nat) (k' n' : Nat), (k' ≤ mc ∧ n' ≤ ms) → F M' P' L' x r 0 k' n' → cq_V l (dG g L' P') X S cc (pc + 3) lv ((rv x r).toList ++ rest) M' (k + k') (n + n') (cd_finX g X S rv0 Qp))
    (hx : ∀ (M' : cx_M) (P' : dP) (L' : dL) (x : Int32) (e k' n' : Nat), e ≠ 0 → F M' P' L' x none e k' n' → Qp M' P' L' x none e (k + k') (n + n')) :
    W X.1 l X.2.1 S.2.2.2.1 X.2.2.1 X.2.2.2.1 X.2.2.2.2.1 X.2.2.2.2.2.1 X.2.2.2.2.2.2.1 X.2.2.2.2.2.2.2 H locs k n (cd_finX g X S rv0 Qp) (F0 X.2.2.2.1 pc ls st0) := by
  intro T hT XT
  have sz1 := cd_szOf XT.same
  rw [hT] at sz1
  rcases hr T hT XT with ⟨v, st₀, t, T', L1, h0, X', hL, e1, e2, ⟨M', P', L', x, r, k', n', hq, hv, hw', ⟨hz, hq2⟩, hsz, hbb⟩, stp⟩ | ⟨q, st₀, t, T', L1, E, ce, h0, X', hL, e1, e2, ⟨M', P', L', x, e, k', n', hq, hne, hE, hw', ⟨hz, hq2⟩, hsz, hbb, hfl⟩, hce, hcv, hcl, stp⟩
  · cases hv
    rw [h0] at hz hq2 hsz
    have sz := cd_szT sz1 hsz
    rw [← e1] at sz
    obtain ⟨t2, a1, b1⟩ := K M' P' L' x r k' n' hbb hq hk T'.heap (locs ++ L1) ls (by rw [e1]; exact hw')
      ⟨Nat.le_trans hS.1 (by rw [e1]; exact hz), fun q h1 h2 => by rw [e1, hq2 q (Nat.lt_of_lt_of_le h1 hS.1) h2]; exact hS.2.1 q h1 h2, fun q hq => by
        rcases List.mem_append.mp hq with h | h
        · exact hS.2.2 q h
        · exact hL q h⟩ hl T' rfl (cd_stand X' sz)
    exact ⟨t2, stp t2 a1, b1⟩
  · rw [h0] at hz hq2 hsz
    have sz := cd_szT sz1 hsz
    have out := xe_out (p := X.1) (l := l) (e := X.2.1) (R := S.2.2.2.1) (s := X.2.2.1) (m := X.2.2.2.1) (args := X.2.2.2.2.1) (below := X.2.2.2.2.2.1) (meth := X.2.2.2.2.2.2.1) (c := X.2.2.2.2.2.2.2) (H := T'.heap) (locs := locs ++ L1) (cells := k + mc) (slots := n + ms) (pc := pc) (ls := ls) (rest := rest) (E := E) (ce := ce) (q := q) (mc := S.2.2.2.1.cells) (ms := S.2.2.2.1.slots) (free := g.2.2.2.1) (Qc := cd_Q g rv0 S.2.2.2.1.cells S.2.2.2.1.slots Qp) (XC := cd_XC g S.2.2.2.1.cells S.2.2.2.1.slots Qp)
      hout hk.2.2.2.2.2.1.1 (by rw [e1]; exact hce) hcv hcl
      (fun t2 ht2 hA => ⟨M', P', L', x, e, k + k', n + n', hx M' P' L' x e k' n' hne hq, hne, hE, by rw [ht2, e1]; exact hw', ⟨by rw [ht2, e1]; exact Nat.le_trans hS.1 hz, fun a h1 h2 => by rw [ht2, e1, hq2 a (Nat.lt_of_lt_of_le h1 hS.1) h2]; exact hS.2.1 a h1 h2⟩, by rw [ht2, e1]; exact sz, ⟨Nat.le_trans (Nat.add_le_add_left hbb.1 _) hf.1, Nat.le_trans (Nat.add_le_add_left hbb.2 _) hf.2⟩, hfl⟩)
      (fun z hz => by
        rcases List.mem_append.mp hz with h | h
        · exact hS.2.2 z h
        · exact hL z h) hf.1 hf.2
    obtain ⟨t2, a1, b1⟩ := out T' rfl X'
    exact ⟨t2, Steps.trans stp a1, b1⟩
theorem cd_xSh {rv : Int32 → Option Nat → Option Value} {y : MethodName} {cc' : ByteArray} {S' : cx_S} {index : Nat} {F : cd_Qt} (As rest : List Value) {st0 : List Value} (hM : cd_MetX l g y cc' S' rv As M P L F)
    (d : decode cc pc = .ok (.invokestatic index, 3)) (hG : GoodIn lw_all (va_wsS S.2.1 index y (ws_ y cc' S'.1 S'.2.2.2.2.1))) (hd : y.cls ≠ "java/lang/invoke/MethodHandle" ∧ y.cls ≠ "java/lang/invoke/VarHandle" ∧ (parseMethodDescriptor y.desc).map (fun d => d.parameters.length) = some As.length)
    (hR : S'.2.2.2.1.frames + 1 ≤ S.2.2.2.1.frames ∧ 8 + (S'.1 + 11) + S'.2.2.2.1.locals ≤ S.2.2.2.1.locals) (hf : k + S'.2.2.2.1.cells ≤ S.2.2.2.1.cells ∧ n + S'.2.2.2.1.slots ≤ S.2.2.2.1.slots) (hst : st0 = As.reverse ++ rest) (hcat : (rest.map fun v => v.category).sum ≤ 8) (hout : ∀ x ∈ X.2.2.2.2.2.2.2.exceptionTable.toList, covers x pc = false)
    (hx : ∀ (M' : cx_M) (P' : dP) (L' : dL) (x : Int32) (e k' n' : Nat), e ≠ 0 → F M' P' L' x none e k' n' → Qp M' P' L' x none e (k + k') (n + n'))
    (K : ∀ (M' : cx_M) (P' : dP) (L' : dL) (x : Int32) (r : Option Nat) (k' n' : Nat), (k' ≤ S'.2.2.2.1.cells ∧ n' ≤ S'.2.2.2.1.slots) → F M' P' L' x r 0 k' n' → cq_V l (dG g L' P') X S cc (pc + 3) lv ((rv x r).toList ++ rest) M' (k + k') (n + n') (cd_finX g X S rv0 Qp)) : cq_V l (dG g L P) X S cc pc lv st0 M k n (cd_finX g X S rv0 Qp) := by
  intro hk H locs ls hw hS hl
  subst hst
  exact cd_runXh hout hf hk hS hl (xe_runS ⟨hk.1, hk.2.1, hk.2.2.1, hk.2.2.2.1, hk.2.2.2.2.1⟩ hM (va_cwS As.length hk.2.2.2.2.1 hG rfl rfl rfl hd hR) ⟨cd_blind, fun U hU hW => ⟨rfl, by rw [hU]; exact hw, cx_K.warm (g := g) hk.2.2.2.2.2.2.2 hW (by rw [hU]; exact hS)⟩⟩ rfl rfl hl.1 rfl (lv_room hcat) d hf) K hx
theorem cd_runC {rv : Int32 → Option Nat → Option Value} {rest st0 : List Value} {a : Array Value} {mc ms : Nat} {F : cd_Qt} {hpc : Nat} {x0 : ExceptionTableEntry} (hsplit : X.2.2.2.2.2.2.2.exceptionTable.toList = [x0]) (hcov : covers x0 pc = true) (hct : x0.catchType ≠ 0) (hcl9 : Cond.classLink S.2.1 x0.catchType "CircuitCells$Fault" ∈ lw_all) (hh : x0.handlerPc = hpc) (hf : k + mc ≤ S.2.2.2.1.cells ∧ n + ms ≤ S.2.2.2.1.slots)
    (hk : cx_ok (dG g L P) X S cc) {H : Heap} {locs : List Loc} {ls : Array Slot} (hS : va_S g.2.2.2.1 X.2.2.1.heap H locs) (hl : lv_has ls S.1 lv)
    (hr : xe_Run X.1 l X.2.1 S.2.2.2.1 X.2.2.1 X.2.2.2.1 X.2.2.2.2.1 X.2.2.2.2.2.1 X.2.2.2.2.2.2.1 X.2.2.2.2.2.2.2 H locs k n mc ms (F0 X.2.2.2.1 pc ls st0) rest (cd_Q g rv mc ms F a) (cd_XC g mc ms F) g.2.2.2.1)
    (K : ∀ (M' : cx_M) (P' : dP) (L' : dL) (x : Int32) (r : Option Nat) (k' n' : Nat), (k' ≤ mc ∧ n' ≤ ms) → F M' P' L' x r 0 k' n' → cq_V l (dG g L' P') X S cc (pc + 3) lv ((rv x r).toList ++ rest) M' (k + k') (n + n') Q)
    (hx : ∀ (M' : cx_M) (P' : dP) (L' : dL) (x : Int32) (e k' n' q : Nat), (k' ≤ mc ∧ n' ≤ ms) → e ≠ 0 → F M' P' L' x none e k' n' → 10 ≤ e ∧ (((q, (0, 5, 0)) ∈ L' ∧ M' (dc q) 6 = nI (e - 10) ∧ M' (dc q) 7 = x) → cq_V l (dG g L' P') X S cc hpc lv [.ref q] M' (k + k') (n + n') Q)) :
    W X.1 l X.2.1 S.2.2.2.1 X.2.2.1 X.2.2.2.1 X.2.2.2.2.1 X.2.2.2.2.2.1 X.2.2.2.2.2.2.1 X.2.2.2.2.2.2.2 H locs k n Q (F0 X.2.2.2.1 pc ls st0) := by
  intro T hT XT
  have sz1 := cd_szOf XT.same
  rw [hT] at sz1
  rcases hr T hT XT with ⟨v, st₀, t, T', L1, h0, X', hL, e1, e2, ⟨M', P', L', x, r, k', n', hq, hv, hw', ⟨hz, hq2⟩, hsz, hbb⟩, stp⟩ | ⟨q, st₀, t, T', L1, E, ce, h0, X', hL, e1, e2, ⟨M', P', L', x, e, k', n', hq, hne, hE, hw', ⟨hz, hq2⟩, hsz, hbb, hfl⟩, hce, hcv, hcl, stp⟩
  · cases hv
    rw [h0] at hz hq2 hsz
    have sz := cd_szT sz1 hsz
    rw [← e1] at sz
    obtain ⟨t2, a1, b1⟩ := K M' P' L' x r k' n' hbb hq hk T'.heap (locs ++ L1) ls (by rw [e1]; exact hw')
      ⟨Nat.le_trans hS.1 (by rw [e1]; exact hz), fun q h1 h2 => by rw [e1, hq2 q (Nat.lt_of_lt_of_le h1 hS.1) h2]; exact hS.2.1 q h1 h2, fun q hq => by
        rcases List.mem_append.mp hq with h | h
        · exact hS.2.2 q h
        · exact hL q h⟩ hl T' rfl (cd_stand X' sz)
    exact ⟨t2, stp t2 a1, b1⟩
  · rw [h0] at hz hq2 hsz
    have sz := cd_szT sz1 hsz
    have hsz2 : va_S g.2.2.2.1 X.2.2.1.heap T'.heap (locs ++ L1) := ⟨Nat.le_trans hS.1 (by rw [e1]; exact hz), fun q h1 h2 => by rw [e1, hq2 q (Nat.lt_of_lt_of_le h1 hS.1) h2]; exact hS.2.1 q h1 h2, fun q hq => by
        rcases List.mem_append.mp hq with h | h
        · exact hS.2.2 q h
        · exact hL q h⟩
    obtain ⟨h10, KH⟩ := hx M' P' L' x e k' n' q hbb hne hq
    have hE : E = "CircuitCells$Fault" := hE.trans (cx_exn10 h10)
    subst hE
    subst hh
    have out := xe_catch (p := X.1) (l := l) (e := X.2.1) (R := S.2.2.2.1) (s := X.2.2.1) (m := X.2.2.2.1) (args := X.2.2.2.2.1) (below := X.2.2.2.2.2.1) (meth := X.2.2.2.2.2.2.1) (c := X.2.2.2.2.2.2.2) (H := T'.heap) (locs := locs ++ L1) (cells := k + k') (slots := n + n') (pc := pc) (ls := ls) (rest := rest) (E := "CircuitCells$Fault") (name := "CircuitCells$Fault") (own := S.2.1) (ce := ce) (q := q) (Q := Q) hk.2.2.2.1 [] x0 [] hsplit (fun z hz => nomatch hz) hcov hct (hk.2.2.2.2.1 _ hcl9) (va_Nw.use rfl (hk.2.2.2.2.2.2.2.2.1 _ q1496 rfl)) (by rw [e1]; exact hce) hcv hcl
      (KH (hfl h10) hk T'.heap (locs ++ L1) ls (by rw [e1]; exact hw') hsz2 hl)
    rw [← e1] at sz
    obtain ⟨t2, a1, b1⟩ := out T' rfl (cd_stand X' sz)
    exact ⟨t2, Steps.trans stp a1, b1⟩
theorem cd_xVC {rv : Int32 → Option Nat → Option Value} {y : MethodName} {cc' : ByteArray} {S' : cx_S} {b index : Nat} {C : String} {F : cd_Qt} (As rest : List Value) {st0 : List Value} (hM : cd_MetX l g y cc' S' rv (.ref b :: As) M P L F) (hB : cx_Rc (dG g L P) b C)
    (d : decode cc pc = .ok (.invokevirtual index, 3)) (hG : GoodIn lw_all (wsV S.2.1 index C y (ws_ y cc' S'.1 S'.2.2.2.2.1))) (hd : y.cls = C ∧ y.cls ≠ "java/lang/invoke/MethodHandle" ∧ y.cls ≠ "java/lang/invoke/VarHandle" ∧ (parseMethodDescriptor y.desc).map (fun d => d.parameters.length) = some As.length)
    (hR : S'.2.2.2.1.frames + 1 ≤ S.2.2.2.1.frames ∧ 8 + (S'.1 + 11) + S'.2.2.2.1.locals ≤ S.2.2.2.1.locals) (hf : k + S'.2.2.2.1.cells ≤ S.2.2.2.1.cells ∧ n + S'.2.2.2.1.slots ≤ S.2.2.2.1.slots) (hst : st0 = As.reverse ++ .ref b :: rest) (hcat : (rest.map fun v => v.category).sum ≤ 8) {hpc : Nat} {x0 : ExceptionTableEntry} (hsplit : X.2.2.2.2.2.2.2.exceptionTable.toList = [x0]) (hcov : covers x0 pc = true) (hct : x0.catchType ≠ 0) (hcl9 : Cond.classLink S.2.1 x0.catchType "CircuitCells$Fault" ∈ lw_all) (hh : x0.handlerPc = hpc)
    (hx : ∀ (M' : cx_M) (P' : dP) (L' : dL) (x : Int32) (e k' n' q : Nat), (k' ≤ S'.2.2.2.1.cells ∧ n' ≤ S'.2.2.2.1.slots) → e ≠ 0 → F M' P' L' x none e k' n' → 10 ≤ e ∧ (((q, (0, 5, 0)) ∈ L' ∧ M' (dc q) 6 = nI (e - 10) ∧ M' (dc q) 7 = x) → cq_V l (dG g L' P') X S cc hpc lv [.ref q] M' (k + k') (n + n') Q))
    (K : ∀ (M' : cx_M) (P' : dP) (L' : dL) (x : Int32) (r : Option Nat) (k' n' : Nat), (k' ≤ S'.2.2.2.1.cells ∧ n' ≤ S'.2.2.2.1.slots) → F M' P' L' x r 0 k' n' → cq_V l (dG g L' P') X S cc (pc + 3) lv ((rv x r).toList ++ rest) M' (k + k') (n + n') Q) : cq_V l (dG g L P) X S cc pc lv st0 M k n Q := by
  intro hk H locs ls hw hS hl
  obtain ⟨ci, q0, T, N, hc, hfs⟩ := hB
  obtain ⟨fs, hfs⟩ := hfs M
  subst hst
  exact cd_runC hsplit hcov hct hcl9 hh hf hk hS hl (xe_runV ⟨hk.1, hk.2.1, hk.2.2.1, hk.2.2.2.1, hk.2.2.2.2.1⟩ hM (cwV As.length hk.2.2.2.2.1 hG rfl rfl rfl hd hR) ⟨cd_blind, va_recv hk.2.2.2.2.2.2.2.1 hw.1 hc hfs, fun U hU hW => ⟨rfl, by rw [hU]; exact hw, cx_K.warm (g := g) hk.2.2.2.2.2.2.2 hW (by rw [hU]; exact hS)⟩⟩ rfl rfl hl.1 rfl (lv_room hcat) d hf) K hx
end CQXW
theorem xe_ofWH {l : Launch} {y : MethodName} {ws ws' : List Cond} {rm : Room} {Pc : Array Value → State → Prop} {Qc : Array Value → State → Outcome → State → Prop} {XC : String → Addr → State → State → Prop} {mc ms : Nat} {free : Addr → Prop} {cc : ByteArray} {maxL : Nat} {ret : Option FieldType} {hh : List (Nat × Nat × Nat × Nat)}
    (hy : plainName y.cls = true) (hw : ws = Cond.codeWith y cc maxL ret hh :: ws')
    (body : ∀ p e s m args below meth c s₁, BodyLoose p l y (headSpec ws rm) cc maxL ret e s m args below meth c s₁ → c.maxLocals = maxL → Pc args s →
      W p l e (headSpec ws rm).room s m args below meth c s.heap [] 0 0 (xe_MQ below Qc XC args s mc ms free) (entryFrame m args maxL)) : xe_Met l y ws rm Pc Qc XC mc ms free := by
  refine MetFree.of_bodyS (code := cc) (maxLocals := maxL) (ret := ret) hy ?_ ?_
  · intro args s m h hn
    obtain ⟨m9, meth, c, hn9, h1, h2, h3, h4, -, h5, h6, -⟩ := Cond.codeWith_spec (atoms_spec (ws := ws) h _ (by rw [hw]; exact List.mem_cons_self))
    cases hn.symm.trans hn9
    exact ⟨meth, c, h1, h2, h3, h4, h5, h6⟩
  · intro p e s m args below meth c s₁ B hml hP _
    have hh0 : s₁.heap = s.heap := by rw [B.state]; rfl
    obtain ⟨t, a1, o, b1, b2, b3⟩ := body p e s m args below meth c s₁ B hml hP s₁ hh0 (Stand.of_body B)
    exact ⟨t, o, a1, b1, b2, b3⟩

def cd_MetH (l : Launch) (g : cx_G) (y : MethodName) (cc : ByteArray) (hh : List (Nat × Nat × Nat × Nat)) (S : cx_S) (rv : Int32 → Option Nat → Option Value) (args : List Value) (M : cx_M) (P : dP) (L : dL) (Qp : cd_Qt) : Prop :=
  xe_Met l y (wsW_ y cc S.1 S.2.2.2.2.1 hh) S.2.2.2.1 (va_Pc args (fun U => cx_w (dG g L P) M U.heap ∧ cx_K g U)) (cd_Q g rv S.2.2.2.1.cells S.2.2.2.1.slots Qp) (cd_XC g S.2.2.2.1.cells S.2.2.2.1.slots Qp) S.2.2.2.1.cells S.2.2.2.1.slots g.2.2.2.1
theorem cd_metH {l : Launch} {g : cx_G} {y : MethodName} {cc : ByteArray} {hh : List (Nat × Nat × Nat × Nat)} {S : cx_S} {rv : Int32 → Option Nat → Option Value} {args : List Value} {M : cx_M} {P : dP} {L : dL} {Qp : cd_Qt} (hy : plainName y.cls = true) (hown : y.cls = S.2.1) (hmo : S.2.2.2.2.2 = false) (hcw : Cond.codeWith y cc S.1 S.2.2.2.2.1 hh ∈ lw_all) {lv : List (Nat × Value)} (hlv : lv_args 0 args = lv) (hsz : (lg_sl args).length ≤ S.1)
    (body : ∀ X : cx_X, X.2.2.2.2.2.2.2.exceptionTable.toList = tableOf hh → cq_V l (dG g L P) X S cc 0 lv [] M 0 0 (cd_finX g X S rv Qp)) : cd_MetH l g y cc hh S rv args M P L Qp := by
  refine xe_ofWH (cc := cc) (maxL := S.1) (ret := S.2.2.2.2.1) (hh := hh) hy rfl ?_
  intro p e s m args' below meth c s₁ B hml hv
  obtain ⟨rfl, hw, hK⟩ := hv
  have hts := atoms_spec (ws := wsW_ y cc S.1 S.2.2.2.2.1 hh) B.pre
  have hts : ∀ w ∈ lw_all, w.before _ s = true := fun w h => hts w (List.mem_cons_of_mem _ h)
  have hownc : s.vm.findClass S.2.1 = some m.cls := by rw [← hown]; exact findClass_of_methodNamed B.named
  rw [lg_entry_eq]
  exact body (p, e, s, m, _, below, meth, c) (xe_table (x := y) B (hts _ hcw)) ⟨B.exec, B.bytes, hml, hownc, hts, ⟨B.notSynchronized, fun h => by rw [hmo] at h; cases h⟩, B.returns, hK⟩ s.heap [] _ hw va_S.rf (hlv ▸ lv_entry args hsz)
