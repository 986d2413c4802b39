/-! DYNAMIC WORLDS: methods that may throw -/
def cd_XC (g : cx_G) (bc bs : Nat) (Qp : cd_Qt) : String → Addr → State → State → Prop := fun E q st t => ∃ (M : cx_M) (P : dP) (L : dL) (x : Int32) (e k n : Nat), Qp M P L x none e k n ∧ e ≠ 0 ∧ E = cx_exn e ∧ cx_w (dG g L P) M t.heap ∧ va_F g.2.2.2.1 st t ∧ cd_sz st.heap t.heap k n ∧ (k ≤ bc ∧ n ≤ bs) ∧
  (10 ≤ e → (q, (0, 5, 0)) ∈ L ∧ M (dc q) 6 = nI (e - 10) ∧ M (dc q) 7 = x)
def cd_finX (g : cx_G) (X : cx_X) (S : cx_S) (rv : Int32 → Option Nat → Option Value) (Qp : cd_Qt) : State → Prop := xe_MQ X.2.2.2.2.2.1 (cd_Q g rv S.2.2.2.1.cells S.2.2.2.1.slots Qp) (cd_XC g S.2.2.2.1.cells S.2.2.2.1.slots Qp) X.2.2.2.2.1 X.2.2.1 S.2.2.2.1.cells S.2.2.2.1.slots g.2.2.2.1
def cd_MetX (l : Launch) (g : cx_G) (y : MethodName) (cc : ByteArray) (S : cx_S) (rv : Int32 → Option Nat → Option Value) (args : List Value) (M : cx_M) (P : dP) (L : dL) (Qp : cd_Qt) : Prop :=
  xe_Met l y (ws_ y cc S.1 S.2.2.2.2.1) S.2.2.2.1 (va_Pc args (fun U => cx_w (dG g L P) M U.heap ∧ cx_K g U)) (cd_Q g rv S.2.2.2.1.cells S.2.2.2.1.slots Qp) (cd_XC g S.2.2.2.1.cells S.2.2.2.1.slots Qp) S.2.2.2.1.cells S.2.2.2.1.slots g.2.2.2.1
theorem cd_metX {l : Launch} {g : cx_G} {y : MethodName} {cc : ByteArray} {S : cx_S} {rv : Int32 → Option Nat → Option Value} {args : List Value} {M : cx_M} {P : dP} {L : dL} {Qp : cd_Qt} (hy : plainName y.cls = true) (hown : y.cls = S.2.1) (hmo : S.2.2.2.2.2 = true) {lv : List (Nat × Value)} (hlv : lv_args 0 args = lv) (hsz : (lg_sl args).length ≤ S.1)
    (body : ∀ X : cx_X, True → cq_V l (dG g L P) X S cc 0 lv [] M 0 0 (cd_finX g X S rv Qp)) : cd_MetX l g y cc S rv args M P L Qp := by
  refine xe_ofW (cc := cc) (maxL := S.1) (ret := S.2.2.2.2.1) hy rfl ?_
  intro p e s m args' below meth c s₁ B hml hex hv
  obtain ⟨rfl, hw, hK⟩ := hv
  have hts := atoms_spec (ws := ws_ y cc S.1 S.2.2.2.2.1) B.pre
  have hts : ∀ w ∈ lw_all, w.before _ s = true := fun w h => hts w (List.mem_cons_of_mem _ h)
  have hownc : s.vm.findClass S.2.1 = some m.cls := by rw [← hown]; exact findClass_of_methodNamed B.named
  rw [lg_entry_eq]
  exact body (p, e, s, m, _, below, meth, c) trivial ⟨B.exec, B.bytes, hml, hownc, hts, ⟨B.notSynchronized, fun _ => hex⟩, B.returns, hK⟩ s.heap [] _ hw va_S.rf (hlv ▸ lv_entry args hsz)
section CQX
variable {l : Launch} {g : cx_G} {L : dL} {P : dP} {X : cx_X} {S : cx_S} {cc : ByteArray} {pc : Nat} {lv : List (Nat × Value)} {st : List Value} {M : cx_M} {k n : Nat} {Q : State → Prop} {Qp : cd_Qt} {rv0 : Int32 → Option Nat → Option Value}
theorem cd_toX (h : cq_V l (dG g L P) X S cc pc lv st M k n (cd_fin g X S rv0 Qp)) : cq_V l (dG g L P) X S cc pc lv st M k n (cd_finX g X S rv0 Qp) := fun hk H locs ls hw hS hl => xe_ret (h hk H locs ls hw hS hl)
theorem cd_runX {rv : Int32 → Option Nat → Option Value} {rest st0 : List Value} {a : Array Value} {mc ms : Nat} {F : cd_Qt} (hmo : S.2.2.2.2.2 = true) (hf : k + mc ≤ S.2.2.2.1.cells ∧ n + ms ≤ S.2.2.2.1.slots)
    (hk : cx_ok (dG g L P) X S cc) {H : Heap} {locs : List Loc} {ls : Array Slot} (hS : va_S g.2.2.2.1 X.2.2.1.heap H locs) (hl : lv_has ls S.1 lv)
    (hr : xe_Run X.1 l X.2.1 S.2.2.2.1 X.2.2.1 X.2.2.2.1 X.2.2.2.2.1 X.2.2.2.2.2.1 X.2.2.2.2.2.2.1 X.2.2.2.2.2.2.2 H locs k n mc ms (F0 X.2.2.2.1 pc ls st0) rest (cd_Q g rv mc ms F a) (cd_XC g mc ms F) g.2.2.2.1)
    (K : ∀ (M' : cx_M) (P' : dP) (L' : dL) (x : Int32) (r : Option Nat) (k' n' : Nat), (k' ≤ mc ∧ n' ≤ ms) → F M' P' L' x r 0 k' n' → cq_V l (dG g L' P') X S cc (pc + 3) lv ((rv x r).toList ++ rest) M' (k + k') (n + n') (cd_finX g X S rv0 Qp))
    (hx : ∀ (M' : cx_M) (P' : dP) (L' : dL) (x : Int32) (e k' n' : Nat), e ≠ 0 → F M' P' L' x none e k' n' → Qp M' P' L' x none e (k + k') (n + n')) :
    W X.1 l X.2.1 S.2.2.2.1 X.2.2.1 X.2.2.2.1 X.2.2.2.2.1 X.2.2.2.2.2.1 X.2.2.2.2.2.2.1 X.2.2.2.2.2.2.2 H locs k n (cd_finX g X S rv0 Qp) (F0 X.2.2.2.1 pc ls st0) := by
  intro T hT XT
  have sz1 := cd_szOf XT.same
  rw [hT] at sz1
  rcases hr T hT XT with ⟨v, st₀, t, T', L1, h0, X', hL, e1, e2, ⟨M', P', L', x, r, k', n', hq, hv, hw', ⟨hz, hq2⟩, hsz, hbb⟩, stp⟩ | ⟨q, st₀, t, T', L1, E, ce, h0, X', hL, e1, e2, ⟨M', P', L', x, e, k', n', hq, hne, hE, hw', ⟨hz, hq2⟩, hsz, hbb, hfl⟩, hce, hcv, hcl, stp⟩
  · cases hv
    rw [h0] at hz hq2 hsz
    have sz := cd_szT sz1 hsz
    rw [← e1] at sz
    obtain ⟨t2, a1, b1⟩ := K M' P' L' x r k' n' hbb hq hk T'.heap (locs ++ L1) ls (by rw [e1]; exact hw')
      ⟨Nat.le_trans hS.1 (by rw [e1]; exact hz), fun q h1 h2 => by rw [e1, hq2 q (Nat.lt_of_lt_of_le h1 hS.1) h2]; exact hS.2.1 q h1 h2, fun q hq => by
        rcases List.mem_append.mp hq with h | h
        · exact hS.2.2 q h
        · exact hL q h⟩ hl T' rfl (cd_stand X' sz)
    exact ⟨t2, stp t2 a1, b1⟩
  · rw [h0] at hz hq2 hsz
    have sz := cd_szT sz1 hsz
    have out := xe_out (p := X.1) (l := l) (e := X.2.1) (R := S.2.2.2.1) (s := X.2.2.1) (m := X.2.2.2.1) (args := X.2.2.2.2.1) (below := X.2.2.2.2.2.1) (meth := X.2.2.2.2.2.2.1) (c := X.2.2.2.2.2.2.2) (H := T'.heap) (locs := locs ++ L1) (cells := k + mc) (slots := n + ms) (pc := pc) (ls := ls) (rest := rest) (E := E) (ce := ce) (q := q) (mc := S.2.2.2.1.cells) (ms := S.2.2.2.1.slots) (free := g.2.2.2.1) (Qc := cd_Q g rv0 S.2.2.2.1.cells S.2.2.2.1.slots Qp) (XC := cd_XC g S.2.2.2.1.cells S.2.2.2.1.slots Qp)
      (fun x hx => absurd (hk.2.2.2.2.2.1.2 hmo x hx) id) hk.2.2.2.2.2.1.1 (by rw [e1]; exact hce) hcv hcl
      (fun t2 ht2 hA => ⟨M', P', L', x, e, k + k', n + n', hx M' P' L' x e k' n' hne hq, hne, hE, by rw [ht2, e1]; exact hw', ⟨by rw [ht2, e1]; exact Nat.le_trans hS.1 hz, fun a h1 h2 => by rw [ht2, e1, hq2 a (Nat.lt_of_lt_of_le h1 hS.1) h2]; exact hS.2.1 a h1 h2⟩, by rw [ht2, e1]; exact sz, ⟨Nat.le_trans (Nat.add_le_add_left hbb.1 _) hf.1, Nat.le_trans (Nat.add_le_add_left hbb.2 _) hf.2⟩, hfl⟩)
      (fun z hz => by
        rcases List.mem_append.mp hz with h | h
        · exact hS.2.2 z h
        · exact hL z h) hf.1 hf.2
    obtain ⟨t2, a1, b1⟩ := out T' rfl X'
    exact ⟨t2, Steps.trans stp a1, b1⟩
theorem cd_xV {rv : Int32 → Option Nat → Option Value} {y : MethodName} {cc' : ByteArray} {S' : cx_S} {b index : Nat} {C : String} {F : cd_Qt} (As rest : List Value) {st0 : List Value} (hM : cd_MetX l g y cc' S' rv (.ref b :: As) M P L F) (hB : cx_Rc (dG g L P) b C)
    (d : decode cc pc = .ok (.invokevirtual index, 3)) (hG : GoodIn lw_all (wsV S.2.1 index C y (ws_ y cc' S'.1 S'.2.2.2.2.1))) (hd : y.cls = C ∧ y.cls ≠ "java/lang/invoke/MethodHandle" ∧ y.cls ≠ "java/lang/invoke/VarHandle" ∧ (parseMethodDescriptor y.desc).map (fun d => d.parameters.length) = some As.length)
    (hR : S'.2.2.2.1.frames + 1 ≤ S.2.2.2.1.frames ∧ 8 + (S'.1 + 11) + S'.2.2.2.1.locals ≤ S.2.2.2.1.locals) (hf : k + S'.2.2.2.1.cells ≤ S.2.2.2.1.cells ∧ n + S'.2.2.2.1.slots ≤ S.2.2.2.1.slots) (hst : st0 = As.reverse ++ .ref b :: rest) (hcat : (rest.map fun v => v.category).sum ≤ 8) (hmo : S.2.2.2.2.2 = true)
    (hx : ∀ (M' : cx_M) (P' : dP) (L' : dL) (x : Int32) (e k' n' : Nat), e ≠ 0 → F M' P' L' x none e k' n' → Qp M' P' L' x none e (k + k') (n + n'))
    (K : ∀ (M' : cx_M) (P' : dP) (L' : dL) (x : Int32) (r : Option Nat) (k' n' : Nat), (k' ≤ S'.2.2.2.1.cells ∧ n' ≤ S'.2.2.2.1.slots) → F M' P' L' x r 0 k' n' → cq_V l (dG g L' P') X S cc (pc + 3) lv ((rv x r).toList ++ rest) M' (k + k') (n + n') (cd_finX g X S rv0 Qp)) : cq_V l (dG g L P) X S cc pc lv st0 M k n (cd_finX g X S rv0 Qp) := by
  intro hk H locs ls hw hS hl
  obtain ⟨ci, q0, T, N, hc, hfs⟩ := hB
  obtain ⟨fs, hfs⟩ := hfs M
  subst hst
  exact cd_runX hmo hf hk hS hl (xe_runV ⟨hk.1, hk.2.1, hk.2.2.1, hk.2.2.2.1, hk.2.2.2.2.1⟩ hM (cwV As.length hk.2.2.2.2.1 hG rfl rfl rfl hd hR) ⟨cd_blind, va_recv hk.2.2.2.2.2.2.2.1 hw.1 hc hfs, fun U hU hW => ⟨rfl, by rw [hU]; exact hw, cx_K.warm (g := g) hk.2.2.2.2.2.2.2 hW (by rw [hU]; exact hS)⟩⟩ rfl rfl hl.1 rfl (lv_room hcat) d hf) K hx
theorem cd_instR {a index : Nat} {C : String} (hB : ∀ (M : cx_M) (U : State), cx_w g M U.heap → cx_K g U → cx_RO C a U) (hq : Cond.classLink S.2.1 index C ∈ lw_all) (d : decode cc pc = .ok (.instanceof index, 3)) (K : cq_V l g X S cc (pc + 3) lv (.int 1 :: st) M k n Q) : cq_V l g X S cc pc lv (.ref a :: st) M k n Q :=
  fun hk H locs ls hw hS hl => va_instE hk.1 hk.2.1 hk.2.2.2.1 (hk.2.2.2.2.1 _ hq) (hB _ { X.2.2.1 with heap := H } hw (hk.2.2.2.2.2.2.2.at hS)) d (K hk H locs ls hw hS hl)
/-- an object of the area isn't one that lies outside -/
theorem cd_acmpNA {a c : Nat} {kd : dk} {off : Int} (tgt : Nat) (hb : dB g) (hm : (a, kd) ∈ L) (hc : ¬ g.2.2.2.1 c) (d : decode cc pc = .ok (.if_acmp .ne off, 3)) (ht : (pc : Int) + off = (tgt : Int)) (K : cq_V l (dG g L P) X S cc tgt lv st M k n Q) : cq_V l (dG g L P) X S cc pc lv (.ref c :: .ref a :: st) M k n Q := by
  intro hk H locs ls hw hS hl
  obtain ⟨i, hi⟩ := List.mem_iff_getElem?.mp hm
  obtain ⟨z, hz⟩ := hb.1
  have ha : g.2.2.2.1 a := hw.2.2 (z + i) _ (dG_get hz hi)
  exact lv_acmp_ne (rx := some a) (ry := some c) hk.1 hk.2.1 d ht (fun _ => K hk H locs ls hw hS hl) (fun q => absurd (by cases q; exact ha) hc)
end CQX
theorem dG_w {g : cx_G} {L : dL} {P : dP} {M : cx_M} {H : Heap} (h : cx_w (dG g L P) M H) : cx_w g M H := by
  have e : ∀ {i : Nat} {q : Nat × va_E}, (g.2.2.1 M)[i]? = some q → ((dG g L P).2.2.1 M)[i]? = some q := fun {i q} hi => by
    show (g.2.2.1 M ++ dW g.2.1 L P M)[i]? = _
    rw [List.getElem?_append_left (List.getElem?_eq_some_iff.mp hi).1]
    exact hi
  exact ⟨fun i q hi => h.1 i q (e hi), fun i j p q hi hj => h.2.1 i j p q (e hi) (e hj), fun i q hi => h.2.2 i q (e hi)⟩
theorem dG_Str {g : cx_G} {L : dL} {P : dP} {a v n : Nat} {f : Nat → Int32} (h : cx_Str g a v n f) : cx_Str (dG g L P) a v n f := fun M U hw hk => h M U (dG_w hw) hk
theorem cd_ldcWString {p : Program} {l : Launch} {e : Env} {R : Room} {s : State} {m : MethodId} {args : Array Value} {below : List Frame} {meth : Method} {c : Code} {T : State} {locs : List Loc} {cells slots : Nat}
    (X : Stand p l e R s m args below meth c T locs cells slots) (hexec : p.tables.exec = Jvm.exec) {own text : String} {index : Nat} {a : Addr} (hown : s.vm.findClass own = some m.cls)
    (hconst : (Cond.stringRef own index text).before args s = true) (hev : (Term.string own index).eval args s none [] s = some (.ref a)) {g : JFrame} (hg : g.method = m) (hdg : decode c.code g.pc = .ok (.ldc_w index, 3)) :
    ∀ target, Steps p.tables e below (T.setTop { g with pc := g.pc + 3, stack := .ref a :: g.stack }) target → Steps p.tables e below (T.setTop g) target := by
  obtain ⟨k, cf, i, a', hk, hcf, hcp, -, hr, hev'⟩ := Cond.stringRef_spec hown hconst
  cases hev.symm.trans hev'
  obtain ⟨k', hk', he⟩ := X.warmed.alike.2.2 _ _ hk
  have hr' : k'.resolved[index]? = some (some (.string a)) := by
    rcases X.warmed.entry hk hk' index with h | ⟨h, -⟩
    · rw [h]; exact hr
    · rw [hr] at h; cases h
  intro target hrest
  subst hg
  jvm_step X.here [hexec, hdg, ldc_w.wp_string (e := e) (s := T) (f := g) X.here.top hk' (by rw [he]; exact hcf) hcp hr']
  exact hrest
section CQS
variable {l : Launch} {g : cx_G} {X : cx_X} {S : cx_S} {cc : ByteArray} {pc : Nat} {lv : List (Nat × Value)} {st : List Value} {M : cx_M} {k n : Nat} {Q : State → Prop}
theorem cd_ldcSw {i a : Nat} {tx : String} (hz : ∀ U, cx_K g U → vk_R S.2.1 i tx a U) (d : decode cc pc = .ok (.ldc_w i, 3)) (K : cq_V l g X S cc (pc + 3) lv (.ref a :: st) M k n Q) : cq_V l g X S cc pc lv st M k n Q := by
  intro hk H locs ls hw hS hl T hT XT
  obtain ⟨t, a1, b1⟩ := K hk H locs ls hw hS hl T hT XT
  have h := hz _ hk.2.2.2.2.2.2.2
  exact ⟨t, cd_ldcWString XT hk.1 hk.2.2.2.1 (text := tx) (a := a) h.1 h.2 (g := F0 X.2.2.2.1 pc ls st) rfl (by rw [hk.2.1]; exact d) t a1, b1⟩
end CQS
