/-! java/lang/RuntimeException -/
set_option maxRecDepth 100000
def RJ5 : String := "java/lang/RuntimeException"
abbrev cJ5_init : ByteArray := prog_39_method_2_code
def yJ5_init : MethodName := ⟨RJ5, "<init>", "(Ljava/lang/String;)V"⟩
def dkwJ5_init_0 : List UInt8 := [42, 43, 183, 0, 7, 177]
abbrev dktJ5_init_0 : List UInt8 := dkwJ5_init_0 ++ []
theorem dksJ5_init_0 : cJ5_init.data.toList.drop 0 = dktJ5_init_0 := by decide +kernel
theorem dJ5_init_0 : decode cJ5_init 0 = .ok (.aload_n 0, 1) := dk_42 (dk_at dksJ5_init_0 0 rfl rfl)
theorem dJ5_init_1 : decode cJ5_init 1 = .ok (.aload_n 1, 1) := dk_43 (dk_at dksJ5_init_0 1 rfl rfl)
theorem dJ5_init_2 : decode cJ5_init 2 = .ok (.invokespecial 7, 3) := dk_183 0 7 (dk_at dksJ5_init_0 2 rfl rfl)
theorem dJ5_init_5 : decode cJ5_init 5 = .ok (.return_, 1) := dk_177 (dk_at dksJ5_init_0 5 rfl rfl)
abbrev cJ5_init_2 : ByteArray := prog_39_method_1_code
def yJ5_init_2 : MethodName := ⟨RJ5, "<init>", "()V"⟩
theorem dJ5_init_2_0 : decode cJ5_init_2 0 = .ok (.aload_n 0, 1) := by decide +kernel
theorem dJ5_init_2_1 : decode cJ5_init_2 1 = .ok (.invokespecial 1, 3) := by decide +kernel
theorem dJ5_init_2_4 : decode cJ5_init_2 4 = .ok (.return_, 1) := by decide +kernel
abbrev cJ5_init_3 : ByteArray := prog_39_method_4_code
def yJ5_init_3 : MethodName := ⟨RJ5, "<init>", "(Ljava/lang/Throwable;)V"⟩
def dkwJ5_init_3_0 : List UInt8 := [42, 43, 183, 0, 13, 177]
abbrev dktJ5_init_3_0 : List UInt8 := dkwJ5_init_3_0 ++ []
theorem dksJ5_init_3_0 : cJ5_init_3.data.toList.drop 0 = dktJ5_init_3_0 := by decide +kernel
theorem dJ5_init_3_0 : decode cJ5_init_3 0 = .ok (.aload_n 0, 1) := dk_42 (dk_at dksJ5_init_3_0 0 rfl rfl)
theorem dJ5_init_3_1 : decode cJ5_init_3 1 = .ok (.aload_n 1, 1) := dk_43 (dk_at dksJ5_init_3_0 1 rfl rfl)
theorem dJ5_init_3_2 : decode cJ5_init_3 2 = .ok (.invokespecial 13, 3) := dk_183 0 13 (dk_at dksJ5_init_3_0 2 rfl rfl)
theorem dJ5_init_3_5 : decode cJ5_init_3 5 = .ok (.return_, 1) := dk_177 (dk_at dksJ5_init_3_0 5 rfl rfl)
theorem q123 : (Jvm.Cond.initialized "java/lang/RuntimeException") ∈ lw_all := lw_g (lw_at lw_m1 8 rfl) rfl
theorem q203 : (Jvm.Cond.declares ({ cls := "java/lang/RuntimeException", name := "<init>", desc := "()V" } : Jvm.MethodName)) ∈ lw_tbl := lw_at lw_m1 88 rfl
theorem q204 : (Jvm.Cond.declares ({ cls := "java/lang/RuntimeException", name := "<init>", desc := "(Ljava/lang/String;)V" } : Jvm.MethodName)) ∈ lw_tbl := lw_at lw_m1 89 rfl
theorem q468 : (Jvm.Cond.instanceMethod ({ cls := "java/lang/RuntimeException", name := "<init>", desc := "(Ljava/lang/String;)V" } : Jvm.MethodName)) ∈ lw_all := lw_g (lw_at lw_m2 113 rfl) rfl
theorem q469 : (Jvm.Cond.code ({ cls := "java/lang/RuntimeException", name := "<init>", desc := "(Ljava/lang/String;)V" } : Jvm.MethodName) prog_39_method_2_code (2 : Nat) (Option.none : Option Jvm.ClassFile.FieldType)) ∈ lw_all := lw_g (lw_at lw_m2 114 rfl) rfl
theorem q470 : (Jvm.Cond.methodLink "java/lang/RuntimeException" (7 : Nat) ({ cls := "java/lang/Exception", name := "<init>", desc := "(Ljava/lang/String;)V" } : Jvm.MethodName)) ∈ lw_all := lw_g (lw_at lw_m2 115 rfl) rfl
theorem q1368 : (Jvm.Cond.instanceMethod ({ cls := "java/lang/RuntimeException", name := "<init>", desc := "()V" } : Jvm.MethodName)) ∈ lw_all := lw_g (lw_at lw_m6 53 rfl) rfl
theorem q1369 : (Jvm.Cond.code ({ cls := "java/lang/RuntimeException", name := "<init>", desc := "()V" } : Jvm.MethodName) prog_39_method_1_code (1 : Nat) (Option.none : Option Jvm.ClassFile.FieldType)) ∈ lw_all := lw_g (lw_at lw_m6 54 rfl) rfl
theorem q1370 : (Jvm.Cond.methodLink "java/lang/RuntimeException" (1 : Nat) ({ cls := "java/lang/Exception", name := "<init>", desc := "()V" } : Jvm.MethodName)) ∈ lw_all := lw_g (lw_at lw_m6 55 rfl) rfl
theorem q2040 : (Jvm.Cond.instanceMethod ({ cls := "java/lang/RuntimeException", name := "<init>", desc := "(Ljava/lang/Throwable;)V" } : Jvm.MethodName)) ∈ lw_all := lw_g (lw_at lw_m9 5 rfl) rfl
theorem q2041 : (Jvm.Cond.code ({ cls := "java/lang/RuntimeException", name := "<init>", desc := "(Ljava/lang/Throwable;)V" } : Jvm.MethodName) prog_39_method_4_code (2 : Nat) (Option.none : Option Jvm.ClassFile.FieldType)) ∈ lw_all := lw_g (lw_at lw_m9 6 rfl) rfl
theorem q2042 : (Jvm.Cond.methodLink "java/lang/RuntimeException" (13 : Nat) ({ cls := "java/lang/Exception", name := "<init>", desc := "(Ljava/lang/Throwable;)V" } : Jvm.MethodName)) ∈ lw_all := lw_g (lw_at lw_m9 7 rfl) rfl

section THZ
variable {p : Program} {l : Launch} {e : Env} {R : Room} {s : State} {m : MethodId} {args : Array Value} {below : List Frame} {meth : Method} {c : Code} {H : Heap} {locs : List Loc} {cells slots : Nat} {Q : State → Prop}
variable {mc ms : Nat} {free : Addr → Prop} {A0 A1 : Nat → Prop} {H0 : Heap} {a : Array Value} {ls : Array Slot} {st0 rest : List Value}
variable {Qc : Array Value → State → Outcome → State → Prop} {XC : String → Addr → State → State → Prop}
theorem xe_throw0z {cc : ByteArray} {pc : Nat} (hexec : p.tables.exec = Jvm.exec) (hb : c.code = cc) (hl : l.stackTraces = false) {own cls : String} {names : List String} {ik ic mc ms : Nat} {A : Nat → Prop}
    (hown : s.vm.findClass own = some m.cls) (hcls : Bundle.fit cls = true) (hnames : ∀ n ∈ names, Bundle.fit n = true)
    (hk : (Cond.classLink own ik cls).before args s = true) (hini : (Cond.initialized cls).before args s = true) (hat : ∀ w ∈ xe_at0 own ic cls names, w.before args s = true)
    (hgood : ∀ w ∈ Cond.classLink own ik cls :: Cond.initialized cls :: xe_at0 own ic cls names, xe_ot w = true)
    (hU : xe_Zq Bundle.tN "UNASSIGNED_STACK" Bundle.steD A s s.heap) (hN : xe_Zq Bundle.tN "SUPPRESSED_SENTINEL" Bundle.listD A s s.heap) (hS : va_S A s.heap H locs) (hsize : ls.size = c.maxLocals)
    (d0 : decode cc pc = .ok (.new ik, 3)) (d3 : decode cc (pc + 3) = .ok (.dup, 1)) (d4 : decode cc (pc + 4) = .ok (.invokespecial ic, 3)) (d7 : decode cc (pc + 7) = .ok (.athrow, 1))
    (hout : ∀ x ∈ c.exceptionTable.toList, covers x (pc + 7) = false)
    (hRframes : names.length + 3 < R.frames) (hRlocals : (rest.map fun v => v.category).sum + (13 * (names.length + 1) + 42) ≤ R.locals) (hRcells : cells + 1 ≤ R.cells) (hRslots : slots + 6 ≤ R.slots) (hlocks : meth.locks = false)
    (hx : ∀ t : State, s.vm.Alike t.vm → H.size ≤ t.heap.size → (∀ q : Nat, q < H.size → t.heap[q]? = H[q]?) → s.sameButNew ({ t with vm := s.vm } : State) locs (cells + 1) (slots + 6) → XC cls H.size s t)
    (hf : ∀ z ∈ locs, free z.base) (hc : cells + 1 ≤ mc) (hs : slots + 6 ≤ ms) :
    W p l e R s m args below meth c H locs cells slots (xe_MQ below Qc XC args s mc ms free) (F0 m pc ls rest) := by
  intro T hT X
  have htr : e.platform.stackTraces = false := (show e.platform.stackTraces = l.stackTraces by rw [X.admits.platform]).trans hl
  have Y := xe_rebase X (R' := { frames := R.frames, locals := R.locals, cells := 1, slots := 6 }) (Nat.le_refl _) (Nat.le_refl _) hRcells hRslots
  obtain ⟨s', hA⟩ : ∃ z, z = (T.setVm s.vm).setFrames (.invoking m args :: below) := ⟨_, rfl⟩
  rw [← hA] at Y
  have hvm : s'.vm = s.vm := by rw [hA]; rfl
  have hhp : s'.heap = H := by rw [hA]; exact hT
  have hW0 : s.WarmedH s'.vm := by rw [hvm]; exact State.WarmedH.refl s
  have hat' : ∀ w ∈ xe_at0 own ic cls names, w.before args s' = true := fun w hw => xe_ot_at hW0 hvm.symm (hgood w (List.mem_cons_of_mem _ (List.mem_cons_of_mem _ hw))) (hat w hw)
  have hk' : (Cond.classLink own ik cls).before args s' = true := xe_ot_at hW0 hvm.symm (hgood _ List.mem_cons_self) hk
  have hini' : (Cond.initialized cls).before args s' = true := xe_ot_at hW0 hvm.symm (hgood _ (List.mem_cons_of_mem _ List.mem_cons_self)) hini
  have hU' : xe_Zq Bundle.tN "UNASSIGNED_STACK" Bundle.steD A s' s'.heap := by rw [hhp]; exact xe_Zq.moved hW0.alike (hU.kept hS.2.1)
  have hN' : xe_Zq Bundle.tN "SUPPRESSED_SENTINEL" Bundle.listD A s' s'.heap := by rw [hhp]; exact xe_Zq.moved hW0.alike (hN.kept hS.2.1)
  have h : ∀ w ∈ Bundle.ownAtoms0 own ic cls names, w.before args s' = true := xe_own hat' (xe_isRefq hU'.1) (xe_isRefq hN'.1) hU'.2.word hN'.2.word
  have hown' : s'.vm.findClass own = some m.cls := by rw [hvm]; exact hown
  have hins : (Cond.instantiable cls 6).before args s' = true := h _ (by simp [Bundle.ownAtoms0])
  obtain ⟨vm₁, cX, kX, hfX, hkX, -, -, X₁, st1⟩ := Y.newCold hexec (own := own) (C := cls) (index := ik) (n := 6) hown' hk' hins hini'
    (g := F0 m pc ls rest) rfl (by rw [hb]; exact d0) (Nat.le_refl _) (Nat.le_refl _)
  generalize hT1 : (T.setVm vm₁).pushCell { cls := cX, slots := kX.instanceTypes.map defaultValue, vm := .none } = T1 at X₁ st1
  have hcat : (Value.ref T.heap.size).category = 1 := rfl
  have hcellA : T1.heap[T.heap.size]? = some (freshCell cX kX) := by rw [← hT1]; exact State.heap_pushCell_size _ _
  have d3' : decode c.code (pc + 3) = .ok (.dup, 1) := by rw [hb]; exact d3
  obtain ⟨U, hsteps, hrun, hend, hW, hsame, ce, hce, hO⟩ := X₁.ctorThrow0 hexec htr (own := own) (cls := cls) (names := names) (ic := ic) hown' hcls hnames h (fun x hx => nomatch hx) hfX hkX hcellA (by rw [hhp, hT]; exact Nat.le_refl _)
    (g := { method := m, pc := pc + 4, locals := ls, stack := .ref T.heap.size :: .ref T.heap.size :: rest, locked := none }) rfl hsize rfl rfl (rest := rest) rfl
    (by rw [hb]; exact d4) (by rw [hb]; exact d7) hout hRframes (by simp only [List.map_cons, List.sum_cons, hcat]; omega) hlocks
  obtain ⟨f1, f2⟩ := xe_frame hsame
  rw [hhp] at f1 f2
  have hWs : s.WarmedH U.vm := State.WarmedH.trans hW0 hW
  have hcl : s.vm.findClass cls = some ce.cls := by
    have h9 := hO.cls
    rw [hvm] at h9
    exact h9
  have hall0 : s.sameButNew ({ U with vm := s.vm } : State) locs (cells + 1) (slots + 6) := by
    subst hA
    obtain ⟨e1, e2⟩ := hsame
    rw [State.setFrames_setFrames] at e1
    have h2 : (T.setVm s.vm).sameButNew ({ U with vm := s.vm } : State) [] (0 + 1) (0 + 6) := ⟨e1, e2⟩
    have h3 := X.same.trans h2
    rw [List.append_nil] at h3
    exact h3
  have hall := hall0.mono hc hs
  refine ⟨U, ?_, .threw T.heap.size, hrun, hend, Or.inr ⟨T.heap.size, rfl, cls, ce, locs, (by rw [hT]; exact hx U hWs.alike f1 (fun q hq => f2 q hq (fun z hz => nomatch hz)) hall0), hce, hO.vm, hcl, hWs, hall, hf⟩⟩
  refine st1 _ ?_
  show Steps p.tables e below (T1.setTop { method := m, pc := pc + 3, locals := ls, stack := .ref T.heap.size :: rest, locked := none }) _
  jvm_step X₁.here [X₁.here.top, hexec, d3', Value.category]
  exact hsteps
end THZ
abbrev thN : List String := ["java/lang/RuntimeException", "java/lang/Exception"]
def cd_thr (e bc bs : Nat) (M : cx_M) (P : dP) (L : dL) (x : Int32) (Q : cd_Qt) : Prop := if x = 0 then (0 + 1 ≤ bc ∧ 0 + 6 ≤ bs ∧ Q M P L 0 none e (0 + 1) (0 + 6)) else Q M P L 0 none 0 0 0
abbrev thS (bc bs : Nat) : cx_S := (1, RX1, cx_rI, { frames := 6, cells := bc, slots := bs, locals := 90 }, none, true)
theorem th_good1 : ∀ w ∈ (xe_at0 "CircuitCells" 130 "java/util/NoSuchElementException" thN).filter goodWord, w ∈ lw_all := lw_in _ [121, 222, 231, 237, 240, 242, 223, 224, 176, 177, 225, 230, 238, 478, 212, 479, 214, 480, 216, 226, 228, 218, 1766, 1767, 1768, 1368, 1368, 1369, 1370, 1371, 1371, 1372, 1373, 223, 1765, 1757, 1759, 236, 1760, 1761, 1762, 1763, 221, 220, 1764] (by decide +kernel) (by decide +kernel)
theorem th_rest1 : (xe_at0 "CircuitCells" 130 "java/util/NoSuchElementException" thN).filter (fun w => !goodWord w) = [.declares ⟨"java/lang/RuntimeException", "<init>", "()V"⟩, .declares ⟨"java/lang/Exception", "<init>", "()V"⟩, .declares ⟨"java/lang/Throwable", "<init>", "()V"⟩, .castable "java/util/NoSuchElementException" "java/util/NoSuchElementException"] := by decide +kernel
theorem th_words1 {g : cx_G} {s : State} {args : Array Value} (hK : cx_K g s) (hts : ∀ w ∈ lw_all, w.before args s = true) : ∀ w ∈ xe_at0 "CircuitCells" 130 "java/util/NoSuchElementException" thN, w.before args s = true := by
  refine xe_hat (B := [.declares ⟨"java/lang/RuntimeException", "<init>", "()V"⟩, .declares ⟨"java/lang/Exception", "<init>", "()V"⟩, .declares ⟨"java/lang/Throwable", "<init>", "()V"⟩, .castable "java/util/NoSuchElementException" "java/util/NoSuchElementException"]) (fun w hw => hts w (th_good1 w hw)) (fun w hw => by rw [th_rest1] at hw; exact hw) (fun w hw => ?_)
  simp only [List.mem_cons, List.not_mem_nil, or_false] at hw
  rcases hw with rfl | rfl | rfl | rfl
  · exact va_Nw.use rfl (hK.2.1 _ q203 rfl)
  · exact va_Nw.use rfl (hK.2.1 _ q205 rfl)
  · exact va_Nw.use rfl (hK.2.1 _ q207 rfl)
  · exact va_Nw.use rfl (hK.2.1 _ q1758 rfl)
theorem cc_there_m {l : Launch} {g : cx_G} {bc bs : Nat} {Q : cd_Qt} (hT : dT l g) (M : cx_M) (P : dP) (L : dL) (x0 : Int32) (h : cd_thr 1 bc bs M P L x0 Q) : cd_MetX l g yX1_there cX1_there (thS bc bs) cd_rV [.int x0] M P L Q := by
  refine cd_metX (by decide +kernel) rfl rfl (lv := [(0, .int x0)]) rfl (cx_le rfl) (fun X _ => ?_)
  unfold cd_thr at h
  refine cq_iload_n 0 dX1_there_0 rfl ?_
  refine cq_if_ne 12 h dX1_there_1 rfl (fun h => ?_) (fun h => ?_)
  · exact cd_toX (cd_vret ⟨Nat.zero_le _, Nat.zero_le _⟩ h rfl dX1_there_12)
  · obtain ⟨h1, h2, h⟩ := h
    intro hk H locs ls hw hS hl
    obtain ⟨z1, z2⟩ := hT.2 _ hk.2.2.2.2.2.2.2
    exact xe_throw0z hk.1 hk.2.1 hT.1 (own := "CircuitCells") (cls := "java/util/NoSuchElementException") (names := thN) (ik := 128) (ic := 130) (A := g.2.2.2.1) hk.2.2.2.1 (by decide) (by decide) (hk.2.2.2.2.1 _ q1756) (hk.2.2.2.2.1 _ q157) (th_words1 hk.2.2.2.2.2.2.2 hk.2.2.2.2.1) (by decide +kernel) z1 z2 hS (hl.1.trans hk.2.2.1.symm) dX1_there_4 dX1_there_7 dX1_there_8 dX1_there_11 (fun x hx => absurd (hk.2.2.2.2.2.1.2 rfl x hx) id) (cx_lt rfl) (cx_le rfl) h1 h2 hk.2.2.2.2.2.1.1
      (fun t hA h3 h4 hsm => ⟨M, P, L, 0, 1, 0 + 1, 0 + 6, h, by decide, rfl, ⟨hw.1.kept (fun k x hx => h4 x.1 ((hw.1 k x hx).lt)), hw.2⟩, ⟨Nat.le_trans hS.1 h3, fun q h5 h6 => (h4 q (Nat.lt_of_lt_of_le h5 hS.1)).trans (hS.2.1 q h5 h6)⟩, cd_szOf hsm, ⟨h1, h2⟩, fun h9 => absurd h9 (by decide)⟩) hS.2.2 h1 h2
theorem th_good2 : ∀ w ∈ (xe_at0 "CircuitCells" 127 "java/lang/IllegalArgumentException" thN).filter goodWord, w ∈ lw_all := lw_in _ [121, 222, 231, 237, 240, 242, 223, 224, 176, 177, 225, 230, 238, 478, 212, 479, 214, 480, 216, 226, 228, 218, 1365, 1366, 1367, 1368, 1368, 1369, 1370, 1371, 1371, 1372, 1373, 223, 1364, 201, 209, 210, 211, 213, 215, 217, 221, 220, 219] (by decide +kernel) (by decide +kernel)
theorem th_rest2 : (xe_at0 "CircuitCells" 127 "java/lang/IllegalArgumentException" thN).filter (fun w => !goodWord w) = [.declares ⟨"java/lang/RuntimeException", "<init>", "()V"⟩, .declares ⟨"java/lang/Exception", "<init>", "()V"⟩, .declares ⟨"java/lang/Throwable", "<init>", "()V"⟩, .castable "java/lang/IllegalArgumentException" "java/lang/IllegalArgumentException"] := by decide +kernel
theorem th_words2 {g : cx_G} {s : State} {args : Array Value} (hK : cx_K g s) (hts : ∀ w ∈ lw_all, w.before args s = true) : ∀ w ∈ xe_at0 "CircuitCells" 127 "java/lang/IllegalArgumentException" thN, w.before args s = true := by
  refine xe_hat (B := [.declares ⟨"java/lang/RuntimeException", "<init>", "()V"⟩, .declares ⟨"java/lang/Exception", "<init>", "()V"⟩, .declares ⟨"java/lang/Throwable", "<init>", "()V"⟩, .castable "java/lang/IllegalArgumentException" "java/lang/IllegalArgumentException"]) (fun w hw => hts w (th_good2 w hw)) (fun w hw => by rw [th_rest2] at hw; exact hw) (fun w hw => ?_)
  simp only [List.mem_cons, List.not_mem_nil, or_false] at hw
  rcases hw with rfl | rfl | rfl | rfl
  · exact va_Nw.use rfl (hK.2.1 _ q203 rfl)
  · exact va_Nw.use rfl (hK.2.1 _ q205 rfl)
  · exact va_Nw.use rfl (hK.2.1 _ q207 rfl)
  · exact va_Nw.use rfl (hK.2.1 _ q202 rfl)
theorem cc_right_m {l : Launch} {g : cx_G} {bc bs : Nat} {Q : cd_Qt} (hT : dT l g) (M : cx_M) (P : dP) (L : dL) (x0 : Int32) (h : cd_thr 2 bc bs M P L x0 Q) : cd_MetX l g yX1_right cX1_right (thS bc bs) cd_rV [.int x0] M P L Q := by
  refine cd_metX (by decide +kernel) rfl rfl (lv := [(0, .int x0)]) rfl (cx_le rfl) (fun X _ => ?_)
  unfold cd_thr at h
  refine cq_iload_n 0 dX1_right_0 rfl ?_
  refine cq_if_ne 12 h dX1_right_1 rfl (fun h => ?_) (fun h => ?_)
  · exact cd_toX (cd_vret ⟨Nat.zero_le _, Nat.zero_le _⟩ h rfl dX1_right_12)
  · obtain ⟨h1, h2, h⟩ := h
    intro hk H locs ls hw hS hl
    obtain ⟨z1, z2⟩ := hT.2 _ hk.2.2.2.2.2.2.2
    exact xe_throw0z hk.1 hk.2.1 hT.1 (own := "CircuitCells") (cls := "java/lang/IllegalArgumentException") (names := thN) (ik := 125) (ic := 127) (A := g.2.2.2.1) hk.2.2.2.1 (by decide) (by decide) (hk.2.2.2.2.1 _ q1363) (hk.2.2.2.2.1 _ q124) (th_words2 hk.2.2.2.2.2.2.2 hk.2.2.2.2.1) (by decide +kernel) z1 z2 hS (hl.1.trans hk.2.2.1.symm) dX1_right_4 dX1_right_7 dX1_right_8 dX1_right_11 (fun x hx => absurd (hk.2.2.2.2.2.1.2 rfl x hx) id) (cx_lt rfl) (cx_le rfl) h1 h2 hk.2.2.2.2.2.1.1
      (fun t hA h3 h4 hsm => ⟨M, P, L, 0, 2, 0 + 1, 0 + 6, h, by decide, rfl, ⟨hw.1.kept (fun k x hx => h4 x.1 ((hw.1 k x hx).lt)), hw.2⟩, ⟨Nat.le_trans hS.1 h3, fun q h5 h6 => (h4 q (Nat.lt_of_lt_of_le h5 hS.1)).trans (hS.2.1 q h5 h6)⟩, cd_szOf hsm, ⟨h1, h2⟩, fun h9 => absurd h9 (by decide)⟩) hS.2.2 h1 h2

section CQXS
variable {l : Launch} {g : cx_G} {L : dL} {P : dP} {X : cx_X} {S : cx_S} {cc : ByteArray} {pc : Nat} {lv : List (Nat × Value)} {st : List Value} {M : cx_M} {k n : Nat} {Q : State → Prop} {Qp : cd_Qt} {rv0 : Int32 → Option Nat → Option Value}
theorem cd_xS {rv : Int32 → Option Nat → Option Value} {y : MethodName} {cc' : ByteArray} {S' : cx_S} {index : Nat} {F : cd_Qt} (As rest : List Value) {st0 : List Value} (hM : cd_MetX l g y cc' S' rv As M P L F)
    (d : decode cc pc = .ok (.invokestatic index, 3)) (hG : GoodIn lw_all (va_wsS S.2.1 index y (ws_ y cc' S'.1 S'.2.2.2.2.1))) (hd : y.cls ≠ "java/lang/invoke/MethodHandle" ∧ y.cls ≠ "java/lang/invoke/VarHandle" ∧ (parseMethodDescriptor y.desc).map (fun d => d.parameters.length) = some As.length)
    (hR : S'.2.2.2.1.frames + 1 ≤ S.2.2.2.1.frames ∧ 8 + (S'.1 + 11) + S'.2.2.2.1.locals ≤ S.2.2.2.1.locals) (hf : k + S'.2.2.2.1.cells ≤ S.2.2.2.1.cells ∧ n + S'.2.2.2.1.slots ≤ S.2.2.2.1.slots) (hst : st0 = As.reverse ++ rest) (hcat : (rest.map fun v => v.category).sum ≤ 8) (hmo : S.2.2.2.2.2 = true)
    (hx : ∀ (M' : cx_M) (P' : dP) (L' : dL) (x : Int32) (e k' n' : Nat), e ≠ 0 → F M' P' L' x none e k' n' → Qp M' P' L' x none e (k + k') (n + n'))
    (K : ∀ (M' : cx_M) (P' : dP) (L' : dL) (x : Int32) (r : Option Nat) (k' n' : Nat), (k' ≤ S'.2.2.2.1.cells ∧ n' ≤ S'.2.2.2.1.slots) → F M' P' L' x r 0 k' n' → cq_V l (dG g L' P') X S cc (pc + 3) lv ((rv x r).toList ++ rest) M' (k + k') (n + n') (cd_finX g X S rv0 Qp)) : cq_V l (dG g L P) X S cc pc lv st0 M k n (cd_finX g X S rv0 Qp) := by
  intro hk H locs ls hw hS hl
  subst hst
  exact cd_runX hmo hf hk hS hl (xe_runS ⟨hk.1, hk.2.1, hk.2.2.1, hk.2.2.2.1, hk.2.2.2.2.1⟩ hM (va_cwS As.length hk.2.2.2.2.1 hG rfl rfl rfl hd hR) ⟨cd_blind, fun U hU hW => ⟨rfl, by rw [hU]; exact hw, cx_K.warm (g := g) hk.2.2.2.2.2.2.2 hW (by rw [hU]; exact hS)⟩⟩ rfl rfl hl.1 rfl (lv_room hcat) d hf) K hx
end CQXS
