theorem q547 : (Jvm.Cond.sameMethod "[LCircuitCells$Value;" "java/lang/Object" "clone" "()Ljava/lang/Object;") ∈ lw_all := lw_g (lw_at lw_m2 192 rfl) rfl
set_option maxRecDepth 100000
theorem q548 : (Jvm.Cond.selects "[LCircuitCells$Value;" ({ cls := "[LCircuitCells$Value;", name := "clone", desc := "()Ljava/lang/Object;" } : Jvm.MethodName) ({ cls := "java/lang/Object", name := "clone", desc := "()Ljava/lang/Object;" } : Jvm.MethodName)) ∈ lw_all := lw_g (lw_at lw_m2 193 rfl) rfl
theorem q549 : (Jvm.Cond.castable "[LCircuitCells$Value;" "java/lang/Cloneable") ∈ lw_tbl := lw_at lw_m2 194 rfl
theorem q3003 : (Jvm.Cond.castable "[LCircuitCells$Value;" "java/lang/Object") ∈ lw_tbl := lw_at lw_m13 8 rfl
/-! Value.values(): the constants' array, cloned; of the clone only its length is asked -/
def dV (g : cx_G) (va : Nat) : Prop := ∀ U : State, cx_K g U → va_Z "CircuitCells$Value" "$VALUES" "[LCircuitCells$Value;" (.ref va) g.2.2.2.1 U U.heap ∧ ∃ cell : Cell, U.heap[va]? = some cell ∧ U.vm.findClass "[LCircuitCells$Value;" = some cell.cls ∧ U.isArrayOf cell (.object "CircuitCells$Value") ∧ cell.vm ≠ .unknown ∧ cell.slots.size = 4 ∧ ∀ (i : Nat) (v : Value), cell.slots[i]? = some v → v.isRef = true
def vl_Q (g : cx_G) (L : dL) (P : dP) (M : cx_M) : Array Value → State → Outcome → State → Prop := fun _ st oc t => ∃ (q : Nat) (cell : Cell), oc = .returned (some (.ref q)) ∧ cx_w (dG g L P) M t.heap ∧ va_F g.2.2.2.1 st t ∧ cd_sz st.heap t.heap 1 4 ∧ t.heap[q]? = some cell ∧ t.vm.findClass "[LCircuitCells$Value;" = some cell.cls ∧ cell.vm = .none ∧ cell.slots.size = 4
abbrev vlS : cx_S := (0, RX4, cx_rI, { frames := 1, cells := 1, slots := 4, locals := 16 }, some (.array (.object "CircuitCells$Value")), false)
theorem vl_fits {v : Value} (h : v.isRef = true) : fits (.object "CircuitCells$Value") v = true := by
  cases v with
  | null => rfl
  | ref a => rfl
  | _ => cases h
theorem vl_values {l : Launch} {g : cx_G} {L : dL} {P : dP} {M : cx_M} {va : Nat} (hV : dV g va) : Met l yX4_values (ws_ yX4_values cX4_values 0 (some (.array (.object "CircuitCells$Value")))) vlS.2.2.2.1 (va_Pc [] (fun U => cx_w (dG g L P) M U.heap ∧ cx_K g U)) (vl_Q g L P M) 1 4 g.2.2.2.1 := by
  refine Met.ofW (cc := cX4_values) (maxL := 0) (ret := some (.array (.object "CircuitCells$Value"))) (by decide +kernel) rfl ?_
  intro p e s m args' below meth c s₁ B hml hv
  obtain ⟨rfl, hw, hK⟩ := hv
  have hts := atoms_spec (ws := ws_ yX4_values cX4_values 0 (some (.array (.object "CircuitCells$Value")))) B.pre
  have hts : ∀ w ∈ lw_all, w.before _ s = true := fun w h => hts w (List.mem_cons_of_mem _ h)
  have hownc : s.vm.findClass RX4 = some m.cls := findClass_of_methodNamed B.named
  rw [lg_entry_eq]
  obtain ⟨hz, cell, c1, c2, c3, c4, c5, c6⟩ := hV s hK
  refine va_gets B.exec B.bytes hz va_S.rf hownc (hts _ q544) (fun _ h => h) dX4_values_0 ?_
  intro T hT XT
  obtain ⟨c0, t0', f1, f2, f3⟩ := Cond.castable_spec (args := #[]) (va_Nw.use (A := #[]) rfl (hK.2.1 _ q549 rfl))
  cases c2.symm.trans f1
  obtain ⟨hns, kS, hkS, compS, hkindS⟩ := c3
  obtain ⟨-, kA, hkA, comp, hkind⟩ := State.isArrayOf_alike XT.warmed.alike (⟨hns, kS, hkS, compS, hkindS⟩ : s.isArrayOf cell (.object "CircuitCells$Value"))
  obtain ⟨vm', X', st⟩ := XT.cloneArray B.exec hownc (hts _ q546) (hts _ q547) (hts _ q311) (hts _ q312) (hts _ q548) (a := va) (cell := cell) (by rw [hT]; exact c1) hns c4 c2 f2 f3
    (fun i v hv => by
      have hk' : T.vm.classes[cell.cls]? = some kA := hkA
      simpa [State.fitsSlot, State.slotType?, hk', hkind] using vl_fits (c6 i v hv))
    (g := F0 m 3 #[] [.ref va]) rfl hml.symm rfl (by rw [B.bytes]; exact dX4_values_3) (cx_le rfl) (cx_le rfl) (cx_le rfl) (by rw [c5]; exact cx_le rfl) (hloader := Vm.clonesLoader_of_array hkS hkindS)
  generalize hT1 : (T.setVm vm').pushCell { cls := cell.cls, slots := cell.slots } = T1 at X' st
  have hT1h : T1.heap = s.heap.push { cls := cell.cls, slots := cell.slots } := by rw [← hT1, ← hT]; rfl
  have hTz : T.heap.size = s.heap.size := by rw [hT]
  have e1 : T1.heap[s.heap.size]? = some { cls := cell.cls, slots := cell.slots } := by rw [hT1h, Array.getElem?_push_size]
  have o1 : ∀ q : Nat, q < s.heap.size → T1.heap[q]? = s.heap[q]? := fun q hq => by rw [hT1h, Array.getElem?_push, if_neg (Nat.ne_of_lt hq)]
  have sz := cd_szOf X'.same
  rw [c5] at sz X'
  have hw1 : cx_w (dG g L P) M T1.heap := ⟨hw.1.kept (fun k x hx => o1 x.1 ((hw.1 k x hx).lt)), hw.2⟩
  have KW : W p l e { frames := 1, cells := 1, slots := 4, locals := 16 } s m #[] below meth c T1.heap [] 1 4 (MQ below (vl_Q g L P M) #[] s 1 4 g.2.2.2.1) (F0 m 6 #[] [.ref T.heap.size]) := by
    intro T2 hT2 X2
    obtain ⟨vm2, X2', st2⟩ := X2.checkcastYes B.exec hownc (hts _ q551) (a := T.heap.size) (cell := { cls := cell.cls, slots := cell.slots }) (by rw [hT2, hTz]; exact e1) rfl c2 (va_asg _ _) (g := F0 m 6 #[] [.ref T.heap.size]) rfl rfl (by rw [B.bytes]; exact dX4_values_6)
    have KR : W p l e { frames := 1, cells := 1, slots := 4, locals := 16 } s m #[] below meth c T1.heap [] 1 4 (MQ below (vl_Q g L P M) #[] s 1 4 g.2.2.2.1) (F0 m 9 #[] [.ref T.heap.size]) :=
      W.aret B.exec B.bytes B.returns (Or.inr ⟨_, rfl⟩) (Or.inr ⟨_, rfl⟩) (fun t ht hW => ⟨T.heap.size, { cls := cell.cls, slots := cell.slots }, rfl, by rw [ht]; exact hw1, ⟨by rw [ht, hT1h]; simp, fun q h1 h2 => by rw [ht]; exact o1 q h1⟩, by rw [ht]; exact sz, by rw [ht, hTz]; exact e1, by rw [hW.alike.findClass]; exact c2, rfl, c5⟩) (fun q hq => nomatch hq) dX4_values_9
    obtain ⟨t, a1, b1⟩ := KR (T2.setVm vm2) hT2 X2'
    exact ⟨t, st2 t a1, b1⟩
  obtain ⟨t, a1, b1⟩ := KW T1 rfl X'
  exact ⟨t, st t a1, b1⟩
section CQVL
variable {l : Launch} {g : cx_G} {L : dL} {P : dP} {X : cx_X} {S : cx_S} {cc : ByteArray} {pc : Nat} {lv : List (Nat × Value)} {st : List Value} {M : cx_M} {k n : Nat} {Q : State → Prop}
theorem cd_values {va idx : Nat} (hV : dV g va) (hb : k + 1 ≤ S.2.2.2.1.cells ∧ n + 4 ≤ S.2.2.2.1.slots) (hG : GoodIn lw_all (va_wsS S.2.1 idx yX4_values (ws_ yX4_values cX4_values 0 (some (.array (.object "CircuitCells$Value")))))) (d0 : decode cc pc = .ok (.invokestatic idx, 3)) (d3 : decode cc (pc + 3) = .ok (.arraylength, 1))
    (hR : 1 + 1 ≤ S.2.2.2.1.frames ∧ 8 + (0 + 11) + 16 ≤ S.2.2.2.1.locals) (hcat : (st.map fun v => v.category).sum ≤ 8) (K : cq_V l (dG g L P) X S cc (pc + 4) lv (.int 4 :: st) M (k + 1) (n + 4) Q) : cq_V l (dG g L P) X S cc pc lv st M k n Q := by
  intro hk H locs ls hw hS hl
  have hr := va_runS (As := []) (rest := st) (g := F0 X.2.2.2.1 pc ls st) (H := H) (locs := locs) (cells := k) (slots := n) (p := X.1) (l := l) (e := X.2.1) (R := S.2.2.2.1) (s := X.2.2.1) (m := X.2.2.2.1) (args := X.2.2.2.2.1) (below := X.2.2.2.2.2.1) (meth := X.2.2.2.2.2.2.1) (c := X.2.2.2.2.2.2.2) ⟨hk.1, hk.2.1, hk.2.2.1, hk.2.2.2.1, hk.2.2.2.2.1⟩ (vl_values (l := l) (L := L) (P := P) (M := M) hV) (va_cwS 0 hk.2.2.2.2.1 hG rfl rfl rfl (by decide +kernel) hR) ⟨cd_blind, fun U hU hW => ⟨rfl, by rw [hU]; exact hw, cx_K.warm (g := g) hk.2.2.2.2.2.2.2 hW (by rw [hU]; exact hS)⟩⟩ rfl rfl hl.1 rfl (lv_room hcat) d0 hb
  intro T hT XT
  have sz1 := cd_szOf XT.same
  rw [hT] at sz1
  obtain ⟨v, st₀, t, T', L1, h0, X', hL, e1, e2, ⟨q, cell, hv, hw', ⟨hz, hq2⟩, hsz, hc1, hc2, hc3, hc4⟩, stp⟩ := hr T hT XT
  cases hv
  rw [h0] at hz hq2 hsz
  have sz := cd_szT sz1 hsz
  rw [← e1] at sz
  obtain ⟨-, cell0, -, g2, g3, -⟩ := hV _ hk.2.2.2.2.2.2.2
  have hcc : cell.cls = cell0.cls := by
    rw [← e2, X'.warmed.alike.findClass, g2] at hc2
    exact (Option.some.inj hc2).symm
  have harr : X.2.2.1.isArrayOf cell (.object "CircuitCells$Value") := ⟨fun k h => (by rw [hc3] at h; cases h), by rw [hcc]; exact g3.2⟩
  obtain ⟨t2, a1, b1⟩ := W.alen (n := 4) (H := T'.heap) (R := S.2.2.2.1) (l := l) (p := X.1) (e := X.2.1) (s := X.2.2.1) (m := X.2.2.2.1) (args := X.2.2.2.2.1) (below := X.2.2.2.2.2.1) (meth := X.2.2.2.2.2.2.1) (c := X.2.2.2.2.2.2.2) hk.1 hk.2.1 (by rw [e1]; exact hc1) harr (by rw [hc4]; rfl) (g := F0 X.2.2.2.1 (pc + 3) ls (.ref q :: st)) rfl rfl d3 (K hk T'.heap (locs ++ L1) ls (by rw [e1]; exact hw') ⟨Nat.le_trans hS.1 (by rw [e1]; exact hz), fun q h1 h2 => by rw [e1, hq2 q (Nat.lt_of_lt_of_le h1 hS.1) h2]; exact hS.2.1 q h1 h2, fun q hq => by
      rcases List.mem_append.mp hq with h | h
      · exact hS.2.2 q h
      · exact hL q h⟩ hl) T' rfl (cd_stand X' sz)
  exact ⟨t2, stp t2 a1, b1⟩
end CQVL
