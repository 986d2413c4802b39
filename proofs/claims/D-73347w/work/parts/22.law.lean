/-! THE LAW'S FRAME: its script, calls whose exceptions it catches, calls of its helpers -/
def lwS (g : cx_G) (b m : Nat) (xs : Nat → Int32) : Prop := ∀ U : State, cx_K g U → va_X b m xs U U.heap ∧ b < U.heap.size ∧ ¬ g.2.2.2.1 b
def cq_xs (m : Nat) (xs : Nat → Int32) (i : Int32) (F : Int32 → Prop) : Prop := if i < 0 ∨ m ≤ i.toNatClampNeg then False else F (xs i.toNatClampNeg)
section CQXX
variable {l : Launch} {g : cx_G} {X : cx_X} {S : cx_S} {cc : ByteArray} {pc : Nat} {lv : List (Nat × Value)} {st : List Value} {M : cx_M} {k n : Nat} {Q : State → Prop}
theorem cq_lenX {b m : Nat} {xs : Nat → Int32} (hZ : lwS g b m xs) (d : decode cc pc = .ok (.arraylength, 1)) (K : cq_V l g X S cc (pc + 1) lv (.int (nI m) :: st) M k n Q) : cq_V l g X S cc pc lv (.ref b :: st) M k n Q := by
  intro hk H locs ls hw hS hl
  obtain ⟨⟨scr, h1, h2, h3, h4, h5⟩, hb, hA⟩ := hZ _ hk.2.2.2.2.2.2.2
  exact W.alen (cc := cc) (n := nI m) hk.1 hk.2.1 (by rw [hS.2.1 b hb hA]; exact h1) h2 (by rw [h4]; rfl) rfl rfl d (K hk H locs ls hw hS hl)
theorem cq_ldX {b m : Nat} {xs : Nat → Int32} {i : Int32} {F : Int32 → Prop} (hZ : lwS g b m xs) (h : cq_xs m xs i F) (d : decode cc pc = .ok (.iaload, 1)) (K : ∀ v, F v → cq_V l g X S cc (pc + 1) lv (.int v :: st) M k n Q) : cq_V l g X S cc pc lv (.int i :: .ref b :: st) M k n Q := by
  unfold cq_xs at h
  split at h
  · exact h.elim
  · next q =>
    intro hk H locs ls hw hS hl
    obtain ⟨⟨scr, h1, h2, h3, h4, h5⟩, hb, hA⟩ := hZ _ hk.2.2.2.2.2.2.2
    exact W.iald (cc := cc) (v := .int (xs i.toNatClampNeg)) hk.1 hk.2.1 (by rw [hS.2.1 b hb hA]; exact h1) h2 h3 (by rw [h4]; exact q) (h5 _ (Nat.not_le.mp fun z => q (Or.inr z))) rfl rfl d (K _ h hk H locs ls hw hS hl)
end CQXX
section CQXL
variable {l : Launch} {g : cx_G} {L : dL} {P : dP} {X : cx_X} {S : cx_S} {cc : ByteArray} {pc : Nat} {lv : List (Nat × Value)} {st : List Value} {M : cx_M} {k n : Nat} {Q : State → Prop}
/-- where what was thrown is caught -/
def cd_han (g : cx_G) (L : dL) (P : dP) (X : cx_X) (S : cx_S) (pc e hpc : Nat) : Prop := ∃ (pre suf : List ExceptionTableEntry) (x0 : ExceptionTableEntry) (nm : String), X.2.2.2.2.2.2.2.exceptionTable.toList = pre ++ x0 :: suf ∧ (∀ z ∈ pre, z.catchType ≠ 0 ∧ ∃ nz, Cond.classLink S.2.1 z.catchType nz ∈ lw_all ∧ ∀ U, cx_K (dG g L P) U → va_Nc (cx_exn e) nz U) ∧ covers x0 pc = true ∧ x0.catchType ≠ 0 ∧ Cond.classLink S.2.1 x0.catchType nm ∈ lw_all ∧ Cond.castable (cx_exn e) nm ∈ lw_tbl ∧ x0.handlerPc = hpc
theorem cd_runL {rv : Int32 → Option Nat → Option Value} {rest st0 : List Value} {a : Array Value} {mc ms : Nat} {F : cd_Qt} (hf : k + mc ≤ S.2.2.2.1.cells ∧ n + ms ≤ S.2.2.2.1.slots)
    (hk : cx_ok (dG g L P) X S cc) {H : Heap} {locs : List Loc} {ls : Array Slot} (hS : va_S g.2.2.2.1 X.2.2.1.heap H locs) (hl : lv_has ls S.1 lv)
    (hr : xe_Run X.1 l X.2.1 S.2.2.2.1 X.2.2.1 X.2.2.2.1 X.2.2.2.2.1 X.2.2.2.2.2.1 X.2.2.2.2.2.2.1 X.2.2.2.2.2.2.2 H locs k n mc ms (F0 X.2.2.2.1 pc ls st0) rest (cd_Q g rv mc ms F a) (cd_XC g mc ms F) g.2.2.2.1)
    (K : ∀ (M' : cx_M) (P' : dP) (L' : dL) (x : Int32) (r : Option Nat) (k' n' : Nat), (k' ≤ mc ∧ n' ≤ ms) → F M' P' L' x r 0 k' n' → cq_V l (dG g L' P') X S cc (pc + 3) lv ((rv x r).toList ++ rest) M' (k + k') (n + n') Q)
    (hx : ∀ (M' : cx_M) (P' : dP) (L' : dL) (x : Int32) (e k' n' q : Nat), (k' ≤ mc ∧ n' ≤ ms) → e ≠ 0 → F M' P' L' x none e k' n' → ∃ hpc, cd_han g L P X S pc e hpc ∧ cq_V l (dG g L' P') X S cc hpc lv [.ref q] M' (k + k') (n + n') Q) :
    W X.1 l X.2.1 S.2.2.2.1 X.2.2.1 X.2.2.2.1 X.2.2.2.2.1 X.2.2.2.2.2.1 X.2.2.2.2.2.2.1 X.2.2.2.2.2.2.2 H locs k n Q (F0 X.2.2.2.1 pc ls st0) := by
  intro T hT XT
  have sz1 := cd_szOf XT.same
  rw [hT] at sz1
  rcases hr T hT XT with ⟨v, st₀, t, T', L1, h0, X', hL, e1, e2, ⟨M', P', L', x, r, k', n', hq, hv, hw', ⟨hz, hq2⟩, hsz, hbb⟩, stp⟩ | ⟨q, st₀, t, T', L1, E, ce, h0, X', hL, e1, e2, ⟨M', P', L', x, e, k', n', hq, hne, hE, hw', ⟨hz, hq2⟩, hsz, hbb, hfl⟩, hce, hcv, hcl, stp⟩
  · cases hv
    rw [h0] at hz hq2 hsz
    have sz := cd_szT sz1 hsz
    rw [← e1] at sz
    obtain ⟨t2, a1, b1⟩ := K M' P' L' x r k' n' hbb hq hk T'.heap (locs ++ L1) ls (by rw [e1]; exact hw')
      ⟨Nat.le_trans hS.1 (by rw [e1]; exact hz), fun q h1 h2 => by rw [e1, hq2 q (Nat.lt_of_lt_of_le h1 hS.1) h2]; exact hS.2.1 q h1 h2, fun q hq => by
        rcases List.mem_append.mp hq with h | h
        · exact hS.2.2 q h
        · exact hL q h⟩ hl T' rfl (cd_stand X' sz)
    exact ⟨t2, stp t2 a1, b1⟩
  · rw [h0] at hz hq2 hsz
    have sz := cd_szT sz1 hsz
    have hsz2 : va_S g.2.2.2.1 X.2.2.1.heap T'.heap (locs ++ L1) := ⟨Nat.le_trans hS.1 (by rw [e1]; exact hz), fun q h1 h2 => by rw [e1, hq2 q (Nat.lt_of_lt_of_le h1 hS.1) h2]; exact hS.2.1 q h1 h2, fun q hq => by
        rcases List.mem_append.mp hq with h | h
        · exact hS.2.2 q h
        · exact hL q h⟩
    obtain ⟨hpc, ⟨pre, suf, x0, nm, hsplit, hpre, hcov, hct, hcl9, hcast, hh⟩, KH⟩ := hx M' P' L' x e k' n' q hbb hne hq
    subst hE
    subst hh
    have out := xe_catch (p := X.1) (l := l) (e := X.2.1) (R := S.2.2.2.1) (s := X.2.2.1) (m := X.2.2.2.1) (args := X.2.2.2.2.1) (below := X.2.2.2.2.2.1) (meth := X.2.2.2.2.2.2.1) (c := X.2.2.2.2.2.2.2) (H := T'.heap) (locs := locs ++ L1) (cells := k + k') (slots := n + n') (pc := pc) (ls := ls) (rest := rest) (E := cx_exn e) (name := nm) (own := S.2.1) (ce := ce) (q := q) (Q := Q) hk.2.2.2.1 pre x0 suf hsplit
      (fun z hz => by
        obtain ⟨c1, nz, c2, c3⟩ := hpre z hz
        exact Or.inr ⟨c1, nz, hk.2.2.2.2.1 _ c2, c3 _ hk.2.2.2.2.2.2.2⟩) hcov hct (hk.2.2.2.2.1 _ hcl9) (va_Nw.use rfl (hk.2.2.2.2.2.2.2.2.1 _ hcast rfl)) (by rw [e1]; exact hce) hcv hcl
      (KH hk T'.heap (locs ++ L1) ls (by rw [e1]; exact hw') hsz2 hl)
    rw [← e1] at sz
    obtain ⟨t2, a1, b1⟩ := out T' rfl (cd_stand X' sz)
    exact ⟨t2, Steps.trans stp a1, b1⟩
/-- a call on b whose exceptions are caught -/
theorem cd_xVL {rv : Int32 → Option Nat → Option Value} {y : MethodName} {cc' : ByteArray} {S' : cx_S} {b index : Nat} {C : String} {F : cd_Qt} (As rest : List Value) {st0 : List Value} (hM : cd_MetX l g y cc' S' rv (.ref b :: As) M P L F) (hB : cx_Rc (dG g L P) b C)
    (d : decode cc pc = .ok (.invokevirtual index, 3)) (hG : GoodIn lw_all (wsV S.2.1 index C y (ws_ y cc' S'.1 S'.2.2.2.2.1))) (hd : y.cls = C ∧ y.cls ≠ "java/lang/invoke/MethodHandle" ∧ y.cls ≠ "java/lang/invoke/VarHandle" ∧ (parseMethodDescriptor y.desc).map (fun d => d.parameters.length) = some As.length)
    (hR : S'.2.2.2.1.frames + 1 ≤ S.2.2.2.1.frames ∧ 8 + (S'.1 + 11) + S'.2.2.2.1.locals ≤ S.2.2.2.1.locals) (hf : k + S'.2.2.2.1.cells ≤ S.2.2.2.1.cells ∧ n + S'.2.2.2.1.slots ≤ S.2.2.2.1.slots) (hst : st0 = As.reverse ++ .ref b :: rest) (hcat : (rest.map fun v => v.category).sum ≤ 8)
    (K : ∀ (M' : cx_M) (P' : dP) (L' : dL) (x : Int32) (r : Option Nat) (k' n' : Nat), (k' ≤ S'.2.2.2.1.cells ∧ n' ≤ S'.2.2.2.1.slots) → F M' P' L' x r 0 k' n' → cq_V l (dG g L' P') X S cc (pc + 3) lv ((rv x r).toList ++ rest) M' (k + k') (n + n') Q)
    (hx : ∀ (M' : cx_M) (P' : dP) (L' : dL) (x : Int32) (e k' n' q : Nat), (k' ≤ S'.2.2.2.1.cells ∧ n' ≤ S'.2.2.2.1.slots) → e ≠ 0 → F M' P' L' x none e k' n' → ∃ hpc, cd_han g L P X S pc e hpc ∧ cq_V l (dG g L' P') X S cc hpc lv [.ref q] M' (k + k') (n + n') Q) : cq_V l (dG g L P) X S cc pc lv st0 M k n Q := by
  intro hk H locs ls hw hS hl
  obtain ⟨ci, q0, T, N, hc, hfs⟩ := hB
  obtain ⟨fs, hfs⟩ := hfs M
  subst hst
  exact cd_runL hf hk hS hl (xe_runV ⟨hk.1, hk.2.1, hk.2.2.1, hk.2.2.2.1, hk.2.2.2.2.1⟩ hM (cwV As.length hk.2.2.2.2.1 hG rfl rfl rfl hd hR) ⟨cd_blind, va_recv hk.2.2.2.2.2.2.2.1 hw.1 hc hfs, fun U hU hW => ⟨rfl, by rw [hU]; exact hw, cx_K.warm (g := g) hk.2.2.2.2.2.2.2 hW (by rw [hU]; exact hS)⟩⟩ rfl rfl hl.1 rfl (lv_room hcat) d hf) K hx
/-- a call on b of a method with handlers, whose exceptions are caught -/
theorem cd_xVLh {rv : Int32 → Option Nat → Option Value} {y : MethodName} {cc' : ByteArray} {S' : cx_S} {b index : Nat} {hh : List (Nat × Nat × Nat × Nat)} {C : String} {F : cd_Qt} (As rest : List Value) {st0 : List Value} (hM : cd_MetH l g y cc' hh S' rv (.ref b :: As) M P L F) (hB : cx_Rc (dG g L P) b C)
    (d : decode cc pc = .ok (.invokevirtual index, 3)) (hG : GoodIn lw_all (wsV S.2.1 index C y (wsW_ y cc' S'.1 S'.2.2.2.2.1 hh))) (hd : y.cls = C ∧ y.cls ≠ "java/lang/invoke/MethodHandle" ∧ y.cls ≠ "java/lang/invoke/VarHandle" ∧ (parseMethodDescriptor y.desc).map (fun d => d.parameters.length) = some As.length)
    (hR : S'.2.2.2.1.frames + 1 ≤ S.2.2.2.1.frames ∧ 8 + (S'.1 + 11) + S'.2.2.2.1.locals ≤ S.2.2.2.1.locals) (hf : k + S'.2.2.2.1.cells ≤ S.2.2.2.1.cells ∧ n + S'.2.2.2.1.slots ≤ S.2.2.2.1.slots) (hst : st0 = As.reverse ++ .ref b :: rest) (hcat : (rest.map fun v => v.category).sum ≤ 8)
    (K : ∀ (M' : cx_M) (P' : dP) (L' : dL) (x : Int32) (r : Option Nat) (k' n' : Nat), (k' ≤ S'.2.2.2.1.cells ∧ n' ≤ S'.2.2.2.1.slots) → F M' P' L' x r 0 k' n' → cq_V l (dG g L' P') X S cc (pc + 3) lv ((rv x r).toList ++ rest) M' (k + k') (n + n') Q)
    (hx : ∀ (M' : cx_M) (P' : dP) (L' : dL) (x : Int32) (e k' n' q : Nat), (k' ≤ S'.2.2.2.1.cells ∧ n' ≤ S'.2.2.2.1.slots) → e ≠ 0 → F M' P' L' x none e k' n' → ∃ hpc, cd_han g L P X S pc e hpc ∧ cq_V l (dG g L' P') X S cc hpc lv [.ref q] M' (k + k') (n + n') Q) : cq_V l (dG g L P) X S cc pc lv st0 M k n Q := by
  intro hk H locs ls hw hS hl
  obtain ⟨ci, q0, T, N, hc, hfs⟩ := hB
  obtain ⟨fs, hfs⟩ := hfs M
  subst hst
  exact cd_runL hf hk hS hl (xe_runVX (hh := hh) ⟨hk.1, hk.2.1, hk.2.2.1, hk.2.2.2.1, hk.2.2.2.2.1⟩ hM (xe_cwVW (hh := hh) As.length hk.2.2.2.2.1 hG rfl rfl rfl hd hR) ⟨cd_blind, va_recv hk.2.2.2.2.2.2.2.1 hw.1 hc hfs, fun U hU hW => ⟨rfl, by rw [hU]; exact hw, cx_K.warm (g := g) hk.2.2.2.2.2.2.2 hW (by rw [hU]; exact hS)⟩⟩ rfl rfl hl.1 rfl (lv_room hcat) d hf) K hx
/-- a static call of a method with handlers that passes nothing on -/
theorem cd_xSN {rv : Int32 → Option Nat → Option Value} {y : MethodName} {cc' : ByteArray} {S' : cx_S} {index : Nat} {hh : List (Nat × Nat × Nat × Nat)} {F : cd_Qt} (As rest : List Value) {st0 : List Value} (hM : cd_MetH l g y cc' hh S' rv As M P L F)
    (d : decode cc pc = .ok (.invokestatic index, 3)) (hG : GoodIn lw_all (va_wsS S.2.1 index y (wsW_ y cc' S'.1 S'.2.2.2.2.1 hh))) (hd : y.cls ≠ "java/lang/invoke/MethodHandle" ∧ y.cls ≠ "java/lang/invoke/VarHandle" ∧ (parseMethodDescriptor y.desc).map (fun d => d.parameters.length) = some As.length)
    (hR : S'.2.2.2.1.frames + 1 ≤ S.2.2.2.1.frames ∧ 8 + (S'.1 + 11) + S'.2.2.2.1.locals ≤ S.2.2.2.1.locals) (hf : k + S'.2.2.2.1.cells ≤ S.2.2.2.1.cells ∧ n + S'.2.2.2.1.slots ≤ S.2.2.2.1.slots) (hst : st0 = As.reverse ++ rest) (hcat : (rest.map fun v => v.category).sum ≤ 8)
    (hx : ∀ (M' : cx_M) (P' : dP) (L' : dL) (x : Int32) (e k' n' : Nat), F M' P' L' x none e k' n' → e = 0)
    (K : ∀ (M' : cx_M) (P' : dP) (L' : dL) (x : Int32) (r : Option Nat) (k' n' : Nat), (k' ≤ S'.2.2.2.1.cells ∧ n' ≤ S'.2.2.2.1.slots) → F M' P' L' x r 0 k' n' → cq_V l (dG g L' P') X S cc (pc + 3) lv ((rv x r).toList ++ rest) M' (k + k') (n + n') Q) : cq_V l (dG g L P) X S cc pc lv st0 M k n Q := by
  intro hk H locs ls hw hS hl
  subst hst
  exact cd_runL hf hk hS hl (xe_runSX (hh := hh) ⟨hk.1, hk.2.1, hk.2.2.1, hk.2.2.2.1, hk.2.2.2.2.1⟩ hM (xe_cwSW (hh := hh) As.length hk.2.2.2.2.1 hG rfl rfl rfl hd hR) ⟨cd_blind, fun U hU hW => ⟨rfl, by rw [hU]; exact hw, cx_K.warm (g := g) hk.2.2.2.2.2.2.2 hW (by rw [hU]; exact hS)⟩⟩ rfl rfl hl.1 rfl (lv_room hcat) d hf) K (fun M' P' L' x e k' n' q _ hne hF => absurd (hx M' P' L' x e k' n' hF) hne)
end CQXL
