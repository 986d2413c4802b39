/-! methods that may throw: contracts, calls that pass on what was thrown -/
theorem cx_fin_t {g : cx_G} {X : cx_X} {S : cx_S} {rs : cx_R} (h : S.2.2.2.2.2 = true) : cx_fin g X S rs = xe_MQ X.2.2.2.2.2.1 (fun a st o t => rs.2.2 = 0 ∧ cx_Q g S rs a st o t) (cx_XC g rs) X.2.2.2.2.1 X.2.2.1 S.2.2.2.1.cells S.2.2.2.1.slots g.2.2.2.1 := by
  unfold cx_fin
  rw [if_pos h]
theorem cx_metX {l : Launch} {g : cx_G} {y : MethodName} {cc : ByteArray} {S : cx_S} {args : List Value} {M : cx_M} {rs : cx_R} (hy : plainName y.cls = true) (hown : y.cls = S.2.1) (hmo : S.2.2.2.2.2 = true) {lv : List (Nat × Value)} (hlv : lv_args 0 args = lv) (hsz : (lg_sl args).length ≤ S.1)
    (body : ∀ X : cx_X, cx_V l g X S cc 0 lv [] M 0 0 rs) : cx_MetX l g y cc S args M rs := by
  refine xe_ofW (cc := cc) (maxL := S.1) (ret := S.2.2.2.2.1) hy rfl ?_
  intro p e s m args' below meth c s₁ B hml hex hv
  obtain ⟨rfl, hw, hK⟩ := hv
  have hts := atoms_spec (ws := ws_ y cc S.1 S.2.2.2.2.1) B.pre
  have hts : ∀ w ∈ lw_all, w.before _ s = true := fun w h => hts w (List.mem_cons_of_mem _ h)
  have hownc : s.vm.findClass S.2.1 = some m.cls := by rw [← hown]; exact findClass_of_methodNamed B.named
  rw [lg_entry_eq]
  have K := body (p, e, s, m, _, below, meth, c) ⟨B.exec, B.bytes, hml, hownc, hts, ⟨B.notSynchronized, fun _ => hex⟩, B.returns, hK⟩ s.heap [] _ hw va_S.rf (hlv ▸ lv_entry args hsz)
  rw [cx_fin_t hmo] at K
  exact K
def cx_calX (o : Option cx_R) (f : cx_M → Int32 → Option cx_R) : Option cx_R := match o with
  | none => none
  | some r => if r.2.2 = 0 then f r.1 r.2.1 else some r
section CXX
variable {l : Launch} {g : cx_G} {X : cx_X} {S : cx_S} {cc : ByteArray} {pc : Nat} {lv : List (Nat × Value)} {st : List Value} {M : cx_M} {k n : Nat} {rs : cx_R}
/-- what stands behind a call that may throw: nothing is caught here -/
theorem cx_runX {S' : cx_S} {rest st0 : List Value} {a : Array Value} {rs' : cx_R} {F : cx_M → Int32 → Option cx_R} {mc ms : Nat} (hmo : S.2.2.2.2.2 = true) (hf : k + mc ≤ S.2.2.2.1.cells ∧ n + ms ≤ S.2.2.2.1.slots) (h : cx_calX (some rs') F = some rs)
    (hk : cx_ok g X S cc) {H : Heap} {locs : List Loc} {ls : Array Slot} (hS : va_S g.2.2.2.1 X.2.2.1.heap H locs) (hl : lv_has ls S.1 lv)
    (hr : xe_Run X.1 l X.2.1 S.2.2.2.1 X.2.2.1 X.2.2.2.1 X.2.2.2.2.1 X.2.2.2.2.2.1 X.2.2.2.2.2.2.1 X.2.2.2.2.2.2.2 H locs k n mc ms (F0 X.2.2.2.1 pc ls st0) rest ((fun a st o t => rs'.2.2 = 0 ∧ cx_Q g S' rs' a st o t) a) (cx_XC g rs') g.2.2.2.1)
    (K : F rs'.1 rs'.2.1 = some rs → cx_V l g X S cc (pc + 3) lv ((S'.2.2.1 rs'.2.1).toList ++ rest) rs'.1 (k + mc) (n + ms) rs) :
    W X.1 l X.2.1 S.2.2.2.1 X.2.2.1 X.2.2.2.1 X.2.2.2.2.1 X.2.2.2.2.2.1 X.2.2.2.2.2.2.1 X.2.2.2.2.2.2.2 H locs k n (cx_fin g X S rs) (F0 X.2.2.2.1 pc ls st0) := by
  intro T hT XT
  rcases hr T hT XT with ⟨v, st₀, t, T', L, h0, X', hL, e1, e2, ⟨hz0, hv, hw', hz, hq⟩, stp⟩ | ⟨q, st₀, t, T', L, E, ce, h0, X', hL, e1, e2, ⟨hE, hne, hw', ⟨hz, hq⟩, hsz, hfl⟩, hce, hcv, hcl, stp⟩
  · cases hv
    unfold cx_calX at h
    dsimp only at h
    rw [if_pos hz0] at h
    rw [h0] at hz hq
    obtain ⟨t2, a1, b1⟩ := K h hk T'.heap (locs ++ L) ls (by rw [e1]; exact hw')
      ⟨Nat.le_trans hS.1 (by rw [e1]; exact hz), fun q h1 h2 => by rw [e1, hq q (Nat.lt_of_lt_of_le h1 hS.1) h2]; exact hS.2.1 q h1 h2, fun q hq => by
        rcases List.mem_append.mp hq with h | h
        · exact hS.2.2 q h
        · exact hL q h⟩ hl T' rfl X'
    exact ⟨t2, stp t2 a1, b1⟩
  · unfold cx_calX at h
    dsimp only at h
    rw [if_neg hne] at h
    cases h
    rw [h0] at hz hq hsz
    have out := xe_out (p := X.1) (l := l) (e := X.2.1) (R := S.2.2.2.1) (s := X.2.2.1) (m := X.2.2.2.1) (args := X.2.2.2.2.1) (below := X.2.2.2.2.2.1) (meth := X.2.2.2.2.2.2.1) (c := X.2.2.2.2.2.2.2) (H := T'.heap) (locs := locs ++ L) (cells := k + mc) (slots := n + ms) (pc := pc) (ls := ls) (rest := rest) (E := E) (ce := ce) (q := q) (mc := S.2.2.2.1.cells) (ms := S.2.2.2.1.slots) (free := g.2.2.2.1) (Qc := fun a st o t => rs.2.2 = 0 ∧ cx_Q g S rs a st o t) (XC := cx_XC g rs)
      (fun x hx => absurd (hk.2.2.2.2.2.1.2 hmo x hx) id) hk.2.2.2.2.2.1.1 (by rw [e1]; exact hce) hcv hcl
      (fun t2 ht2 hA => ⟨hE, hne, by rw [ht2, e1]; exact hw', ⟨by rw [ht2, e1]; exact Nat.le_trans hS.1 hz, fun a h1 h2 => by rw [ht2, e1, hq a (Nat.lt_of_lt_of_le h1 hS.1) h2]; exact hS.2.1 a h1 h2⟩, Nat.le_trans hS.1 hsz, fun h10 => by
        obtain ⟨fs, f1, f2⟩ := hfl h10
        exact ⟨fs, by rw [ht2, e1]; exact f1, f2⟩⟩)
      (fun z hz => by
        rcases List.mem_append.mp hz with h | h
        · exact hS.2.2 z h
        · exact hL z h) hf.1 hf.2
    obtain ⟨t2, a1, b1⟩ := out T' rfl X'
    refine ⟨t2, Steps.trans stp a1, ?_⟩
    rw [cx_fin_t hmo]
    exact b1
theorem cx_xcV {y : MethodName} {cc' : ByteArray} {S' : cx_S} {b index : Nat} {C : String} {o : Option cx_R} {F : cx_M → Int32 → Option cx_R} (As rest : List Value) {st0 : List Value} (h : cx_calX o F = some rs) (hM : ∀ rs', o = some rs' → cx_MetX l g y cc' S' (.ref b :: As) M rs') (hB : cx_Rc g b C)
    (d : decode cc pc = .ok (.invokevirtual index, 3)) (hG : GoodIn lw_all (wsV S.2.1 index C y (ws_ y cc' S'.1 S'.2.2.2.2.1))) (hd : y.cls = C ∧ y.cls ≠ "java/lang/invoke/MethodHandle" ∧ y.cls ≠ "java/lang/invoke/VarHandle" ∧ (parseMethodDescriptor y.desc).map (fun d => d.parameters.length) = some As.length)
    (hR : S'.2.2.2.1.frames + 1 ≤ S.2.2.2.1.frames ∧ 8 + (S'.1 + 11) + S'.2.2.2.1.locals ≤ S.2.2.2.1.locals) (hmo : S.2.2.2.2.2 = true) (hf : k + S'.2.2.2.1.cells ≤ S.2.2.2.1.cells ∧ n + S'.2.2.2.1.slots ≤ S.2.2.2.1.slots) (hst : st0 = As.reverse ++ .ref b :: rest) (hcat : (rest.map fun v => v.category).sum ≤ 8)
    (K : ∀ M' r, F M' r = some rs → cx_V l g X S cc (pc + 3) lv ((S'.2.2.1 r).toList ++ rest) M' (k + S'.2.2.2.1.cells) (n + S'.2.2.2.1.slots) rs) : cx_V l g X S cc pc lv st0 M k n rs := by
  intro hk H locs ls hw hS hl
  cases o with
  | none => cases h
  | some rs' =>
    obtain ⟨ci, q0, T, N, hc, hfs⟩ := hB
    obtain ⟨fs, hfs⟩ := hfs M
    subst hst
    exact cx_runX (S' := S') hmo hf h hk hS hl (xe_runV (mc := S'.2.2.2.1.cells) (ms := S'.2.2.2.1.slots) ⟨hk.1, hk.2.1, hk.2.2.1, hk.2.2.2.1, hk.2.2.2.2.1⟩ (hM rs' rfl) (cwV As.length hk.2.2.2.2.1 hG rfl rfl rfl hd hR) ⟨cx_blind, va_recv hk.2.2.2.2.2.2.2.1 hw.1 hc hfs, fun U hU hW => ⟨rfl, by rw [hU]; exact hw, cx_K.warm hk.2.2.2.2.2.2.2 hW (by rw [hU]; exact hS)⟩⟩ rfl rfl hl.1 rfl (lv_room hcat) d hf) (K _ _)
theorem cx_xcS {y : MethodName} {cc' : ByteArray} {S' : cx_S} {index : Nat} {o : Option cx_R} {F : cx_M → Int32 → Option cx_R} (As rest : List Value) {st0 : List Value} (h : cx_calX o F = some rs) (hM : ∀ rs', o = some rs' → cx_MetX l g y cc' S' As M rs')
    (d : decode cc pc = .ok (.invokestatic index, 3)) (hG : GoodIn lw_all (va_wsS S.2.1 index y (ws_ y cc' S'.1 S'.2.2.2.2.1))) (hd : y.cls ≠ "java/lang/invoke/MethodHandle" ∧ y.cls ≠ "java/lang/invoke/VarHandle" ∧ (parseMethodDescriptor y.desc).map (fun d => d.parameters.length) = some As.length)
    (hR : S'.2.2.2.1.frames + 1 ≤ S.2.2.2.1.frames ∧ 8 + (S'.1 + 11) + S'.2.2.2.1.locals ≤ S.2.2.2.1.locals) (hmo : S.2.2.2.2.2 = true) (hf : k + S'.2.2.2.1.cells ≤ S.2.2.2.1.cells ∧ n + S'.2.2.2.1.slots ≤ S.2.2.2.1.slots) (hst : st0 = As.reverse ++ rest) (hcat : (rest.map fun v => v.category).sum ≤ 8)
    (K : ∀ M' r, F M' r = some rs → cx_V l g X S cc (pc + 3) lv ((S'.2.2.1 r).toList ++ rest) M' (k + S'.2.2.2.1.cells) (n + S'.2.2.2.1.slots) rs) : cx_V l g X S cc pc lv st0 M k n rs := by
  intro hk H locs ls hw hS hl
  cases o with
  | none => cases h
  | some rs' =>
    subst hst
    exact cx_runX (S' := S') hmo hf h hk hS hl (xe_runS (mc := S'.2.2.2.1.cells) (ms := S'.2.2.2.1.slots) ⟨hk.1, hk.2.1, hk.2.2.1, hk.2.2.2.1, hk.2.2.2.2.1⟩ (hM rs' rfl) (va_cwS As.length hk.2.2.2.2.1 hG rfl rfl rfl hd hR) ⟨cx_blind, fun U hU hW => ⟨rfl, by rw [hU]; exact hw, cx_K.warm hk.2.2.2.2.2.2.2 hW (by rw [hU]; exact hS)⟩⟩ rfl rfl hl.1 rfl (lv_room hcat) d hf) (K _ _)
end CXX
