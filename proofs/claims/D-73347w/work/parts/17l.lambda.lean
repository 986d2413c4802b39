/-! LAMBDAS: rows -/
/-- what is known of a site: its class, its one object; its interface's method -/
def lm_K (x : MethodName) (pcx idx : Nat) (σ : Lambda.Shape) (cK : ClassId) (one : Option Addr) (U : State) : Prop :=
  U.lambdaAt? x pcx idx σ = some (cK, one) ∧ (Cond.declares ⟨σ.iface, σ.name, σ.sam.toString⟩).before #[] U = true ∧ (Cond.interfaceMethod σ.iface σ.iface σ.name σ.sam.toString).before #[] U = true
def lm_code1 : ByteArray := ⟨#[0x2b, 0xb8, 0x00, 0x11, 0xac]⟩
theorem lm_d10 : decode lm_code1 0 = .ok (.aload_n 1, 1) := by decide +kernel
theorem lm_d11 : decode lm_code1 1 = .ok (.invokestatic 17, 3) := by decide +kernel
theorem lm_d14 : decode lm_code1 4 = .ok (.ireturn, 1) := by decide +kernel
def lm_code2 : ByteArray := ⟨#[0x2b, 0x1c, 0xb8, 0x00, 0x11, 0xac]⟩
theorem lm_d20 : decode lm_code2 0 = .ok (.aload_n 1, 1) := by decide +kernel
theorem lm_d21 : decode lm_code2 1 = .ok (.iload_n 2, 1) := by decide +kernel
theorem lm_d22 : decode lm_code2 2 = .ok (.invokestatic 17, 3) := by decide +kernel
theorem lm_d25 : decode lm_code2 5 = .ok (.ireturn, 1) := by decide +kernel
theorem lm_before {c : Cond} (hc : c.onTables = true) (hk : c.keeps = true ∨ ∃ ty, c = .arrayClass ty) {s U : State} {A A' : Array Value} (hW : s.WarmedH U.vm) (h : c.before A s = true) : c.before A' U = true :=
  word_at hW (hk.elim (fun z => Or.inl (by rw [hc, z]; rfl)) Or.inr) h
section LMR
variable {l : Launch} {g : cx_G} {X : cx_X} {S : cx_S} {cc : ByteArray} {pc : Nat} {lv : List (Nat × Value)} {st : List Value} {M : cx_M} {k n : Nat} {Q : State → Prop}
/-- behind an interface's call that answers an int and makes nothing -/
theorem cq_back5 {rest st0 : List Value} {r : Int32} {M' : cx_M} {T T' t s1 : State} {H : Heap} {locs L1 : List Loc} {ls : Array Slot} {v : Option Value}
    (hk : cx_ok g X S cc) (hT : T.heap = H) (h0 : s1.heap = T.heap) (hS : va_S g.2.2.2.1 X.2.2.1.heap H locs) (hl : lv_has ls S.1 lv)
    (X' : Stand X.1 l X.2.1 S.2.2.2.1 X.2.2.1 X.2.2.2.1 X.2.2.2.2.1 X.2.2.2.2.2.1 X.2.2.2.2.2.2.1 X.2.2.2.2.2.2.2 T' (locs ++ L1) (k + 0) (n + 0)) (hL : ∀ q ∈ L1, g.2.2.2.1 q.base) (e1 : T'.heap = t.heap)
    (hq : Outcome.returned v = .returned (some (.int r)) ∧ cx_w g M' t.heap ∧ va_F g.2.2.2.1 s1 t)
    (stp : ∀ target, Steps X.1.tables X.2.1 X.2.2.2.2.2.1 (T'.setTop { (F0 X.2.2.2.1 pc ls st0) with pc := pc + 5, stack := v.toList ++ rest }) target → Steps X.1.tables X.2.1 X.2.2.2.2.2.1 (T.setTop (F0 X.2.2.2.1 pc ls st0)) target)
    (K : cq_V l g X S cc (pc + 5) lv (.int r :: rest) M' k n Q) : ∃ t, Steps X.1.tables X.2.1 X.2.2.2.2.2.1 (T.setTop (F0 X.2.2.2.1 pc ls st0)) t ∧ Q t := by
  obtain ⟨hv, hw', hz, hq2⟩ := hq
  cases hv
  rw [h0, hT] at hz hq2
  obtain ⟨t2, a1, b1⟩ := K hk T'.heap (locs ++ L1) ls (by rw [e1]; exact hw')
    ⟨Nat.le_trans hS.1 (by rw [e1]; exact hz), fun q h1 h2 => by rw [e1, hq2 q (Nat.lt_of_lt_of_le h1 hS.1) h2]; exact hS.2.1 q h1 h2, fun q hq => by
      rcases List.mem_append.mp hq with h | h
      · exact hS.2.2 q h
      · exact hL q h⟩ hl T' rfl X'
  exact ⟨t2, stp t2 a1, b1⟩
/-- what a site's word gives at the method's start and at the heap at hand -/
theorem lm_site {x : MethodName} {pcx idx : Nat} {σ : Lambda.Shape} {cK : ClassId} {a : Addr} {H : Heap} {locs : List Loc} (hk : cx_ok g X S cc) (hS : va_S g.2.2.2.1 X.2.2.1.heap H locs) (hla : ∀ U, cx_K g U → lm_K x pcx idx σ cK (some a) U) (hxc : x.cls = "CircuitCells") :
    ∃ (d : ClassId) (dk : Class) (cell : Cell), X.2.2.1.vm.classes[d]? = some dk ∧ dk.name = "CircuitCells" ∧ Lambda.isMade { classPath := fun _ => none } X.2.2.1.vm d σ cK = true ∧ X.2.2.1.lambdaCallable σ cK = true ∧ H[a]? = some cell ∧ cell.cls = cK ∧ cell.vm = .none := by
  have h1 := (hla _ hk.2.2.2.2.2.2.2).1
  have h2 := (hla _ (hk.2.2.2.2.2.2.2.at hS)).1
  obtain ⟨m, k, cf, i0, p0, l0, a1, a2, -, -, -, -, a3, a4, -⟩ := State.lambdaAt?_spec h1
  obtain ⟨-, -, -, -, -, l1, -, -, -, -, -, -, -, -, b5⟩ := State.lambdaAt?_spec h2
  obtain ⟨kn, hkn, hnn⟩ := className_of_methodNamed a1
  cases a2.symm.trans hkn
  rcases b5 with ⟨b, cell, -, c1, -, c2, c3, c4, -⟩ | ⟨-, c1, -⟩
  · cases c1
    exact ⟨m.cls, k, cell, a2, by rw [hnn]; exact hxc, a3, a4, c2, c3, c4⟩
  · cases c1
theorem lm_nI_ok : True := trivial
/-- a call of an object without captured values, of one argument, an int comes back -/
theorem cq_lamS1 {x : MethodName} {pcx idx : Nat} {σ : Lambda.Shape} {cK : ClassId} {a b : Addr} {y : MethodName} {cc' : ByteArray} {S' : cx_S} {index count ci nt nn : Nat} {o : Option cx_R} {F : cx_M → Int32 → Prop} (rest : List Value) {st0 : List Value}
    (h : cq_cal o F) (hM : ∀ rs', o = some rs' → cx_Met l g y cc' S' [.ref b] M rs') (hla : ∀ U, cx_K g U → lm_K x pcx idx σ cK (some a) U) (hok : lm_ok σ [0x2b, 0xb8, 0x00, 0x11, 0xac] 2 17 ci nt nn = true)
    (hσ : x.cls = "CircuitCells" ∧ σ.implClass = "CircuitCells" ∧ (σ.iface ≠ "java/lang/invoke/MethodHandle" ∧ σ.iface ≠ "java/lang/invoke/VarHandle") ∧ y = ⟨"CircuitCells", σ.implName, σ.implDesc.toString⟩ ∧ σ.sam.returnType = some .int ∧ (parseMethodDescriptor σ.sam.toString).map (fun d => d.parameters.length) = some 1 ∧ (parseMethodDescriptor y.desc).map (fun d => d.parameters.length) = some 1)
    (d : decode cc pc = .ok (.invokeinterface index count, 5)) (hml : Cond.methodLink S.2.1 index ⟨σ.iface, σ.name, σ.sam.toString⟩ ∈ lw_all) (hG : GoodIn lw_all (ws_ y cc' S'.1 S'.2.2.2.2.1)) (hstat : Cond.static y ∈ lw_all) (hini : Cond.initialized "CircuitCells" ∈ lw_all) (hmo : S'.2.2.1 = cx_rI ∧ S'.2.2.2.1.cells = 0 ∧ S'.2.2.2.1.slots = 0)
    (hR : S'.2.2.2.1.frames + 2 ≤ S.2.2.2.1.frames ∧ 8 + 13 + (8 + (S'.1 + 11) + S'.2.2.2.1.locals) ≤ S.2.2.2.1.locals) (hf : k ≤ S.2.2.2.1.cells ∧ n ≤ S.2.2.2.1.slots) (hst : st0 = .ref b :: .ref a :: rest) (hcat : (rest.map fun v => v.category).sum ≤ 8)
    (K : ∀ M' r, F M' r → cq_V l g X S cc (pc + 5) lv (.int r :: rest) M' k n Q) : cq_V l g X S cc pc lv st0 M k n Q := by
  intro hk H locs ls hw hS hl T hT XT
  obtain ⟨rs', ho, h⟩ := cq_cal_some h
  have hMm := hM rs' ho
  unfold cx_Met at hMm
  rw [hmo.2.1, hmo.2.2] at hMm
  obtain ⟨h1, h2, h3, h4, h5, h6, h7⟩ := hσ
  subst hst
  obtain ⟨d0, dk, cell, f1, f2, f3, f4, f5, f6, f7⟩ := lm_site hk hS hla h1
  obtain ⟨v, s1, t, T', L, p1, X', p2, p3, p4, p5, p6⟩ := lm_out (p := X.1) (l := l) (e := X.2.1) (R := S.2.2.2.1) (s := X.2.2.1) (m := X.2.2.2.1) (args := X.2.2.2.2.1) (below := X.2.2.2.2.2.1) (meth := X.2.2.2.2.2.2.1) (c := X.2.2.2.2.2.2.2) (T := T) (locs := locs) (cells := k) (slots := n)
    (own := S.2.1) (index := index) (count := count) (σ := σ) (d := d0) (cK := cK) (dk := dk) (As := [.ref b]) (rest := rest) (a := a) (cell := cell) (g := F0 X.2.2.2.1 pc ls (.ref b :: .ref a :: rest)) (R' := { frames := S'.2.2.2.1.frames + 1, cells := 0, slots := 0, locals := 8 + (S'.1 + 11) + S'.2.2.2.1.locals })
    (Qa := fun st oc t => oc = .returned (some (.int rs'.2.1)) ∧ cx_w g rs'.1 t.heap ∧ va_F g.2.2.2.1 st t) (free := g.2.2.2.1)
    XT hk.1 hk.2.2.2.1 (hk.2.2.2.2.1 _ hml) (va_any rfl (hla _ hk.2.2.2.2.2.2.2).2.1) (va_any rfl (hla _ hk.2.2.2.2.2.2.2).2.2) h3 f1 f2 f3 f4 h2 hok (by rw [hT]; exact f5) f6 f7 rfl (by rw [hk.2.2.1]; exact hl.1) rfl (fun sig hs => by rw [hs] at h6; exact (Option.some.inj h6).symm)
    (by rw [hk.2.1]; exact d) (by simpa [JFrame.monitorRoom] using hcat) hR.1 hR.2 hf.1 hf.2 (fun s1 methk ck cls tk tt d1 dk1 hW hh HF e1 e2 e3 => by
      obtain ⟨k1, file1, -, -, -, -, -, -, -, g8, g9, g10, -, g12, -⟩ := HF
      rw [lg_entry_eq]
      have hl2 := lv_entry [.ref a, .ref b] (n := 2) (cx_le rfl)
      generalize ((lg_sl [Value.ref a, .ref b] ++ List.replicate (2 - (lg_sl [Value.ref a, .ref b]).length) Slot.unset).toArray) = ls2 at hl2
      refine lv_aload_n hk.1 g8 lm_d10 rfl (lv_at hl2 1 rfl) ?_
      refine lm_callS (n := nn) (As := [.ref b]) (rest := []) (y := y) (ybytes := cc') (ymax := S'.1) (yret := S'.2.2.2.2.1) hk.1 g8 lm_d11 (by rw [g9]; exact hl2.1) e1 e2 e3 h2 hok h4 (word_at hW (hG _ (List.mem_cons_self)).2 (hk.2.2.2.2.1 _ (hG _ (List.mem_cons_self)).1)) (word_at hW (Or.inl rfl) (hk.2.2.2.2.1 _ hstat)) (word_at hW (Or.inl rfl) (hk.2.2.2.2.1 _ hini))
        (fun sig hs => by rw [hs] at h7; exact (Option.some.inj h7).symm) hMm cx_blind hmo.2.1 hmo.2.2 (fun w hw a' U hU => pay_in hk.2.2.2.2.1 hG w hw a' U (hW.trans hU)) (List.mem_cons_self) (Nat.le_refl _) (Nat.le_refl _) (Nat.le_refl _) (Nat.le_refl _) (Nat.zero_le _)
        (fun U hU hWU => ⟨rfl, by rw [hU, hT]; exact hw, cx_K.warm hk.2.2.2.2.2.2.2 (hW.trans hWU) (by rw [hU, hT]; exact hS)⟩) ?_
      intro v st0 t L H' q1 q2 q3 q4
      obtain ⟨q5, q6, q7⟩ := q3
      rw [hmo.1] at q5
      cases q5
      refine W.iret (free := g.2.2.2.1) hk.1 g8 (by rw [g12, h5]) (fun t2 ht2 hWt => ⟨rfl, by rw [ht2, ← q2]; exact q6, ?_⟩) (fun q hq => by simpa using q4 q (by simpa using hq)) lm_d14 (hlocks := g10)
      unfold va_F at q7 ⊢
      rw [ht2, ← q2, hh, ← q1]
      exact q7)
  exact cq_back5 hk hT p1 hS hl X' p2 p3 p5 p6 (K _ _ h)
/-- .. of two arguments, a truth value comes back -/
theorem cq_lamS2 {x : MethodName} {pcx idx : Nat} {σ : Lambda.Shape} {cK : ClassId} {a b : Addr} {z : Int32} {y : MethodName} {cc' : ByteArray} {S' : cx_S} {index count ci nt nn : Nat} {o : Option cx_R} {F : cx_M → Int32 → Prop} (rest : List Value) {st0 : List Value}
    (h : cq_cal o F) (hM : ∀ rs', o = some rs' → cx_Met l g y cc' S' [.ref b, .int z] M rs') (hzz : ∀ rs', o = some rs' → narrow .boolean (.int rs'.2.1) = .int rs'.2.1) (hla : ∀ U, cx_K g U → lm_K x pcx idx σ cK (some a) U) (hok : lm_ok σ [0x2b, 0x1c, 0xb8, 0x00, 0x11, 0xac] 3 17 ci nt nn = true)
    (hσ : x.cls = "CircuitCells" ∧ σ.implClass = "CircuitCells" ∧ (σ.iface ≠ "java/lang/invoke/MethodHandle" ∧ σ.iface ≠ "java/lang/invoke/VarHandle") ∧ y = ⟨"CircuitCells", σ.implName, σ.implDesc.toString⟩ ∧ σ.sam.returnType = some .boolean ∧ (parseMethodDescriptor σ.sam.toString).map (fun d => d.parameters.length) = some 2 ∧ (parseMethodDescriptor y.desc).map (fun d => d.parameters.length) = some 2)
    (d : decode cc pc = .ok (.invokeinterface index count, 5)) (hml : Cond.methodLink S.2.1 index ⟨σ.iface, σ.name, σ.sam.toString⟩ ∈ lw_all) (hG : GoodIn lw_all (ws_ y cc' S'.1 S'.2.2.2.2.1)) (hstat : Cond.static y ∈ lw_all) (hini : Cond.initialized "CircuitCells" ∈ lw_all) (hmo : S'.2.2.1 = cx_rI ∧ S'.2.2.2.1.cells = 0 ∧ S'.2.2.2.1.slots = 0)
    (hR : S'.2.2.2.1.frames + 2 ≤ S.2.2.2.1.frames ∧ 8 + 14 + (8 + (S'.1 + 11) + S'.2.2.2.1.locals) ≤ S.2.2.2.1.locals) (hf : k ≤ S.2.2.2.1.cells ∧ n ≤ S.2.2.2.1.slots) (hst : st0 = .int z :: .ref b :: .ref a :: rest) (hcat : (rest.map fun v => v.category).sum ≤ 8)
    (K : ∀ M' r, F M' r → cq_V l g X S cc (pc + 5) lv (.int r :: rest) M' k n Q) : cq_V l g X S cc pc lv st0 M k n Q := by
  intro hk H locs ls hw hS hl T hT XT
  obtain ⟨rs', ho, h⟩ := cq_cal_some h
  have hMm := hM rs' ho
  unfold cx_Met at hMm
  rw [hmo.2.1, hmo.2.2] at hMm
  obtain ⟨h1, h2, h3, h4, h5, h6, h7⟩ := hσ
  subst hst
  obtain ⟨d0, dk, cell, f1, f2, f3, f4, f5, f6, f7⟩ := lm_site hk hS hla h1
  obtain ⟨v, s1, t, T', L, p1, X', p2, p3, p4, p5, p6⟩ := lm_out (p := X.1) (l := l) (e := X.2.1) (R := S.2.2.2.1) (s := X.2.2.1) (m := X.2.2.2.1) (args := X.2.2.2.2.1) (below := X.2.2.2.2.2.1) (meth := X.2.2.2.2.2.2.1) (c := X.2.2.2.2.2.2.2) (T := T) (locs := locs) (cells := k) (slots := n)
    (own := S.2.1) (index := index) (count := count) (σ := σ) (d := d0) (cK := cK) (dk := dk) (As := [.ref b, .int z]) (rest := rest) (a := a) (cell := cell) (g := F0 X.2.2.2.1 pc ls (.int z :: .ref b :: .ref a :: rest)) (R' := { frames := S'.2.2.2.1.frames + 1, cells := 0, slots := 0, locals := 8 + (S'.1 + 11) + S'.2.2.2.1.locals })
    (Qa := fun st oc t => oc = .returned (some (.int rs'.2.1)) ∧ cx_w g rs'.1 t.heap ∧ va_F g.2.2.2.1 st t) (free := g.2.2.2.1)
    XT hk.1 hk.2.2.2.1 (hk.2.2.2.2.1 _ hml) (va_any rfl (hla _ hk.2.2.2.2.2.2.2).2.1) (va_any rfl (hla _ hk.2.2.2.2.2.2.2).2.2) h3 f1 f2 f3 f4 h2 hok (by rw [hT]; exact f5) f6 f7 rfl (by rw [hk.2.2.1]; exact hl.1) rfl (fun sig hs => by rw [hs] at h6; exact (Option.some.inj h6).symm)
    (by rw [hk.2.1]; exact d) (by simpa [JFrame.monitorRoom] using hcat) hR.1 hR.2 hf.1 hf.2 (fun s1 methk ck cls tk tt d1 dk1 hW hh HF e1 e2 e3 => by
      obtain ⟨k1, file1, -, -, -, -, -, -, -, g8, g9, g10, -, g12, -⟩ := HF
      rw [lg_entry_eq]
      have hl2 := lv_entry [.ref a, .ref b, .int z] (n := 3) (cx_le rfl)
      generalize ((lg_sl [Value.ref a, .ref b, .int z] ++ List.replicate (3 - (lg_sl [Value.ref a, .ref b, .int z]).length) Slot.unset).toArray) = ls2 at hl2
      refine lv_aload_n hk.1 g8 lm_d20 rfl (lv_at hl2 1 rfl) ?_
      refine lv_iload_n hk.1 g8 lm_d21 rfl (lv_at hl2 2 rfl) ?_
      refine lm_callS (n := nn) (As := [.ref b, .int z]) (rest := []) (y := y) (ybytes := cc') (ymax := S'.1) (yret := S'.2.2.2.2.1) hk.1 g8 lm_d22 (by rw [g9]; exact hl2.1) e1 e2 e3 h2 hok h4 (word_at hW (hG _ (List.mem_cons_self)).2 (hk.2.2.2.2.1 _ (hG _ (List.mem_cons_self)).1)) (word_at hW (Or.inl rfl) (hk.2.2.2.2.1 _ hstat)) (word_at hW (Or.inl rfl) (hk.2.2.2.2.1 _ hini))
        (fun sig hs => by rw [hs] at h7; exact (Option.some.inj h7).symm) hMm cx_blind hmo.2.1 hmo.2.2 (fun w hw a' U hU => pay_in hk.2.2.2.2.1 hG w hw a' U (hW.trans hU)) (List.mem_cons_self) (Nat.le_refl _) (Nat.le_refl _) (Nat.le_refl _) (Nat.le_refl _) (Nat.zero_le _)
        (fun U hU hWU => ⟨rfl, by rw [hU, hT]; exact hw, cx_K.warm hk.2.2.2.2.2.2.2 (hW.trans hWU) (by rw [hU, hT]; exact hS)⟩) ?_
      intro v st0 t L H' q1 q2 q3 q4
      obtain ⟨q5, q6, q7⟩ := q3
      rw [hmo.1] at q5
      cases q5
      refine W.zret (free := g.2.2.2.1) hk.1 g8 (by rw [g12, h5]) (hzz rs' ho) (fun t2 ht2 hWt => ⟨rfl, by rw [ht2, ← q2]; exact q6, ?_⟩) (fun q hq => by simpa using q4 q (by simpa using hq)) lm_d25 (hlocks := g10)
      unfold va_F at q7 ⊢
      rw [ht2, ← q2, hh, ← q1]
      exact q7)
  exact cq_back5 hk hT p1 hS hl X' p2 p3 p5 p6 (K _ _ h)
end LMR
