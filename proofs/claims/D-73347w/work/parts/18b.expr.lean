/-! RULES: a tree of objects, as a world has it; its signs; what they answer -/
def sx_op (sign a b : Int32) : Int32 := if sign = -20 then a + b else if sign = -21 then a - b else if sign = -22 then a * b else if sign = -23 then (if b = 0 then 0 else a / b) else if sign = -24 then (if a < b then 1 else 0) else if sign = -25 then (if a = b then 1 else 0) else if sign = -26 then (if a ≠ 0 ∧ b ≠ 0 then 1 else 0) else (if a ≠ 0 ∨ b ≠ 0 then 1 else 0)
def sx_act (c : Int32) : Int32 := if c = 43 then -20 else if c = 45 then -21 else if c = 42 then -22 else if c = 47 then -23 else if c = 60 then -24 else if c = 61 then -25 else if c = 38 then -26 else -27
def sx_acts : List Int32 := [43, 45, 42, 47, 60, 61, 38, 124]
/-- one sign over a stack of numbers, the latest first -/
def sx_st (view : Nat → Int32) (st : List Int32) (sign : Int32) : List Int32 :=
  if -20 < sign then (if 0 ≤ sign then sign else view (-1 - sign).toNatClampNeg) :: st
  else if sign = -28 then (match st with
    | x :: r => (if x = 0 then 1 else 0) :: r
    | [] => [])
  else (match st with
    | b :: a :: r => sx_op sign a b :: r
    | r => r)
def sx_ev (view : Nat → Int32) (s : List Int32) : Int32 := (s.foldl (sx_st view) []).headD 0
/-- a tree at a, of at most so many levels; its signs -/
def eT (g : cx_G) (adr : Nat → Nat) : Nat → Nat → List Int32 → Prop
  | 0, _, _ => False
  | h + 1, a, s =>
    (∃ v : Int32, 0 ≤ v ∧ s = [v] ∧ cx_Rc g a RX14 ∧ cx_FR g 0 a ("CircuitCells$Told", "n", "I", true) (.int v)) ∨
    (∃ e : Nat, e < 4 ∧ s = [-1 - nI e] ∧ cx_Rc g a RX15 ∧ cx_FR g 0 a ("CircuitCells$Seen", "value", "LCircuitCells$Value;", true) (.ref (adr (9200 + e)))) ∨
    (∃ (b : Nat) (s1 : List Int32), s = s1 ++ [-28] ∧ cx_Rc g a RX17 ∧ cx_FR g 0 a ("CircuitCells$Not", "part", "LCircuitCells$Expr;", true) (.ref b) ∧ eT g adr h b s1) ∨
    (∃ (c : Int32) (b1 b2 : Nat) (s1 s2 : List Int32), c ∈ sx_acts ∧ s = s1 ++ s2 ++ [sx_act c] ∧ cx_Rc g a RX16 ∧ cx_FR g 0 a ("CircuitCells$Both", "act", "C", true) (.int c) ∧ cx_FR g 1 a ("CircuitCells$Both", "left", "LCircuitCells$Expr;", true) (.ref b1) ∧ cx_FR g 2 a ("CircuitCells$Both", "right", "LCircuitCells$Expr;", true) (.ref b2) ∧ eT g adr h b1 s1 ∧ eT g adr h b2 s2)
theorem eT_up {g : cx_G} {adr : Nat → Nat} : ∀ {h a : Nat} {s : List Int32}, eT g adr h a s → eT g adr (h + 1) a s
  | 0, _, _, q => q.elim
  | h + 1, a, s, q => by
    rcases q with q | q | ⟨b, s1, q1, q2, q3, q4⟩ | ⟨c, b1, b2, s1, s2, q0, q1, q2, q3, q4, q5, q6, q7⟩
    · exact Or.inl q
    · exact Or.inr (Or.inl q)
    · exact Or.inr (Or.inr (Or.inl ⟨b, s1, q1, q2, q3, eT_up q4⟩))
    · exact Or.inr (Or.inr (Or.inr ⟨c, b1, b2, s1, s2, q0, q1, q2, q3, q4, q5, eT_up q6, eT_up q7⟩))
theorem eT_le {g : cx_G} {adr : Nat → Nat} {h h' a : Nat} {s : List Int32} (hh : h ≤ h') (q : eT g adr h a s) : eT g adr h' a s := by
  induction hh with
  | refl => exact q
  | step _ ih => exact eT_up ih
theorem sx_act_ne {c : Int32} (hc : c ∈ sx_acts) : ¬ (-20 < sx_act c) ∧ sx_act c ≠ -28 := by
  simp only [sx_acts, List.mem_cons, List.not_mem_nil, or_false] at hc
  rcases hc with rfl | rfl | rfl | rfl | rfl | rfl | rfl | rfl <;> decide
theorem sx_of {view : Nat → Int32} {s : List Int32} {v : Int32} (h : ∀ st, s.foldl (sx_st view) st = v :: st) : sx_ev view s = v := by
  unfold sx_ev
  rw [h []]
  rfl
theorem sx_stN {view : Nat → Int32} {x : Int32} {st : List Int32} : sx_st view (x :: st) (-28) = (if x = 0 then 1 else 0) :: st := by
  unfold sx_st
  rw [if_neg (by decide), if_pos rfl]
theorem sx_stB {view : Nat → Int32} {a b c : Int32} {st : List Int32} (hc : c ∈ sx_acts) : sx_st view (b :: a :: st) (sx_act c) = sx_op (sx_act c) a b :: st := by
  obtain ⟨z1, z2⟩ := sx_act_ne hc
  unfold sx_st
  rw [if_neg z1, if_neg z2]
theorem sx_stT {view : Nat → Int32} {v : Int32} {st : List Int32} (h0 : 0 ≤ v) : sx_st view st v = v :: st := by
  have h20 : (-20 : Int32) < v := Int32.lt_of_lt_of_le (by decide) h0
  unfold sx_st
  rw [if_pos h20, if_pos h0]
theorem sx_se : ∀ e : Nat, e < 4 → (-20 : Int32) < -1 - nI e ∧ ¬ (0 : Int32) ≤ -1 - nI e ∧ (-1 - (-1 - nI e)).toNatClampNeg = e := by decide
theorem sx_stS {view : Nat → Int32} {e : Nat} {st : List Int32} (he : e < 4) : sx_st view st (-1 - nI e) = view e :: st := by
  obtain ⟨h1, h2, h3⟩ := sx_se e he
  unfold sx_st
  rw [if_pos h1, if_neg h2, h3]
theorem sx_fN {view : Nat → Int32} {s : List Int32} {v : Int32} (h : ∀ st, s.foldl (sx_st view) st = v :: st) (st : List Int32) : (s ++ [-28]).foldl (sx_st view) st = (if v = 0 then 1 else 0) :: st := by
  rw [List.foldl_append, h st, List.foldl_cons, List.foldl_nil, sx_stN]
theorem sx_fB {view : Nat → Int32} {s1 s2 : List Int32} {v1 v2 c : Int32} (hc : c ∈ sx_acts) (h1 : ∀ st, s1.foldl (sx_st view) st = v1 :: st) (h2 : ∀ st, s2.foldl (sx_st view) st = v2 :: st) (st : List Int32) : (s1 ++ s2 ++ [sx_act c]).foldl (sx_st view) st = sx_op (sx_act c) v1 v2 :: st := by
  rw [List.foldl_append, List.foldl_append, h1 st, h2, List.foldl_cons, List.foldl_nil, sx_stB hc]
/-- a tree's signs lay one number -/
theorem eT_ev {g : cx_G} {adr : Nat → Nat} {view : Nat → Int32} (h : Nat) : ∀ (a : Nat) (s : List Int32), eT g adr h a s → ∀ st, s.foldl (sx_st view) st = sx_ev view s :: st := by
  induction h with
  | zero => exact fun _ _ q => q.elim
  | succ h ih =>
    intro a s q
    have k : ∃ v, ∀ st, s.foldl (sx_st view) st = v :: st := by
      rcases q with ⟨v, q0, q1, -⟩ | ⟨e, he, q1, -⟩ | ⟨b, s1, q1, -, -, q4⟩ | ⟨c, b1, b2, s1, s2, q0, q1, -, -, -, -, q6, q7⟩
      · exact ⟨v, fun st => by rw [q1, List.foldl_cons, List.foldl_nil, sx_stT q0]⟩
      · exact ⟨view e, fun st => by rw [q1, List.foldl_cons, List.foldl_nil, sx_stS he]⟩
      · exact ⟨_, fun st => by rw [q1]; exact sx_fN (ih b s1 q4) st⟩
      · exact ⟨_, fun st => by rw [q1]; exact sx_fB q0 (ih b1 s1 q6) (ih b2 s2 q7) st⟩
    obtain ⟨v, k⟩ := k
    rw [sx_of k]
    exact k
theorem sx_told {view : Nat → Int32} {v : Int32} (h0 : 0 ≤ v) : sx_ev view [v] = v := sx_of (fun st => by rw [List.foldl_cons, List.foldl_nil, sx_stT h0])
theorem sx_seen {view : Nat → Int32} {e : Nat} (he : e < 4) : sx_ev view [-1 - nI e] = view e := sx_of (fun st => by rw [List.foldl_cons, List.foldl_nil, sx_stS he])
theorem sx_not {g : cx_G} {adr : Nat → Nat} {view : Nat → Int32} {h a : Nat} {s : List Int32} (q : eT g adr h a s) : sx_ev view (s ++ [-28]) = (if sx_ev view s = 0 then 1 else 0) := sx_of (sx_fN (eT_ev h a s q))
theorem sx_both {g : cx_G} {adr : Nat → Nat} {view : Nat → Int32} {h1 h2 a1 a2 : Nat} {s1 s2 : List Int32} {c : Int32} (hc : c ∈ sx_acts) (q1 : eT g adr h1 a1 s1) (q2 : eT g adr h2 a2 s2) : sx_ev view (s1 ++ s2 ++ [sx_act c]) = sx_op (sx_act c) (sx_ev view s1) (sx_ev view s2) := sx_of (sx_fB hc (eT_ev h1 a1 s1 q1) (eT_ev h2 a2 s2 q2))
abbrev sEx (mx : Nat) (C : String) (h : Nat) : cx_S := (mx, C, cx_rI, { frames := h, cells := 0, slots := 0, locals := 24 * h }, some .int, false)
section EXW
variable {l : Launch} {g : cx_G} {X : cx_X} {S : cx_S} {cc : ByteArray} {pc : Nat} {lv : List (Nat × Value)} {st : List Value} {M : cx_M} {k n : Nat} {rs : cx_R} {Q : State → Prop}
theorem cx_tabI {x : Int32} {dflt lo hi : Int} {offs : Array Int} {len : Nat} (tgt : Nat) (off : Int) (d : decode cc pc = .ok (.tableswitch dflt lo hi offs, len)) (h1 : ¬ x.toInt < lo) (h2 : ¬ x.toInt > hi) (h3 : offs[(x.toInt - lo).toNat]? = some off) (h4 : (pc : Int) + off = (tgt : Int)) (K : cx_V l g X S cc tgt lv st M k n rs) : cx_V l g X S cc pc lv (.int x :: st) M k n rs :=
  fun hk H locs ls hw hS hl => lv_tableIn hk.1 hk.2.1 d h1 h2 h3 h4 (K hk H locs ls hw hS hl)
theorem cx_tabO {x : Int32} {dflt lo hi : Int} {offs : Array Int} {len : Nat} (tgt : Nat) (d : decode cc pc = .ok (.tableswitch dflt lo hi offs, len)) (h1 : x.toInt < lo ∨ x.toInt > hi) (h4 : (pc : Int) + dflt = (tgt : Int)) (K : cx_V l g X S cc tgt lv st M k n rs) : cx_V l g X S cc pc lv (.int x :: st) M k n rs :=
  fun hk H locs ls hw hS hl => lv_tableOut hk.1 hk.2.1 d h1 h4 (K hk H locs ls hw hS hl)
/-- a call of a method that the class named declares without code -/
theorem cq_cAi {x y : MethodName} {cc' : ByteArray} {S' : cx_S} {b index : Nat} {C owner : String} {o : Option cx_R} {F : cx_M → Int32 → Prop} (As rest : List Value) {st0 : List Value} (h : cq_cal o F) (hM : ∀ rs', o = some rs' → cx_Met l g y cc' S' (.ref b :: As) M rs') (hB : cx_Rc g b C)
    (d : decode cc pc = .ok (.invokevirtual index, 3)) (hG : GoodIn lw_all (va_wsU S.2.1 index C owner x y (ws_ y cc' S'.1 S'.2.2.2.2.1))) (hd : Cond.declares ⟨owner, x.name, x.desc⟩ ∈ lw_tbl ∧ owner ≠ "java/lang/invoke/MethodHandle" ∧ owner ≠ "java/lang/invoke/VarHandle" ∧ (parseMethodDescriptor x.desc).map (fun d => d.parameters.length) = some As.length)
    (hR : S'.2.2.2.1.frames + 1 ≤ S.2.2.2.1.frames ∧ 8 + (S'.1 + 11) + S'.2.2.2.1.locals ≤ S.2.2.2.1.locals) (hk1 : S'.2.2.1 = cx_rI) (hz : S'.2.2.2.1.cells = 0 ∧ S'.2.2.2.1.slots = 0) (hf : k ≤ S.2.2.2.1.cells ∧ n ≤ S.2.2.2.1.slots) (hst : st0 = As.reverse ++ .ref b :: rest) (hcat : (rest.map fun v => v.category).sum ≤ 8)
    (K : ∀ M' r, F M' r → cq_V l g X S cc (pc + 3) lv (.int r :: rest) M' k n Q) : cq_V l g X S cc pc lv st0 M k n Q := by
  intro hk H locs ls hw hS hl
  obtain ⟨rs', ho, h⟩ := cq_cal_some h
  obtain ⟨ci, q0, T, N, hc, hfs⟩ := hB
  obtain ⟨fs, hfs⟩ := hfs M
  subst hst
  refine cq_run hk hS hl (va_runU (mc := S'.2.2.2.1.cells) (ms := S'.2.2.2.1.slots) ⟨hk.1, hk.2.1, hk.2.2.1, hk.2.2.2.1, hk.2.2.2.2.1⟩ (hM rs' ho) (va_cwA As.length hk.2.2.2.2.1 hG rfl rfl rfl (hk.2.2.2.2.2.2.2.2.1 _ hd.1 rfl) hd.2 hR) ⟨cx_blind, va_recv hk.2.2.2.2.2.2.2.1 hw.1 hc hfs, fun U hU hW => ⟨rfl, by rw [hU]; exact hw, cx_K.warm hk.2.2.2.2.2.2.2 hW (by rw [hU]; exact hS)⟩⟩ rfl rfl hl.1 rfl (lv_room hcat) d (by rw [hz.1, hz.2]; exact hf)) ?_
  rw [hz.1, hz.2, hk1]
  exact K _ _ h
end EXW
abbrev exX : MethodName := ⟨"CircuitCells$Expr", "by", "(LCircuitCells$View;)I"⟩
theorem ex_hd : Cond.declares ⟨"CircuitCells$Expr", exX.name, exX.desc⟩ ∈ lw_tbl ∧ "CircuitCells$Expr" ≠ "java/lang/invoke/MethodHandle" ∧ "CircuitCells$Expr" ≠ "java/lang/invoke/VarHandle" ∧ (parseMethodDescriptor exX.desc).map (fun d => d.parameters.length) = some 1 := ⟨q1204, by decide, by decide, by decide +kernel⟩
theorem ex_g14 (own : String) (ix : Nat) (hml : Cond.methodLink own ix exX ∈ lw_all) : GoodIn lw_all (va_wsU own ix RX14 "CircuitCells$Expr" exX yX14_by (ws_ yX14_by cX14_by 2 (some .int))) := by
  refine lw_app ?_ (lw_meth q1217)
  intro w hw
  simp only [List.mem_cons, List.not_mem_nil, or_false] at hw
  rcases hw with e | e | e | e | e
  · rw [e]; exact hml
  · rw [e]; exact q1205
  · rw [e]; exact q1220
  · rw [e]; exact q1216
  · rw [e]; exact q153
theorem ex_g15 (own : String) (ix : Nat) (hml : Cond.methodLink own ix exX ∈ lw_all) : GoodIn lw_all (va_wsU own ix RX15 "CircuitCells$Expr" exX yX15_by (ws_ yX15_by cX15_by 2 (some .int))) := by
  refine lw_app ?_ (lw_meth q1214)
  intro w hw
  simp only [List.mem_cons, List.not_mem_nil, or_false] at hw
  rcases hw with e | e | e | e | e
  · rw [e]; exact hml
  · rw [e]; exact q1205
  · rw [e]; exact q1219
  · rw [e]; exact q1213
  · rw [e]; exact q154
theorem ex_g17 (own : String) (ix : Nat) (hml : Cond.methodLink own ix exX ∈ lw_all) : GoodIn lw_all (va_wsU own ix RX17 "CircuitCells$Expr" exX yX17_by (ws_ yX17_by cX17_by 2 (some .int))) := by
  refine lw_app ?_ (lw_meth q1211)
  intro w hw
  simp only [List.mem_cons, List.not_mem_nil, or_false] at hw
  rcases hw with e | e | e | e | e
  · rw [e]; exact hml
  · rw [e]; exact q1205
  · rw [e]; exact q1218
  · rw [e]; exact q1210
  · rw [e]; exact q156
theorem ex_g16 (own : String) (ix : Nat) (hml : Cond.methodLink own ix exX ∈ lw_all) : GoodIn lw_all (va_wsU own ix RX16 "CircuitCells$Expr" exX yX16_by (ws_ yX16_by cX16_by 4 (some .int))) := by
  refine lw_app ?_ (lw_meth q1208)
  intro w hw
  simp only [List.mem_cons, List.not_mem_nil, or_false] at hw
  rcases hw with e | e | e | e | e
  · rw [e]; exact hml
  · rw [e]; exact q1205
  · rw [e]; exact q1206
  · rw [e]; exact q1207
  · rw [e]; exact q155
theorem ex_gO : GoodIn lw_all (va_wsU RX15 19 "CircuitCells$Value" "java/lang/Enum" ⟨"CircuitCells$Value", "ordinal", "()I"⟩ yJ18_ordinal (ws_ yJ18_ordinal cJ18_ordinal 1 (some .int))) := by
  refine lw_app ?_ (lw_meth q1184)
  intro w hw
  simp only [List.mem_cons, List.not_mem_nil, or_false] at hw
  rcases hw with e | e | e | e | e
  · rw [e]; exact q1215
  · rw [e]; exact q1180
  · rw [e]; exact q1182
  · rw [e]; exact q1183
  · rw [e]; exact q138
/-- a rule's call: what is known of the tree at b answers -/
theorem ex_row {l : Launch} {g : cx_G} {adr : Nat → Nat} {vw : Nat} {h : Nat} (HM : ∀ (a : Nat) (s : List Int32), eT g adr h a s → ∃ (C : String) (y : MethodName) (cc' : ByteArray) (mx : Nat), mx ≤ 4 ∧ cx_Rc g a C ∧ (∀ (own : String) (ix : Nat), Cond.methodLink own ix exX ∈ lw_all → GoodIn lw_all (va_wsU own ix C "CircuitCells$Expr" exX y (ws_ y cc' mx (some .int)))) ∧ ∀ M : cx_M, cx_Met l g y cc' (sEx mx y.cls h) [.ref a, .ref vw] M (M, sx_ev (M 8011) s, 0))
    {X : cx_X} {S : cx_S} {cc : ByteArray} {pc : Nat} {lv : List (Nat × Value)} {st : List Value} {M : cx_M} {k n : Nat} {Q : State → Prop} {b index : Nat} {s : List Int32} (hb : eT g adr h b s) (d : decode cc pc = .ok (.invokevirtual index, 3)) (hml : Cond.methodLink S.2.1 index exX ∈ lw_all) (hfr : h + 1 ≤ S.2.2.2.1.frames) (hlo : 24 * h + 23 ≤ S.2.2.2.1.locals) (hcat : (st.map fun v => v.category).sum ≤ 8) (hf : k ≤ S.2.2.2.1.cells ∧ n ≤ S.2.2.2.1.slots)
    (K : cq_V l g X S cc (pc + 3) lv (.int (sx_ev (M 8011) s) :: st) M k n Q) : cq_V l g X S cc pc lv (.ref vw :: .ref b :: st) M k n Q := by
  obtain ⟨C, y, cc', mx, h1, h2, h3, h4⟩ := HM b s hb
  refine cq_cAi (x := exX) (owner := "CircuitCells$Expr") (y := y) (cc' := cc') (S' := sEx mx y.cls h) (o := some (M, sx_ev (M 8011) s, 0)) (F := fun M' r => M' = M ∧ r = sx_ev (M 8011) s) [.ref vw] st ⟨rfl, rfl⟩ (fun rs' h' => by cases h'; exact h4 M) h2 d (h3 _ _ hml) ex_hd ⟨hfr, by show 8 + (mx + 11) + 24 * h ≤ _; omega⟩ rfl ⟨rfl, rfl⟩ hf rfl hcat (fun M' r h' => ?_)
  obtain ⟨rfl, rfl⟩ := h'
  exact K
theorem ex_tail {l : Launch} {g : cx_G} {X : cx_X} {h : Nat} {A0 A1 : Value} {M : cx_M} {a b c : Int32} (hc : c ∈ sx_acts) : cx_V l g X (sEx 4 RX16 h) cX16_by 22 [(3, .int b), (2, .int a), (0, A0), (1, A1)] [.int c] M 0 0 (M, sx_op (sx_act c) a b, 0) := by
  simp only [sx_acts, List.mem_cons, List.not_mem_nil, or_false] at hc
  rcases hc with rfl | rfl | rfl | rfl | rfl | rfl | rfl | rfl
  · refine cx_tabI 132 110 dX16_by_22 (by decide) (by decide) rfl rfl ?_
    refine cx_iload_n 1 dX16_by_132 rfl ?_
    refine cx_iload_n 0 dX16_by_133 rfl ?_
    refine cx_iadd dX16_by_134 ?_
    exact cx_iret rfl rfl rfl (Nat.le_refl _) (Nat.le_refl _) dX16_by_135
  · refine cx_tabI 136 114 dX16_by_22 (by decide) (by decide) rfl rfl ?_
    refine cx_iload_n 1 dX16_by_136 rfl ?_
    refine cx_iload_n 0 dX16_by_137 rfl ?_
    refine cx_isub dX16_by_138 ?_
    exact cx_iret rfl rfl rfl (Nat.le_refl _) (Nat.le_refl _) dX16_by_139
  · refine cx_tabI 140 118 dX16_by_22 (by decide) (by decide) rfl rfl ?_
    refine cx_iload_n 1 dX16_by_140 rfl ?_
    refine cx_iload_n 0 dX16_by_141 rfl ?_
    refine cx_imul dX16_by_142 ?_
    exact cx_iret rfl rfl rfl (Nat.le_refl _) (Nat.le_refl _) dX16_by_143
  · refine cx_tabI 144 122 dX16_by_22 (by decide) (by decide) rfl rfl ?_
    have e : sx_op (sx_act 47) a b = if b = 0 then 0 else a / b := rfl
    rw [e]
    refine cx_iload_n 0 dX16_by_144 rfl ?_
    refine cx_if_ne (A := some (M, 0, 0)) (B := cx_nz b (some (M, a / b, 0))) 152 ?_ dX16_by_145 rfl (fun h => ?_) (fun h => ?_)
    · by_cases q : b = 0
      · rw [if_pos q, if_pos q]
      · rw [if_neg q, if_neg q]
        unfold cx_nz
        rw [if_neg q]
    · refine cx_iload_n 1 dX16_by_152 rfl ?_
      refine cx_iload_n 0 dX16_by_153 rfl ?_
      refine cx_idiv h dX16_by_154 (fun h => ?_)
      exact cx_iret h rfl rfl (Nat.le_refl _) (Nat.le_refl _) dX16_by_155
    · refine cx_iconst 0 dX16_by_148 cx_ic_0 ?_
      refine cx_goto 155 dX16_by_149 rfl ?_
      exact cx_iret h rfl rfl (Nat.le_refl _) (Nat.le_refl _) dX16_by_155
  · refine cx_tabI 156 134 dX16_by_22 (by decide) (by decide) rfl rfl ?_
    have e : (some (M, sx_op (sx_act 60) a b, (0 : Nat)) : Option cx_R) = if b ≤ a then some (M, 0, 0) else some (M, 1, 0) := by
      show some (M, (if a < b then (1 : Int32) else 0), 0) = _
      by_cases q : a < b
      · rw [if_pos q, if_neg (Int32.not_le.mpr q)]
      · rw [if_neg q, if_pos (Int32.not_lt.mp q)]
    refine cx_iload_n 1 dX16_by_156 rfl ?_
    refine cx_iload_n 0 dX16_by_157 rfl ?_
    refine cx_icmp_ge 165 e.symm dX16_by_158 rfl (fun h => ?_) (fun h => ?_)
    · refine cx_iconst 0 dX16_by_165 cx_ic_0 ?_
      exact cx_iret h rfl rfl (Nat.le_refl _) (Nat.le_refl _) dX16_by_166
    · refine cx_iconst 1 dX16_by_161 cx_ic_1 ?_
      refine cx_goto 166 dX16_by_162 rfl ?_
      exact cx_iret h rfl rfl (Nat.le_refl _) (Nat.le_refl _) dX16_by_166
  · refine cx_tabI 167 145 dX16_by_22 (by decide) (by decide) rfl rfl ?_
    have e : (some (M, sx_op (sx_act 61) a b, (0 : Nat)) : Option cx_R) = if a = b then some (M, 1, 0) else some (M, 0, 0) := by
      show some (M, (if a = b then (1 : Int32) else 0), 0) = _
      by_cases q : a = b
      · rw [if_pos q, if_pos q]
      · rw [if_neg q, if_neg q]
    refine cx_iload_n 1 dX16_by_167 rfl ?_
    refine cx_iload_n 0 dX16_by_168 rfl ?_
    refine cx_icmp_ne 176 e.symm dX16_by_169 rfl (fun h => ?_) (fun h => ?_)
    · refine cx_iconst 0 dX16_by_176 cx_ic_0 ?_
      exact cx_iret h rfl rfl (Nat.le_refl _) (Nat.le_refl _) dX16_by_177
    · refine cx_iconst 1 dX16_by_172 cx_ic_1 ?_
      refine cx_goto 177 dX16_by_173 rfl ?_
      exact cx_iret h rfl rfl (Nat.le_refl _) (Nat.le_refl _) dX16_by_177
  · refine cx_tabI 178 156 dX16_by_22 (by decide) (by decide) rfl rfl ?_
    have e : (some (M, sx_op (sx_act 38) a b, (0 : Nat)) : Option cx_R) = if a = 0 then some (M, 0, 0) else if b = 0 then some (M, 0, 0) else some (M, 1, 0) := by
      show some (M, (if a ≠ 0 ∧ b ≠ 0 then (1 : Int32) else 0), 0) = _
      by_cases q : a = 0
      · rw [if_pos q, if_neg (fun z => z.1 q)]
      · rw [if_neg q]
        by_cases q2 : b = 0
        · rw [if_pos q2, if_neg (fun z => z.2 q2)]
        · rw [if_neg q2, if_pos ⟨q, q2⟩]
    refine cx_iload_n 1 dX16_by_178 rfl ?_
    refine cx_if_eq 190 e.symm dX16_by_179 rfl (fun h => ?_) (fun h => ?_)
    · refine cx_iconst 0 dX16_by_190 cx_ic_0 ?_
      exact cx_iret h rfl rfl (Nat.le_refl _) (Nat.le_refl _) dX16_by_191
    · refine cx_iload_n 0 dX16_by_182 rfl ?_
      refine cx_if_eq 190 h dX16_by_183 rfl (fun h => ?_) (fun h => ?_)
      · refine cx_iconst 0 dX16_by_190 cx_ic_0 ?_
        exact cx_iret h rfl rfl (Nat.le_refl _) (Nat.le_refl _) dX16_by_191
      · refine cx_iconst 1 dX16_by_186 cx_ic_1 ?_
        refine cx_goto 191 dX16_by_187 rfl ?_
        exact cx_iret h rfl rfl (Nat.le_refl _) (Nat.le_refl _) dX16_by_191
  · refine cx_tabO 192 dX16_by_22 (Or.inr (by decide)) rfl ?_
    have e : (some (M, sx_op (sx_act 124) a b, (0 : Nat)) : Option cx_R) = if a = 0 then (if b = 0 then some (M, 0, 0) else some (M, 1, 0)) else some (M, 1, 0) := by
      show some (M, (if a ≠ 0 ∨ b ≠ 0 then (1 : Int32) else 0), 0) = _
      by_cases q : a = 0
      · rw [if_pos q]
        by_cases q2 : b = 0
        · rw [if_pos q2, if_neg (fun z => z.elim (fun z => z q) (fun z => z q2))]
        · rw [if_neg q2, if_pos (Or.inr q2)]
      · rw [if_neg q, if_pos (Or.inl q)]
    refine cx_iload_n 1 dX16_by_192 rfl ?_
    refine cx_if_ne 200 e.symm dX16_by_193 rfl (fun h => ?_) (fun h => ?_)
    · refine cx_iconst 1 dX16_by_200 cx_ic_1 ?_
      refine cx_goto 205 dX16_by_201 rfl ?_
      exact cx_iret h rfl rfl (Nat.le_refl _) (Nat.le_refl _) dX16_by_205
    · refine cx_iload_n 0 dX16_by_196 rfl ?_
      refine cx_if_eq 204 h dX16_by_197 rfl (fun h => ?_) (fun h => ?_)
      · refine cx_iconst 0 dX16_by_204 cx_ic_0 ?_
        exact cx_iret h rfl rfl (Nat.le_refl _) (Nat.le_refl _) dX16_by_205
      · refine cx_iconst 1 dX16_by_200 cx_ic_1 ?_
        refine cx_goto 205 dX16_by_201 rfl ?_
        exact cx_iret h rfl rfl (Nat.le_refl _) (Nat.le_refl _) dX16_by_205
/-- what a tree's walk needs of the world besides: the view, its row, the values -/
def exH (g : cx_G) (adr : Nat → Nat) : Prop := cx_FR g 0 (adr 8010) ("CircuitCells$View", "of", "[I", true) (.ref (adr 8011)) ∧ cx_AI g 8011 4 (adr 8011) 0 .int ∧ cEn_H0 g adr
theorem ex_met {l : Launch} {g : cx_G} {adr : Nat → Nat} (H : exH g adr) (h : Nat) : ∀ (a : Nat) (s : List Int32), eT g adr h a s → ∃ (C : String) (y : MethodName) (cc' : ByteArray) (mx : Nat), mx ≤ 4 ∧ cx_Rc g a C ∧ (∀ (own : String) (ix : Nat), Cond.methodLink own ix exX ∈ lw_all → GoodIn lw_all (va_wsU own ix C "CircuitCells$Expr" exX y (ws_ y cc' mx (some .int)))) ∧ ∀ M : cx_M, cx_Met l g y cc' (sEx mx y.cls h) [.ref a, .ref (adr 8010)] M (M, sx_ev (M 8011) s, 0) := by
  induction h with
  | zero => exact fun _ _ q => q.elim
  | succ h ih =>
    intro a s q
    rcases q with ⟨v, q0, rfl, q2, q3⟩ | ⟨e, he, rfl, q2, q3⟩ | ⟨b, s1, rfl, q2, q3, q4⟩ | ⟨c, b1, b2, s1, s2, q0, rfl, q2, q3, q4, q5, q6, q7⟩
    · refine ⟨RX14, yX14_by, cX14_by, 2, by decide, q2, ex_g14, fun M => ?_⟩
      rw [sx_told q0]
      exact cx_met (by decide +kernel) rfl rfl (lv := [(0, .ref a), (1, .ref (adr 8010))]) rfl (cx_le rfl) (fun X => by
        refine cx_aload_n 0 dX14_by_0 rfl ?_
        refine cx_getR q3 q1669 dX14_by_1 ?_
        exact cx_iret rfl rfl rfl (Nat.zero_le _) (Nat.zero_le _) dX14_by_4)
    · refine ⟨RX15, yX15_by, cX15_by, 2, by decide, q2, ex_g15, fun M => ?_⟩
      rw [sx_seen he]
      exact cx_met (by decide +kernel) rfl rfl (lv := [(0, .ref a), (1, .ref (adr 8010))]) rfl (cx_le rfl) (fun X => by
        have hh : cx_cal (some (M, nI e, 0)) (fun M1 v => cx_ld M1 8011 4 v fun z => some (M1, z, 0)) = some (M, M 8011 e, 0) := by
          unfold cx_cal cx_ld
          dsimp only
          rw [if_neg (vp_in_nI he (by decide)), nI_clamp (by omega)]
        refine cx_aload_n 1 dX15_by_0 rfl ?_
        refine cx_getRN H.1 q553 dX15_by_1 ?_
        refine cx_aload_n 0 dX15_by_4 rfl ?_
        refine cx_getR q3 q1696 dX15_by_5 ?_
        refine cx_cUi [] [.ref (adr 8011)] hh (fun rs' h' => jEn_ordinal_m (fun M U p q => ((H.2.2 U q).2.2.2.2 e he).2) M rs' h') (fun M U p q => ((H.2.2 U q).2.2.2.2 e he).1) dX15_by_8 ex_gO rfl (by decide +kernel) q1184 ⟨by show 0 + 1 ≤ h + 1; omega, by show 8 + (1 + 11) + 0 ≤ 24 * (h + 1); omega⟩ rfl ⟨rfl, rfl⟩ ⟨Nat.zero_le _, Nat.zero_le _⟩ rfl (cx_le rfl) (fun M1 v h => ?_)
        refine cx_ldI h H.2.1 dX15_by_11 (fun z h => ?_)
        exact cx_iret h rfl rfl (Nat.zero_le _) (Nat.zero_le _) dX15_by_12)
    · refine ⟨RX17, yX17_by, cX17_by, 2, by decide, q2, ex_g17, fun M => ?_⟩
      rw [sx_not q4]
      have e0 : (some (M, (if sx_ev (M 8011) s1 = 0 then (1 : Int32) else 0), (0 : Nat)) : Option cx_R) = if sx_ev (M 8011) s1 = 0 then some (M, 1, 0) else some (M, 0, 0) := by
        split <;> rfl
      exact cx_met (by decide +kernel) rfl rfl (lv := [(0, .ref a), (1, .ref (adr 8010))]) rfl (cx_le rfl) (fun X => by
        refine cx_aload_n 0 dX17_by_0 rfl ?_
        refine cx_getR q3 q1738 dX17_by_1 ?_
        refine cx_aload_n 1 dX17_by_4 rfl ?_
        refine ex_row ih q4 dX17_by_5 q1212 (by show h + 1 ≤ h + 1; omega) (by show 24 * h + 23 ≤ 24 * (h + 1); omega) (cx_le rfl) ⟨Nat.zero_le _, Nat.zero_le _⟩ ?_
        refine cx_if_ne 15 e0.symm dX17_by_8 rfl (fun h => ?_) (fun h => ?_)
        · refine cx_iconst 0 dX17_by_15 cx_ic_0 ?_
          exact cx_iret h rfl rfl (Nat.zero_le _) (Nat.zero_le _) dX17_by_16
        · refine cx_iconst 1 dX17_by_11 cx_ic_1 ?_
          refine cx_goto 16 dX17_by_12 rfl ?_
          exact cx_iret h rfl rfl (Nat.zero_le _) (Nat.zero_le _) dX17_by_16)
    · refine ⟨RX16, yX16_by, cX16_by, 4, by decide, q2, ex_g16, fun M => ?_⟩
      rw [sx_both q0 q6 q7]
      exact cx_met (by decide +kernel) rfl rfl (lv := [(0, .ref a), (1, .ref (adr 8010))]) rfl (cx_le rfl) (fun X => by
        refine cx_aload_n 0 dX16_by_0 rfl ?_
        refine cx_getR q4 q1720 dX16_by_1 ?_
        refine cx_aload_n 1 dX16_by_4 rfl ?_
        refine ex_row ih q6 dX16_by_5 q1209 (by show h + 1 ≤ h + 1; omega) (by show 24 * h + 23 ≤ 24 * (h + 1); omega) (cx_le rfl) ⟨Nat.zero_le _, Nat.zero_le _⟩ ?_
        refine cx_istore_n [(2, .int (sx_ev (M 8011) s1)), (0, .ref a), (1, .ref (adr 8010))] dX16_by_8 (cx_lt rfl) rfl ?_
        refine cx_aload_n 1 dX16_by_9 rfl ?_
        refine cx_getR q5 q1721 dX16_by_10 ?_
        refine cx_aload_n 2 dX16_by_13 rfl ?_
        refine ex_row ih q7 dX16_by_14 q1209 (by show h + 1 ≤ h + 1; omega) (by show 24 * h + 23 ≤ 24 * (h + 1); omega) (cx_le rfl) ⟨Nat.zero_le _, Nat.zero_le _⟩ ?_
        refine cx_istore_n [(3, .int (sx_ev (M 8011) s2)), (2, .int (sx_ev (M 8011) s1)), (0, .ref a), (1, .ref (adr 8010))] dX16_by_17 (cx_lt rfl) rfl ?_
        refine cx_aload_n 2 dX16_by_18 rfl ?_
        refine cx_getR q3 q1719 dX16_by_19 ?_
        exact ex_tail q0)
