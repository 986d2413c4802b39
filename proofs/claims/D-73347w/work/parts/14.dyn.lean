/-! DYNAMIC WORLDS: to a world come cells at addresses: their ints in the memory's cells dc a, their references in P -/
/-- a dynamic cell's kind: (0, class, _) an object; (1, type, n) ints; (2, _, n) longs; (3, type, n) references -/
abbrev dk : Type := Nat × Nat × Nat
abbrev dL : Type := List (Nat × dk)
abbrev dP : Type := Nat → Nat → Option Nat
def dc (a : Nat) : Nat := 10000000 + a
def dF1 : List Nat := [0, 1, 3, 4, 5, 6, 7, 8, 11, 22, 23, 26, 27, 28, 33, 34, 35, 38, 39, 40, 41, 47, 48, 49, 50, 51, 100, 101, 102, 103, 104, 105, 106, 108, 111, 112, 113, 114, 115, 200, 201, 202, 203, 204, 301, 302, 400, 401, 500, 501, 502, 503, 504, 600, 707, 708, 709, 710, 800, 900, 1000, 1006, 1007, 1008, 1100, 1234, 1235, 1236, 1237, 1238, 1239, 1240, 1241, 1245, 1400, 1500, 1501, 1502, 1503, 1504, 1700, 1800, 1900, 2001, 2100, 2202, 2203, 2300, 2301, 2304, 2400, 2401, 2402, 2500, 2501, 2502, 2503, 2504]
def dF2 : List Nat := [300, 1300, 1600]
/-- how a field stands: 0 an int of the memory, 1 a reference of P, 2 a number of P -/
def dFk (ci k : Nat) : Nat := bif dF1.contains (100 * ci + k) then 1 else bif dF2.contains (100 * ci + k) then 2 else 0
def dNf (ci : Nat) : Nat := ((vwCl[ci]?).map (fun r => r.2.2)).getD 0
def dFv (ci k : Nat) (f : Nat → Int32) (p : Nat → Option Nat) : Value := match dFk ci k with
  | 0 => .int (f k)
  | 1 => va_rf (p k)
  | _ => .int (nI ((p k).getD 0))
def dE (dA : Nat → ClassId) (kd : dk) (f : Nat → Int32) (p : Nat → Option Nat) : va_E := match kd.1 with
  | 0 => .inr (kd.2.1, (List.range (dNf kd.2.1)).map (fun k => dFv kd.2.1 k f p))
  | 1 => .inl (dA kd.2.1, kd.2.2, .inl f)
  | 2 => .inl (dA 3, kd.2.2, .inr (.inl (bt_w f)))
  | _ => .inl (dA kd.2.1, kd.2.2, .inr (.inr (.inr (.inr p))))
def dW (dA : Nat → ClassId) (L : dL) (P : dP) (M : cx_M) : va_W := L.map (fun x => (x.1, dE dA x.2 (M (dc x.1)) (P x.1)))
def dG (g : cx_G) (L : dL) (P : dP) : cx_G := (g.1, g.2.1, fun M => g.2.2.1 M ++ dW g.2.1 L P M, g.2.2.2.1, g.2.2.2.2)
/-- what a base must have: always as many cells, none of them by the memory's high cells; new addresses lie in its area -/
def dB (g : cx_G) : Prop := (∃ z : Nat, ∀ M, (g.2.2.1 M).length = z) ∧ (∀ M c f, 9999999 ≤ c → g.2.2.1 (cx_set M c f) = g.2.2.1 M) ∧ (∀ U : State, cx_K g U → ∀ q, U.heap.size ≤ q → g.2.2.2.1 q)
def dN (L : dL) : Prop := ∀ (i j : Nat) (x y : Nat × dk), L[i]? = some x → L[j]? = some y → x.1 = y.1 → i = j
def dPn (P : dP) (a : Nat) : dP := fun b => if b = a then fun _ => none else P b
def dPu (P : dP) (a k : Nat) (v : Option Nat) : dP := fun b => if b = a then va_up (P a) k v else P b
def dPs (P : dP) (a : Nat) (f : Nat → Option Nat) : dP := fun b => if b = a then f else P b
theorem dc_inj {a b : Nat} (h : dc a = dc b) : a = b := by unfold dc at h; omega
theorem dc_ge (a : Nat) : 9999999 ≤ dc a := by unfold dc; omega
theorem dW_len {dA : Nat → ClassId} {L : dL} {P : dP} {M : cx_M} : (dW dA L P M).length = L.length := by simp [dW]
theorem dW_get {dA : Nat → ClassId} {L : dL} {P : dP} {M : cx_M} {i : Nat} {x : Nat × dk} (h : L[i]? = some x) : (dW dA L P M)[i]? = some (x.1, dE dA x.2 (M (dc x.1)) (P x.1)) := by
  unfold dW
  rw [List.getElem?_map, h]
  rfl
theorem dG_get {g : cx_G} {L : dL} {P : dP} {M : cx_M} {z i : Nat} {x : Nat × dk} (hz : ∀ M, (g.2.2.1 M).length = z) (h : L[i]? = some x) : ((dG g L P).2.2.1 M)[z + i]? = some (x.1, dE g.2.1 x.2 (M (dc x.1)) (P x.1)) := by
  show (g.2.2.1 M ++ dW g.2.1 L P M)[z + i]? = _
  rw [List.getElem?_append_right (by rw [hz]; omega), hz, Nat.add_sub_cancel_left]
  exact dW_get h
theorem dN_of {g : cx_G} {L : dL} {P : dP} {M : cx_M} {H : Heap} (hb : dB g) (hw : cx_w (dG g L P) M H) : dN L := by
  obtain ⟨z, hz⟩ := hb.1
  intro i j x y hx hy e
  have h := hw.2.1 (z + i) (z + j) _ _ (dG_get hz hx) (dG_get hz hy) e
  omega
theorem dW_set {dA : Nat → ClassId} {L : dL} {P P' : dP} {M M' : cx_M} {i a : Nat} {kd : dk} (hn : dN L) (hi : L[i]? = some (a, kd)) (hM : ∀ b, b ≠ a → M' (dc b) = M (dc b)) (hP : ∀ b, b ≠ a → P' b = P b) :
    (dW dA L P M).set i (a, dE dA kd (M' (dc a)) (P' a)) = dW dA L P' M' := by
  apply List.ext_getElem?
  intro j
  rw [List.getElem?_set]
  by_cases h : i = j
  · subst h
    rw [if_pos rfl, if_pos (by rw [dW_len]; exact (List.getElem?_eq_some_iff.mp hi).1), dW_get hi]
  · rw [if_neg h]
    cases hj : L[j]? with
    | none =>
      unfold dW
      rw [List.getElem?_map, List.getElem?_map, hj]
      rfl
    | some y =>
      rw [dW_get hj, dW_get hj]
      have hy : y.1 ≠ a := fun e => h (hn i j _ _ hi hj e.symm)
      rw [hM _ hy, hP _ hy]
theorem dW_same {dA : Nat → ClassId} {L : dL} {P P' : dP} {M M' : cx_M} (hM : ∀ x ∈ L, M' (dc x.1) = M (dc x.1)) (hP : ∀ x ∈ L, P' x.1 = P x.1) : dW dA L P' M' = dW dA L P M := by
  unfold dW
  apply List.map_congr_left
  intro x hx
  rw [hM x hx, hP x hx]
theorem dG_set {g : cx_G} {L : dL} {P P' : dP} {M M' : cx_M} {z i a : Nat} {kd : dk} (hz : ∀ M, (g.2.2.1 M).length = z) (hbs : g.2.2.1 M' = g.2.2.1 M) (hn : dN L) (hi : L[i]? = some (a, kd)) (hM : ∀ b, b ≠ a → M' (dc b) = M (dc b)) (hP : ∀ b, b ≠ a → P' b = P b) :
    ((dG g L P).2.2.1 M).set (z + i) (a, dE g.2.1 kd (M' (dc a)) (P' a)) = (dG g L P').2.2.1 M' := by
  show (g.2.2.1 M ++ dW g.2.1 L P M).set (z + i) _ = g.2.2.1 M' ++ dW g.2.1 L P' M'
  rw [List.set_append_right _ _ (by rw [hz]; omega), hz, Nat.add_sub_cancel_left, dW_set hn hi hM hP, hbs]
theorem cx_set_cc {M : cx_M} {c : Nat} {f : Nat → Int32} : cx_set M c f c = f := by unfold cx_set; rw [if_pos rfl]
theorem cx_set_ne {M : cx_M} {c d : Nat} {f : Nat → Int32} (h : d ≠ c) : cx_set M c f d = M d := by unfold cx_set; rw [if_neg h]
theorem dB_set {g : cx_G} (hb : dB g) {M : cx_M} {a : Nat} {f : Nat → Int32} : g.2.2.1 (cx_set M (dc a) f) = g.2.2.1 M := hb.2.1 M _ f (dc_ge a)
theorem dC_set {M : cx_M} {a b : Nat} {f : Nat → Int32} (h : b ≠ a) : cx_set M (dc a) f (dc b) = M (dc b) := cx_set_ne (fun e => h (dc_inj e))
theorem dNf_of {ci N : Nat} {C : String} {T : u_T} (h : vwCl[ci]? = some (C, T, N)) : dNf ci = N := by unfold dNf; rw [h]; rfl
theorem dFs_get {ci N j : Nat} {f : Nat → Int32} {p : Nat → Option Nat} (h : dNf ci = N) (hj : j < N) : ((List.range (dNf ci)).map (fun k => dFv ci k f p))[j]? = some (dFv ci j f p) := by
  rw [List.getElem?_map, h, List.getElem?_range hj]
  rfl
theorem dFs_set {ci k : Nat} {f f' : Nat → Int32} {p p' : Nat → Option Nat} {v : Value} (hk : k < dNf ci) (hv : dFv ci k f' p' = v) (ho : ∀ j, j ≠ k → dFv ci j f' p' = dFv ci j f p) :
    ((List.range (dNf ci)).map (fun k => dFv ci k f p)).set k v = (List.range (dNf ci)).map (fun k => dFv ci k f' p') := by
  apply List.ext_getElem?
  intro j
  rw [List.getElem?_set]
  by_cases hj : k = j
  · subst hj
    rw [if_pos rfl, if_pos (by simp [hk]), dFs_get rfl hk, hv]
  · rw [if_neg hj]
    by_cases hl : j < dNf ci
    · rw [dFs_get rfl hl, dFs_get rfl hl, ho j (Ne.symm hj)]
    · rw [List.getElem?_eq_none (by simp; omega), List.getElem?_eq_none (by simp; omega)]
theorem dFv_fn {ci j k : Nat} {f : Nat → Int32} {p : Nat → Option Nat} {v : Int32} (h : j ≠ k) : dFv ci j (upd f k v) p = dFv ci j f p := by
  unfold dFv
  rw [pk_un h]
theorem dFv_pn {ci j k : Nat} {f : Nat → Int32} {p : Nat → Option Nat} {v : Option Nat} (h : j ≠ k) : dFv ci j f (va_up p k v) = dFv ci j f p := by
  unfold dFv va_up
  rw [if_neg h]
theorem dG_FI {g : cx_G} {L : dL} {P : dP} {a ci z0 k N : Nat} {C : String} {T : u_T} {ty0 : Nat → FieldType} {f : String × String × String × Bool} {ty : FieldType} (hb : dB g) (hn : dN L) (hm : (a, (0, ci, z0)) ∈ L) (hc : cx_Cl ci C T N ty0) (hN : k < N) (hT : T k = f) (hty : parseFieldDescriptor f.2.2.1 = some ty) (hk : dFk ci k = 0) : cx_FI (dG g L P) (dc a) k a f ty := by
  obtain ⟨i, hi⟩ := List.mem_iff_getElem?.mp hm
  obtain ⟨z, hz⟩ := hb.1
  refine ⟨ci, z + i, C, T, N, ty0, hc, hN, hT, hty, fun M => ⟨_, dG_get hz hi, ?_, fun v => ?_⟩⟩
  · rw [dFs_get (dNf_of hc.1) hN]
    unfold dFv
    rw [hk]
    rfl
  · rw [dFs_set (f' := cx_up M (dc a) k v (dc a)) (p' := P a) (by rw [dNf_of hc.1]; exact hN) (by unfold dFv; rw [hk]; unfold cx_up; rw [cx_set_cc]; show Value.int (upd _ _ _ _) = _; rw [pk_us]) (fun j hj => by unfold cx_up; rw [cx_set_cc, dFv_fn hj])]
    exact dG_set (kd := (0, ci, z0)) hz (dB_set hb) hn hi (fun b h => dC_set h) (fun b _ => rfl)
theorem dG_FR {g : cx_G} {L : dL} {P : dP} {a ci z0 k N : Nat} {C : String} {T : u_T} {ty0 : Nat → FieldType} {f : String × String × String × Bool} (hb : dB g) (hm : (a, (0, ci, z0)) ∈ L) (hc : cx_Cl ci C T N ty0) (hN : k < N) (hT : T k = f) (hk : dFk ci k = 1) : cx_FR (dG g L P) k a f (va_rf (P a k)) := by
  obtain ⟨i, hi⟩ := List.mem_iff_getElem?.mp hm
  obtain ⟨z, hz⟩ := hb.1
  refine ⟨ci, z + i, C, T, N, ty0, hc, hN, hT, fun M => ⟨_, dG_get hz hi, ?_⟩⟩
  rw [dFs_get (dNf_of hc.1) hN]
  unfold dFv
  rw [hk]
  rfl
theorem dG_FN {g : cx_G} {L : dL} {P : dP} {a ci z0 k N : Nat} {C : String} {T : u_T} {ty0 : Nat → FieldType} {f : String × String × String × Bool} (hb : dB g) (hm : (a, (0, ci, z0)) ∈ L) (hc : cx_Cl ci C T N ty0) (hN : k < N) (hT : T k = f) (hk : dFk ci k = 2) : cx_FR (dG g L P) k a f (.int (nI ((P a k).getD 0))) := by
  obtain ⟨i, hi⟩ := List.mem_iff_getElem?.mp hm
  obtain ⟨z, hz⟩ := hb.1
  refine ⟨ci, z + i, C, T, N, ty0, hc, hN, hT, fun M => ⟨_, dG_get hz hi, ?_⟩⟩
  rw [dFs_get (dNf_of hc.1) hN]
  unfold dFv
  rw [hk]
  rfl
theorem dG_Rc {g : cx_G} {L : dL} {P : dP} {a ci z0 N : Nat} {C : String} {T : u_T} {ty0 : Nat → FieldType} (hb : dB g) (hm : (a, (0, ci, z0)) ∈ L) (hc : cx_Cl ci C T N ty0) : cx_Rc (dG g L P) a C := by
  obtain ⟨i, hi⟩ := List.mem_iff_getElem?.mp hm
  obtain ⟨z, hz⟩ := hb.1
  exact ⟨ci, z + i, T, N, hc.1, fun M => ⟨_, dG_get hz hi⟩⟩
theorem dG_AI {g : cx_G} {L : dL} {P : dP} {a t n : Nat} {ty : FieldType} (hb : dB g) (hn : dN L) (hm : (a, (1, t, n)) ∈ L) (ht : (cx_tys g.2.1)[t]? = some (g.2.1 t, ty)) : cx_AI (dG g L P) (dc a) n a t ty := by
  obtain ⟨i, hi⟩ := List.mem_iff_getElem?.mp hm
  obtain ⟨z, hz⟩ := hb.1
  refine ⟨ht, z + i, fun M => ⟨dG_get hz hi, fun f => ?_⟩⟩
  have e : (Sum.inl (g.2.1 t, n, Sum.inl f) : va_E) = dE g.2.1 (1, t, n) (cx_set M (dc a) f (dc a)) (P a) := by rw [cx_set_cc]; rfl
  show ((dG g L P).2.2.1 M).set (z + i) (a, Sum.inl (g.2.1 t, n, Sum.inl f)) = _
  rw [e]
  exact dG_set (kd := (1, t, n)) hz (dB_set hb) hn hi (fun b h => dC_set h) (fun b _ => rfl)
theorem dG_LI {g : cx_G} {L : dL} {P : dP} {a z0 n : Nat} (hb : dB g) (hn : dN L) (hm : (a, (2, z0, n)) ∈ L) : cx_LI (dG g L P) (dc a) n a := by
  obtain ⟨i, hi⟩ := List.mem_iff_getElem?.mp hm
  obtain ⟨z, hz⟩ := hb.1
  refine ⟨rfl, z + i, fun M => ⟨dG_get hz hi, fun f => ?_⟩⟩
  have e : (Sum.inl (g.2.1 3, n, Sum.inr (Sum.inl (bt_w f))) : va_E) = dE g.2.1 (2, z0, n) (cx_set M (dc a) f (dc a)) (P a) := by rw [cx_set_cc]; rfl
  show ((dG g L P).2.2.1 M).set (z + i) (a, Sum.inl (g.2.1 3, n, Sum.inr (Sum.inl (bt_w f)))) = _
  rw [e]
  exact dG_set (kd := (2, z0, n)) hz (dB_set hb) hn hi (fun b h => dC_set h) (fun b _ => rfl)
/-! the steps of functions that are propositions -/
def cd_new (bc bs k n sz : Nat) (kd : dk) (M : cx_M) (P : dP) (L : dL) (F : Nat → cx_M → dP → dL → Nat → Nat → Prop) : Prop := k + 1 ≤ bc ∧ n + sz ≤ bs ∧ ∀ a, (∀ x ∈ L, x.1 ≠ a) → F a (cx_set M (dc a) (fun _ => 0)) (dPn P a) (L ++ [(a, kd)]) (k + 1) (n + sz)
def cd_newa (bc bs k n : Nat) (i : Int32) (kd : Nat → dk) (M : cx_M) (P : dP) (L : dL) (F : Nat → cx_M → dP → dL → Nat → Nat → Prop) : Prop := ¬ i < 0 ∧ i.toNatClampNeg ≤ 100000 ∧ cd_new bc bs k n i.toNatClampNeg (kd i.toNatClampNeg) M P L F
def cd_ldR (P : dP) (a n : Nat) (i : Int32) (F : Option Nat → Prop) : Prop := if i < 0 ∨ n ≤ i.toNatClampNeg then False else F (P a i.toNatClampNeg)
def cd_stR (P : dP) (a n : Nat) (i : Int32) (v : Option Nat) (F : dP → Prop) : Prop := if i < 0 ∨ n ≤ i.toNatClampNeg then False else F (dPu P a i.toNatClampNeg v)
def cd_nn (v : Option Nat) (F : Nat → Prop) : Prop := match v with
  | none => False
  | some a => F a
def cd_if (v : Option Nat) (A : Prop) (B : Nat → Prop) : Prop := match v with
  | none => A
  | some a => B a
def cd_let (v : Option Nat) (F : Option Nat → Prop) : Prop := F v
def cd_put (P : dP) (a k : Nat) (v : Option Nat) (F : dP → Prop) : Prop := F (dPu P a k v)
def cd_num (x : Int32) : Option Nat := some x.toBitVec.toNat
def cd_putn (P : dP) (a k : Nat) (x : Int32) (F : dP → Prop) : Prop := F (dPu P a k (cd_num x))
def cd_add (k k' n n' : Nat) (F : Nat → Nat → Prop) : Prop := F (k + k') (n + n')
def cd_br (v : Int32) (o : Prop) : Prop := if cx_byte v = v then o else False
def cd_lsw (x : Int32) : List (Int × Prop) → Prop → Prop
  | [], D => D
  | b :: r, D => if b.1 = x.toInt then b.2 else cd_lsw x r D
def cd_cpyB (M : cx_M) (c0 z0 c1 z1 : Nat) (sp dp n : Int32) (F : cx_M → Prop) : Prop :=
  ¬ sp < 0 ∧ ¬ dp < 0 ∧ ¬ n < 0 ∧ sp.toNatClampNeg + n.toNatClampNeg ≤ z0 ∧ dp.toNatClampNeg + n.toNatClampNeg ≤ z1 ∧ (∀ i, i < n.toNatClampNeg → fits .byte (.int (M c0 (sp.toNatClampNeg + i))) = true) ∧ F (cx_cpm M c0 c1 sp.toNatClampNeg dp.toNatClampNeg n.toNatClampNeg)
def cd_cloB (bc bs k n z a0 : Nat) (kd : dk) (M : cx_M) (P : dP) (L : dL) (F : Nat → cx_M → dP → dL → Nat → Nat → Prop) : Prop := (∀ i, i < z → fits .byte (.int (M (dc a0) i)) = true) ∧ k + 1 ≤ bc ∧ n + z ≤ bs ∧ ∀ a, (∀ x ∈ L, x.1 ≠ a) → F a (cx_set M (dc a) (M (dc a0))) (dPn P a) (L ++ [(a, kd)]) (k + 1) (n + z)
theorem dNew {g : cx_G} {L : dL} {P : dP} {M : cx_M} {H1 : Heap} {a : Nat} {kd : dk} {e : va_E} {f : Nat → Int32} (hb : dB g) (he : e = dE g.2.1 kd f (fun _ => none)) (hP : va_P g.1 vwCl ((dG g L P).2.2.1 M ++ [(a, e)]) H1) (hD : va_D g.2.2.2.1 ((dG g L P).2.2.1 M ++ [(a, e)])) :
    (∀ x ∈ L, x.1 ≠ a) ∧ cx_w (dG g (L ++ [(a, kd)]) (dPn P a)) (cx_set M (dc a) f) H1 := by
  obtain ⟨z, hz⟩ := hb.1
  have hf : ∀ x ∈ L, x.1 ≠ a := by
    intro x hx ea
    obtain ⟨i, hi⟩ := List.mem_iff_getElem?.mp hx
    have hl : z + i < ((dG g L P).2.2.1 M).length := (List.getElem?_eq_some_iff.mp (dG_get (P := P) (M := M) hz hi)).1
    have h := hD.1 (z + i) ((dG g L P).2.2.1 M).length _ _ (by rw [List.getElem?_append_left hl]; exact dG_get hz hi) (by rw [List.getElem?_append_right (Nat.le_refl _), Nat.sub_self]; rfl) ea
    omega
  refine ⟨hf, ?_⟩
  have e1 : (dG g (L ++ [(a, kd)]) (dPn P a)).2.2.1 (cx_set M (dc a) f) = (dG g L P).2.2.1 M ++ [(a, e)] := by
    show g.2.2.1 (cx_set M (dc a) f) ++ dW g.2.1 (L ++ [(a, kd)]) (dPn P a) (cx_set M (dc a) f) = (g.2.2.1 M ++ dW g.2.1 L P M) ++ [(a, e)]
    rw [dB_set hb, List.append_assoc]
    congr 1
    show List.map _ (L ++ [(a, kd)]) = _
    rw [List.map_append]
    congr 1
    · exact dW_same (fun x hx => dC_set (hf x hx)) (fun x hx => by unfold dPn; rw [if_neg (hf x hx)])
    · show [(a, dE g.2.1 kd (cx_set M (dc a) f (dc a)) (dPn P a a))] = _
      rw [cx_set_cc, he]
      unfold dPn
      rw [if_pos rfl]
  exact ⟨by rw [e1]; exact hP, by rw [e1]; exact hD⟩
/-! DYNAMIC WORLDS: rows -/
theorem va_RA_inj {U : State} {a b : ClassId} {ty : FieldType} (h1 : va_RA U a ty) (h2 : va_RA U b ty) : a = b := by
  cases ty with
  | object C =>
    obtain ⟨kA, comp, -, -, -, e1⟩ := h1
    obtain ⟨kB, comp2, -, -, -, e2⟩ := h2
    exact Option.some.inj (e1.symm.trans e2)
  | _ => exact Option.some.inj (Eq.trans (Eq.symm h1) h2)
theorem va_rf_cat (v : Option Nat) : (va_rf v).category = 1 := by cases v <;> rfl
theorem bt_w_0 : bt_w (fun _ => 0) = fun _ => 0 := by
  have h : ∀ n, bt_s (fun _ => 0) n = 0 := by
    intro n
    induction n with
    | zero => rfl
    | succ n ih =>
      unfold bt_s
      rw [ih]
      rfl
  funext i
  unfold bt_w
  rw [h]
  rfl
theorem cd_num_nI (x : Int32) : nI ((cd_num x).getD 0) = x := by
  unfold cd_num nI
  apply Int32.toBitVec_inj.mp
  simp
theorem cd_tabN {α : Type} {P : Nat → α → Prop} : ∀ (j : Nat) (B : α), ([] : List α)[j]? = some B → P j B := fun j B h => by simp at h
theorem cd_tabC {α : Type} {P : Nat → α → Prop} {b : α} {r : List α} (h0 : P 0 b) (h : ∀ (j : Nat) (B : α), r[j]? = some B → P (j + 1) B) : ∀ (j : Nat) (B : α), (b :: r)[j]? = some B → P j B := by
  intro j B e
  cases j with
  | zero => cases e; exact h0
  | succ j => exact h j B e
section CQD
variable {l : Launch} {g : cx_G} {L : dL} {P : dP} {X : cx_X} {S : cx_S} {cc : ByteArray} {pc : Nat} {lv : List (Nat × Value)} {st : List Value} {M : cx_M} {k n : Nat} {Q : State → Prop}
theorem cq_nd (hb : dB g) (K : dN L → cq_V l (dG g L P) X S cc pc lv st M k n Q) : cq_V l (dG g L P) X S cc pc lv st M k n Q :=
  fun hk H locs ls hw hS hl => K (dN_of hb hw) hk H locs ls hw hS hl
theorem cd_newO {ci index N bc bs : Nat} {C : String} {T : u_T} {ty0 : Nat → FieldType} {F : Nat → cx_M → dP → dL → Nat → Nat → Prop} (hb : dB g) (h : cd_new bc bs k n N (0, ci, 0) M P L F) (hB : S.2.2.2.1.cells = bc ∧ S.2.2.2.1.slots = bs) (hc : cx_Cl ci C T N ty0) (hdf : ∀ j, j < N → defaultValue (ty0 j) = dFv ci j (fun _ => 0) (fun _ => none)) (hcl : Cond.classLink S.2.1 index C ∈ lw_all) (hinst : Cond.instantiable C N ∈ lw_all) (hini : Cond.initialized C ∈ lw_all) (d : decode cc pc = .ok (.new index, 3))
    (K : ∀ a M' P' L' k' n', F a M' P' L' k' n' → (k' ≤ bc ∧ n' ≤ bs) → cq_V l (dG g L' P') X S cc (pc + 3) lv (.ref a :: st) M' k' n' Q) : cq_V l (dG g L P) X S cc pc lv st M k n Q := by
  obtain ⟨h1, h2, h3⟩ := h
  intro hk H locs ls hw hS hl
  refine va_new hk.1 hk.2.1 (T := T) (Ts := lw_all) hk.2.2.2.2.1 hc.2.1 ty0 hc.2.2.1 hk.2.2.2.1 (hk.2.2.2.2.1 _ hcl) (hk.2.2.2.2.1 _ hinst) (hk.2.2.2.2.1 _ hini) hk.2.2.2.2.2.2.2.1 hw.1 hw.2 hS (hb.2.2 _ hk.2.2.2.2.2.2.2) hc.1 (fs := (List.range (dNf ci)).map (fun j => dFv ci j (fun _ => 0) (fun _ => none))) (fun j hj => ?_) (by rw [hB.1]; exact h1) (by rw [hB.2]; exact h2) d ?_
  · rw [hdf j hj]
    unfold vp_V
    rw [List.getD_eq_getElem?_getD, dFs_get (dNf_of hc.1) hj]
    rfl
  · intro a H1 hP hD hS1
    obtain ⟨hf, hw1⟩ := dNew (kd := (0, ci, 0)) hb rfl hP hD
    exact K a _ _ _ _ _ (h3 a hf) ⟨h1, h2⟩ hk H1 locs ls hw1 hS1 hl
theorem cd_newI {t bc bs : Nat} {i : Int32} {atype : ArrayType} {ty : FieldType} {F : Nat → cx_M → dP → dL → Nat → Nat → Prop} (hb : dB g) (h : cd_newa bc bs k n i (fun z => (1, t, z)) M P L F) (hB : S.2.2.2.1.cells = bc ∧ S.2.2.2.1.slots = bs) (harr : Cond.arrayClass (newarray.typeOf atype) ∈ lw_all) (hty : newarray.typeOf atype = ty) (ht : (cx_tys g.2.1)[t]? = some (g.2.1 t, ty)) (hcell : ∀ (cA : ClassId) (N : Nat), vp_cell cA (N, .inl (fun _ => 0)) = arrV cA N (fun _ => defaultValue ty)) (hcb : componentBytes ty ≤ 8) (d : decode cc pc = .ok (.newarray atype, 2))
    (K : ∀ a M' P' L' k' n', F a M' P' L' k' n' → (k' ≤ bc ∧ n' ≤ bs) → cq_V l (dG g L' P') X S cc (pc + 2) lv (.ref a :: st) M' k' n' Q) : cq_V l (dG g L P) X S cc pc lv (.int i :: st) M k n Q := by
  obtain ⟨h0, hle, h1, h2, h3⟩ := h
  intro hk H locs ls hw hS hl
  refine va_newa hk.1 hk.2.1 (hk.2.2.2.2.1 _ harr) hty hk.2.2.2.2.2.2.2.1 hw.1 hw.2 hS (hb.2.2 _ hk.2.2.2.2.2.2.2) (a0 := (i.toNatClampNeg, .inl (fun _ => 0))) (fun cA => hcell cA _) h0 rfl (Nat.le_trans (Nat.mul_le_mul hle hcb) (Nat.le_of_ble_eq_true rfl)) (by rw [hB.1]; exact h1) (by rw [hB.2]; exact h2) d ?_
  intro a cA H1 hK1 hP hD hS1
  have e : cA = g.2.1 t := va_RA_inj (hK1.2 (cx_tys g.2.1).length (cA, ty) (by
    show (cx_tys g.2.1 ++ [(cA, ty)])[(cx_tys g.2.1).length]? = _
    rw [List.getElem?_append_right (Nat.le_refl _), Nat.sub_self]
    rfl)).2 (hk.2.2.2.2.2.2.2.1.2 t _ ht).2
  subst e
  obtain ⟨hf, hw1⟩ := dNew (kd := (1, t, i.toNatClampNeg)) hb rfl hP hD
  exact K a _ _ _ _ _ (h3 a hf) ⟨h1, h2⟩ hk H1 locs ls hw1 hS1 hl
theorem cd_newL {bc bs : Nat} {i : Int32} {F : Nat → cx_M → dP → dL → Nat → Nat → Prop} (hb : dB g) (h : cd_newa bc bs k n i (fun z => (2, 0, z)) M P L F) (hB : S.2.2.2.1.cells = bc ∧ S.2.2.2.1.slots = bs) (harr : Cond.arrayClass (newarray.typeOf .long) ∈ lw_all) (d : decode cc pc = .ok (.newarray .long, 2))
    (K : ∀ a M' P' L' k' n', F a M' P' L' k' n' → (k' ≤ bc ∧ n' ≤ bs) → cq_V l (dG g L' P') X S cc (pc + 2) lv (.ref a :: st) M' k' n' Q) : cq_V l (dG g L P) X S cc pc lv (.int i :: st) M k n Q := by
  obtain ⟨h0, hle, h1, h2, h3⟩ := h
  intro hk H locs ls hw hS hl
  refine va_newa hk.1 hk.2.1 (hk.2.2.2.2.1 _ harr) (ty := .long) rfl hk.2.2.2.2.2.2.2.1 hw.1 hw.2 hS (hb.2.2 _ hk.2.2.2.2.2.2.2) (a0 := (i.toNatClampNeg, .inr (.inl (fun _ => 0)))) (fun cA => rfl) h0 rfl (Nat.le_trans (Nat.mul_le_mul hle (show componentBytes .long ≤ 8 by decide)) (Nat.le_of_ble_eq_true rfl)) (by rw [hB.1]; exact h1) (by rw [hB.2]; exact h2) d ?_
  intro a cA H1 hK1 hP hD hS1
  have e : cA = g.2.1 3 := va_RA_inj (hK1.2 (cx_tys g.2.1).length (cA, .long) (by
    show (cx_tys g.2.1 ++ [(cA, .long)])[(cx_tys g.2.1).length]? = _
    rw [List.getElem?_append_right (Nat.le_refl _), Nat.sub_self]
    rfl)).2 (hk.2.2.2.2.2.2.2.1.2 3 _ rfl).2
  subst e
  obtain ⟨hf, hw1⟩ := dNew (kd := (2, 0, i.toNatClampNeg)) hb (by
    show (Sum.inl (g.2.1 3, i.toNatClampNeg, Sum.inr (Sum.inl (fun _ => 0))) : va_E) = Sum.inl (g.2.1 3, i.toNatClampNeg, Sum.inr (Sum.inl (bt_w (fun _ => 0))))
    rw [bt_w_0]) hP hD
  exact K a _ _ _ _ _ (h3 a hf) ⟨h1, h2⟩ hk H1 locs ls hw1 hS1 hl
theorem cd_newR {t bc bs index : Nat} {C : String} {i : Int32} {F : Nat → cx_M → dP → dL → Nat → Nat → Prop} (hb : dB g) (h : cd_newa bc bs k n i (fun z => (3, t, z)) M P L F) (hB : S.2.2.2.1.cells = bc ∧ S.2.2.2.1.slots = bs) (hcl : Cond.classLink S.2.1 index C ∈ lw_all) (hAO : ∀ U, cx_K g U → va_AO C U) (ht : (cx_tys g.2.1)[t]? = some (g.2.1 t, .object C)) (d : decode cc pc = .ok (.anewarray index, 3))
    (K : ∀ a M' P' L' k' n', F a M' P' L' k' n' → (k' ≤ bc ∧ n' ≤ bs) → cq_V l (dG g L' P') X S cc (pc + 3) lv (.ref a :: st) M' k' n' Q) : cq_V l (dG g L P) X S cc pc lv (.int i :: st) M k n Q := by
  obtain ⟨h0, hle, h1, h2, h3⟩ := h
  intro hk H locs ls hw hS hl
  refine va_newq hk.1 hk.2.1 hk.2.2.2.1 (hk.2.2.2.2.1 _ hcl) (hAO _ hk.2.2.2.2.2.2.2) hk.2.2.2.2.2.2.2.1 hw.1 hw.2 hS (hb.2.2 _ hk.2.2.2.2.2.2.2) h0 rfl (Nat.le_trans (Nat.mul_le_mul_right 4 hle) (Nat.le_of_ble_eq_true rfl)) (by rw [hB.1]; exact h1) (by rw [hB.2]; exact h2) d ?_
  intro a cA H1 hK1 hP hD hS1
  have e : cA = g.2.1 t := va_RA_inj (hK1.2 (cx_tys g.2.1).length (cA, .object C) (by
    show (cx_tys g.2.1 ++ [(cA, _)])[(cx_tys g.2.1).length]? = _
    rw [List.getElem?_append_right (Nat.le_refl _), Nat.sub_self]
    rfl)).2 (hk.2.2.2.2.2.2.2.1.2 t _ ht).2
  subst e
  obtain ⟨hf, hw1⟩ := dNew (kd := (3, t, i.toNatClampNeg)) hb rfl hP hD
  exact K a _ _ _ _ _ (h3 a hf) ⟨h1, h2⟩ hk H1 locs ls hw1 hS1 hl
theorem dPut {a ci z0 k0 N : Nat} {C : String} {T : u_T} {ty0 : Nat → FieldType} {p : Option Nat} {v : Value} (hb : dB g) (hn : dN L) (hm : (a, (0, ci, z0)) ∈ L) (hc : cx_Cl ci C T N ty0) (hN : k0 < N) (hv : ∀ (f : Nat → Int32) (q : Nat → Option Nat), dFv ci k0 f (va_up q k0 p) = v) :
    ∃ (i : Nat) (fs : List Value), ((dG g L P).2.2.1 M)[i]? = some (a, .inr (ci, fs)) ∧ k0 < fs.length ∧ ((dG g L P).2.2.1 M).set i (a, .inr (ci, fs.set k0 v)) = (dG g L (dPu P a k0 p)).2.2.1 M := by
  obtain ⟨i, hi⟩ := List.mem_iff_getElem?.mp hm
  obtain ⟨z, hz⟩ := hb.1
  refine ⟨z + i, _, dG_get hz hi, by simp [dNf_of hc.1, hN], ?_⟩
  have e : dPu P a k0 p a = va_up (P a) k0 p := by unfold dPu; rw [if_pos rfl]
  rw [dFs_set (f' := M (dc a)) (p' := dPu P a k0 p a) (by rw [dNf_of hc.1]; exact hN) (by rw [e]; exact hv _ _) (fun j hj => by rw [e, dFv_pn hj])]
  exact dG_set (kd := (0, ci, z0)) (M' := M) hz rfl hn hi (fun b _ => rfl) (fun b hb => by unfold dPu; rw [if_neg hb])
theorem cd_putR {a ci z0 k0 index N : Nat} {C : String} {T : u_T} {ty0 : Nat → FieldType} {o : String × String × String × Bool} {ty : FieldType} {v : Option Nat} {F : dP → Prop} (hb : dB g) (hn : dN L) (hm : (a, (0, ci, z0)) ∈ L) (h : cd_put P a k0 v F) (hc : cx_Cl ci C T N ty0) (hN : k0 < N) (hT : T k0 = o) (hty : parseFieldDescriptor o.2.2.1 = some ty) (hfk : dFk ci k0 = 1) (hnf : ∀ w : Option Nat, narrow ty (va_rf w) = va_rf w ∧ fits ty (va_rf w) = true) (hfin : o.2.2.2 = false) (hq : Cond.fieldLink S.2.1 index o.1 o.2.1 o.2.2.1 ∈ lw_all) (d : decode cc pc = .ok (.putfield index, 3))
    (K : ∀ P', F P' → cq_V l (dG g L P') X S cc (pc + 3) lv st M k n Q) : cq_V l (dG g L P) X S cc pc lv (va_rf v :: .ref a :: st) M k n Q := by
  intro hk H locs ls hw hS hl
  obtain ⟨i, fs, m1, m2, m3⟩ := dPut (P := P) (M := M) (p := v) (v := va_rf v) hb hn hm hc hN (fun f q => by unfold dFv va_up; rw [hfk]; simp)
  subst hT
  refine va_put hk.1 hk.2.1 (T := T) (Ts := lw_all) hk.2.2.2.2.1 hc.2.1 ty0 hc.2.2.1 hc.2.2.2 hk.2.2.2.1 hk.2.2.2.2.2.2.2.1 hw.1 hw.2 hS i m1 hc.1 k0 hN (hk.2.2.2.2.1 _ hq) (fun _ h => h) hfin hty (hnf v).1 (hnf v).2 m2 d ?_
  intro H1 locs1 hP hD hS1
  rw [m3] at hP hD
  exact K _ h hk H1 locs1 ls ⟨hP, hD⟩ hS1 hl
theorem cd_putRN {host : String} {a ci z0 k0 index N : Nat} {C : String} {T : u_T} {ty0 : Nat → FieldType} {o : String × String × String × Bool} {ty : FieldType} {v : Option Nat} {F : dP → Prop} (hb : dB g) (hn : dN L) (hm : (a, (0, ci, z0)) ∈ L) (h : cd_put P a k0 v F) (hc : cx_Cl ci C T N ty0) (hN : k0 < N) (hT : T k0 = o) (hty : parseFieldDescriptor o.2.2.1 = some ty) (hfk : dFk ci k0 = 1) (hnf : ∀ w : Option Nat, narrow ty (va_rf w) = va_rf w ∧ fits ty (va_rf w) = true) (hfin : o.2.2.2 = false) (hq : Cond.fieldLinkNest S.2.1 index o.1 o.2.1 o.2.2.1 host ∈ lw_tbl) (d : decode cc pc = .ok (.putfield index, 3))
    (K : ∀ P', F P' → cq_V l (dG g L P') X S cc (pc + 3) lv st M k n Q) : cq_V l (dG g L P) X S cc pc lv (va_rf v :: .ref a :: st) M k n Q := by
  intro hk H locs ls hw hS hl
  obtain ⟨i, fs, m1, m2, m3⟩ := dPut (P := P) (M := M) (p := v) (v := va_rf v) hb hn hm hc hN (fun f q => by unfold dFv va_up; rw [hfk]; simp)
  subst hT
  refine va_putN hk.1 hk.2.1 (T := T) (Ts := lw_all) hk.2.2.2.2.1 hc.2.1 ty0 hc.2.2.1 hc.2.2.2 hk.2.2.2.1 hk.2.2.2.2.2.2.2.1 hw.1 hw.2 hS i m1 hc.1 k0 hN (va_Nw.use rfl (hk.2.2.2.2.2.2.2.2.1 _ hq rfl)) (fun _ h => h) hfin hty (hnf v).1 (hnf v).2 m2 d ?_
  intro H1 locs1 hP hD hS1
  rw [m3] at hP hD
  exact K _ h hk H1 locs1 ls ⟨hP, hD⟩ hS1 hl
theorem cd_putRF {a ci z0 k0 index N : Nat} {C : String} {T : u_T} {ty0 : Nat → FieldType} {o : String × String × String × Bool} {ty : FieldType} {v : Option Nat} {F : dP → Prop} (hX : X.2.2.2.2.2.2.1.name = "<init>") (hdecl : o.1 = S.2.1) (hb : dB g) (hn : dN L) (hm : (a, (0, ci, z0)) ∈ L) (h : cd_put P a k0 v F) (hc : cx_Cl ci C T N ty0) (hN : k0 < N) (hT : T k0 = o) (hty : parseFieldDescriptor o.2.2.1 = some ty) (hfk : dFk ci k0 = 1) (hnf : ∀ w : Option Nat, narrow ty (va_rf w) = va_rf w ∧ fits ty (va_rf w) = true) (hfin : o.2.2.2 = true) (hq : Cond.fieldLink S.2.1 index o.1 o.2.1 o.2.2.1 ∈ lw_all) (d : decode cc pc = .ok (.putfield index, 3))
    (K : ∀ P', F P' → cq_V l (dG g L P') X S cc (pc + 3) lv st M k n Q) : cq_V l (dG g L P) X S cc pc lv (va_rf v :: .ref a :: st) M k n Q := by
  intro hk H locs ls hw hS hl
  obtain ⟨i, fs, m1, m2, m3⟩ := dPut (P := P) (M := M) (p := v) (v := va_rf v) hb hn hm hc hN (fun f q => by unfold dFv va_up; rw [hfk]; simp)
  subst hT
  refine va_putF hk.1 hk.2.1 (T := T) (Ts := lw_all) hk.2.2.2.2.1 hc.2.1 ty0 hc.2.2.1 hc.2.2.2 hk.2.2.2.1 hk.2.2.2.2.2.2.2.1 hw.1 hw.2 hS i m1 hc.1 k0 hN (hk.2.2.2.2.1 _ hq) (fun _ h => h) hfin hX hdecl hty (hnf v).1 (hnf v).2 m2 d ?_
  intro H1 locs1 hP hD hS1
  rw [m3] at hP hD
  exact K _ h hk H1 locs1 ls ⟨hP, hD⟩ hS1 hl
theorem cd_putNF {a ci z0 k0 index N : Nat} {C : String} {T : u_T} {ty0 : Nat → FieldType} {o : String × String × String × Bool} {ty : FieldType} {x : Int32} {F : dP → Prop} (hX : X.2.2.2.2.2.2.1.name = "<init>") (hdecl : o.1 = S.2.1) (hb : dB g) (hn : dN L) (hm : (a, (0, ci, z0)) ∈ L) (h : cd_putn P a k0 x F) (hc : cx_Cl ci C T N ty0) (hN : k0 < N) (hT : T k0 = o) (hty : parseFieldDescriptor o.2.2.1 = some ty) (hfk : dFk ci k0 = 2) (hnf : narrow ty (.int x) = .int x ∧ fits ty (.int x) = true) (hfin : o.2.2.2 = true) (hq : Cond.fieldLink S.2.1 index o.1 o.2.1 o.2.2.1 ∈ lw_all) (d : decode cc pc = .ok (.putfield index, 3))
    (K : ∀ P', F P' → cq_V l (dG g L P') X S cc (pc + 3) lv st M k n Q) : cq_V l (dG g L P) X S cc pc lv (.int x :: .ref a :: st) M k n Q := by
  intro hk H locs ls hw hS hl
  obtain ⟨i, fs, m1, m2, m3⟩ := dPut (P := P) (M := M) (p := cd_num x) (v := .int x) hb hn hm hc hN (fun f q => by unfold dFv va_up; rw [hfk]; simp [cd_num_nI])
  subst hT
  refine va_putF hk.1 hk.2.1 (T := T) (Ts := lw_all) hk.2.2.2.2.1 hc.2.1 ty0 hc.2.2.1 hc.2.2.2 hk.2.2.2.1 hk.2.2.2.2.2.2.2.1 hw.1 hw.2 hS i m1 hc.1 k0 hN (hk.2.2.2.2.1 _ hq) (fun _ h => h) hfin hX hdecl hty hnf.1 hnf.2 m2 d ?_
  intro H1 locs1 hP hD hS1
  rw [m3] at hP hD
  exact K _ h hk H1 locs1 ls ⟨hP, hD⟩ hS1 hl
theorem cd_putIF {c f a index : Nat} {v : Int32} {F : cx_M → Prop} {o : String × String × String × Bool} {ty : FieldType} (hX : X.2.2.2.2.2.2.1.name = "<init>") (hdecl : o.1 = S.2.1) (h : cq_put M c f v F) (hF : cx_FI (dG g L P) c f a o ty) (hn : narrow ty (.int v) = .int v) (hfit : fits ty (.int v) = true) (hfin : o.2.2.2 = true) (hq : Cond.fieldLink S.2.1 index o.1 o.2.1 o.2.2.1 ∈ lw_all) (d : decode cc pc = .ok (.putfield index, 3)) (K : ∀ M', F M' → cq_V l (dG g L P) X S cc (pc + 3) lv st M' k n Q) : cq_V l (dG g L P) X S cc pc lv (.int v :: .ref a :: st) M k n Q := by
  intro hk H locs ls hw hS hl
  obtain ⟨ci, q0, C, T, N, ty0, ⟨c1, c2, c3, c4⟩, hN, hT, hty, hM⟩ := hF
  obtain ⟨fs, m1, m2, m3⟩ := hM M
  subst hT
  refine va_putF hk.1 hk.2.1 (T := T) (Ts := lw_all) hk.2.2.2.2.1 c2 ty0 c3 c4 hk.2.2.2.1 hk.2.2.2.2.2.2.2.1 hw.1 hw.2 hS q0 m1 c1 f hN (hk.2.2.2.2.1 _ hq) (fun _ h => h) hfin hX hdecl hty hn hfit (List.getElem?_eq_some_iff.mp m2).1 d ?_
  intro H1 locs1 hP hD hS1
  rw [m3] at hP hD
  exact K _ h hk H1 locs1 ls ⟨hP, hD⟩ hS1 hl
theorem cd_ldRrow {a t nn : Nat} {C : String} {i : Int32} {F : Option Nat → Prop} (hb : dB g) (hm : (a, (3, t, nn)) ∈ L) (h : cd_ldR P a nn i F) (ht : (cx_tys g.2.1)[t]? = some (g.2.1 t, .object C)) (d : decode cc pc = .ok (.aaload, 1)) (K : ∀ v, F v → cq_V l (dG g L P) X S cc (pc + 1) lv (va_rf v :: st) M k n Q) : cq_V l (dG g L P) X S cc pc lv (.int i :: .ref a :: st) M k n Q := by
  intro hk H locs ls hw hS hl
  obtain ⟨j, hj⟩ := List.mem_iff_getElem?.mp hm
  obtain ⟨z, hz⟩ := hb.1
  unfold cd_ldR at h
  split at h
  · cases h
  · next q => exact va_aldq hk.1 hk.2.1 hk.2.2.2.2.2.2.2.1 hw.1 (z + j) t (dG_get hz hj) ht q d (K _ h hk H locs ls hw hS hl)
theorem dPutA {a t nn j : Nat} {v : Option Nat} (hb : dB g) (hn : dN L) (hm : (a, (3, t, nn)) ∈ L) : ∃ i : Nat, ((dG g L P).2.2.1 M)[i]? = some (a, .inl (g.2.1 t, nn, .inr (.inr (.inr (.inr (P a)))))) ∧
    ((dG g L P).2.2.1 M).set i (a, .inl (g.2.1 t, nn, .inr (.inr (.inr (.inr (va_up (P a) j v)))))) = (dG g L (dPu P a j v)).2.2.1 M := by
  obtain ⟨i, hi⟩ := List.mem_iff_getElem?.mp hm
  obtain ⟨z, hz⟩ := hb.1
  refine ⟨z + i, dG_get hz hi, ?_⟩
  have e : (Sum.inl (g.2.1 t, nn, Sum.inr (Sum.inr (Sum.inr (Sum.inr (va_up (P a) j v))))) : va_E) = dE g.2.1 (3, t, nn) (M (dc a)) (dPu P a j v a) := by unfold dPu; rw [if_pos rfl]; rfl
  rw [e]
  exact dG_set (kd := (3, t, nn)) (M' := M) hz rfl hn hi (fun b _ => rfl) (fun b hb => by unfold dPu; rw [if_neg hb])
theorem cd_stRrow {a t nn v ci z0 N : Nat} {C E : String} {T : u_T} {ty0 : Nat → FieldType} {i : Int32} {F : dP → Prop} (hb : dB g) (hn : dN L) (hm : (a, (3, t, nn)) ∈ L) (hv : (v, (0, ci, z0)) ∈ L) (hc : cx_Cl ci C T N ty0) (h : cd_stR P a nn i (some v) F) (ht : (cx_tys g.2.1)[t]? = some (g.2.1 t, .object E)) (hca : Cond.castable C E ∈ lw_tbl) (d : decode cc pc = .ok (.aastore, 1)) (K : ∀ P', F P' → cq_V l (dG g L P') X S cc (pc + 1) lv st M k n Q) : cq_V l (dG g L P) X S cc pc lv (.ref v :: .int i :: .ref a :: st) M k n Q := by
  intro hk H locs ls hw hS hl
  unfold cd_stR at h
  split at h
  · cases h
  · next q =>
    obtain ⟨q0, m1, m2⟩ := dPutA (P := P) (M := M) (j := i.toNatClampNeg) (v := some v) hb hn hm
    obtain ⟨j, hj⟩ := List.mem_iff_getElem?.mp hv
    obtain ⟨z, hz⟩ := hb.1
    refine va_astqO hk.1 hk.2.1 hk.2.2.2.2.2.2.2.1 hw.1 hw.2 hS q0 t (z + j) ci m1 ht (hk.2.2.2.2.2.2.2.2.1 _ hca rfl) (dG_get hz hj) hc.1 q d ?_
    intro H1 locs1 hP hD hS1
    rw [m2] at hP hD
    exact K _ h hk H1 locs1 ls ⟨hP, hD⟩ hS1 hl
theorem cd_stRnull {a t nn : Nat} {E : String} {i : Int32} {F : dP → Prop} (hb : dB g) (hn : dN L) (hm : (a, (3, t, nn)) ∈ L) (h : cd_stR P a nn i none F) (ht : (cx_tys g.2.1)[t]? = some (g.2.1 t, .object E)) (d : decode cc pc = .ok (.aastore, 1)) (K : ∀ P', F P' → cq_V l (dG g L P') X S cc (pc + 1) lv st M k n Q) : cq_V l (dG g L P) X S cc pc lv (.null :: .int i :: .ref a :: st) M k n Q := by
  intro hk H locs ls hw hS hl
  unfold cd_stR at h
  split at h
  · cases h
  · next q =>
    obtain ⟨q0, m1, m2⟩ := dPutA (P := P) (M := M) (j := i.toNatClampNeg) (v := none) hb hn hm
    refine va_astqN hk.1 hk.2.1 hk.2.2.2.2.2.2.2.1 hw.1 hw.2 hS q0 t m1 ht q d ?_
    intro H1 locs1 hP hD hS1
    rw [m2] at hP hD
    exact K _ h hk H1 locs1 ls ⟨hP, hD⟩ hS1 hl
theorem cd_alenR {a t nn : Nat} {ty : FieldType} (hb : dB g) (hm : (a, (3, t, nn)) ∈ L) (ht : (cx_tys g.2.1)[t]? = some (g.2.1 t, ty)) (d : decode cc pc = .ok (.arraylength, 1)) (K : cq_V l (dG g L P) X S cc (pc + 1) lv (.int (nI nn) :: st) M k n Q) : cq_V l (dG g L P) X S cc pc lv (.ref a :: st) M k n Q := by
  intro hk H locs ls hw hS hl
  obtain ⟨j, hj⟩ := List.mem_iff_getElem?.mp hm
  obtain ⟨z, hz⟩ := hb.1
  exact va_alen hk.1 hk.2.1 hk.2.2.2.2.2.2.2.1 hw.1 (z + j) t (dG_get hz hj) ht rfl d (K hk H locs ls hw hS hl)
theorem cd_nnI {v : Option Nat} {F : Nat → Prop} (h : cd_nn v F) (K : ∀ a, F a → cq_V l (dG g L P) X S cc pc lv (.ref a :: st) M k n Q) : cq_V l (dG g L P) X S cc pc lv (va_rf v :: st) M k n Q := by
  cases v with
  | none => cases h
  | some a => exact K a h
theorem cd_ifnull {v : Option Nat} {off : Int} {A : Prop} {B : Nat → Prop} (tgt : Nat) (h : cd_if v A B) (d : decode cc pc = .ok (.ifnull off, 3)) (ht : (pc : Int) + off = (tgt : Int)) (kt : v = none → A → cq_V l (dG g L P) X S cc tgt lv st M k n Q) (kf : ∀ a, v = some a → B a → cq_V l (dG g L P) X S cc (pc + 3) lv st M k n Q) : cq_V l (dG g L P) X S cc pc lv (va_rf v :: st) M k n Q := by
  intro hk H locs ls hw hS hl
  cases v with
  | none => exact lv_ifnullN hk.1 hk.2.1 d ht (kt rfl h hk H locs ls hw hS hl)
  | some a => exact lv_ifnull hk.1 hk.2.1 d (kf a rfl h hk H locs ls hw hS hl)
theorem cd_ifnonnull {v : Option Nat} {off : Int} {A : Prop} {B : Nat → Prop} (tgt : Nat) (h : cd_if v A B) (d : decode cc pc = .ok (.ifnonnull off, 3)) (ht : (pc : Int) + off = (tgt : Int)) (kf : v = none → A → cq_V l (dG g L P) X S cc (pc + 3) lv st M k n Q) (kt : ∀ a, v = some a → B a → cq_V l (dG g L P) X S cc tgt lv st M k n Q) : cq_V l (dG g L P) X S cc pc lv (va_rf v :: st) M k n Q := by
  intro hk H locs ls hw hS hl
  cases v with
  | none => exact lv_ifnonnullN hk.1 hk.2.1 d (kf rfl h hk H locs ls hw hS hl)
  | some a => exact lv_ifnonnull hk.1 hk.2.1 d ht (kt a rfl h hk H locs ls hw hS hl)
theorem cd_aload_n {i : Fin 4} {v : Option Nat} (j : Nat) (d : decode cc pc = .ok (.aload_n i, 1)) (hj : lv[j]? = some ((i : Nat), va_rf v)) (K : cq_V l g X S cc (pc + 1) lv (va_rf v :: st) M k n Q) : cq_V l g X S cc pc lv st M k n Q := by
  intro hk H locs ls hw hS hl
  cases v with
  | none => exact lv_aload_nN hk.1 hk.2.1 d rfl (lv_at hl j hj) (K hk H locs ls hw hS hl)
  | some x => exact lv_aload_n hk.1 hk.2.1 d rfl (lv_at hl j hj) (K hk H locs ls hw hS hl)
theorem cd_aload {i : Nat} {v : Option Nat} (j : Nat) (d : decode cc pc = .ok (.aload i, 2)) (hj : lv[j]? = some (i, va_rf v)) (K : cq_V l g X S cc (pc + 2) lv (va_rf v :: st) M k n Q) : cq_V l g X S cc pc lv st M k n Q := by
  intro hk H locs ls hw hS hl
  cases v with
  | none => exact lv_aloadN hk.1 hk.2.1 d (lv_at hl j hj) (K hk H locs ls hw hS hl)
  | some x => exact lv_aload hk.1 hk.2.1 d (lv_at hl j hj) (K hk H locs ls hw hS hl)
theorem cd_nn_some {v : Option Nat} {F : Nat → Prop} (h : cd_nn v F) : ∃ a, v = some a ∧ F a := by
  cases v with
  | none => cases h
  | some a => exact ⟨a, rfl, h⟩
theorem cd_letI {v : Option Nat} {F : Option Nat → Prop} (h : cd_let v F) (K : ∀ r, F r → cq_V l g X S cc pc lv (va_rf r :: st) M k n Q) : cq_V l g X S cc pc lv (va_rf v :: st) M k n Q := K v h
theorem cd_crG {v : Int32} {o G : Prop} (h : cq_cr v o) (K : (narrow .char (.int v) = .int v ∧ fits .char (.int v) = true) → o → G) : G := by
  unfold cq_cr at h
  split at h
  · next q => exact K ⟨by rw [← q]; exact pk_nc v, by rw [← q]; exact pk_fc v⟩ h
  · cases h
theorem cd_blG {v : Int32} {o G : Prop} (h : cq_bl v o) (K : (narrow .boolean (.int v) = .int v ∧ fits .boolean (.int v) = true ∧ vp_nar .boolean v = v) → o → G) : G := by
  unfold cq_bl at h
  split at h
  · next q => rcases q with rfl | rfl
              · exact K ⟨by decide +kernel, by decide +kernel, by decide +kernel⟩ h
              · exact K ⟨by decide +kernel, by decide +kernel, by decide +kernel⟩ h
  · cases h
theorem cd_brG {v : Int32} {o G : Prop} (h : cd_br v o) (K : (narrow .byte (.int v) = .int v ∧ fits .byte (.int v) = true) → o → G) : G := by
  unfold cd_br at h
  split at h
  · next q => exact K ⟨by rw [← q]; exact pk_nb v, by rw [← q]; exact pk_fb v⟩ h
  · cases h
theorem cd_acmp_eq {rx ry : Option Nat} {off : Int} {A B : Prop} (tgt : Nat) (h : if rx = ry then A else B) (d : decode cc pc = .ok (.if_acmp .eq off, 3)) (ht : (pc : Int) + off = (tgt : Int)) (kt : A → cq_V l g X S cc tgt lv st M k n Q) (kf : B → cq_V l g X S cc (pc + 3) lv st M k n Q) : cq_V l g X S cc pc lv (va_rf ry :: va_rf rx :: st) M k n Q := by
  intro hk H locs ls hw hS hl
  refine lv_acmp_eq (rx := rx) (ry := ry) hk.1 hk.2.1 d ht (fun q => kt ?_ hk H locs ls hw hS hl) (fun q => kf ?_ hk H locs ls hw hS hl)
  · rwa [if_pos q] at h
  · rwa [if_neg q] at h
theorem cd_acmp_ne {rx ry : Option Nat} {off : Int} {A B : Prop} (tgt : Nat) (h : if rx = ry then A else B) (d : decode cc pc = .ok (.if_acmp .ne off, 3)) (ht : (pc : Int) + off = (tgt : Int)) (kt : B → cq_V l g X S cc tgt lv st M k n Q) (kf : A → cq_V l g X S cc (pc + 3) lv st M k n Q) : cq_V l g X S cc pc lv (va_rf ry :: va_rf rx :: st) M k n Q := by
  intro hk H locs ls hw hS hl
  refine lv_acmp_ne (rx := rx) (ry := ry) hk.1 hk.2.1 d ht (fun q => kt ?_ hk H locs ls hw hS hl) (fun q => kf ?_ hk H locs ls hw hS hl)
  · rwa [if_neg q] at h
  · rwa [if_pos q] at h
theorem cd_ifnonnullT {v : Option Nat} {off : Int} {A : Prop} {B : Nat → Prop} (tgt : Nat) (h : cd_if v A B) (d : decode cc pc = .ok (.ifnonnull off, 3)) (ht : (pc : Int) + off = (tgt : Int)) (kt : ∀ a, v = some a → B a → cq_V l (dG g L P) X S cc tgt lv st M k n Q) (kf : v = none → A → cq_V l (dG g L P) X S cc (pc + 3) lv st M k n Q) : cq_V l (dG g L P) X S cc pc lv (va_rf v :: st) M k n Q := cd_ifnonnull tgt h d ht kf kt
theorem cd_ifnullN {off : Int} (tgt : Nat) (d : decode cc pc = .ok (.ifnull off, 3)) (ht : (pc : Int) + off = (tgt : Int)) (K : cq_V l g X S cc tgt lv st M k n Q) : cq_V l g X S cc pc lv (.null :: st) M k n Q := fun hk H locs ls hw hS hl => lv_ifnullN hk.1 hk.2.1 d ht (K hk H locs ls hw hS hl)
theorem cd_ifnullA {a : Nat} {off : Int} (tgt : Nat) (d : decode cc pc = .ok (.ifnull off, 3)) (ht : (pc : Int) + off = (tgt : Int)) (K : cq_V l g X S cc (pc + 3) lv st M k n Q) : cq_V l g X S cc pc lv (.ref a :: st) M k n Q := fun hk H locs ls hw hS hl => lv_ifnull hk.1 hk.2.1 d (K hk H locs ls hw hS hl)
theorem cd_ifnonnullN {off : Int} (tgt : Nat) (d : decode cc pc = .ok (.ifnonnull off, 3)) (ht : (pc : Int) + off = (tgt : Int)) (K : cq_V l g X S cc (pc + 3) lv st M k n Q) : cq_V l g X S cc pc lv (.null :: st) M k n Q := fun hk H locs ls hw hS hl => lv_ifnonnullN hk.1 hk.2.1 d (K hk H locs ls hw hS hl)
theorem cd_ifnonnullA {a : Nat} {off : Int} (tgt : Nat) (d : decode cc pc = .ok (.ifnonnull off, 3)) (ht : (pc : Int) + off = (tgt : Int)) (K : cq_V l g X S cc tgt lv st M k n Q) : cq_V l g X S cc pc lv (.ref a :: st) M k n Q := fun hk H locs ls hw hS hl => lv_ifnonnull hk.1 hk.2.1 d ht (K hk H locs ls hw hS hl)
theorem cd_astore_n {i : Fin 4} {v : Option Nat} (lv' : Value → List (Nat × Value)) (d : decode cc pc = .ok (.astore_n i, 1)) (hn : (i : Nat) < S.1) (hl : ∀ w : Value, ((i : Nat), w) :: lv.filter (fun q => !(q.1 == (i : Nat)) && !(q.1 + 1 == (i : Nat) && q.2.category == 2)) = lv' w) (K : cq_V l g X S cc (pc + 1) (lv' (va_rf v)) st M k n Q) : cq_V l g X S cc pc lv (va_rf v :: st) M k n Q := by
  intro hk H locs _ hw hS h
  cases v with
  | none => exact lv_astore_nN hk.1 hk.2.1 d rfl h hn (hl _) (fun ls hl => K hk H locs ls hw hS hl)
  | some x => exact lv_astore_n hk.1 hk.2.1 d rfl h hn (hl _) (fun ls hl => K hk H locs ls hw hS hl)
theorem cd_astore {i : Nat} {v : Option Nat} (lv' : Value → List (Nat × Value)) (d : decode cc pc = .ok (.astore i, 2)) (hn : i < S.1) (hl : ∀ w : Value, (i, w) :: lv.filter (fun q => !(q.1 == i) && !(q.1 + 1 == i && q.2.category == 2)) = lv' w) (K : cq_V l g X S cc (pc + 2) (lv' (va_rf v)) st M k n Q) : cq_V l g X S cc pc lv (va_rf v :: st) M k n Q := by
  intro hk H locs _ hw hS h
  cases v with
  | none => exact lv_astoreN hk.1 hk.2.1 d h hn (hl _) (fun ls hl => K hk H locs ls hw hS hl)
  | some x => exact lv_astore hk.1 hk.2.1 d h hn (hl _) (fun ls hl => K hk H locs ls hw hS hl)
theorem cd_getIs {c f a index : Nat} {F : Int32 → Prop} {ref : String} {o : String × String × String × Bool} {ty : FieldType} (h : cq_get M c f F) (hF : cx_FI g c f a o ty) (hs : Cond.sameField ref o.1 o.2.1 o.2.2.1 ∈ lw_all) (hq : Cond.fieldLink S.2.1 index ref o.2.1 o.2.2.1 ∈ lw_all) (d : decode cc pc = .ok (.getfield index, 3)) (K : ∀ v, F v → cq_V l g X S cc (pc + 3) lv (.int v :: st) M k n Q) : cq_V l g X S cc pc lv (.ref a :: st) M k n Q := by
  intro hk H locs ls hw hS hl
  obtain ⟨ci, q0, C, T, N, ty0, ⟨c1, c2, c3, c4⟩, hN, hT, hty, hM⟩ := hF
  obtain ⟨fs, m1, m2, m3⟩ := hM M
  subst hT
  exact va_get hk.1 hk.2.1 (T := T) (Ts := lw_all) hk.2.2.2.2.1 c2 hk.2.2.2.1 hk.2.2.2.2.2.2.2.1 hw.1 q0 m1 c1 f hN (hk.2.2.2.2.1 _ hq) (u_same (hk.2.2.2.2.1 _ hs)) m2 d (K _ h hk H locs ls hw hS hl)
theorem cd_putIs {c f a index : Nat} {v : Int32} {F : cx_M → Prop} {ref : String} {o : String × String × String × Bool} {ty : FieldType} (h : cq_put M c f v F) (hF : cx_FI g c f a o ty) (hs : Cond.sameField ref o.1 o.2.1 o.2.2.1 ∈ lw_all) (hn : narrow ty (.int v) = .int v) (hfit : fits ty (.int v) = true) (hfin : o.2.2.2 = false) (hq : Cond.fieldLink S.2.1 index ref o.2.1 o.2.2.1 ∈ lw_all) (d : decode cc pc = .ok (.putfield index, 3)) (K : ∀ M', F M' → cq_V l g X S cc (pc + 3) lv st M' k n Q) : cq_V l g X S cc pc lv (.int v :: .ref a :: st) M k n Q := by
  intro hk H locs ls hw hS hl
  obtain ⟨ci, q0, C, T, N, ty0, ⟨c1, c2, c3, c4⟩, hN, hT, hty, hM⟩ := hF
  obtain ⟨fs, m1, m2, m3⟩ := hM M
  subst hT
  refine va_put hk.1 hk.2.1 (T := T) (Ts := lw_all) hk.2.2.2.2.1 c2 ty0 c3 c4 hk.2.2.2.1 hk.2.2.2.2.2.2.2.1 hw.1 hw.2 hS q0 m1 c1 f hN (hk.2.2.2.2.1 _ hq) (u_same (hk.2.2.2.2.1 _ hs)) hfin hty hn hfit (List.getElem?_eq_some_iff.mp m2).1 d ?_
  intro H1 locs1 hP hD hS1
  rw [m3] at hP hD
  exact K _ h hk H1 locs1 ls ⟨hP, hD⟩ hS1 hl
theorem cd_addI {k' n' bc bs : Nat} {F : Nat → Nat → Prop} (h : cd_add k k' n n' F) (hb : k + k' ≤ bc ∧ n + n' ≤ bs) (K : ∀ a b, F a b → (a ≤ bc ∧ b ≤ bs) → cq_V l g X S cc pc lv st M a b Q) : cq_V l g X S cc pc lv st M (k + k') (n + n') Q := K _ _ h hb
theorem cd_bk {k n k' n' bc bs : Nat} (h : k ≤ bc ∧ n ≤ bs) (h2 : k' ≤ bc - k ∧ n' ≤ bs - n) : k + k' ≤ bc ∧ n + n' ≤ bs := by omega
theorem cd_bud {k n bc bs : Nat} (h : k ≤ bc ∧ n ≤ bs) : k + (bc - k) ≤ bc ∧ n + (bs - n) ≤ bs := by omega
theorem cd_nfO {C : String} (w : Option Nat) : narrow (.object C) (va_rf w) = va_rf w ∧ fits (.object C) (va_rf w) = true := by cases w <;> exact ⟨rfl, rfl⟩
theorem cd_nfA {t : FieldType} (w : Option Nat) : narrow (.array t) (va_rf w) = va_rf w ∧ fits (.array t) (va_rf w) = true := by cases w <;> exact ⟨rfl, rfl⟩
theorem cd_copyB {a0 z0 a1 z1 index : Nat} {sp dp m : Int32} {F : cx_M → Prop} (hb : dB g) (hn : dN L) (hm0 : (a0, (1, 2, z0)) ∈ L) (hm1 : (a1, (1, 2, z1)) ∈ L) (h : cd_cpyB M (dc a0) z0 (dc a1) z1 sp dp m F) (d : decode cc pc = .ok (.invokestatic index, 3)) (hq : Cond.methodLink S.2.1 index arraycopyName ∈ lw_all)
    (hfr : 1 ≤ S.2.2.2.1.frames) (hlo : (st.map fun v => v.category).sum + (nativeFrameWords "java/lang/System" "arraycopy" 5 + 11) ≤ S.2.2.2.1.locals) (K : ∀ M', F M' → cq_V l (dG g L P) X S cc (pc + 3) lv st M' k n Q) : cq_V l (dG g L P) X S cc pc lv (.int m :: .int dp :: .ref a1 :: .int sp :: .ref a0 :: st) M k n Q := by
  intro hk H locs ls hw hS hl
  obtain ⟨h1, h2, h3, h4, h5, h6, h⟩ := h
  obtain ⟨e0, q0, m0⟩ := dG_AI (P := P) hb hn hm0 (show (cx_tys g.2.1)[2]? = some (g.2.1 2, .byte) from rfl)
  obtain ⟨e1, q1, m1⟩ := dG_AI (P := P) hb hn hm1 (show (cx_tys g.2.1)[2]? = some (g.2.1 2, .byte) from rfl)
  refine va_copyi hk.1 hk.2.1 (hk.2.2.1.trans hl.1.symm) hk.2.2.2.1 (hk.2.2.2.2.1 _ hq) (hk.2.2.2.2.1 _ q321) (hk.2.2.2.2.1 _ q320) (hk.2.2.2.2.1 _ q132) hk.2.2.2.2.2.2.2.1 hw.1 hw.2 hS q0 q1 2 2 (m0 M).1 (m1 M).1 e0 e1 rfl h1 h2 h3 h4 h5 h6 hfr hlo d ?_
  intro H1 locs1 hP hD hS1
  rw [(m1 M).2] at hP hD
  exact K _ h hk H1 locs1 ls ⟨hP, hD⟩ hS1 hl
theorem cd_bcls {U : State} (h : cx_K g U) : U.vm.findClass "[B" = some (g.2.1 2) := (h.1.2 2 _ rfl).2
theorem cd_cloneB {a0 z index bc bs : Nat} {F : Nat → cx_M → dP → dL → Nat → Nat → Prop} (hb : dB g) (hn : dN L) (hm : (a0, (1, 2, z)) ∈ L) (h : cd_cloB bc bs k n z a0 (1, 2, z) M P L F) (hB : S.2.2.2.1.cells = bc ∧ S.2.2.2.1.slots = bs) (hq : Cond.methodLink S.2.1 index ⟨"[B", "clone", "()Ljava/lang/Object;"⟩ ∈ lw_all) (hsame : Cond.sameMethod "[B" "java/lang/Object" "clone" "()Ljava/lang/Object;" ∈ lw_all) (hnat : Cond.native ⟨"java/lang/Object", "clone", "()Ljava/lang/Object;"⟩ ∈ lw_all) (hinst : Cond.instanceMethod ⟨"java/lang/Object", "clone", "()Ljava/lang/Object;"⟩ ∈ lw_all)
    (hsel : Cond.selects "[B" ⟨"[B", "clone", "()Ljava/lang/Object;"⟩ ⟨"java/lang/Object", "clone", "()Ljava/lang/Object;"⟩ ∈ lw_all) (hcl : Cond.castable "[B" "java/lang/Cloneable" ∈ lw_tbl) (hfr : 1 ≤ S.2.2.2.1.frames) (hlo : (st.map fun v => v.category).sum + 14 ≤ S.2.2.2.1.locals) (d : decode cc pc = .ok (.invokevirtual index, 3))
    (K : ∀ a M' P' L' k' n', F a M' P' L' k' n' → (k' ≤ bc ∧ n' ≤ bs) → cq_V l (dG g L' P') X S cc (pc + 3) lv (.ref a :: st) M' k' n' Q) : cq_V l (dG g L P) X S cc pc lv (.ref a0 :: st) M k n Q := by
  obtain ⟨h0, h1, h2, h3⟩ := h
  intro hk H locs ls hw hS hl
  obtain ⟨e0, q0, m0⟩ := dG_AI (P := P) hb hn hm (show (cx_tys g.2.1)[2]? = some (g.2.1 2, .byte) from rfl)
  refine va_clone hk.1 hk.2.1 (hk.2.2.1.trans hl.1.symm) hk.2.2.2.1 (hk.2.2.2.2.1 _ hq) (hk.2.2.2.2.1 _ hsame) (hk.2.2.2.2.1 _ hnat) (hk.2.2.2.2.1 _ hinst) (hk.2.2.2.2.1 _ hsel) (hk.2.2.2.2.2.2.2.2.1 _ hcl rfl) hk.2.2.2.2.2.2.2.1 hw.1 hw.2 hS (hb.2.2 _ hk.2.2.2.2.2.2.2) q0 2 (m0 M).1 e0 (cd_bcls (g := g) hk.2.2.2.2.2.2.2) (fun i v hv => ?_) hfr hlo (by rw [hB.1]; exact h1) (by rw [hB.2]; exact h2) d ?_
  · have hv : (vp_cell (g.2.1 2) (z, .inl (M (dc a0)))).slots[i]? = some v := hv
    have hz : i < z := by
      have := (Array.getElem?_eq_some_iff.mp hv).1
      rwa [show (vp_cell (g.2.1 2) (z, .inl (M (dc a0)))).slots.size = z from arrV_size _ _ _] at this
    have e : (vp_cell (g.2.1 2) (z, .inl (M (dc a0)))).slots[i]? = some (.int (M (dc a0) i)) := arrV_read (g.2.1 2) (fun j => Value.int (M (dc a0) j)) hz
    rw [e] at hv
    cases hv
    exact h0 i hz
  · intro a H1 hK1 hP hD hS1
    obtain ⟨hf, hw1⟩ := dNew (kd := (1, 2, z)) (f := M (dc a0)) hb rfl hP hD
    exact K a _ _ _ _ _ (h3 a hf) ⟨h1, h2⟩ hk H1 locs ls hw1 hS1 hl
theorem cd_castAB {a0 z index : Nat} (hb : dB g) (hn : dN L) (hm : (a0, (1, 2, z)) ∈ L) (hq : Cond.classLink S.2.1 index "[B" ∈ lw_all) (d : decode cc pc = .ok (.checkcast index, 3)) (K : cq_V l (dG g L P) X S cc (pc + 3) lv (.ref a0 :: st) M k n Q) : cq_V l (dG g L P) X S cc pc lv (.ref a0 :: st) M k n Q := by
  intro hk H locs ls hw hS hl
  obtain ⟨e0, q0, m0⟩ := dG_AI (P := P) hb hn hm (show (cx_tys g.2.1)[2]? = some (g.2.1 2, .byte) from rfl)
  exact va_castA hk.1 hk.2.1 hk.2.2.2.1 (hk.2.2.2.2.1 _ hq) hw.1 q0 (m0 M).1 (cd_bcls (g := g) hk.2.2.2.2.2.2.2) d (K hk H locs ls hw hS hl)
theorem cd_castN {index : Nat} (d : decode cc pc = .ok (.checkcast index, 3)) (K : cq_V l g X S cc (pc + 3) lv (.null :: st) M k n Q) : cq_V l g X S cc pc lv (.null :: st) M k n Q := fun hk H locs ls hw hS hl => lv_castN hk.1 hk.2.1 d (K hk H locs ls hw hS hl)
theorem cd_castQ {v : Option Nat} {ci index N : Nat} {C : String} {T : u_T} {ty0 : Nat → FieldType} (hb : dB g) (hm : ∀ a, v = some a → (a, (0, ci, 0)) ∈ L) (hc : cx_Cl ci C T N ty0) (hq : Cond.classLink S.2.1 index C ∈ lw_all) (d : decode cc pc = .ok (.checkcast index, 3)) (K : cq_V l (dG g L P) X S cc (pc + 3) lv (va_rf v :: st) M k n Q) : cq_V l (dG g L P) X S cc pc lv (va_rf v :: st) M k n Q := by
  cases v with
  | none => exact cd_castN d K
  | some a => exact cq_castR (dG_Rc hb (hm a rfl) hc) hq d K
theorem cd_lsw_in {x : Int32} {dflt : Int} {D : Prop} : ∀ (ps : List (Int × Int)) (Bs : List (Int × Prop)), Bs.map Prod.fst = ps.map Prod.fst → cd_lsw x Bs D →
    (Op.lookupswitch.offset ps dflt x.toInt = dflt ∧ D) ∨ ∃ (j : Nat) (B : Int × Prop) (o : Int), Bs[j]? = some B ∧ ps[j]? = some (B.1, o) ∧ Op.lookupswitch.offset ps dflt x.toInt = o ∧ B.2
  | [], [], _, h => Or.inl ⟨rfl, h⟩
  | [], _ :: _, e, _ => by cases e
  | _ :: _, [], e, _ => by cases e
  | (a, o) :: r, (b, F) :: s, e, h => by
    have e1 : b = a := (List.cons.inj e).1
    have e2 := (List.cons.inj e).2
    subst e1
    rw [Op.lookupswitch.offset_cons]
    unfold cd_lsw at h
    by_cases q : b = x.toInt
    · rw [if_pos q] at h
      rw [if_pos q]
      exact Or.inr ⟨0, (b, F), o, rfl, rfl, rfl, h⟩
    · rw [if_neg q] at h
      rw [if_neg q]
      rcases cd_lsw_in r s e2 h with h1 | ⟨j, B, o', h1, h2, h3, h4⟩
      · exact Or.inl h1
      · exact Or.inr ⟨j + 1, B, o', h1, h2, h3, h4⟩
theorem cd_lookup {x : Int32} {dflt : Int} {ps : Array (Int × Int)} {len : Nat} {Bs : List (Int × Prop)} {D : Prop} (tgtD : Nat) (ts : List (Int × Nat)) (h : cd_lsw x Bs D) (d : decode cc pc = .ok (.lookupswitch dflt ps, len)) (hB : Bs.map Prod.fst = ts.map Prod.fst) (hk : (pc : Int) + dflt = (tgtD : Int) ∧ ((ps.toList.zip (ps.toList.drop 1)).all (fun (a, next) => a.1 < next.1) = true) ∧ ps.toList.map (fun q => (q.1, (pc : Int) + q.2)) = ts.map (fun t => (t.1, (t.2 : Int))))
    (KD : D → cq_V l g X S cc tgtD lv st M k n Q) (K : ∀ j B, Bs[j]? = some B → B.2 → cq_V l g X S cc (ts.getD j (0, 0)).2 lv st M k n Q) : cq_V l g X S cc pc lv (.int x :: st) M k n Q := by
  intro hk' H locs ls hw hS hl
  obtain ⟨k1, k2, k3⟩ := hk
  have e1 : Bs.map Prod.fst = ps.toList.map Prod.fst := by
    rw [hB]
    have := congrArg (List.map Prod.fst) k3
    simpa [List.map_map, Function.comp_def] using this.symm
  rcases cd_lsw_in (dflt := dflt) ps.toList Bs e1 h with ⟨h1, h2⟩ | ⟨j, B, o, h1, h2, h3, h4⟩
  · exact lv_lookup hk'.1 hk'.2.1 d k2 h1 k1 (KD h2 hk' H locs ls hw hS hl)
  · have e2 : (ts.map (fun t => (t.1, (t.2 : Int))))[j]? = some (B.1, (pc : Int) + o) := by
      rw [← k3, List.getElem?_map, h2]
      rfl
    rw [List.getElem?_map] at e2
    cases ht : ts[j]? with
    | none => rw [ht] at e2; cases e2
    | some t =>
      rw [ht] at e2
      have e3 : (pc : Int) + o = (t.2 : Int) := (Prod.mk.inj (Option.some.inj e2)).2.symm
      have e4 : (ts.getD j (0, 0)).2 = t.2 := by rw [List.getD_eq_getElem?_getD, ht]; rfl
      have K1 := K j B h1 h4
      rw [e4] at K1
      exact lv_lookup hk'.1 hk'.2.1 d k2 h3 e3 (K1 hk' H locs ls hw hS hl)
theorem cq_ldBy {c z a t : Nat} {i : Int32} {F : Int32 → Prop} (h : cq_ld M c z i F) (hA : cx_AI g c z a t .byte) (d : decode cc pc = .ok (.baload, 1)) (K : ∀ v, F v → cq_V l g X S cc (pc + 1) lv (.int v :: st) M k n Q) : cq_V l g X S cc pc lv (.int i :: .ref a :: st) M k n Q := by
  intro hk H locs ls hw hS hl
  obtain ⟨t1, q0, hM⟩ := hA
  obtain ⟨hin, h⟩ := cq_ld_some h
  exact va_bald hk.1 hk.2.1 hk.2.2.2.2.2.2.2.1 hw.1 q0 t (hM M).1 t1 hin d (K _ h hk H locs ls hw hS hl)
theorem cq_iincM {i : Nat} {z : Int} {x : Int32} {f : Int32 → Prop} (j : Nat) (v : Int32) (lv' : Int32 → List (Nat × Value)) (h : cq_let (x - v) f) (d : decode cc pc = .ok (.iinc i z, 3)) (hj : lv[j]? = some (i, .int x)) (hv : Int32.ofInt z = -v) (hn : i < S.1)
    (hl : ∀ y : Int32, (i, Value.int y) :: lv.filter (fun q => !(q.1 == i) && !(q.1 + 1 == i && q.2.category == 2)) = lv' y) (K : ∀ y, f y → cq_V l g X S cc (pc + 3) (lv' y) st M k n Q) : cq_V l g X S cc pc lv st M k n Q := by
  rw [Int32.sub_eq_add_neg] at h
  exact cq_iinc j (-v) lv' h d hj hv hn hl K
end CQD
/-! DYNAMIC WORLDS: contracts, returns, calls -/
def cdS (H : Heap) (i : Nat) : Nat := ((H.toList.drop i).map (fun c => c.slots.size)).sum
def cd_sz (H0 H1 : Heap) (k n : Nat) : Prop := H0.size ≤ H1.size ∧ H1.size ≤ H0.size + k ∧ cdS H1 H0.size ≤ n ∧ ∀ (q : Nat) (c : Cell), H0[q]? = some c → ∃ c', H1[q]? = some c' ∧ c'.slots.size = c.slots.size
/-- what is said of an end: memory, references, cells, the int, the reference, what was thrown (0: nothing), how many cells, slots were made -/
abbrev cd_Qt : Type := cx_M → dP → dL → Int32 → Option Nat → Nat → Nat → Nat → Prop
def cd_Q (g : cx_G) (rv : Int32 → Option Nat → Option Value) (bc bs : Nat) (Qp : cd_Qt) : Array Value → State → Outcome → State → Prop := fun _ st oc t => ∃ (M : cx_M) (P : dP) (L : dL) (x : Int32) (r : Option Nat) (k n : Nat), Qp M P L x r 0 k n ∧ oc = .returned (rv x r) ∧ cx_w (dG g L P) M t.heap ∧ va_F g.2.2.2.1 st t ∧ cd_sz st.heap t.heap k n ∧ (k ≤ bc ∧ n ≤ bs)
def cd_rV : Int32 → Option Nat → Option Value := fun _ _ => none
def cd_rI : Int32 → Option Nat → Option Value := fun x _ => some (.int x)
def cd_rA : Int32 → Option Nat → Option Value := fun _ r => some (va_rf r)
def cd_fin (g : cx_G) (X : cx_X) (S : cx_S) (rv : Int32 → Option Nat → Option Value) (Qp : cd_Qt) : State → Prop := MQ X.2.2.2.2.2.1 (cd_Q g rv S.2.2.2.1.cells S.2.2.2.1.slots Qp) X.2.2.2.2.1 X.2.2.1 S.2.2.2.1.cells S.2.2.2.1.slots g.2.2.2.1
def cd_Met (l : Launch) (g : cx_G) (y : MethodName) (cc : ByteArray) (S : cx_S) (rv : Int32 → Option Nat → Option Value) (args : List Value) (M : cx_M) (P : dP) (L : dL) (Qp : cd_Qt) : Prop :=
  Met l y (ws_ y cc S.1 S.2.2.2.2.1) S.2.2.2.1 (va_Pc args (fun U => cx_w (dG g L P) M U.heap ∧ cx_K g U)) (cd_Q g rv S.2.2.2.1.cells S.2.2.2.1.slots Qp) S.2.2.2.1.cells S.2.2.2.1.slots g.2.2.2.1
theorem cd_met {l : Launch} {g : cx_G} {y : MethodName} {cc : ByteArray} {S : cx_S} {rv : Int32 → Option Nat → Option Value} {args : List Value} {M : cx_M} {P : dP} {L : dL} {Qp : cd_Qt} (hy : plainName y.cls = true) (hown : y.cls = S.2.1) (hmo : S.2.2.2.2.2 = false) {lv : List (Nat × Value)} (hlv : lv_args 0 args = lv) (hsz : (lg_sl args).length ≤ S.1)
    (body : ∀ X : cx_X, X.2.2.2.2.2.2.1.name = y.name → cq_V l (dG g L P) X S cc 0 lv [] M 0 0 (cd_fin g X S rv Qp)) : cd_Met l g y cc S rv args M P L Qp := by
  refine Met.ofW (cc := cc) (maxL := S.1) (ret := S.2.2.2.2.1) hy rfl ?_
  intro p e s m args' below meth c s₁ B hml hv
  obtain ⟨rfl, hw, hK⟩ := hv
  have hts := atoms_spec (ws := ws_ y cc S.1 S.2.2.2.2.1) B.pre
  have hts : ∀ w ∈ lw_all, w.before _ s = true := fun w h => hts w (List.mem_cons_of_mem _ h)
  have hownc : s.vm.findClass S.2.1 = some m.cls := by rw [← hown]; exact findClass_of_methodNamed B.named
  rw [lg_entry_eq]
  have hnm : meth.name = y.name := (name_of_methodNamed B.named B.method).1
  exact body (p, e, s, m, _, below, meth, c) hnm ⟨B.exec, B.bytes, hml, hownc, hts, ⟨B.notSynchronized, fun h => by rw [hmo] at h; cases h⟩, B.returns, hK⟩ s.heap [] _ hw va_S.rf (hlv ▸ lv_entry args hsz)
theorem cd_szOf {s T : State} {locs : List Loc} {k n : Nat} (h : s.sameButNew (T.setVm s.vm) locs k n) : cd_sz s.heap T.heap k n :=
  ⟨h.2.1, h.2.2.1, h.2.2.2.2.1, fun q c hc => by
    obtain ⟨c', h1, -, h3, -⟩ := h.2.2.2.2.2 q c hc
    exact ⟨c', h1, h3⟩⟩
theorem cdS_split {H0 H1 : Heap} {i : Nat} (hi : i ≤ H0.size) (hs : H0.size ≤ H1.size) (h : ∀ (q : Nat) (c : Cell), H0[q]? = some c → ∃ c', H1[q]? = some c' ∧ c'.slots.size = c.slots.size) : cdS H1 i = cdS H0 i + cdS H1 H0.size := by
  have e : H1.toList.map (fun c => c.slots.size) = H0.toList.map (fun c => c.slots.size) ++ (H1.toList.drop H0.size).map (fun c => c.slots.size) := by
    have e1 : (H1.toList.take H0.size).map (fun c => c.slots.size) = H0.toList.map (fun c => c.slots.size) := by
      apply List.ext_getElem?
      intro j
      rw [List.getElem?_map, List.getElem?_map, List.getElem?_take]
      by_cases hj : j < H0.size
      · rw [if_pos hj]
        obtain ⟨c', h1, h2⟩ := h j H0[j] (Array.getElem?_eq_getElem hj)
        rw [Array.getElem?_toList, Array.getElem?_toList, h1, Array.getElem?_eq_getElem hj]
        simp [h2]
      · rw [if_neg hj, Array.getElem?_toList, Array.getElem?_eq_none (by omega)]
    rw [← e1, ← List.map_append, List.take_append_drop]
  unfold cdS
  rw [List.map_drop, e, List.drop_append_of_le_length (by simp; omega), List.sum_append, List.map_drop, List.map_drop]
theorem cd_szT {H0 H1 H2 : Heap} {k n k' n' : Nat} (h1 : cd_sz H0 H1 k n) (h2 : cd_sz H1 H2 k' n') : cd_sz H0 H2 (k + k') (n + n') := by
  obtain ⟨a1, a2, a3, a4⟩ := h1
  obtain ⟨b1, b2, b3, b4⟩ := h2
  refine ⟨Nat.le_trans a1 b1, by omega, ?_, fun q c hc => ?_⟩
  · rw [cdS_split a1 b1 b4]
    omega
  · obtain ⟨c1, x1, x2⟩ := a4 q c hc
    obtain ⟨c2, y1, y2⟩ := b4 q c1 x1
    exact ⟨c2, y1, y2.trans x2⟩
theorem cd_stand {p : Program} {l : Launch} {e : Env} {R : Room} {s : State} {m : MethodId} {args : Array Value} {below : List Frame} {meth : Method} {c : Code} {T : State} {locs : List Loc} {k n k' n' : Nat} (X : Stand p l e R s m args below meth c T locs k n) (h : cd_sz s.heap T.heap k' n') : Stand p l e R s m args below meth c T locs k' n' :=
  { X with same := ⟨X.same.1, X.same.2.1, h.2.1, X.same.2.2.2.1, h.2.2.1, X.same.2.2.2.2.2⟩ }
section CQR
variable {l : Launch} {g : cx_G} {L : dL} {P : dP} {X : cx_X} {S : cx_S} {cc : ByteArray} {pc : Nat} {lv : List (Nat × Value)} {st : List Value} {M : cx_M} {k n : Nat} {Q : State → Prop} {Qp : cd_Qt}
theorem cd_iret {v : Int32} (hf : k ≤ S.2.2.2.1.cells ∧ n ≤ S.2.2.2.1.slots) (h : Qp M P L v none 0 k n) (hr : S.2.2.2.2.1 = some .int) (d : decode cc pc = .ok (.ireturn, 1)) : cq_V l (dG g L P) X S cc pc lv [.int v] M k n (cd_fin g X S cd_rI Qp) := by
  intro hk H locs ls hw hS hl T hT XT
  have sz := cd_szOf XT.same
  rw [hT] at sz
  exact W.widen hf.1 hf.2 (W.iret hk.1 hk.2.1 (by rw [hk.2.2.2.2.2.2.1, hr]) (fun t ht hW => ⟨M, P, L, v, none, k, n, h, rfl, by rw [ht]; exact hw, hS.F ht, by rw [ht]; exact sz, hf⟩) hS.2.2 d (hlocks := hk.2.2.2.2.2.1.1)) T hT XT
theorem cd_zret {v : Int32} {ty : FieldType} (hf : k ≤ S.2.2.2.1.cells ∧ n ≤ S.2.2.2.1.slots) (h : Qp M P L v none 0 k n) (hz : narrow ty (.int v) = .int v) (hr : S.2.2.2.2.1 = some ty) (d : decode cc pc = .ok (.ireturn, 1)) : cq_V l (dG g L P) X S cc pc lv [.int v] M k n (cd_fin g X S cd_rI Qp) := by
  intro hk H locs ls hw hS hl T hT XT
  have sz := cd_szOf XT.same
  rw [hT] at sz
  exact W.widen hf.1 hf.2 (W.zret hk.1 hk.2.1 (by rw [hk.2.2.2.2.2.2.1, hr]) hz (fun t ht hW => ⟨M, P, L, v, none, k, n, h, rfl, by rw [ht]; exact hw, hS.F ht, by rw [ht]; exact sz, hf⟩) hS.2.2 d (hlocks := hk.2.2.2.2.2.1.1)) T hT XT
theorem cd_vret (hf : k ≤ S.2.2.2.1.cells ∧ n ≤ S.2.2.2.1.slots) (h : Qp M P L 0 none 0 k n) (hr : S.2.2.2.2.1 = none) (d : decode cc pc = .ok (.return_, 1)) : cq_V l (dG g L P) X S cc pc lv [] M k n (cd_fin g X S cd_rV Qp) := by
  intro hk H locs ls hw hS hl T hT XT
  have sz := cd_szOf XT.same
  rw [hT] at sz
  exact W.widen hf.1 hf.2 (W.vret hk.1 hk.2.1 (by rw [hk.2.2.2.2.2.2.1, hr]) (fun t ht hW => ⟨M, P, L, 0, none, k, n, h, rfl, by rw [ht]; exact hw, hS.F ht, by rw [ht]; exact sz, hf⟩) hS.2.2 d (hlocks := hk.2.2.2.2.2.1.1)) T hT XT
theorem cd_aret {v : Option Nat} {ty : FieldType} (hf : k ≤ S.2.2.2.1.cells ∧ n ≤ S.2.2.2.1.slots) (h : Qp M P L 0 v 0 k n) (hr : S.2.2.2.2.1 = some ty) (hty : (∃ n, ty = .object n) ∨ ∃ t, ty = .array t) (d : decode cc pc = .ok (.areturn, 1)) : cq_V l (dG g L P) X S cc pc lv [va_rf v] M k n (cd_fin g X S cd_rA Qp) := by
  intro hk H locs ls hw hS hl T hT XT
  have sz := cd_szOf XT.same
  rw [hT] at sz
  exact W.widen hf.1 hf.2 (W.aret hk.1 hk.2.1 (by rw [hk.2.2.2.2.2.2.1, hr]) hty (by cases v with
    | none => exact Or.inl rfl
    | some a => exact Or.inr ⟨a, rfl⟩) (fun t ht hW => ⟨M, P, L, 0, v, k, n, h, rfl, by rw [ht]; exact hw, hS.F ht, by rw [ht]; exact sz, hf⟩) hS.2.2 d (hlocks := hk.2.2.2.2.2.1.1)) T hT XT
/-- what stands behind a call -/
theorem cd_run {rv : Int32 → Option Nat → Option Value} {rest st0 : List Value} {a : Array Value} {mc ms : Nat} {F : cd_Qt}
    (hk : cx_ok (dG g L P) X S cc) {H : Heap} {locs : List Loc} {ls : Array Slot} (hS : va_S g.2.2.2.1 X.2.2.1.heap H locs) (hl : lv_has ls S.1 lv)
    (hr : va_Run X.1 l X.2.1 S.2.2.2.1 X.2.2.1 X.2.2.2.1 X.2.2.2.2.1 X.2.2.2.2.2.1 X.2.2.2.2.2.2.1 X.2.2.2.2.2.2.2 H locs k n mc ms (F0 X.2.2.2.1 pc ls st0) rest (cd_Q g rv mc ms F a) g.2.2.2.1)
    (K : ∀ (M' : cx_M) (P' : dP) (L' : dL) (x : Int32) (r : Option Nat) (k' n' : Nat), (k' ≤ mc ∧ n' ≤ ms) → F M' P' L' x r 0 k' n' → cq_V l (dG g L' P') X S cc (pc + 3) lv ((rv x r).toList ++ rest) M' (k + k') (n + n') Q) :
    W X.1 l X.2.1 S.2.2.2.1 X.2.2.1 X.2.2.2.1 X.2.2.2.2.1 X.2.2.2.2.2.1 X.2.2.2.2.2.2.1 X.2.2.2.2.2.2.2 H locs k n Q (F0 X.2.2.2.1 pc ls st0) := by
  intro T hT XT
  obtain ⟨v, st₀, t, T', L1, h0, X', hL, e1, e2, ⟨M', P', L', x, r, k', n', hq, hv, hw', ⟨hz, hq2⟩, hsz, hbb⟩, stp⟩ := hr T hT XT
  cases hv
  rw [h0] at hz hq2 hsz
  have sz1 := cd_szOf XT.same
  rw [hT] at sz1
  have sz := cd_szT sz1 hsz
  rw [← e1] at sz
  obtain ⟨t2, a1, b1⟩ := K M' P' L' x r k' n' hbb hq hk T'.heap (locs ++ L1) ls (by rw [e1]; exact hw')
    ⟨Nat.le_trans hS.1 (by rw [e1]; exact hz), fun q h1 h2 => by rw [e1, hq2 q (Nat.lt_of_lt_of_le h1 hS.1) h2]; exact hS.2.1 q h1 h2, fun q hq => by
      rcases List.mem_append.mp hq with h | h
      · exact hS.2.2 q h
      · exact hL q h⟩ hl T' rfl (cd_stand X' sz)
  exact ⟨t2, stp t2 a1, b1⟩
theorem cd_blind {args : List Value} : FrameBlind (va_Pc args (fun U => cx_w (dG g L P) M U.heap ∧ cx_K g U)) := by
  intro a U f mk q
  obtain ⟨q0, q1, q2⟩ := q
  exact ⟨q0, q1, cx_K.same q2 rfl (locs := []) va_S.rf⟩
theorem cd_cV {rv : Int32 → Option Nat → Option Value} {y : MethodName} {cc' : ByteArray} {S' : cx_S} {b index : Nat} {C : String} {F : cd_Qt} (As rest : List Value) {st0 : List Value} (hM : cd_Met l g y cc' S' rv (.ref b :: As) M P L F) (hB : cx_Rc (dG g L P) b C)
    (d : decode cc pc = .ok (.invokevirtual index, 3)) (hG : GoodIn lw_all (wsV S.2.1 index C y (ws_ y cc' S'.1 S'.2.2.2.2.1))) (hd : y.cls = C ∧ y.cls ≠ "java/lang/invoke/MethodHandle" ∧ y.cls ≠ "java/lang/invoke/VarHandle" ∧ (parseMethodDescriptor y.desc).map (fun d => d.parameters.length) = some As.length)
    (hR : S'.2.2.2.1.frames + 1 ≤ S.2.2.2.1.frames ∧ 8 + (S'.1 + 11) + S'.2.2.2.1.locals ≤ S.2.2.2.1.locals) (hf : k + S'.2.2.2.1.cells ≤ S.2.2.2.1.cells ∧ n + S'.2.2.2.1.slots ≤ S.2.2.2.1.slots) (hst : st0 = As.reverse ++ .ref b :: rest) (hcat : (rest.map fun v => v.category).sum ≤ 8)
    (K : ∀ (M' : cx_M) (P' : dP) (L' : dL) (x : Int32) (r : Option Nat) (k' n' : Nat), (k' ≤ S'.2.2.2.1.cells ∧ n' ≤ S'.2.2.2.1.slots) → F M' P' L' x r 0 k' n' → cq_V l (dG g L' P') X S cc (pc + 3) lv ((rv x r).toList ++ rest) M' (k + k') (n + n') Q) : cq_V l (dG g L P) X S cc pc lv st0 M k n Q := by
  intro hk H locs ls hw hS hl
  obtain ⟨ci, q0, T, N, hc, hfs⟩ := hB
  obtain ⟨fs, hfs⟩ := hfs M
  subst hst
  exact cd_run hk hS hl (va_runV ⟨hk.1, hk.2.1, hk.2.2.1, hk.2.2.2.1, hk.2.2.2.2.1⟩ hM (cwV As.length hk.2.2.2.2.1 hG rfl rfl rfl hd hR) ⟨cd_blind, va_recv hk.2.2.2.2.2.2.2.1 hw.1 hc hfs, fun U hU hW => ⟨rfl, by rw [hU]; exact hw, cx_K.warm (g := g) hk.2.2.2.2.2.2.2 hW (by rw [hU]; exact hS)⟩⟩ rfl rfl hl.1 rfl (lv_room hcat) d hf) K
theorem cd_cS {rv : Int32 → Option Nat → Option Value} {y : MethodName} {cc' : ByteArray} {S' : cx_S} {index : Nat} {F : cd_Qt} (As rest : List Value) {st0 : List Value} (hM : cd_Met l g y cc' S' rv As M P L F)
    (d : decode cc pc = .ok (.invokestatic index, 3)) (hG : GoodIn lw_all (va_wsS S.2.1 index y (ws_ y cc' S'.1 S'.2.2.2.2.1))) (hd : y.cls ≠ "java/lang/invoke/MethodHandle" ∧ y.cls ≠ "java/lang/invoke/VarHandle" ∧ (parseMethodDescriptor y.desc).map (fun d => d.parameters.length) = some As.length)
    (hR : S'.2.2.2.1.frames + 1 ≤ S.2.2.2.1.frames ∧ 8 + (S'.1 + 11) + S'.2.2.2.1.locals ≤ S.2.2.2.1.locals) (hf : k + S'.2.2.2.1.cells ≤ S.2.2.2.1.cells ∧ n + S'.2.2.2.1.slots ≤ S.2.2.2.1.slots) (hst : st0 = As.reverse ++ rest) (hcat : (rest.map fun v => v.category).sum ≤ 8)
    (K : ∀ (M' : cx_M) (P' : dP) (L' : dL) (x : Int32) (r : Option Nat) (k' n' : Nat), (k' ≤ S'.2.2.2.1.cells ∧ n' ≤ S'.2.2.2.1.slots) → F M' P' L' x r 0 k' n' → cq_V l (dG g L' P') X S cc (pc + 3) lv ((rv x r).toList ++ rest) M' (k + k') (n + n') Q) : cq_V l (dG g L P) X S cc pc lv st0 M k n Q := by
  intro hk H locs ls hw hS hl
  subst hst
  exact cd_run hk hS hl (va_runS ⟨hk.1, hk.2.1, hk.2.2.1, hk.2.2.2.1, hk.2.2.2.2.1⟩ hM (va_cwS As.length hk.2.2.2.2.1 hG rfl rfl rfl hd hR) ⟨cd_blind, fun U hU hW => ⟨rfl, by rw [hU]; exact hw, cx_K.warm (g := g) hk.2.2.2.2.2.2.2 hW (by rw [hU]; exact hS)⟩⟩ rfl rfl hl.1 rfl (lv_room hcat) d hf) K
theorem cd_cI {y : MethodName} {cc' : ByteArray} {S' : cx_S} {b index : Nat} {F : cd_Qt} (As rest : List Value) {st0 : List Value} (hM : cd_Met l g y cc' S' cd_rV (.ref b :: As) M P L F)
    (d : decode cc pc = .ok (.invokespecial index, 3)) (hG : GoodIn lw_all (ws_ y cc' S'.1 none)) (hrt : S'.2.2.2.2.1 = none) (hini : Cond.initialized y.cls ∈ lw_all) (hml : Cond.methodLink S.2.1 index y ∈ lw_all) (him : Cond.instanceMethod y ∈ lw_all) (hy1 : y.name = "<init>") (hd : y.cls ≠ "java/lang/invoke/MethodHandle" ∧ y.cls ≠ "java/lang/invoke/VarHandle" ∧ (parseMethodDescriptor y.desc).map (fun d => d.parameters.length) = some As.length)
    (hR : S'.2.2.2.1.frames + 1 ≤ S.2.2.2.1.frames ∧ 8 + (S'.1 + 11) + S'.2.2.2.1.locals ≤ S.2.2.2.1.locals) (hf : k + S'.2.2.2.1.cells ≤ S.2.2.2.1.cells ∧ n + S'.2.2.2.1.slots ≤ S.2.2.2.1.slots) (hst : st0 = As.reverse ++ .ref b :: rest) (hcat : (rest.map fun v => v.category).sum ≤ 8)
    (K : ∀ (M' : cx_M) (P' : dP) (L' : dL) (x : Int32) (r : Option Nat) (k' n' : Nat), (k' ≤ S'.2.2.2.1.cells ∧ n' ≤ S'.2.2.2.1.slots) → F M' P' L' x r 0 k' n' → cq_V l (dG g L' P') X S cc (pc + 3) lv rest M' (k + k') (n + n') Q) : cq_V l (dG g L P) X S cc pc lv st0 M k n Q := by
  intro hk H locs ls hw hS hl
  subst hst
  unfold cd_Met at hM
  rw [hrt] at hM
  exact cd_run hk hS hl (va_runI ⟨hk.1, hk.2.1, hk.2.2.1, hk.2.2.2.1, hk.2.2.2.2.1⟩ hM (cwI As.length hk.2.2.2.2.1 hG rfl rfl rfl (hk.2.2.2.2.1 _ hini) (hk.2.2.2.2.1 _ hml) (hk.2.2.2.2.1 _ him) hy1 hd hR) ⟨cd_blind, fun U hU hW => ⟨rfl, by rw [hU]; exact hw, cx_K.warm (g := g) hk.2.2.2.2.2.2.2 hW (by rw [hU]; exact hS)⟩⟩ rfl rfl hl.1 rfl (lv_room hcat) d hf) K
theorem cd_cU {rv : Int32 → Option Nat → Option Value} {x y : MethodName} {cc' : ByteArray} {S' : cx_S} {b index : Nat} {C owner : String} {F : cd_Qt} (As rest : List Value) {st0 : List Value} (hM : cd_Met l g y cc' S' rv (.ref b :: As) M P L F) (hB : cx_Rc (dG g L P) b C)
    (d : decode cc pc = .ok (.invokevirtual index, 3)) (hG : GoodIn lw_all (va_wsU S.2.1 index C owner x y (ws_ y cc' S'.1 S'.2.2.2.2.1))) (hd : y = ⟨owner, x.name, x.desc⟩ ∧ owner ≠ "java/lang/invoke/MethodHandle" ∧ owner ≠ "java/lang/invoke/VarHandle" ∧ (parseMethodDescriptor x.desc).map (fun d => d.parameters.length) = some As.length)
    (hR : S'.2.2.2.1.frames + 1 ≤ S.2.2.2.1.frames ∧ 8 + (S'.1 + 11) + S'.2.2.2.1.locals ≤ S.2.2.2.1.locals) (hf : k + S'.2.2.2.1.cells ≤ S.2.2.2.1.cells ∧ n + S'.2.2.2.1.slots ≤ S.2.2.2.1.slots) (hst : st0 = As.reverse ++ .ref b :: rest) (hcat : (rest.map fun v => v.category).sum ≤ 8)
    (K : ∀ (M' : cx_M) (P' : dP) (L' : dL) (x : Int32) (r : Option Nat) (k' n' : Nat), (k' ≤ S'.2.2.2.1.cells ∧ n' ≤ S'.2.2.2.1.slots) → F M' P' L' x r 0 k' n' → cq_V l (dG g L' P') X S cc (pc + 3) lv ((rv x r).toList ++ rest) M' (k + k') (n + n') Q) : cq_V l (dG g L P) X S cc pc lv st0 M k n Q := by
  intro hk H locs ls hw hS hl
  obtain ⟨ci, q0, T, N, hc, hfs⟩ := hB
  obtain ⟨fs, hfs⟩ := hfs M
  subst hst
  exact cd_run hk hS hl (va_runU ⟨hk.1, hk.2.1, hk.2.2.1, hk.2.2.2.1, hk.2.2.2.2.1⟩ hM (va_cwU As.length hk.2.2.2.2.1 hG rfl rfl rfl hd.1 hd.2 hR) ⟨cd_blind, va_recv hk.2.2.2.2.2.2.2.1 hw.1 hc hfs, fun U hU hW => ⟨rfl, by rw [hU]; exact hw, cx_K.warm (g := g) hk.2.2.2.2.2.2.2 hW (by rw [hU]; exact hS)⟩⟩ rfl rfl hl.1 rfl (lv_room hcat) d hf) K
theorem cd_CU {R : Room} {s : State} {args : Array Value} {own C : String} {index maxL : Nat} {y : MethodName} {bytes : ByteArray} {ret : Option FieldType} {rm : Room} (n : Nat) (ht : ∀ w ∈ lw_all, w.before args s = true) (hG : Cond.methodLink own index y ∈ lw_all ∧ Cond.sameMethod y.cls y.cls y.name y.desc ∈ lw_all ∧ Cond.instanceMethod y ∈ lw_all ∧ Cond.initialized y.cls ∈ lw_all) (hg : GoodIn lw_all (ws_ y bytes maxL ret)) (hse : (Cond.selects C y y).before #[] s = true)
    (hd : y.cls ≠ "java/lang/invoke/MethodHandle" ∧ y.cls ≠ "java/lang/invoke/VarHandle" ∧ (parseMethodDescriptor y.desc).map (fun d => d.parameters.length) = some n) (hR : rm.frames + 1 ≤ R.frames ∧ 8 + (maxL + 11) + rm.locals ≤ R.locals) : va_CU R s args own C y.cls index y y bytes maxL ret (ws_ y bytes maxL ret) rm rm.cells rm.slots n := by
  have hc : Cond.code y bytes maxL ret ∈ ws_ y bytes maxL ret := List.mem_cons_self
  refine ⟨⟨rfl, rfl, hR.1, hR.2, pay_in ht hg, hc⟩, ht _ (hg _ hc).1, ht _ hG.2.2.2, ⟨hd.1, hd.2.1⟩, fun sig h => ?_, ht _ hG.1, ht _ hG.2.1, va_Decl.of (ht _ hG.2.2.1) (ht _ (hg _ hc).1), ?_, ht _ hG.2.2.1⟩
  · have h2 := hd.2.2
    rw [h] at h2
    exact (Option.some.inj h2).symm
  · simpa only [Cond.before, Cond.holds, Cond.value] using hse
theorem cd_cP {rv : Int32 → Option Nat → Option Value} {y : MethodName} {cc' : ByteArray} {S' : cx_S} {b index : Nat} {C : String} {F : cd_Qt} (As rest : List Value) {st0 : List Value} (hM : cd_Met l g y cc' S' rv (.ref b :: As) M P L F) (hB : cx_Rc (dG g L P) b C)
    (d : decode cc pc = .ok (.invokevirtual index, 3)) (hG : (Cond.methodLink S.2.1 index y ∈ lw_all ∧ Cond.sameMethod y.cls y.cls y.name y.desc ∈ lw_all ∧ Cond.instanceMethod y ∈ lw_all ∧ Cond.initialized y.cls ∈ lw_all) ∧ GoodIn lw_all (ws_ y cc' S'.1 S'.2.2.2.2.1)) (hsel : ∀ U, cx_K g U → (Cond.selects C y y).before #[] U = true) (hd : y.cls ≠ "java/lang/invoke/MethodHandle" ∧ y.cls ≠ "java/lang/invoke/VarHandle" ∧ (parseMethodDescriptor y.desc).map (fun d => d.parameters.length) = some As.length)
    (hR : S'.2.2.2.1.frames + 1 ≤ S.2.2.2.1.frames ∧ 8 + (S'.1 + 11) + S'.2.2.2.1.locals ≤ S.2.2.2.1.locals) (hf : k + S'.2.2.2.1.cells ≤ S.2.2.2.1.cells ∧ n + S'.2.2.2.1.slots ≤ S.2.2.2.1.slots) (hst : st0 = As.reverse ++ .ref b :: rest) (hcat : (rest.map fun v => v.category).sum ≤ 8)
    (K : ∀ (M' : cx_M) (P' : dP) (L' : dL) (x : Int32) (r : Option Nat) (k' n' : Nat), (k' ≤ S'.2.2.2.1.cells ∧ n' ≤ S'.2.2.2.1.slots) → F M' P' L' x r 0 k' n' → cq_V l (dG g L' P') X S cc (pc + 3) lv ((rv x r).toList ++ rest) M' (k + k') (n + n') Q) : cq_V l (dG g L P) X S cc pc lv st0 M k n Q := by
  intro hk H locs ls hw hS hl
  obtain ⟨ci, q0, T, N, hc, hfs⟩ := hB
  obtain ⟨fs, hfs⟩ := hfs M
  subst hst
  exact cd_run hk hS hl (va_runU ⟨hk.1, hk.2.1, hk.2.2.1, hk.2.2.2.1, hk.2.2.2.2.1⟩ hM (cd_CU As.length hk.2.2.2.2.1 hG.1 hG.2 (hsel _ hk.2.2.2.2.2.2.2) hd hR) ⟨cd_blind, va_recv hk.2.2.2.2.2.2.2.1 hw.1 hc hfs, fun U hU hW => ⟨rfl, by rw [hU]; exact hw, cx_K.warm (g := g) hk.2.2.2.2.2.2.2 hW (by rw [hU]; exact hS)⟩⟩ rfl rfl hl.1 rfl (lv_room hcat) d hf) K
theorem cd_cO {rv : Int32 → Option Nat → Option Value} {x y : MethodName} {cc' b0 : ByteArray} {m0 : Nat} {r0 : Option FieldType} {S' : cx_S} {b index : Nat} {C owner : String} {F : cd_Qt} (As rest : List Value) {st0 : List Value} (hM : cd_Met l g y cc' S' rv (.ref b :: As) M P L F) (hB : cx_Rc (dG g L P) b C)
    (d : decode cc pc = .ok (.invokevirtual index, 3)) (hG : GoodIn lw_all (va_wsO S.2.1 index C owner x y (ws_ y cc' S'.1 S'.2.2.2.2.1))) (hd : Cond.code ⟨owner, x.name, x.desc⟩ b0 m0 r0 ∈ lw_all ∧ owner ≠ "java/lang/invoke/MethodHandle" ∧ owner ≠ "java/lang/invoke/VarHandle" ∧ (parseMethodDescriptor x.desc).map (fun d => d.parameters.length) = some As.length)
    (hR : S'.2.2.2.1.frames + 1 ≤ S.2.2.2.1.frames ∧ 8 + (S'.1 + 11) + S'.2.2.2.1.locals ≤ S.2.2.2.1.locals) (hf : k + S'.2.2.2.1.cells ≤ S.2.2.2.1.cells ∧ n + S'.2.2.2.1.slots ≤ S.2.2.2.1.slots) (hst : st0 = As.reverse ++ .ref b :: rest) (hcat : (rest.map fun v => v.category).sum ≤ 8)
    (K : ∀ (M' : cx_M) (P' : dP) (L' : dL) (x : Int32) (r : Option Nat) (k' n' : Nat), (k' ≤ S'.2.2.2.1.cells ∧ n' ≤ S'.2.2.2.1.slots) → F M' P' L' x r 0 k' n' → cq_V l (dG g L' P') X S cc (pc + 3) lv ((rv x r).toList ++ rest) M' (k + k') (n + n') Q) : cq_V l (dG g L P) X S cc pc lv st0 M k n Q := by
  intro hk H locs ls hw hS hl
  obtain ⟨ci, q0, T, N, hc, hfs⟩ := hB
  obtain ⟨fs, hfs⟩ := hfs M
  subst hst
  exact cd_run hk hS hl (va_runU ⟨hk.1, hk.2.1, hk.2.2.1, hk.2.2.2.1, hk.2.2.2.2.1⟩ hM (va_cwO As.length hk.2.2.2.2.1 hG rfl rfl rfl hd.1 hd.2 hR) ⟨cd_blind, va_recv hk.2.2.2.2.2.2.2.1 hw.1 hc hfs, fun U hU hW => ⟨rfl, by rw [hU]; exact hw, cx_K.warm (g := g) hk.2.2.2.2.2.2.2 hW (by rw [hU]; exact hS)⟩⟩ rfl rfl hl.1 rfl (lv_room hcat) d hf) K
theorem cd_cSU {rv : Int32 → Option Nat → Option Value} {y : MethodName} {cc' : ByteArray} {S' : cx_S} {b index ci N : Nat} {C : String} {T : u_T} {ty0 : Nat → FieldType} {F : cd_Qt} (As rest : List Value) {st0 : List Value} (hM : cd_Met l g y cc' S' rv (.ref b :: As) M P L F) (hB : cx_Rc (dG g L P) b C) (hcl : cx_Cl ci C T N ty0)
    (d : decode cc pc = .ok (.invokespecial index, 3)) (hG : GoodIn lw_all (va_wsSU S.2.1 index y (ws_ y cc' S'.1 S'.2.2.2.2.1))) (hd : y.name ≠ "<init>" ∧ (parseMethodDescriptor y.desc).map (fun d => d.parameters.length) = some As.length)
    (hR : S'.2.2.2.1.frames + 1 ≤ S.2.2.2.1.frames ∧ 8 + (S'.1 + 11) + S'.2.2.2.1.locals ≤ S.2.2.2.1.locals) (hf : k + S'.2.2.2.1.cells ≤ S.2.2.2.1.cells ∧ n + S'.2.2.2.1.slots ≤ S.2.2.2.1.slots) (hst : st0 = As.reverse ++ .ref b :: rest) (hcat : (rest.map fun v => v.category).sum ≤ 8)
    (K : ∀ (M' : cx_M) (P' : dP) (L' : dL) (x : Int32) (r : Option Nat) (k' n' : Nat), (k' ≤ S'.2.2.2.1.cells ∧ n' ≤ S'.2.2.2.1.slots) → F M' P' L' x r 0 k' n' → cq_V l (dG g L' P') X S cc (pc + 3) lv ((rv x r).toList ++ rest) M' (k + k') (n + n') Q) : cq_V l (dG g L P) X S cc pc lv st0 M k n Q := by
  intro hk H locs ls hw hS hl
  obtain ⟨ci1, q0, T1, N1, hc, hfs⟩ := hB
  obtain ⟨fs, hfs⟩ := hfs M
  subst hst
  exact cd_run hk hS hl (va_runSU (hk.2.2.2.2.2.2.2.1.1 ci1 _ hc).2 ⟨hk.1, hk.2.1, hk.2.2.1, hk.2.2.2.1, hk.2.2.2.2.1⟩ hM (va_cwSU As.length hk.2.2.2.2.1 hG rfl rfl rfl hd hR) ⟨cd_blind, va_recv hk.2.2.2.2.2.2.2.1 hw.1 hc hfs, fun U hU hW => ⟨rfl, by rw [hU]; exact hw, cx_K.warm (g := g) hk.2.2.2.2.2.2.2 hW (by rw [hU]; exact hS)⟩⟩ rfl rfl hl.1 rfl (lv_room hcat) d hf) K
theorem cd_oinit {a index : Nat} (hml : Cond.methodLink S.2.1 index Lib.objectInit ∈ lw_all) (him : Cond.instanceMethod Lib.objectInit ∈ lw_all) (hco : Cond.code Lib.objectInit ⟨#[0xb1]⟩ 1 none ∈ lw_all) (d : decode cc pc = .ok (.invokespecial index, 3)) (hfr : 1 ≤ S.2.2.2.1.frames) (hlo : (st.map fun v => v.category).sum + 12 ≤ S.2.2.2.1.locals) (K : cq_V l g X S cc (pc + 3) lv st M k n Q) : cq_V l g X S cc pc lv (.ref a :: st) M k n Q :=
  fun hk H locs ls hw hS hl => W.objInit hk.1 hk.2.1 hk.2.2.2.1 (hk.2.2.2.2.1 _ hml) (hk.2.2.2.2.1 _ him) (hk.2.2.2.2.1 _ hco) rfl (hl.1.trans hk.2.2.1.symm) rfl d hfr (by show 0 + _ + 12 ≤ _; omega) (K hk H locs ls hw hS hl)
end CQR
/-! what a dynamic world's base says -/
def dH (g : cx_G) : Prop := dB g ∧ cJ_H g ∧ (∀ U, cx_K g U → va_AO "java/lang/Object" U) ∧ (∀ U, cx_K g U → va_Z "java/util/BitSet" "$assertionsDisabled" "Z" (.int 1) g.2.2.2.1 U U.heap) ∧ (∀ U, cx_K g U → ∀ y, (y = ⟨"java/lang/AbstractStringBuilder", "ensureCapacityInternal", "(I)V"⟩ ∨ y = ⟨"java/lang/AbstractStringBuilder", "newCapacity", "(I)I"⟩) → (Cond.selects "java/lang/StringBuilder" y y).before #[] U = true)
