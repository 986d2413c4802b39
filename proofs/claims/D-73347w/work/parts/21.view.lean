/-! THE CLASS'S AND THE REFERENCE'S CELLS BY NUMBERS: a base world -/
def vSfix : List (Nat × dk) :=
  [(0, (3, 5, 4)), (1, (3, 5, 9)), (3, (1, 0, 20)), (4, (1, 0, 32)), (5, (1, 0, 1400)), (6, (1, 0, 1400)), (7, (1, 0, 3)), (8, (1, 0, 665)), (11, (1, 0, 700)), (22, (1, 0, 4)), (23, (1, 0, 64)), (26, (1, 0, 8192)), (27, (1, 0, 2048)), (28, (1, 1, 2048)), (33, (1, 0, 26600)), (34, (1, 0, 665)), (35, (1, 0, 441)), (38, (1, 0, 8)), (39, (1, 0, 8)), (40, (1, 0, 199)), (41, (1, 0, 995)), (47, (1, 0, 665)), (48, (1, 0, 26600)), (49, (1, 0, 8)), (50, (1, 0, 8)), (51, (1, 0, 3)), (60, (0, 0, 0)),
   (500, (0, 1, 0)), (509, (1, 2, 700)), (515, (1, 0, 5)), (516, (1, 0, 10000)),
   (600, (0, 2, 0)), (602, (0, 20, 0)), (603, (1, 0, 8)), (604, (1, 0, 8)), (605, (1, 0, 3)), (650, (3, 4, 40)),
   (700, (0, 2, 0)), (702, (0, 20, 0)), (703, (1, 0, 8)), (704, (1, 0, 8)), (705, (1, 0, 3)), (750, (3, 4, 40))]
def vSfix2 : List (Nat × dk) := [(8000, (0, 7, 0)), (8010, (0, 14, 0)), (8011, (1, 0, 4)), (9000, (0, 4, 0)), (9001, (1, 0, 512)), (9002, (1, 0, 512))]
def vSt (b : Nat) : List (Nat × dk) := [(b, (0, 12, 0)), (b + 35, (1, 0, 40)), (b + 36, (1, 0, 40)), (b + 37, (1, 0, 40)), (b + 38, (1, 0, 64)), (b + 39, (1, 0, 64)), (b + 40, (1, 0, 128)), (b + 41, (1, 0, 128)), (b + 42, (0, 21, 0)), (b + 43, (2, 0, 2))]
def vSb1 : List Nat := [1000, 1100] ++ (List.range 40).map (fun i => 1200 + 100 * i) ++ [6000]
def vSb2 : List Nat := (List.range 40).map (fun i => 20000 + 100 * i)
def vS : List (Nat × dk) := vSfix ++ vSb1.flatMap vSt ++ vSfix2 ++ vSb2.flatMap vSt
def vInc : Nat → List (Nat × dk) → Bool
  | _, [] => true
  | a, x :: r => decide (a < x.1) && vInc x.1 r
theorem vS_inc : ∃ x r, vS = x :: r ∧ vInc x.1 r = true ∧ x.1 = 0 := ⟨(0, (3, 5, 4)), vS.tail, rfl, by decide +kernel, rfl⟩
theorem vInc_gt : ∀ (l : List (Nat × dk)) (a : Nat), vInc a l = true → ∀ (i : Nat) (x : Nat × dk), l[i]? = some x → a < x.1
  | [], _, _, i, x, h => by simp at h
  | y :: r, a, h, i, x, hx => by
    simp only [vInc, Bool.and_eq_true, decide_eq_true_eq] at h
    match i, hx with
    | 0, hx => cases hx; exact h.1
    | i + 1, hx => exact Nat.lt_trans h.1 (vInc_gt r y.1 h.2 i x (by simpa using hx))
theorem vInc_inj : ∀ (l : List (Nat × dk)) (a : Nat), vInc a l = true → ∀ (i j : Nat) (x y : Nat × dk), l[i]? = some x → l[j]? = some y → x.1 = y.1 → i = j
  | [], _, _, i, j, x, y, h, _, _ => by simp at h
  | z :: r, a, h, i, j, x, y, hx, hy, e => by
    simp only [vInc, Bool.and_eq_true, decide_eq_true_eq] at h
    match i, j, hx, hy with
    | 0, 0, _, _ => rfl
    | 0, j + 1, hx, hy =>
      cases hx
      have := vInc_gt r z.1 h.2 j y (by simpa using hy)
      omega
    | i + 1, 0, hx, hy =>
      cases hy
      have := vInc_gt r z.1 h.2 i x (by simpa using hx)
      omega
    | i + 1, j + 1, hx, hy => rw [vInc_inj r z.1 h.2 i j x y (by simpa using hx) (by simpa using hy) e]
theorem vS_inj {i j : Nat} {x y : Nat × dk} (hx : vS[i]? = some x) (hy : vS[j]? = some y) (e : x.1 = y.1) : i = j := by
  obtain ⟨z, r, h1, h2, h3⟩ := vS_inc
  rw [h1] at hx hy
  match i, j, hx, hy with
  | 0, 0, _, _ => rfl
  | 0, j + 1, hx, hy =>
    cases hx
    have := vInc_gt r x.1 h2 j y (by simpa using hy)
    omega
  | i + 1, 0, hx, hy =>
    cases hy
    have := vInc_gt r y.1 h2 i x (by simpa using hx)
    omega
  | i + 1, j + 1, hx, hy => rw [vInc_inj r z.1 h2 i j x y (by simpa using hx) (by simpa using hy) e]
theorem vS_lt {x : Nat × dk} (h : x ∈ vS) : x.1 < 30000 := by
  have h1 : vS.all (fun x => decide (x.1 < 30000)) = true := by decide +kernel
  have := (List.all_eq_true.mp h1) x h
  simpa using this
/-- on which of the memory's cells a cell hangs; its ints; its references -/
def vdep (c : Nat) : Nat := if c = 650 then 602 else if c = 750 then 702 else c
def vM (M : cx_M) (c : Nat) : Nat → Int32 := if c = 602 ∨ c = 702 then fun k => if k = 0 then M c 101 else if k = 2 then M c 100 else 0 else M c
def vnull (c k : Nat) : Bool := (c == 8000 && (k == 8 || k == 9)) || (k == 45 && decide (1000 ≤ c) && c % 100 == 0 && c != 8000 && c != 9000)
def vtgt (c k : Nat) : Nat := if c = 8000 then 8012 + k else 9000
def vref (c k : Nat) : Nat :=
  if c = 0 then 1000000 + (4 * 0 + k) else if c = 1 then 1000000 + (4 * 1 + k) else if c = 60 then k
  else if c = 500 then [8000, 600, 700, 1000, 1100, 9040, 9041, 0, 509, 0, 0, 9300, 9310, 9000, 515, 516, 0].getD k 0
  else if c = 600 then [1000, 602, 603, 604, 605].getD k 0
  else if c = 700 then [6000, 702, 703, 704, 705].getD k 0
  else if c = 602 then 650 else if c = 702 then 750
  else if c = 8000 then (if k = 7 then 8001 else 8010) else if c = 8010 then 8011 else if c = 9000 then 9001 + k
  else if c % 100 = 0 then c + k + 1 else c + 1
def vPk (adr : Nat → Nat) (f : Nat → Int32) (c k : Nat) : Option Nat :=
  if c = 650 ∨ c = 750 then (if k < (f 100).toNatClampNeg then some (adr (f k).toNatClampNeg) else none)
  else if vnull c k then (if f k = 0 then none else some (adr (vtgt c k)))
  else some (adr (vref c k))
def vP (adr : Nat → Nat) (M : cx_M) (c : Nat) : Nat → Option Nat := fun k => vPk adr (M (vdep c)) c k
/-- the base world: those cells, and some that stay as they are -/
def vwG (D : va_G) (dA : Nat → ClassId) (A : Nat → Prop) (Z : State → Prop) (adr : Nat → Nat) (Lx : dL) (Px : dP) (Mx : cx_M) : cx_G :=
  (D, dA, fun M => vS.map (fun x => (adr x.1, dE dA x.2 (vM M x.1) (vP adr M x.1))) ++ dW dA Lx Px Mx, A, Z)
section VW
variable {D : va_G} {dA : Nat → ClassId} {A : Nat → Prop} {Z : State → Prop} {adr : Nat → Nat} {Lx : dL} {Px : dP} {Mx : cx_M}
theorem vw_get {M : cx_M} {i : Nat} {x : Nat × dk} (h : vS[i]? = some x) : ((vwG D dA A Z adr Lx Px Mx).2.2.1 M)[i]? = some (adr x.1, dE dA x.2 (vM M x.1) (vP adr M x.1)) := by
  have hl : i < vS.length := (List.getElem?_eq_some_iff.mp h).1
  show (vS.map _ ++ _)[i]? = _
  rw [List.getElem?_append_left (by simpa using hl), List.getElem?_map, h]
  rfl
theorem vw_getX {M : cx_M} {i : Nat} {x : Nat × dk} (h : Lx[i]? = some x) : ((vwG D dA A Z adr Lx Px Mx).2.2.1 M)[vS.length + i]? = some (x.1, dE dA x.2 (Mx (dc x.1)) (Px x.1)) := by
  show (vS.map _ ++ _)[vS.length + i]? = _
  rw [List.getElem?_append_right (by simp), List.length_map, Nat.add_sub_cancel_left]
  exact dW_get h
theorem vw_set {M M' : cx_M} {i c : Nat} {kd : dk} (h : vS[i]? = some (c, kd)) (ho : ∀ x ∈ vS, x.1 ≠ c → vM M' x.1 = vM M x.1 ∧ vP adr M' x.1 = vP adr M x.1) :
    ((vwG D dA A Z adr Lx Px Mx).2.2.1 M).set i (adr c, dE dA kd (vM M' c) (vP adr M' c)) = (vwG D dA A Z adr Lx Px Mx).2.2.1 M' := by
  have hl : i < vS.length := (List.getElem?_eq_some_iff.mp h).1
  show (vS.map _ ++ _).set i _ = vS.map _ ++ _
  rw [List.set_append_left _ _ (by simpa using hl)]
  congr 1
  apply List.ext_getElem?
  intro j
  rw [List.getElem?_set]
  by_cases e : i = j
  · subst e
    rw [if_pos rfl, if_pos (by simpa using hl), List.getElem?_map, h]
    rfl
  · rw [if_neg e, List.getElem?_map, List.getElem?_map]
    cases hj : vS[j]? with
    | none => rfl
    | some y =>
      have hy : y.1 ≠ c := fun z => e (vS_inj h hj z.symm)
      obtain ⟨h1, h2⟩ := ho y (List.mem_of_getElem? hj) hy
      show some (adr y.1, dE dA y.2 (vM M y.1) (vP adr M y.1)) = some (adr y.1, dE dA y.2 (vM M' y.1) (vP adr M' y.1))
      rw [h1, h2]
/-- a cell that stands for itself, on which no other hangs -/
def vpl (c : Nat) : Bool := c != 602 && c != 702 && c != 650 && c != 750
theorem vpl_of {c : Nat} (h : vpl c = true) : c ≠ 602 ∧ c ≠ 702 ∧ c ≠ 650 ∧ c ≠ 750 := by
  simp only [vpl, Bool.and_eq_true, bne_iff_ne] at h
  exact ⟨h.1.1.1, h.1.1.2, h.1.2, h.2⟩
theorem vM_pl {M : cx_M} {c : Nat} (h : vpl c = true) : vM M c = M c := by
  obtain ⟨h1, h2, -⟩ := vpl_of h
  unfold vM
  rw [if_neg (fun z => z.elim h1 h2)]
theorem vdep_pl {c : Nat} (h : vpl c = true) : vdep c = c := by
  obtain ⟨-, -, h3, h4⟩ := vpl_of h
  unfold vdep
  rw [if_neg h3, if_neg h4]
theorem vw_other {M : cx_M} {c : Nat} {f : Nat → Int32} (h : vpl c = true) (d : Nat) (hd : d ≠ c) : vM (cx_set M c f) d = vM M d ∧ vP adr (cx_set M c f) d = vP adr M d := by
  obtain ⟨h1, h2, -⟩ := vpl_of h
  refine ⟨?_, ?_⟩
  · unfold vM
    rw [cx_set_ne hd]
  · funext k
    unfold vP
    have : cx_set M c f (vdep d) = M (vdep d) := by
      refine cx_set_ne ?_
      unfold vdep
      split
      · exact fun z => h1 z.symm
      · split
        · exact fun z => h2 z.symm
        · exact hd
    rw [this]
theorem vPk_upd {f : Nat → Int32} {c k j : Nat} {v : Int32} (h : vpl c = true) (hj : j ≠ k) : vPk adr (upd f k v) c j = vPk adr f c j := by
  obtain ⟨-, -, h3, h4⟩ := vpl_of h
  have e : ¬ (c = 650 ∨ c = 750) := fun z => z.elim h3 h4
  unfold vPk
  simp only [if_neg e, pk_un hj]
theorem vw_FI {c ci z k N : Nat} {C : String} {T : u_T} {ty0 : Nat → FieldType} {f : String × String × String × Bool} {ty : FieldType} (hm : (c, (0, ci, z)) ∈ vS) (hc : cx_Cl ci C T N ty0) (hN : k < N) (hT : T k = f) (hty : parseFieldDescriptor f.2.2.1 = some ty) (hk : dFk ci k = 0) (hp : vpl c = true) : cx_FI (vwG D dA A Z adr Lx Px Mx) c k (adr c) f ty := by
  obtain ⟨i, hi⟩ := List.mem_iff_getElem?.mp hm
  refine ⟨ci, i, C, T, N, ty0, hc, hN, hT, hty, fun M => ⟨_, vw_get hi, ?_, fun v => ?_⟩⟩
  · rw [dFs_get (dNf_of hc.1) hN]
    unfold dFv
    rw [hk, vM_pl hp]
    rfl
  · rw [dFs_set (f' := vM (cx_up M c k v) c) (p' := vP adr (cx_up M c k v) c) (by rw [dNf_of hc.1]; exact hN) (by
      unfold dFv
      rw [hk, vM_pl hp]
      unfold cx_up
      rw [cx_set_cc]
      show Value.int (upd _ _ _ _) = _
      rw [pk_us]) (fun j hj => by
      have e1 : vP adr (cx_up M c k v) c j = vP adr M c j := by
        show vPk adr (cx_set M c (upd (M c) k v) (vdep c)) c j = vPk adr (M (vdep c)) c j
        rw [vdep_pl hp, cx_set_cc]
        exact vPk_upd hp hj
      unfold dFv
      rw [vM_pl hp, vM_pl hp, e1]
      unfold cx_up
      rw [cx_set_cc, pk_un hj])]
    exact vw_set (kd := (0, ci, z)) hi (fun x _ hx => vw_other hp x.1 hx)
theorem vw_FO {c ci z k N r : Nat} {C : String} {T : u_T} {ty0 : Nat → FieldType} {f : String × String × String × Bool} {ty : FieldType} (hm : (c, (0, ci, z)) ∈ vS) (hc : cx_Cl ci C T N ty0) (hN : k < N) (hT : T k = f) (hty : parseFieldDescriptor f.2.2.1 = some ty) (hf : ∀ w : Option Nat, narrow ty (va_rf w) = va_rf w ∧ fits ty (va_rf w) = true) (hk : dFk ci k = 1) (hp : vpl c = true) (hn : vnull c k = true) (hr : vtgt c k = r) : cx_FO (vwG D dA A Z adr Lx Px Mx) c k (adr c) f (adr r) := by
  obtain ⟨i, hi⟩ := List.mem_iff_getElem?.mp hm
  obtain ⟨-, -, h3, h4⟩ := vpl_of hp
  have hon : ∀ v : Int32, cx_on v (adr r) = va_rf (if v = 0 then none else some (adr r)) := fun v => by
    unfold cx_on
    split <;> rfl
  have hP : ∀ M : cx_M, vP adr M c k = if M c k = 0 then none else some (adr r) := fun M => by
    unfold vP vPk
    rw [if_neg (fun z => z.elim h3 h4), if_pos hn, vdep_pl hp, hr]
  refine ⟨ci, i, C, T, N, ty0, ty, hc, hN, hT, hty, fun v => by rw [hon]; exact hf _, fun M => ⟨_, vw_get hi, ?_, fun v => ?_⟩⟩
  · rw [dFs_get (dNf_of hc.1) hN]
    unfold dFv
    rw [hk, hon, hP]
    rfl
  · rw [dFs_set (f' := vM (cx_up M c k v) c) (p' := vP adr (cx_up M c k v) c) (by rw [dNf_of hc.1]; exact hN) (by
      unfold dFv
      rw [hk, hon, hP]
      unfold cx_up
      rw [cx_set_cc, pk_us]
      rfl) (fun j hj => by
      have e1 : vP adr (cx_up M c k v) c j = vP adr M c j := by
        show vPk adr (cx_set M c (upd (M c) k v) (vdep c)) c j = vPk adr (M (vdep c)) c j
        rw [vdep_pl hp, cx_set_cc]
        exact vPk_upd hp hj
      unfold dFv
      rw [vM_pl hp, vM_pl hp, e1]
      unfold cx_up
      rw [cx_set_cc, pk_un hj])]
    exact vw_set (kd := (0, ci, z)) hi (fun x _ hx => vw_other hp x.1 hx)
theorem vw_FR {c ci z k N r : Nat} {C : String} {T : u_T} {ty0 : Nat → FieldType} {f : String × String × String × Bool} (hm : (c, (0, ci, z)) ∈ vS) (hc : cx_Cl ci C T N ty0) (hN : k < N) (hT : T k = f) (hk : dFk ci k = 1) (h65 : c ≠ 650 ∧ c ≠ 750) (hn : vnull c k = false) (hr : vref c k = r) : cx_FR (vwG D dA A Z adr Lx Px Mx) k (adr c) f (.ref (adr r)) := by
  obtain ⟨i, hi⟩ := List.mem_iff_getElem?.mp hm
  refine ⟨ci, i, C, T, N, ty0, hc, hN, hT, fun M => ⟨_, vw_get hi, ?_⟩⟩
  rw [dFs_get (dNf_of hc.1) hN]
  unfold dFv
  rw [hk]
  show some (va_rf (vP adr M c k)) = _
  unfold vP vPk
  rw [if_neg (fun z => z.elim h65.1 h65.2), hn, hr]
  rfl
theorem vw_Rc {c ci z N : Nat} {C : String} {T : u_T} {ty0 : Nat → FieldType} (hm : (c, (0, ci, z)) ∈ vS) (hc : cx_Cl ci C T N ty0) : cx_Rc (vwG D dA A Z adr Lx Px Mx) (adr c) C := by
  obtain ⟨i, hi⟩ := List.mem_iff_getElem?.mp hm
  exact ⟨ci, i, T, N, hc.1, fun M => ⟨_, vw_get hi⟩⟩
theorem vw_AI {c t n : Nat} {ty : FieldType} (hm : (c, (1, t, n)) ∈ vS) (ht : (cx_tys dA)[t]? = some (dA t, ty)) (hp : vpl c = true) : cx_AI (vwG D dA A Z adr Lx Px Mx) c n (adr c) t ty := by
  obtain ⟨i, hi⟩ := List.mem_iff_getElem?.mp hm
  refine ⟨ht, i, fun M => ⟨?_, fun f => ?_⟩⟩
  · have := vw_get (D := D) (dA := dA) (A := A) (Z := Z) (adr := adr) (Lx := Lx) (Px := Px) (Mx := Mx) (M := M) hi
    rw [vM_pl hp] at this
    exact this
  · have e : (Sum.inl (dA t, n, Sum.inl f) : va_E) = dE dA (1, t, n) (vM (cx_set M c f) c) (vP adr (cx_set M c f) c) := by rw [vM_pl hp, cx_set_cc]; rfl
    show ((vwG D dA A Z adr Lx Px Mx).2.2.1 M).set i (adr c, Sum.inl (dA t, n, Sum.inl f)) = _
    rw [e]
    exact vw_set (kd := (1, t, n)) hi (fun x _ hx => vw_other hp x.1 hx)
theorem vw_LI {c z0 n : Nat} (hm : (c, (2, z0, n)) ∈ vS) (hp : vpl c = true) : cx_LI (vwG D dA A Z adr Lx Px Mx) c n (adr c) := by
  obtain ⟨i, hi⟩ := List.mem_iff_getElem?.mp hm
  refine ⟨rfl, i, fun M => ⟨?_, fun f => ?_⟩⟩
  · have := vw_get (D := D) (dA := dA) (A := A) (Z := Z) (adr := adr) (Lx := Lx) (Px := Px) (Mx := Mx) (M := M) hi
    rw [vM_pl hp] at this
    exact this
  · have e : (Sum.inl (dA 3, n, Sum.inr (Sum.inl (bt_w f))) : va_E) = dE dA (2, z0, n) (vM (cx_set M c f) c) (vP adr (cx_set M c f) c) := by rw [vM_pl hp, cx_set_cc]; rfl
    show ((vwG D dA A Z adr Lx Px Mx).2.2.1 M).set i (adr c, Sum.inl (dA 3, n, Sum.inr (Sum.inl (bt_w f)))) = _
    rw [e]
    exact vw_set (kd := (2, z0, n)) hi (fun x _ hx => vw_other hp x.1 hx)
theorem vw_QI {c t n : Nat} {C : String} {fr : Nat → Nat} (hm : (c, (3, t, n)) ∈ vS) (ht : (cx_tys dA)[t]? = some (dA t, .object C)) (h65 : c ≠ 650 ∧ c ≠ 750) (hn : ∀ k, vnull c k = false) (hr : ∀ k, adr (vref c k) = fr k) : cx_QI (vwG D dA A Z adr Lx Px Mx) (adr c) n t C fr := by
  obtain ⟨i, hi⟩ := List.mem_iff_getElem?.mp hm
  refine ⟨ht, i, fun M => ?_⟩
  have e : vP adr M c = fun j => some (fr j) := by
    funext k
    unfold vP vPk
    rw [if_neg (fun z => z.elim h65.1 h65.2), hn k]
    show some (adr (vref c k)) = _
    rw [hr]
  have := vw_get (D := D) (dA := dA) (A := A) (Z := Z) (adr := adr) (Lx := Lx) (Px := Px) (Mx := Mx) (M := M) hi
  rw [e] at this
  exact this
theorem vw_dB (hA : ∀ U : State, cx_K (vwG D dA A Z adr Lx Px Mx) U → ∀ q, U.heap.size ≤ q → A q) : dB (vwG D dA A Z adr Lx Px Mx) := by
  refine ⟨⟨vS.length + Lx.length, fun M => ?_⟩, fun M c f hc => ?_, hA⟩
  · show (vS.map _ ++ _).length = _
    rw [List.length_append, List.length_map, dW_len]
  · show vS.map _ ++ _ = vS.map _ ++ _
    congr 1
    apply List.map_congr_left
    intro x hx
    have hx1 := vS_lt hx
    have hp : vpl c = true := by
      simp only [vpl, Bool.and_eq_true, bne_iff_ne]
      omega
    obtain ⟨h1, h2⟩ := vw_other (adr := adr) (M := M) (f := f) hp x.1 (by omega)
    rw [h1, h2]
/-- cells that stay as they are -/
theorem vw_XR {a ci z k N : Nat} {C : String} {T : u_T} {ty0 : Nat → FieldType} {f : String × String × String × Bool} (hm : (a, (0, ci, z)) ∈ Lx) (hc : cx_Cl ci C T N ty0) (hN : k < N) (hT : T k = f) (hk : dFk ci k = 1) : cx_FR (vwG D dA A Z adr Lx Px Mx) k a f (va_rf (Px a k)) := by
  obtain ⟨i, hi⟩ := List.mem_iff_getElem?.mp hm
  refine ⟨ci, vS.length + i, C, T, N, ty0, hc, hN, hT, fun M => ⟨_, vw_getX hi, ?_⟩⟩
  rw [dFs_get (dNf_of hc.1) hN]
  unfold dFv
  rw [hk]
  rfl
theorem vw_XN {a ci z k N : Nat} {C : String} {T : u_T} {ty0 : Nat → FieldType} {f : String × String × String × Bool} (hm : (a, (0, ci, z)) ∈ Lx) (hc : cx_Cl ci C T N ty0) (hN : k < N) (hT : T k = f) (hk : dFk ci k = 2) : cx_FR (vwG D dA A Z adr Lx Px Mx) k a f (.int (nI ((Px a k).getD 0))) := by
  obtain ⟨i, hi⟩ := List.mem_iff_getElem?.mp hm
  refine ⟨ci, vS.length + i, C, T, N, ty0, hc, hN, hT, fun M => ⟨_, vw_getX hi, ?_⟩⟩
  rw [dFs_get (dNf_of hc.1) hN]
  unfold dFv
  rw [hk]
  rfl
theorem vw_XRc {a ci z N : Nat} {C : String} {T : u_T} {ty0 : Nat → FieldType} (hm : (a, (0, ci, z)) ∈ Lx) (hc : cx_Cl ci C T N ty0) : cx_Rc (vwG D dA A Z adr Lx Px Mx) a C := by
  obtain ⟨i, hi⟩ := List.mem_iff_getElem?.mp hm
  exact ⟨ci, vS.length + i, T, N, hc.1, fun M => ⟨_, vw_getX hi⟩⟩
end VW
/-! what holds of a world's single cells holds with dynamic cells beside them -/
section VU
variable {g : cx_G} {L : dL} {P : dP}
theorem vu_app {M : cx_M} {q0 : Nat} {x : Nat × va_E} (h : (g.2.2.1 M)[q0]? = some x) : ((dG g L P).2.2.1 M)[q0]? = some x := by
  show (g.2.2.1 M ++ _)[q0]? = _
  rw [List.getElem?_append_left (List.getElem?_eq_some_iff.mp h).1]
  exact h
theorem vu_set {M : cx_M} {c q0 : Nat} {x y : Nat × va_E} {f : Nat → Int32} (hc : c < 9999999) (h : (g.2.2.1 M)[q0]? = some x) (hs : (g.2.2.1 M).set q0 y = g.2.2.1 (cx_set M c f)) : ((dG g L P).2.2.1 M).set q0 y = (dG g L P).2.2.1 (cx_set M c f) := by
  show (g.2.2.1 M ++ _).set q0 y = g.2.2.1 _ ++ _
  rw [List.set_append_left _ _ (List.getElem?_eq_some_iff.mp h).1, hs]
  congr 1
  exact (dW_same (fun x _ => cx_set_ne (by have := dc_ge x.1; omega)) (fun _ _ => rfl)).symm
theorem vu_FI {c k a : Nat} {f : String × String × String × Bool} {ty : FieldType} (hc : c < 9999999) (H : cx_FI g c k a f ty) : cx_FI (dG g L P) c k a f ty := by
  obtain ⟨ci, q0, C, T, N, ty0, h1, h2, h3, h4, h5⟩ := H
  refine ⟨ci, q0, C, T, N, ty0, h1, h2, h3, h4, fun M => ?_⟩
  obtain ⟨fs, e1, e2, e3⟩ := h5 M
  exact ⟨fs, vu_app e1, e2, fun v => vu_set hc e1 (e3 v)⟩
theorem vu_FO {c k a r : Nat} {f : String × String × String × Bool} (hc : c < 9999999) (H : cx_FO g c k a f r) : cx_FO (dG g L P) c k a f r := by
  obtain ⟨ci, q0, C, T, N, ty0, ty, h1, h2, h3, h4, h6, h5⟩ := H
  refine ⟨ci, q0, C, T, N, ty0, ty, h1, h2, h3, h4, h6, fun M => ?_⟩
  obtain ⟨fs, e1, e2, e3⟩ := h5 M
  exact ⟨fs, vu_app e1, e2, fun v => vu_set hc e1 (e3 v)⟩
theorem vu_FR {k a : Nat} {f : String × String × String × Bool} {v : Value} (H : cx_FR g k a f v) : cx_FR (dG g L P) k a f v := by
  obtain ⟨ci, q0, C, T, N, ty0, h1, h2, h3, h5⟩ := H
  refine ⟨ci, q0, C, T, N, ty0, h1, h2, h3, fun M => ?_⟩
  obtain ⟨fs, e1, e2⟩ := h5 M
  exact ⟨fs, vu_app e1, e2⟩
theorem vu_AI {c n a t : Nat} {ty : FieldType} (hc : c < 9999999) (H : cx_AI g c n a t ty) : cx_AI (dG g L P) c n a t ty := by
  obtain ⟨h1, q0, h2⟩ := H
  exact ⟨h1, q0, fun M => ⟨vu_app (h2 M).1, fun f => vu_set hc (h2 M).1 ((h2 M).2 f)⟩⟩
theorem vu_LI {c n a : Nat} (hc : c < 9999999) (H : cx_LI g c n a) : cx_LI (dG g L P) c n a := by
  obtain ⟨h1, q0, h2⟩ := H
  exact ⟨h1, q0, fun M => ⟨vu_app (h2 M).1, fun f => vu_set hc (h2 M).1 ((h2 M).2 f)⟩⟩
theorem vu_Rc {a : Nat} {C : String} (H : cx_Rc g a C) : cx_Rc (dG g L P) a C := by
  obtain ⟨ci, q0, T, N, h1, h2⟩ := H
  refine ⟨ci, q0, T, N, h1, fun M => ?_⟩
  obtain ⟨fs, e⟩ := h2 M
  exact ⟨fs, vu_app e⟩
theorem vu_QI {a n t : Nat} {C : String} {fr : Nat → Nat} (H : cx_QI g a n t C fr) : cx_QI (dG g L P) a n t C fr := by
  obtain ⟨h1, q0, h2⟩ := H
  exact ⟨h1, q0, fun M => vu_app (h2 M)⟩
end VU
/-! another view of the same cells -/
def vSame (g g' : cx_G) : Prop := g.1 = g'.1 ∧ g.2.1 = g'.2.1 ∧ g.2.2.2.1 = g'.2.2.2.1 ∧ g.2.2.2.2 = g'.2.2.2.2
theorem cx_K_view {g g' : cx_G} {U : State} (hg : vSame g g') (h : cx_K g U) : cx_K g' U := by
  obtain ⟨e1, e2, e3, e4⟩ := hg
  obtain ⟨h1, h2, h3, h4⟩ := h
  refine ⟨by rw [← e1, ← e2]; exact h1, h2, ?_, by rw [← e4]; exact h4⟩
  unfold cx_Zc at h3 ⊢
  rw [← e3, ← e4]
  exact h3
theorem cx_w_view {g g' : cx_G} {M M' : cx_M} {H : Heap} (hg : vSame g g') (hsub : ∀ q ∈ g'.2.2.1 M', q ∈ g.2.2.1 M) (hd : ∀ (i j : Nat) (p q : Nat × va_E), (g'.2.2.1 M')[i]? = some p → (g'.2.2.1 M')[j]? = some q → p.1 = q.1 → i = j) (h : cx_w g M H) : cx_w g' M' H := by
  obtain ⟨e1, e2, e3, e4⟩ := hg
  obtain ⟨h1, h2⟩ := h
  refine ⟨fun k q hq => ?_, hd, fun k q hq => ?_⟩
  · obtain ⟨j, hj⟩ := List.mem_iff_getElem?.mp (hsub q (List.mem_of_getElem? hq))
    rw [← e1]
    exact h1 j q hj
  · obtain ⟨j, hj⟩ := List.mem_iff_getElem?.mp (hsub q (List.mem_of_getElem? hq))
    rw [← e3]
    exact h2.2 j q hj
theorem cq_view {l : Launch} {g g' : cx_G} {X : cx_X} {S : cx_S} {cc : ByteArray} {pc : Nat} {lv : List (Nat × Value)} {st : List Value} {M M' : cx_M} {k n : Nat} {Q : State → Prop} (hg : vSame g g') (hw : ∀ H, cx_w g M H → cx_w g' M' H) (K : cq_V l g' X S cc pc lv st M' k n Q) : cq_V l g X S cc pc lv st M k n Q := by
  intro hk H locs ls hw1 hS hl
  obtain ⟨a1, a2, a3, a4, a5, a6, a7, a8⟩ := hk
  have h := K ⟨a1, a2, a3, a4, a5, a6, a7, cx_K_view hg a8⟩ H locs ls (hw H hw1)
  rw [← hg.2.2.1] at h
  exact h hS hl
