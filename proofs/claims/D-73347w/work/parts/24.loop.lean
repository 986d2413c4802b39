/-! THE LAW'S LOOP -/
/-- the tape and all cells of the list are apart -/
theorem vT_dN {D : va_G} {dA : Nat → ClassId} {A : Nat → Prop} {Z : State → Prop} {ta : Nat} {L1 : dL} {P1 : dP} {M1 : cx_M} {H : Heap} (hw : cx_w (dG (vT D dA A Z ta) L1 P1) M1 H) : (ta :: L1.map Prod.fst).Nodup := by
  have h := nd_apart hw.2.1
  have e : ((dG (vT D dA A Z ta) L1 P1).2.2.1 M1).map Prod.fst = ta :: L1.map Prod.fst := by
    show ([_] ++ dW dA L1 P1 M1).map Prod.fst = _
    unfold dW
    simp [List.map_map, Function.comp_def]
  rw [e] at h
  exact h
theorem vT_nd {D : va_G} {dA : Nat → ClassId} {A : Nat → Prop} {Z : State → Prop} {ta : Nat} {L1 : dL} {P1 : dP} {M1 : cx_M} {l : Launch} {X : cx_X} {S : cx_S} {cc : ByteArray} {pc : Nat} {lv : List (Nat × Value)} {st : List Value} {k n : Nat} {Q : State → Prop} (K : (ta :: L1.map Prod.fst).Nodup → cq_V l (dG (vT D dA A Z ta) L1 P1) X S cc pc lv st M1 k n Q) : cq_V l (dG (vT D dA A Z ta) L1 P1) X S cc pc lv st M1 k n Q :=
  fun hk H locs ls hw hS hl => K (vT_dN hw) hk H locs ls hw hS hl
def lwCase (N : dNx) (M : cx_M) (P : dP) (L : dL) (k n o : Nat) (a : Nat → Int32) (x : Int32) (line : Prop) (R : cx_M → dP → dL → Nat → Nat → Prop) : Prop := cq_sw x 0 [lawF_0 N M P L k n o a R, line, lawF_2 N M P L k n o a R, lawF_3 N M P L k n o a R, lawF_4 N M P L k n o a R, lawF_5 N M P L k n o a R, lawF_6 N M P L k n o a R, lawF_7 N M P L k n o a R, lawF_8 N M P L k n o a R, lawF_9 N M P L k n o a R, lawF_10 N M P L k n o a R, lawF_11 N M P L k n o a R, lawF_12 N M P L k n o a R, lawF_13 N M P L k n o a R, lawF_14 N M P L k n o a R, lawF_15 N M P L k n o a R, lawF_16 N M P L k n o a R, lawF_17 N M P L k n o a R, lawF_18 N M P L k n o a R, lawF_19 N M P L k n o a R, lawF_20 N M P L k n o a R, lawF_21 N M P L k n o a R, lawF_22 N M P L k n o a R, lawF_23 N M P L k n o a R, lawF_24 N M P L k n o a R, lawF_25 N M P L k n o a R, lawF_26 N M P L k n o a R, lawF_27 N M P L k n o a R, lawF_28 N M P L k n o a R] (R M P L k n)
abbrev lwPI : Type := Nat → (Nat → Nat) → dL → dP → cx_M → (Nat → (Nat → Int32) → Int32) → Nat → cx_M → dP → dL → Nat → Nat → Nat → Prop
def lwLine (dA : Nat → ClassId) (PI : lwPI) (KA : (Nat → Nat) → Prop) (xs : Nat → Int32) (i : Nat) (adr : Nat → Nat) (Lx : dL) (Px : dP) (Mx : cx_M) (f : Nat) (M : cx_M) (P : dP) (L : dL) (k n o : Nat) : Prop :=
  dN (vLL adr Lx L) → lawF_1 f adr Lx Px Mx M P L k n o (xs (i + 1)) (fun M1 P1 L1 v1 k1 n1 => (adr 509 :: L1.map Prod.fst).Nodup → ∃ (adr' : Nat → Nat) (Lx' : dL) (Px' : dP) (Mx' : cx_M) (ev' : Nat → (Nat → Int32) → Int32) (f' : Nat) (M' : cx_M) (P' : dP) (L' : dL), vFrom dA true (adr 509) L1 P1 M1 adr' Lx' Px' Mx' L' P' M' ∧ adr' 500 = adr 500 ∧ adr' 60 = adr 60 ∧ KA adr' ∧ vX adr' Lx' Px' Mx' ev' ∧ lawF_1b (vN f' ev', adr') M' P' L' k1 n1 o v1 (fun j => xs (i + j)) (fun M P L k n => PI (i + 6) adr' Lx' Px' Mx' ev' f' M P L k n o))
/-- THE PLAIN LAW's two halves: what holds at the loop's head bounds the room and keeps the constant cells; a turn keeps it -/
def lwBound (PI : lwPI) (KA : (Nat → Nat) → Prop) : Prop := ∀ i adr Lx Px Mx ev f M P L k n o, PI i adr Lx Px Mx ev f M P L k n o → KA adr ∧ vX adr Lx Px Mx ev ∧ (k ≤ 1200128 ∧ n ≤ 5501098)
def lwStep (dA : Nat → ClassId) (PI : lwPI) (KA : (Nat → Nat) → Prop) (xs : Nat → Int32) (m : Nat) : Prop := ∀ i adr Lx Px Mx ev f M P L k n o, PI i adr Lx Px Mx ev f M P L k n o → i + 6 ≤ m → lwCase (vN f ev, adr) M P L k n o (fun j => xs (i + j)) (xs i &&& 31) (lwLine dA PI KA xs i adr Lx Px Mx f M P L k n o) (fun M P L k n => PI (i + 6) adr Lx Px Mx ev f M P L k n o)
theorem law_end {l : Launch} {p : Program} {e : Env} {s : State} {mm : MethodId} {below : List Frame} {meth : Method} {c : Code} {b : Nat} {g : cx_G} {L : dL} {P : dP} {M : cx_M} {lv : List (Nat × Value)} {k n : Nat} (hA : ∀ q, g.2.2.2.1 q → s.heap.size ≤ q) (hk : k ≤ 1200128 ∧ n ≤ 5501098) : cq_V l (dG g L P) (p, e, s, mm, #[Value.ref b], below, meth, c) sLw cL_law 1565 lv [] M k n (lw_Z below #[Value.ref b] s) := by
  refine cq_iconst 1 dL_law_1565 cx_ic_1 ?_
  intro hk' H locs ls hw hS hl
  have h1 : W p l e room_1 s mm #[Value.ref b] below meth c H ([] ++ locs) k n (lw_Z below #[Value.ref b] s) (F0 mm 1566 ls [.int 1]) :=
    W.forget (fun q hq => hA _ (hS.2.2 q hq)) (W.widen hk.1 hk.2 (lw_ret hk'.1 hk'.2.1 hk'.2.2.2.2.2.2.1 hk'.2.2.2.2.2.1.1 dL_law_1566))
  exact h1
set_option maxRecDepth 100000 in
theorem law_turn {l : Launch} {X : cx_X} {D : va_G} {dA : Nat → ClassId} {A : Nat → Prop} {Z : State → Prop} {Q : State → Prop} {b m : Nat} {xs : Nat → Int32} {PI : lwPI} {KA : (Nat → Nat) → Prop}
    (HK : ∀ adr, KA adr → dR l (vT D dA A Z (adr 509)) adr ∧ ∀ Lx Px Mx ev f, vX adr Lx Px Mx ev → lwH l (vwG D dA A Z adr Lx Px Mx) (vN f ev, adr)) (HS : lwS (vG0 D dA A Z) b m xs) (hm : m ≤ 384) (hB : lwBound PI KA) (hStep : lwStep dA PI KA xs m)
    (hEnd : ∀ adr Lx Px Mx M P L k n lv, (k ≤ 1200128 ∧ n ≤ 5501098) → cq_V l (dG (vwG D dA A Z adr Lx Px Mx) L P) X sLw cL_law 1565 lv [] M k n Q) (i o : Nat) (hi384 : i < 2 ^ 31)
    (IH : i + 6 ≤ m → ∀ adr Lx Px Mx ev f M P L k n, PI (i + 6) adr Lx Px Mx ev f M P L k n o → cq_V l (dG (vwG D dA A Z adr Lx Px Mx) L P) X sLw cL_law 23 (lwV b o (i + 6) adr) [] M k n Q)
    (adr : Nat → Nat) (Lx : dL) (Px : dP) (Mx : cx_M) (ev : Nat → (Nat → Int32) → Int32) (f : Nat) (M : cx_M) (P : dP) (L : dL) (k n : Nat) (hPI : PI i adr Lx Px Mx ev f M P L k n o) : cq_V l (dG (vwG D dA A Z adr Lx Px Mx) L P) X sLw cL_law 23 (lwV b o i adr) [] M k n Q := by
  obtain ⟨hka, hx, hk⟩ := hB _ _ _ _ _ _ _ _ _ _ _ _ _ hPI
  refine cq_iload 4 dL_law_23 rfl ?_
  refine cq_aload_n 0 dL_law_25 rfl ?_
  refine cq_lenX (g := dG (vwG D dA A Z adr Lx Px Mx) L P) HS dL_law_26 ?_
  refine cq_bipush 6 dL_law_27 (by decide +kernel) ?_
  refine cq_isub dL_law_29 ?_
  by_cases hi : i + 6 ≤ m
  · have hlt : ¬ nI m - 6 < nI i := by
      have h1 := nI_toInt (n := m) (by omega)
      have h2 := nI_toInt (n := i) (by omega)
      have h6 : (6 : Int32).toInt = 6 := rfl
      rw [i32_lt, i32_sub (by rw [h1, h6]; omega) (by rw [h1, h6]; omega), h1, h2, h6]
      omega
    have nxt : ∀ (adr : Nat → Nat) (Lx : dL) (Px : dP) (Mx : cx_M) (ev : Nat → (Nat → Int32) → Int32) (f : Nat) (M : cx_M) (P : dP) (L : dL) (k n : Nat), (k ≤ 1200128 ∧ n ≤ 5501098) → PI (i + 6) adr Lx Px Mx ev f M P L k n o → cq_V l (dG (vwG D dA A Z adr Lx Px Mx) L P) X sLw cL_law 1559 (lwV b o i adr) [] M k n Q := by
      intro adr Lx Px Mx ev f M P L k n hk h
      refine cq_iinc (f := fun y => y = nI (i + 6)) 4 6 (fun y => [(4, .int y), (0, .ref b), (1, .ref (adr 500)), (2, .ref (adr 60)), (3, .ref o)]) (nI_add i 6) dL_law_1559 rfl (by decide +kernel) (cx_lt rfl) (fun _ => rfl) (fun y hy => ?_)
      subst hy
      refine cq_goto 23 dL_law_1562 rfl ?_
      refine cq_sub (lv' := lwV b o (i + 6) adr) [1, 2, 3, 4, 0] rfl ?_
      exact IH hi adr Lx Px Mx ev f M P L k n h
    have hs := hStep _ _ _ _ _ _ _ _ _ _ _ _ _ hPI hi
    refine cq_icmp_gt 1565 (A := False) (B := True) (by rw [if_neg hlt]; trivial) dL_law_30 rfl (fun h => h.elim) (fun _ => ?_)
    refine cq_aload_n 0 dL_law_33 rfl ?_
    refine cq_iload 4 dL_law_34 rfl ?_
    refine cq_elX (g := dG (vwG D dA A Z adr Lx Px Mx) L P) (i := i) (c := 0) HS rfl (by omega) hm dL_law_36 ?_
    refine cq_bipush 31 dL_law_37 (by decide +kernel) ?_
    refine cq_iand dL_law_39 ?_
    unfold lwCase at hs
    refine cq_table 1559 [172, 245, 301, 314, 370, 426, 494, 550, 618, 686, 742, 798, 823, 848, 873, 941, 954, 1022, 1078, 1091, 1159, 1227, 1264, 1320, 1376, 1387, 1455, 1535, 1546] 29 hs dL_law_40 (by decide +kernel) rfl rfl rfl (by decide +kernel) (fun h => nxt adr Lx Px Mx ev f M P L k n hk h) (cd_tabC ?_ (cd_tabC ?_ (cd_tabC ?_ (cd_tabC ?_ (cd_tabC ?_ (cd_tabC ?_ (cd_tabC ?_ (cd_tabC ?_ (cd_tabC ?_ (cd_tabC ?_ (cd_tabC ?_ (cd_tabC ?_ (cd_tabC ?_ (cd_tabC ?_ (cd_tabC ?_ (cd_tabC ?_ (cd_tabC ?_ (cd_tabC ?_ (cd_tabC ?_ (cd_tabC ?_ (cd_tabC ?_ (cd_tabC ?_ (cd_tabC ?_ (cd_tabC ?_ (cd_tabC ?_ (cd_tabC ?_ (cd_tabC ?_ (cd_tabC ?_ (cd_tabC ?_ cd_tabN)))))))))))))))))))))))))))))
    · exact fun h => lawC_0 (N := (vN f ev, adr)) ((HK adr hka).2 _ _ _ _ _ hx) HS hi hm hk h (fun M P L k n hk h => nxt adr Lx Px Mx ev f M P L k n hk h)
    · exact fun h => lawC_1 (f := f) (HK adr hka).1 HS hi hm hk h (fun M1 P1 L1 v1 k1 n1 hk1 hR => by
      refine vT_nd (fun hnd => ?_)
      obtain ⟨adr', Lx', Px', Mx', ev', f', M', P', L', hF, e5, e6, hka', hx', h1b⟩ := hR hnd
      have e : lwV b o i adr = lwV b o i adr' := by unfold lwV; rw [e5, e6]
      rw [e]
      refine cq_toS hF ?_
      exact lawC_1b (N := (vN f' ev', adr')) ((HK adr' hka').2 _ _ _ _ _ hx') HS hi hm hk1 h1b (fun M P L k n hk h => nxt adr' Lx' Px' Mx' ev' f' M P L k n hk h))
    · exact fun h => lawC_2 (N := (vN f ev, adr)) ((HK adr hka).2 _ _ _ _ _ hx) HS hi hm hk h (fun M P L k n hk h => nxt adr Lx Px Mx ev f M P L k n hk h)
    · exact fun h => lawC_3 (N := (vN f ev, adr)) ((HK adr hka).2 _ _ _ _ _ hx) HS hi hm hk h (fun M P L k n hk h => nxt adr Lx Px Mx ev f M P L k n hk h)
    · exact fun h => lawC_4 (N := (vN f ev, adr)) ((HK adr hka).2 _ _ _ _ _ hx) HS hi hm hk h (fun M P L k n hk h => nxt adr Lx Px Mx ev f M P L k n hk h)
    · exact fun h => lawC_5 (N := (vN f ev, adr)) ((HK adr hka).2 _ _ _ _ _ hx) HS hi hm hk h (fun M P L k n hk h => nxt adr Lx Px Mx ev f M P L k n hk h)
    · exact fun h => lawC_6 (N := (vN f ev, adr)) ((HK adr hka).2 _ _ _ _ _ hx) HS hi hm hk h (fun M P L k n hk h => nxt adr Lx Px Mx ev f M P L k n hk h)
    · exact fun h => lawC_7 (N := (vN f ev, adr)) ((HK adr hka).2 _ _ _ _ _ hx) HS hi hm hk h (fun M P L k n hk h => nxt adr Lx Px Mx ev f M P L k n hk h)
    · exact fun h => lawC_8 (N := (vN f ev, adr)) ((HK adr hka).2 _ _ _ _ _ hx) HS hi hm hk h (fun M P L k n hk h => nxt adr Lx Px Mx ev f M P L k n hk h)
    · exact fun h => lawC_9 (N := (vN f ev, adr)) ((HK adr hka).2 _ _ _ _ _ hx) HS hi hm hk h (fun M P L k n hk h => nxt adr Lx Px Mx ev f M P L k n hk h)
    · exact fun h => lawC_10 (N := (vN f ev, adr)) ((HK adr hka).2 _ _ _ _ _ hx) HS hi hm hk h (fun M P L k n hk h => nxt adr Lx Px Mx ev f M P L k n hk h)
    · exact fun h => lawC_11 (N := (vN f ev, adr)) ((HK adr hka).2 _ _ _ _ _ hx) HS hi hm hk h (fun M P L k n hk h => nxt adr Lx Px Mx ev f M P L k n hk h)
    · exact fun h => lawC_12 (N := (vN f ev, adr)) ((HK adr hka).2 _ _ _ _ _ hx) HS hi hm hk h (fun M P L k n hk h => nxt adr Lx Px Mx ev f M P L k n hk h)
    · exact fun h => lawC_13 (N := (vN f ev, adr)) ((HK adr hka).2 _ _ _ _ _ hx) HS hi hm hk h (fun M P L k n hk h => nxt adr Lx Px Mx ev f M P L k n hk h)
    · exact fun h => lawC_14 (N := (vN f ev, adr)) ((HK adr hka).2 _ _ _ _ _ hx) HS hi hm hk h (fun M P L k n hk h => nxt adr Lx Px Mx ev f M P L k n hk h)
    · exact fun h => lawC_15 (N := (vN f ev, adr)) ((HK adr hka).2 _ _ _ _ _ hx) HS hi hm hk h (fun M P L k n hk h => nxt adr Lx Px Mx ev f M P L k n hk h)
    · exact fun h => lawC_16 (N := (vN f ev, adr)) ((HK adr hka).2 _ _ _ _ _ hx) HS hi hm hk h (fun M P L k n hk h => nxt adr Lx Px Mx ev f M P L k n hk h)
    · exact fun h => lawC_17 (N := (vN f ev, adr)) ((HK adr hka).2 _ _ _ _ _ hx) HS hi hm hk h (fun M P L k n hk h => nxt adr Lx Px Mx ev f M P L k n hk h)
    · exact fun h => lawC_18 (N := (vN f ev, adr)) ((HK adr hka).2 _ _ _ _ _ hx) HS hi hm hk h (fun M P L k n hk h => nxt adr Lx Px Mx ev f M P L k n hk h)
    · exact fun h => lawC_19 (N := (vN f ev, adr)) ((HK adr hka).2 _ _ _ _ _ hx) HS hi hm hk h (fun M P L k n hk h => nxt adr Lx Px Mx ev f M P L k n hk h)
    · exact fun h => lawC_20 (N := (vN f ev, adr)) ((HK adr hka).2 _ _ _ _ _ hx) HS hi hm hk h (fun M P L k n hk h => nxt adr Lx Px Mx ev f M P L k n hk h)
    · exact fun h => lawC_21 (N := (vN f ev, adr)) ((HK adr hka).2 _ _ _ _ _ hx) HS hi hm hk h (fun M P L k n hk h => nxt adr Lx Px Mx ev f M P L k n hk h)
    · exact fun h => lawC_22 (N := (vN f ev, adr)) ((HK adr hka).2 _ _ _ _ _ hx) HS hi hm hk h (fun M P L k n hk h => nxt adr Lx Px Mx ev f M P L k n hk h)
    · exact fun h => lawC_23 (N := (vN f ev, adr)) ((HK adr hka).2 _ _ _ _ _ hx) HS hi hm hk h (fun M P L k n hk h => nxt adr Lx Px Mx ev f M P L k n hk h)
    · exact fun h => lawC_24 (N := (vN f ev, adr)) ((HK adr hka).2 _ _ _ _ _ hx) HS hi hm hk h (fun M P L k n hk h => nxt adr Lx Px Mx ev f M P L k n hk h)
    · exact fun h => lawC_25 (N := (vN f ev, adr)) ((HK adr hka).2 _ _ _ _ _ hx) HS hi hm hk h (fun M P L k n hk h => nxt adr Lx Px Mx ev f M P L k n hk h)
    · exact fun h => lawC_26 (N := (vN f ev, adr)) ((HK adr hka).2 _ _ _ _ _ hx) HS hi hm hk h (fun M P L k n hk h => nxt adr Lx Px Mx ev f M P L k n hk h)
    · exact fun h => lawC_27 (N := (vN f ev, adr)) ((HK adr hka).2 _ _ _ _ _ hx) HS hi hm hk h (fun M P L k n hk h => nxt adr Lx Px Mx ev f M P L k n hk h)
    · exact fun h => lawC_28 (N := (vN f ev, adr)) ((HK adr hka).2 _ _ _ _ _ hx) HS hi hm hk h (fun M P L k n hk h => nxt adr Lx Px Mx ev f M P L k n hk h)
  · have hlt : nI m - 6 < nI i := by
      have h1 := nI_toInt (n := m) (by omega)
      have h6 : (6 : Int32).toInt = 6 := rfl
      have h2 := nI_toInt (n := i) hi384
      rw [i32_lt, i32_sub (by rw [h1, h6]; omega) (by rw [h1, h6]; omega), h1, h2, h6]
      omega
    refine cq_icmp_gt 1565 (A := True) (B := False) (by rw [if_pos hlt]; trivial) dL_law_30 rfl (fun _ => ?_) (fun h => h.elim)
    exact hEnd _ _ _ _ _ _ _ _ _ _ hk
theorem law_loop {l : Launch} {X : cx_X} {D : va_G} {dA : Nat → ClassId} {A : Nat → Prop} {Z : State → Prop} {Q : State → Prop} {b m : Nat} {xs : Nat → Int32} {PI : lwPI} {KA : (Nat → Nat) → Prop}
    (HK : ∀ adr, KA adr → dR l (vT D dA A Z (adr 509)) adr ∧ ∀ Lx Px Mx ev f, vX adr Lx Px Mx ev → lwH l (vwG D dA A Z adr Lx Px Mx) (vN f ev, adr)) (HS : lwS (vG0 D dA A Z) b m xs) (hm : m ≤ 384) (hB : lwBound PI KA) (hStep : lwStep dA PI KA xs m)
    (hEnd : ∀ adr Lx Px Mx M P L k n lv, (k ≤ 1200128 ∧ n ≤ 5501098) → cq_V l (dG (vwG D dA A Z adr Lx Px Mx) L P) X sLw cL_law 1565 lv [] M k n Q) (o : Nat) :
    ∀ (t i : Nat), i ≤ m + 6 → m < i + 6 * t → ∀ adr Lx Px Mx ev f M P L k n, PI i adr Lx Px Mx ev f M P L k n o → cq_V l (dG (vwG D dA A Z adr Lx Px Mx) L P) X sLw cL_law 23 (lwV b o i adr) [] M k n Q := by
  intro t
  induction t with
  | zero => exact fun i h1 h2 adr Lx Px Mx ev f M P L k n h => law_turn HK HS hm hB hStep hEnd i o (by omega) (fun h3 => absurd h3 (by omega)) adr Lx Px Mx ev f M P L k n h
  | succ t ih => exact fun i h1 h2 adr Lx Px Mx ev f M P L k n h => law_turn HK HS hm hB hStep hEnd i o (by omega) (fun h3 => ih (i + 6) (by omega) (by omega)) adr Lx Px Mx ev f M P L k n h
