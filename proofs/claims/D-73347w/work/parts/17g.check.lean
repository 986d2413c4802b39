section FST
variable {p : Program} {l : Launch} {e : Env} {R : Room} {s : State} {m : MethodId} {args : Array Value} {below : List Frame} {meth : Method} {c : Code} {H : Heap} {locs : List Loc} {cells slots : Nat} {Q : State → Prop} {ls : Array Slot} {rest : List Value}
theorem xe_athrow {cc : ByteArray} {pc : Nat} (hexec : p.tables.exec = Jvm.exec) (hb : c.code = cc) {q : Addr} (hdg : decode cc pc = .ok (.athrow, 1)) (k : xe_W p l e R s m args below meth c H locs cells slots Q (F0 m pc ls rest) q) : W p l e R s m args below meth c H locs cells slots Q (F0 m pc ls (.ref q :: rest)) := by
  intro T hT X
  obtain ⟨t, st, hq⟩ := k T hT X
  refine ⟨t, ?_, hq⟩
  have hdg' : decode c.code pc = .ok (.athrow, 1) := by rw [hb]; exact hdg
  jvm_step X.here [X.here.top, hexec, hdg', athrow.wp_sem]
  exact st
end FST
section FSC
variable {l : Launch} {g : cx_G} {L : dL} {P : dP} {X : cx_X} {S : cx_S} {cc : ByteArray} {pc : Nat} {lv : List (Nat × Value)} {st : List Value} {M : cx_M} {k n : Nat} {Q : State → Prop} {Qp : cd_Qt} {rv0 : Int32 → Option Nat → Option Value}
theorem cx_exn10 {e : Nat} (h : 10 ≤ e) : cx_exn e = "CircuitCells$Fault" := by
  unfold cx_exn
  split
  · omega
  · omega
  · rfl
theorem cd_athrow {q e : Nat} {x : Int32} (hmo : S.2.2.2.2.2 = true) (h : Qp M P L x none e k n) (he : 10 ≤ e) (hb : dB g) (hm : (q, (0, 5, 0)) ∈ L) (h6 : M (dc q) 6 = nI (e - 10)) (h7 : M (dc q) 7 = x) (hf : k ≤ S.2.2.2.1.cells ∧ n ≤ S.2.2.2.1.slots) (d : decode cc pc = .ok (.athrow, 1)) : cq_V l (dG g L P) X S cc pc lv (.ref q :: st) M k n (cd_finX g X S rv0 Qp) := by
  intro hk H locs ls hw hS hl
  refine xe_athrow hk.1 hk.2.1 d ?_
  obtain ⟨i, hi⟩ := List.mem_iff_getElem?.mp hm
  obtain ⟨z, hz⟩ := hb.1
  obtain ⟨r, hr, cell, q1, q2, q3, q4⟩ := hw.1 (z + i) _ (dG_get hz hi)
  intro T hT XT
  have sz1 := cd_szOf XT.same
  rw [hT] at sz1
  have hKn := hk.2.2.2.2.2.2.2.1.1 5 _ dCl_X12.1
  have out := xe_out (p := X.1) (l := l) (e := X.2.1) (R := S.2.2.2.1) (s := X.2.2.1) (m := X.2.2.2.1) (args := X.2.2.2.2.1) (below := X.2.2.2.2.2.1) (meth := X.2.2.2.2.2.2.1) (c := X.2.2.2.2.2.2.2) (H := H) (locs := locs) (cells := k) (slots := n) (pc := pc) (ls := ls) (rest := st) (E := "CircuitCells$Fault") (ce := cell) (q := q) (mc := S.2.2.2.1.cells) (ms := S.2.2.2.1.slots) (free := g.2.2.2.1) (Qc := cd_Q g rv0 S.2.2.2.1.cells S.2.2.2.1.slots Qp) (XC := cd_XC g S.2.2.2.1.cells S.2.2.2.1.slots Qp)
    (fun x hx => absurd (hk.2.2.2.2.2.1.2 hmo x hx) id) hk.2.2.2.2.2.1.1 q1 q3 (by rw [q2]; exact hKn.2.1)
    (fun t2 ht2 hA => ⟨M, P, L, x, e, k, n, h, by omega, (cx_exn10 he).symm, by rw [ht2]; exact hw, ⟨by rw [ht2]; exact hS.1, fun a h1 h2 => by rw [ht2]; exact hS.2.1 a h1 h2⟩, by rw [ht2]; exact sz1, hf, fun _ => ⟨hm, h6, h7⟩⟩) hS.2.2 hf.1 hf.2
  exact out T hT XT
theorem fs_getW {c f a index : Nat} {o : String × String × String × Bool} {ty : FieldType} {H : Heap} {locs : List Loc} {ls : Array Slot} (hk : cx_ok g X S cc) (hw : cx_w g M H) (hF : cx_FI g c f a o ty) (hq : Cond.fieldLink S.2.1 index o.1 o.2.1 o.2.2.1 ∈ lw_all) (d : decode cc pc = .ok (.getfield index, 3))
    (K : W X.1 l X.2.1 S.2.2.2.1 X.2.2.1 X.2.2.2.1 X.2.2.2.2.1 X.2.2.2.2.2.1 X.2.2.2.2.2.2.1 X.2.2.2.2.2.2.2 H locs k n Q (F0 X.2.2.2.1 (pc + 3) ls (.int (M c f) :: st))) : W X.1 l X.2.1 S.2.2.2.1 X.2.2.1 X.2.2.2.1 X.2.2.2.2.1 X.2.2.2.2.2.1 X.2.2.2.2.2.2.1 X.2.2.2.2.2.2.2 H locs k n Q (F0 X.2.2.2.1 pc ls (.ref a :: st)) := by
  obtain ⟨ci, q0, C, T, N, ty0, ⟨c1, c2, c3, c4⟩, hN, hT, hty, hM⟩ := hF
  obtain ⟨fs, m1, m2, m3⟩ := hM M
  subst hT
  exact va_get hk.1 hk.2.1 (T := T) (Ts := lw_all) hk.2.2.2.2.1 c2 hk.2.2.2.1 hk.2.2.2.2.2.2.2.1 hw.1 q0 m1 c1 f hN (hk.2.2.2.2.1 _ hq) (fun _ h => h) m2 d K
end FSC
theorem dDf_X12 : ∀ j, j < 8 → defaultValue (tyX12 j) = dFv 5 j (fun _ => 0) (fun _ => none) := by decide +kernel
theorem dCl_X11f : cx_Cl 10 RX11 TX11 9 tyX11 := ⟨rfl, in_X11, tyX11_ok, nmX11⟩
abbrev fsC (bc bs : Nat) : cx_S := (3, RX11, cx_rI, { frames := 5, cells := bc, slots := bs, locals := 82 }, none, true)
def rd_check (_N : dNt) (bc bs : Nat) (M : cx_M) (P : dP) (L : dL) (a0 : Nat) (x1 x2 : Int32) (Q : cd_Qt) : Prop :=
  if x1 = 0 then (∃ κ : Nat, x2 = nI κ ∧ (a0, (0, 10, 0)) ∈ L ∧ cd_new bc bs 0 0 8 (0, 5, 0) M P L fun a M1 P1 L1 k n => cq_get M1 (dc a0) 3 fun pl => ∀ u v : Option Nat, cq_put M1 (dc a) 6 x2 fun M2 => cq_put M2 (dc a) 7 pl fun M3 => Q M3 (dPu (dPu (dPu P1 a 0 (some a)) a 1 u) a 2 v) L1 pl none (10 + κ) k n)
  else Q M P L 0 none 0 0 0
theorem gd_X11_112 : GoodIn lw_all (ws_ yX12_init cX12_init 3 none) := lw_meth q1505
theorem hgd_X11_112 : yX12_init.cls ≠ "java/lang/invoke/MethodHandle" ∧ yX12_init.cls ≠ "java/lang/invoke/VarHandle" ∧ (parseMethodDescriptor yX12_init.desc).map (fun d => d.parameters.length) = some 2 := by decide +kernel
theorem fs_blind {g : cx_G} {L : dL} {P : dP} {M : cx_M} {a : Nat} {args : List Value} : FrameBlind (va_Pc args (fun U => (cx_w (dG g L P) M U.heap ∧ cx_K g U) ∧ fs_mon a U.heap)) := by
  intro b U f mk q
  obtain ⟨q0, ⟨q1, q2⟩, q3⟩ := q
  exact ⟨q0, ⟨q1, cx_K.same q2 rfl (locs := []) va_S.rf⟩, q3⟩
theorem cx_up_at {M : cx_M} {c k : Nat} {v : Int32} : cx_up M c k v c k = v := by
  unfold cx_up
  rw [cx_set_cc]
  exact pk_us
theorem cx_up_on {M : cx_M} {c k j : Nat} {v : Int32} (h : j ≠ k) : cx_up M c k v c j = M c j := by
  unfold cx_up
  rw [cx_set_cc]
  exact pk_un h
theorem rd_check_m {l : Launch} {g : cx_G} {N : dNt} {bc bs : Nat} {Q : cd_Qt} (hb : dB g) (hT : dT l g) (M : cx_M) (P : dP) (L : dL) (a0 : Nat) (x1 x2 : Int32) (h : rd_check N bc bs M P L a0 x1 x2 Q) : cd_MetX l g yX11_check cX11_check (fsC bc bs) cd_rV [.ref a0, .int x1, .int x2] M P L Q := by
  refine cd_metX (by decide +kernel) rfl rfl (lv := [(0, .ref a0), (1, .int x1), (2, .int x2)]) rfl (cx_le rfl) (fun X _ => ?_)
  unfold rd_check at h
  refine cq_iload_n 1 dX11_check_0 rfl ?_
  refine cq_if_ne 17 h dX11_check_1 rfl (fun h => ?_) (fun h => ?_)
  · exact cd_toX (cd_vret ⟨Nat.zero_le _, Nat.zero_le _⟩ h rfl dX11_check_17)
  · obtain ⟨κ, hκ, hm0, h1, h2, h⟩ := h
    intro hk H locs ls hw hS hl
    have hKn := hk.2.2.2.2.2.2.2.1.1 5 _ dCl_X12.1
    refine W.newcK hk.1 hk.2.1 (C := "CircuitCells$Fault") (n := 8) hk.2.2.2.1 (hk.2.2.2.2.1 _ q1494) (hk.2.2.2.2.1 _ q1495) (hk.2.2.2.2.1 _ q150) rfl dX11_check_4 h1 h2 hKn.2.1 rfl fun H1 kC hkC e1 z1 o1 => ?_
    have hpres : ∀ (k : Nat) (x : Nat × va_E), ((dG g L P).2.2.1 M)[k]? = some x → H1[x.1]? = H[x.1]? := fun k x hx => o1 x.1 ((hw.1 k x hx).lt)
    have hP1 : va_P g.1 vwCl ((dG g L P).2.2.1 M ++ [(H.size, .inr (5, (List.range (dNf 5)).map (fun j => dFv 5 j (fun _ => 0) (fun _ => none))))]) H1 := (hw.1.kept hpres).app (fun k x hx => by
      have hz : k < 1 := (List.getElem?_eq_some_iff.mp hx).1
      rw [show k = 0 by omega] at hx
      cases hx
      refine ⟨_, dCl_X12.1, (u_born tyX12 hk.2.2.2.2.1 in_X12 hKn hkC e1 tyX12_ok).to (fun j hj => ?_)⟩
      rw [dDf_X12 j hj]
      unfold vp_V
      rw [List.getD_eq_getElem?_getD, dFs_get (dNf_of dCl_X12.1) hj]
      rfl)
    have hD1 : va_D g.2.2.2.1 ((dG g L P).2.2.1 M ++ [(H.size, .inr (5, (List.range (dNf 5)).map (fun j => dFv 5 j (fun _ => 0) (fun _ => none))))]) := hw.2.push hw.1 rfl (hb.2.2 _ hk.2.2.2.2.2.2.2 _ hS.1)
    have hS1 : va_S g.2.2.2.1 X.2.2.1.heap H1 locs := ⟨Nat.le_trans hS.1 (by omega), fun x h1 h2 => (o1 x (Nat.lt_of_lt_of_le h1 hS.1)).trans (hS.2.1 x h1 h2), hS.2.2⟩
    obtain ⟨hf, hw1⟩ := dNew (kd := (0, 5, 0)) (f := fun _ => 0) hb rfl hP1 hD1
    have h := h H.size hf
    have hmon : fs_mon H.size H1 := ⟨_, e1, rfl, rfl, by
      obtain ⟨c1, k1, g1, g2, -, -, -, g3⟩ := Cond.instantiable_spec (hk.2.2.2.2.1 _ q1495)
      cases Option.some.inj (g1.symm.trans hKn.2.1)
      cases Option.some.inj (g2.symm.trans hkC)
      simp [blank, g3]⟩
    have hma : (H.size, (0, 5, 0)) ∈ L ++ [(H.size, ((0, 5, 0) : dk))] := List.mem_append_right _ List.mem_cons_self
    refine lv_dup hk.1 hk.2.1 dX11_check_7 rfl ?_
    refine lv_iload_n (i := 2) hk.1 hk.2.1 dX11_check_8 rfl (lv_at hl 2 rfl) ?_
    refine lv_aload_n (i := 0) hk.1 hk.2.1 dX11_check_9 rfl (lv_at hl 0 rfl) ?_
    refine fs_getW (g := dG g (L ++ [(H.size, (0, 5, 0))]) (dPn P H.size)) hk hw1 (dG_FI hb (dN_of hb hw1) (List.mem_append_left _ hm0) dCl_X11f (cx_lt rfl) (k := 3) rfl rfl rfl) q1455 dX11_check_10 ?_
    refine cd_run (g := g) (L := L) (P := P) (rv := cd_rV) (F := fun M' P' L' x r e k' n' => ∃ u v : Option Nat, M' = cx_up (cx_up (cx_set M (dc H.size) (fun _ => 0)) (dc H.size) 6 x2) (dc H.size) 7 (cx_set M (dc H.size) (fun _ => 0) (dc a0) 3) ∧ P' = dPu (dPu (dPu (dPn P H.size) H.size 0 (some H.size)) H.size 1 u) H.size 2 v ∧ L' = L ++ [(H.size, (0, 5, 0))] ∧ k' = 0 ∧ n' = 0) (rest := [.ref H.size]) hk hS1 hl (va_runI ⟨hk.1, hk.2.1, hk.2.2.1, hk.2.2.2.1, hk.2.2.2.2.1⟩ (fs_init (bc := 0) (bs := 0) (x1 := x2) (x2 := cx_set M (dc H.size) (fun _ => 0) (dc a0) 3) hb hT hma (by unfold dPn; rw [if_pos rfl]) (fun u v => ⟨u, v, rfl, rfl, rfl, rfl, rfl⟩)) (cwI 2 hk.2.2.2.2.1 gd_X11_112 rfl rfl rfl (hk.2.2.2.2.1 _ q150) (hk.2.2.2.2.1 _ q1503) (hk.2.2.2.2.1 _ q1504) rfl hgd_X11_112 ⟨cx_le rfl, cx_le rfl⟩) ⟨fs_blind, fun U hU hW => ⟨rfl, ⟨by rw [hU]; exact hw1, cx_K.warm (g := g) hk.2.2.2.2.2.2.2 hW (by rw [hU]; exact hS1)⟩, by rw [hU]; exact hmon⟩⟩ (As := [.int x2, .int (cx_set M (dc H.size) (fun _ => 0) (dc a0) 3)]) rfl rfl hl.1 rfl (lv_room (cx_le rfl)) dX11_check_13 ⟨h1, h2⟩) ?_
    intro M' P' L' x r k' n' _ hF
    obtain ⟨u, v, rfl, rfl, rfl, rfl, rfl⟩ := hF
    refine cd_athrow rfl (h u v) (by omega) hb hma ?_ cx_up_at ⟨h1, h2⟩ dX11_check_16
    rw [cx_up_on (by decide), cx_up_at, hκ]
    congr 1
    omega
