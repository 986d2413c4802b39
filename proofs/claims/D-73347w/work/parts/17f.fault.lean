abbrev fsW : List Cond := fs_atoms "CircuitCells$Fault" 1 "java/lang/Exception" "CircuitCells$Fault" 8 []
theorem fs_good : ∀ w ∈ (fsW.filter xe_no).filter goodWord, w ∈ lw_all := lw_in _ [121, 222, 231, 237, 240, 242, 223, 224, 176, 177, 225, 230, 238, 478, 212, 479, 214, 480, 216, 226, 228, 218, 1371, 1372, 1373, 223, 1506, 1495, 1497, 233, 1498, 1499, 1500, 221, 220, 1502] (by decide +kernel) (by decide +kernel)
theorem fs_rest : (fsW.filter xe_no).filter (fun w => !goodWord w) = [.declares ⟨"java/lang/Throwable", "<init>", "()V"⟩] := by decide +kernel
/-- what a base says of Throwable -/
def dT (l : Launch) (g : cx_G) : Prop := l.stackTraces = false ∧ ∀ U, cx_K g U → xe_Zq Bundle.tN "UNASSIGNED_STACK" Bundle.steD g.2.2.2.1 U U.heap ∧ xe_Zq Bundle.tN "SUPPRESSED_SENTINEL" Bundle.listD g.2.2.2.1 U U.heap
theorem fs_words {l : Launch} {g : cx_G} {s : State} {args : Array Value} (hT : dT l g) (hK : cx_K g s) (hts : ∀ w ∈ lw_all, w.before args s = true) : ∀ w ∈ fsW, w.before args s = true := by
  obtain ⟨z1, z2⟩ := hT.2 s hK
  refine xe_own (xe_hat (B := [.declares ⟨"java/lang/Throwable", "<init>", "()V"⟩]) (fun w hw => hts w (fs_good w hw)) (fun w hw => by rw [fs_rest] at hw; exact hw) (fun w hw => ?_)) (xe_isRefq z1.1) (xe_isRefq z2.1) z1.2.word z2.2.word
  rw [List.mem_singleton] at hw
  subst hw
  exact va_Nw.use rfl (hK.2.1 _ q207 rfl)
def fs_mon (a : Nat) (H : Heap) : Prop := ∃ cell : Cell, H[a]? = some cell ∧ cell.monitor.owner = none ∧ cell.monitor.count = 0 ∧ cell.slots.size = 8
theorem fs_ref (u : RefV) : ∃ v : Option Nat, u.v = va_rf v := by
  obtain ⟨v, h⟩ := u
  cases v with
  | null => exact ⟨none, rfl⟩
  | ref a => exact ⟨some a, rfl⟩
  | _ => cases h
theorem dCl_X12 : cx_Cl 5 RX12 TX12 8 tyX12 := ⟨rfl, in_X12, tyX12_ok, nmX12⟩
abbrev fsS (bc bs : Nat) : cx_S := (3, RX12, cx_rI, { frames := 4, cells := bc, slots := bs, locals := 60 }, none, false)
theorem fs_P' {P : dP} {a : Nat} {x u v : Option Nat} : dPu (dPu (dPu P a 0 x) a 1 u) a 2 v a = va_up (va_up (va_up (P a) 0 x) 1 u) 2 v := by
  unfold dPu
  simp
theorem fs_Pne {P : dP} {a b : Nat} {x u v : Option Nat} (h : b ≠ a) : dPu (dPu (dPu P a 0 x) a 1 u) a 2 v b = P b := by
  unfold dPu
  simp [h]
theorem fs_vals {f : Nat → Int32} {p : Nat → Option Nat} {a : Nat} {u v : Option Nat} {j : Nat} (hj : j < 8) :
    updV (updV (updV (updV (vp_V ((List.range (dNf 5)).map (fun k => dFv 5 k f p))) 0 (.ref a)) 1 (va_rf u)) 2 (va_rf v)) 1 (va_rf u) j = vp_V ((List.range (dNf 5)).map (fun k => dFv 5 k f (va_up (va_up (va_up p 0 (some a)) 1 u) 2 v))) j := by
  have e : ∀ q : Nat → Option Nat, vp_V ((List.range (dNf 5)).map (fun k => dFv 5 k f q)) j = dFv 5 j f q := fun q => by
    unfold vp_V
    rw [List.getD_eq_getElem?_getD, dFs_get (dNf_of dCl_X12.1) hj]
    rfl
  rw [e]
  by_cases h1 : j = 1
  · subst h1
    have e1 : dFv 5 1 f (va_up (va_up (va_up p 0 (some a)) 1 u) 2 v) = va_rf u := by
      show va_rf (va_up (va_up (va_up p 0 (some a)) 1 u) 2 v 1) = _
      unfold va_up
      simp
    rw [e1]
    simp [updV]
  · by_cases h2 : j = 2
    · subst h2
      have e1 : dFv 5 2 f (va_up (va_up (va_up p 0 (some a)) 1 u) 2 v) = va_rf v := by
        show va_rf (va_up (va_up (va_up p 0 (some a)) 1 u) 2 v 2) = _
        unfold va_up
        simp
      rw [e1]
      simp [updV]
    · by_cases h0 : j = 0
      · subst h0
        have e1 : dFv 5 0 f (va_up (va_up (va_up p 0 (some a)) 1 u) 2 v) = .ref a := by
          show va_rf (va_up (va_up (va_up p 0 (some a)) 1 u) 2 v 0) = _
          unfold va_up
          simp [va_rf]
        rw [e1]
        simp [updV]
      · rw [dFv_pn h2, dFv_pn h1, dFv_pn h0, ← e p]
        simp [updV, h0, h1, h2]
theorem fs_init {l : Launch} {g : cx_G} {L : dL} {P : dP} {M : cx_M} {bc bs a : Nat} {x1 x2 : Int32} {Qp : cd_Qt} (hb : dB g) (hT : dT l g) (hm : (a, (0, 5, 0)) ∈ L) (h4 : P a 4 = none)
    (h : ∀ u v : Option Nat, cq_put M (dc a) 6 x1 fun M1 => cq_put M1 (dc a) 7 x2 fun M2 => Qp M2 (dPu (dPu (dPu P a 0 (some a)) a 1 u) a 2 v) L 0 none 0 0 0) :
    Met l yX12_init (ws_ yX12_init cX12_init 3 none) (fsS bc bs).2.2.2.1 (va_Pc [.ref a, .int x1, .int x2] (fun U => (cx_w (dG g L P) M U.heap ∧ cx_K g U) ∧ fs_mon a U.heap)) (cd_Q g cd_rV bc bs Qp) bc bs g.2.2.2.1 := by
  refine Met.ofW (cc := cX12_init) (maxL := 3) (ret := none) (by decide +kernel) rfl ?_
  intro p e s m args' below meth c s₁ B hml hv
  obtain ⟨rfl, ⟨hw, hK⟩, hmon⟩ := hv
  have hts := atoms_spec (ws := ws_ yX12_init cX12_init 3 none) B.pre
  have hts : ∀ w ∈ lw_all, w.before _ s = true := fun w h => hts w (List.mem_cons_of_mem _ h)
  have hownc : s.vm.findClass RX12 = some m.cls := findClass_of_methodNamed B.named
  have hnm : meth.name = "<init>" := (name_of_methodNamed B.named B.method).1
  rw [lg_entry_eq]
  have hl : lv_has _ 3 [(0, Value.ref a), (1, .int x1), (2, .int x2)] := lv_entry [.ref a, .int x1, .int x2] (cx_le rfl)
  refine lv_aload_n (i := 0) B.exec B.bytes dX12_init_0 rfl (lv_at hl 0 rfl) ?_
  intro T hT9 XT
  obtain ⟨cell, hc, hmo, hmc, hsz⟩ := hmon
  obtain ⟨i, hi⟩ := List.mem_iff_getElem?.mp hm
  obtain ⟨z, hz⟩ := hb.1
  have hget := dG_get (P := P) (M := M) hz hi
  obtain ⟨r, hr, cell', q1, q2, q3, q4⟩ := hw.1 (z + i) _ hget
  cases hc.symm.trans q1
  cases (show some (RX12, TX12, 8) = some r from hr)
  have q2 : cell.cls = g.1.1 5 := q2
  have q4 : ∀ k, k < 8 → cell.slots[g.1.2 5 k]? = some (vp_V ((List.range (dNf 5)).map (fun k => dFv 5 k (M (dc a)) (P a))) k) := q4
  have hKn := hK.1.1 5 _ dCl_X12.1
  have hap := va_apart (own := RX12) (args := #[Value.ref a, .int x1, .int x2]) hts in_X12 tyX12 tyX12_ok nmX12 hK.1 dCl_X12.1
  have hslot : ∀ (k : Nat) (hk : k < 8) cf kf fi f, s.fieldFound? (TX12 k).1 (TX12 k).2.1 (TX12 k).2.2.1 = some (cf, kf, fi, f) → f.slot = g.1.2 5 k := by
    intro k hk cf kf fi f hf
    obtain ⟨c2, k2, i2, f2, e1, e2⟩ := hKn.1 k hk
    cases hf.symm.trans e1
    exact e2
  obtain ⟨V, fC, fS, fP, u0, sen, L9, XV, hL9, hVh, ⟨_, _, _, hfC⟩, ⟨_, _, _, hfS⟩, ⟨_, _, _, hfP⟩, stp⟩ := fs_super XT B.exec ((show e.platform.stackTraces = l.stackTraces by rw [XT.admits.platform]).trans hT.1) hownc (cls := "java/lang/Exception") (C := "CircuitCells$Fault") (nn := 8) (names := []) (ic := 1) (by decide) (fun n hn => nomatch hn) (fs_words hT hK hts) (fun x hx => nomatch hx)
    (a := a) (cell := cell) (by rw [q2]; exact hKn.2.1) (by rw [hT9]; exact hc) q3 hmo hmc hsz (fun cf kf fi f hf => by
      rw [hslot 4 (by decide) cf kf fi f hf, q4 4 (by decide)]
      have e : vp_V ((List.range (dNf 5)).map (fun k => dFv 5 k (M (dc a)) (P a))) 4 = va_rf (P a 4) := rfl
      rw [e, h4]
      rfl) (g := F0 m 1 _ [.ref a]) rfl (hl.1.trans hml.symm) (rest := []) rfl (by rw [B.bytes]; exact dX12_init_1) (cx_lt rfl) (cx_le rfl)
  rw [hslot 0 (by decide) _ _ _ _ hfC, hslot 1 (by decide) _ _ _ _ hfS, hslot 2 (by decide) _ _ _ _ hfP] at XV stp
  obtain ⟨u, hu⟩ := fs_ref u0
  obtain ⟨v, hv⟩ := fs_ref sen
  rw [hu, hv] at XV stp
  generalize hce : (((cell.setSlot (g.1.2 5 0) (.ref a)).setSlot (g.1.2 5 1) (va_rf u)).setSlot (g.1.2 5 2) (va_rf v)).setSlot (g.1.2 5 1) (va_rf u) = ce at XV stp
  have hlt : a < s.heap.size := (Array.getElem?_eq_some_iff.mp hc).1
  have hVs : V.heap = s.heap := hVh.trans hT9
  have hHn : (V.setCell a ce).heap = s.heap.setIfInBounds a ce := by rw [← hVs]; rfl
  have hself : (V.setCell a ce).heap[a]? = some ce := heapAt_setCell_self (s := V) ce (by rw [hVs]; exact hlt)
  have hoth : ∀ q : Nat, q ≠ a → (V.setCell a ce).heap[q]? = s.heap[q]? := fun q hq => by rw [hHn]; simp [Array.getElem?_setIfInBounds, Ne.symm hq]
  have hvals := t_set (t_set (t_set (t_set q4 hap (k := 0) (by decide) (.ref a)) hap (k := 1) (by decide) (va_rf u)) hap (k := 2) (by decide) (va_rf v)) hap (k := 1) (by decide) (va_rf u)
  rw [hce] at hvals
  have hset := dG_set (g := g) (P := P) (P' := dPu (dPu (dPu P a 0 (some a)) a 1 u) a 2 v) (M := M) (M' := M) (kd := (0, 5, 0)) hz rfl (dN_of hb hw) hi (fun _ _ => rfl) (fun b hb9 => fs_Pne hb9)
  have hA : g.2.2.2.1 a := hw.2.2 (z + i) _ hget
  have hw' : cx_w (dG g L (dPu (dPu (dPu P a 0 (some a)) a 1 u) a 2 v)) M (V.setCell a ce).heap := by
    have hP1 := hw.1.set hw.2 hget (e := dE g.2.1 (0, 5, 0) (M (dc a)) (dPu (dPu (dPu P a 0 (some a)) a 1 u) a 2 v a)) (H1 := (V.setCell a ce).heap) (by
      rw [fs_P']
      refine ⟨_, hr, ce, hself, by rw [← hce]; exact q2, by rw [← hce]; exact q3, fun j hj => ?_⟩
      exact (hvals j hj).trans (congrArg some (fs_vals hj))) hoth
    have hD1 := hw.2.set hget (e := dE g.2.1 (0, 5, 0) (M (dc a)) (dPu (dPu (dPu P a 0 (some a)) a 1 u) a 2 v a))
    rw [hset] at hP1 hD1
    exact ⟨hP1, hD1⟩
  have K : cq_V l (dG g L (dPu (dPu (dPu P a 0 (some a)) a 1 u) a 2 v)) (p, e, s, m, #[Value.ref a, .int x1, .int x2], below, meth, c) (fsS bc bs) cX12_init 4 [(0, .ref a), (1, .int x1), (2, .int x2)] [] M 0 0 (cd_fin g (p, e, s, m, #[Value.ref a, .int x1, .int x2], below, meth, c) (fsS bc bs) cd_rV Qp) := by
    refine cq_aload_n 0 dX12_init_4 rfl ?_
    refine cq_iload_n 1 dX12_init_5 rfl ?_
    refine cq_nd hb (fun hn => cd_putIF hnm rfl (h u v) (dG_FI hb hn hm dCl_X12 (cx_lt rfl) rfl rfl rfl) rfl rfl rfl q1507 dX12_init_6 (fun M1 h => ?_))
    refine cq_aload_n 0 dX12_init_9 rfl ?_
    refine cq_iload_n 2 dX12_init_10 rfl ?_
    refine cq_nd hb (fun hn => cd_putIF hnm rfl h (dG_FI hb hn hm dCl_X12 (cx_lt rfl) rfl rfl rfl) rfl rfl rfl q1509 dX12_init_11 (fun M2 h => ?_))
    exact cd_vret ⟨Nat.zero_le _, Nat.zero_le _⟩ h rfl dX12_init_14
  obtain ⟨t, a1, b1⟩ := K ⟨B.exec, B.bytes, hml, hownc, hts, ⟨B.notSynchronized, fun h => by cases h⟩, B.returns, hK⟩ (V.setCell a ce).heap L9 _ hw'
    ⟨by rw [hHn]; simp, fun q h1 h2 => hoth q (fun e9 => h2 (by rw [e9]; exact hA)), fun y hy => by rw [hL9 y hy]; exact hA⟩ hl (V.setCell a ce) rfl XV
  exact ⟨t, stp _ a1, b1⟩
