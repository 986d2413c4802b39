/-! THE CLASS: spans, to the end -/
theorem qd_Z.loc {M0 M M' : cx_M} {P0 P P' : dP} {L0 L : dL} {it a0 n : Nat} {nd : Nat → Nat} (h : qd_Z M0 P0 L0 M P L) (h1 : ∀ x ∈ L0, x.1 ≠ it) (h2 : ∀ x ∈ L0, x.1 ≠ a0) (hu : qd_u L) (hnd : ∀ j, j < n → (nd j, (0, 24, 0)) ∈ L) (hM : ∀ c, c ≠ dc it → c ≠ dc a0 → M' c = M c) (hP : ∀ y, y ≠ it → y ≠ a0 → (∀ j, j < n → y ≠ nd j) → P' y = P y) : qd_Z M0 P0 L0 M' P' L := by
  refine ⟨fun c hc => by rw [hM c (dc_lo hc) (dc_lo hc)]; exact h.1 c hc, h.2.1, fun x hx hk => ⟨?_, ?_⟩⟩
  · rw [hM _ (dc_ne (h1 x hx)) (dc_ne (h2 x hx))]
    exact (h.2.2 x hx hk).1
  · rw [hP _ (h1 x hx) (h2 x hx) (fun j hj e => hk (hu x (h.mem hx) _ (hnd j hj) e))]
    exact (h.2.2 x hx hk).2
theorem qd_del_list {α : Type} {ks rs : List α} {v d : α} (j : Nat) : qd_del ks.length (fun i => (ks ++ v :: rs).getD i d) j = (ks ++ rs).getD j d := by
  show (if j < ks.length then (ks ++ v :: rs).getD j d else (ks ++ v :: rs).getD (j + 1) d) = (ks ++ rs).getD j d
  rw [List.getD_eq_getElem?_getD, List.getD_eq_getElem?_getD, List.getD_eq_getElem?_getD]
  by_cases c : j < ks.length
  · rw [if_pos c, List.getElem?_append_left c, List.getElem?_append_left c]
  · rw [if_neg c, List.getElem?_append_right (by omega), List.getElem?_append_right (by omega), show j + 1 - ks.length = (j - ks.length) + 1 by omega, List.getElem?_cons_succ]
/-- what is told of the runs that are long enough -/
def pl_tell (w : Int32) (fl : List Int32) : Option Int32 := if w = -1 then some (nI fl.length) else if w.toInt < 0 then none else fl[w.toInt.toNat]?
theorem dCc_spansD_81_s {N : dNx} {bc bs a0 it k m : Nat} {l w : Int32} {Q : cd_Qt} {M0 : cx_M} {P0 : dP} {L0 L : dL} {fl : List Int32} (hN : 700 ≤ N.1.1) (h0 : ∀ x ∈ L0, x.1 ≠ a0) (hit : ∀ x ∈ L0, x.1 ≠ it) (hu : qd_u L) (hb : k + 1 ≤ bc) (hs : m + 6 ≤ bs)
    (hy : ∀ v M' P', pl_tell w fl = some v → qd_Z M0 P0 L0 M' P' L → Q M' P' L v none 0 k m) (hno : ∀ M' P', pl_tell w fl = none → qd_Z M0 P0 L0 M' P' L → Q M' P' L 0 none 1 (k + 1) (m + 6)) :
    ∀ (rs ks : List Int32) (f : Nat) (M : cx_M) (P : dP) (nd : Nat → Nat), rs.length < f → ks.length + rs.length ≤ 128 → qd_Z M0 P0 L0 M P L → qd_L (dia N.2) M P L a0 (ks.length + rs.length) nd (fun i => (ks ++ rs).getD i 0) → qd_I M P L it a0 ks.length (ks.length + rs.length) nd → fl = ks ++ pl_ok l rs →
      dCc_spansD_81 N bc bs Q f M P L k m l w a0 (some it) := by
  intro rs
  induction rs with
  | nil =>
    intro ks f M P nd hf hl hZ hL hI hfl
    obtain ⟨f, rfl⟩ : ∃ q, f = q + 1 := ⟨f - 1, by omega⟩
    have hfl' : fl = ks := by rw [hfl]; exact List.append_nil ks
    rw [show ks.length + ([] : List Int32).length = ks.length from rfl] at hL hI hl
    show dCc_spansD_81b N bc bs Q (dCc_spansD_81 N bc bs Q f) M P L k m l w a0 (some it)
    unfold dCc_spansD_81b
    refine pd_nn rfl ⟨hI.1, ?_⟩
    refine qd_hasNext (N := (N.1.1, N.2)) hL hI (by omega) (by omega) ?_
    rw [if_neg (by omega)]
    intro _
    refine pd_add ?_
    rw [if_pos rfl]
    by_cases c1 : w = -1
    · rw [if_pos c1]
      refine ⟨hL.1, ?_⟩
      unfold jLl_size jLl_size_0
      refine ⟨hL.1, pq_get ?_⟩
      rw [hL.2.1]
      intro _
      refine pd_add (hy _ M P ?_ hZ)
      unfold pl_tell
      rw [if_pos c1, hfl']
    · rw [if_neg c1]
      have bad : (w.toInt < 0 ∨ (ks.length : Int) ≤ w.toInt) → ∀ k' m', k' = k → m' = m → dCc_spansD_144 N bc bs Q M P L k' m' w a0 := by
        intro hb2 k' m' e1 e2
        subst e1
        subst e2
        unfold dCc_spansD_144 dCc_spansD_145
        refine cd_thr_s (by omega) (by omega) (fun _ => ⟨fun _ => ?_, fun z => absurd z (by decide)⟩) (fun z => absurd rfl z)
        refine hno M P ?_ hZ
        unfold pl_tell
        rw [if_neg c1]
        by_cases c2 : w.toInt < 0
        · rw [if_pos c2]
        · rw [if_neg c2, hfl', List.getElem?_eq_none (by omega)]
      by_cases c2 : w < 0
      · rw [if_pos c2]
        exact bad (Or.inl (by rw [i32_lt, pi_0] at c2; exact c2)) _ _ rfl rfl
      · rw [if_neg c2]
        rw [i32_lt, pi_0] at c2
        refine ⟨hL.1, ?_⟩
        unfold jLl_size jLl_size_0
        refine ⟨hL.1, pq_get ?_⟩
        rw [hL.2.1]
        intro _
        refine pd_add ?_
        have tn := pi_nI (n := ks.length) (by omega)
        by_cases c3 : nI ks.length ≤ w
        · rw [if_pos c3]
          rw [i32_le, tn] at c3
          exact bad (Or.inr c3) _ _ rfl rfl
        · rw [if_neg c3]
          rw [i32_le, tn] at c3
          unfold dCc_spansD_145
          refine cd_thr_s (by omega) (by omega) (fun z => absurd z (by decide)) (fun _ => ⟨fun z => absurd rfl z, fun _ => ?_⟩)
          refine pd_add ⟨hL.1, ?_⟩
          have ew : w = nI (pn w) := pn_nI (by omega)
          have hpw : pn w < ks.length := by rw [pn_def]; omega
          rw [ew]
          refine qd_lget (N := (N.1.1, N.2)) hL (by omega) (by omega) hpw (fun b hb2 => ?_)
          intro _
          refine pd_add ⟨fun a e => by rw [← Option.some.inj e]; exact dBx_m hb2, pd_nn rfl ⟨dBx_m hb2, ?_⟩⟩
          refine qd_intValue (N := (N.1.1, N.2)) hb2 ?_
          intro _
          refine pd_add (hy _ M P ?_ hZ)
          unfold pl_tell
          rw [if_neg c1, if_neg (by omega), hfl', ← pn_def, List.getD_eq_getElem?_getD, List.append_nil, List.getElem?_eq_getElem hpw]
          rfl
  | cons v rs ih =>
    intro ks f M P nd hf hl hZ hL hI hfl
    rw [List.length_cons] at hf hl hL hI
    obtain ⟨f, rfl⟩ : ∃ q, f = q + 1 := ⟨f - 1, by omega⟩
    have hnd : ∀ j, j < ks.length + (rs.length + 1) → (nd j, (0, 24, 0)) ∈ L := fun j hj => (hL.2.2.2.2.2 j hj).1
    have hgv : (ks ++ v :: rs).getD ks.length 0 = v := by
      rw [List.getD_eq_getElem?_getD, List.getElem?_append_right (Nat.le_refl _), Nat.sub_self]
      rfl
    show dCc_spansD_81b N bc bs Q (dCc_spansD_81 N bc bs Q f) M P L k m l w a0 (some it)
    unfold dCc_spansD_81b
    refine pd_nn rfl ⟨hI.1, ?_⟩
    refine qd_hasNext (N := (N.1.1, N.2)) hL hI (by omega) (by omega) ?_
    rw [if_pos (by omega)]
    intro _
    refine pd_add ?_
    rw [if_neg (by decide)]
    refine ⟨hI.1, ?_⟩
    refine qd_next (N := (N.1.1, N.2)) hL hI hu (by omega) (by omega) (fun b M1 P1 F1 G1 hL1 hI1 h01 hbx => ?_)
    have hZ1 : qd_Z M0 P0 L0 M1 P1 L := hZ.loc hit h0 hu hnd (fun c c1 _ => F1 c c1) (fun y y1 _ _ => G1 y y1)
    have hbx : dBx (dia N.2) L P1 b v := by rw [← hgv]; exact hbx
    intro _
    refine pd_add ⟨fun a e => by rw [← Option.some.inj e]; exact dBx_m hbx, pd_nn rfl ⟨dBx_m hbx, ?_⟩⟩
    refine qd_intValue (N := (N.1.1, N.2)) hbx ?_
    intro _
    refine pd_add ?_
    by_cases c : l ≤ v
    · rw [if_pos c]
      have cv : ¬ v < l := by rw [i32_lt]; rw [i32_le] at c; omega
      have hlen : (ks ++ [v]).length = ks.length + 1 := by rw [List.length_append]; rfl
      have hap : ks ++ v :: rs = (ks ++ [v]) ++ rs := by rw [List.append_assoc]; rfl
      refine ih (ks ++ [v]) f M1 P1 nd (by omega) (by omega) hZ1 ?_ ?_ ?_
      · rw [hlen, ← hap, show ks.length + 1 + rs.length = ks.length + (rs.length + 1) by omega]
        exact hL1
      · rw [hlen, show ks.length + 1 + rs.length = ks.length + (rs.length + 1) by omega]
        exact hI1
      · rw [hfl, show pl_ok l (v :: rs) = v :: pl_ok l rs by unfold pl_ok; rw [List.filter_cons_of_pos (by simp [cv])], List.append_assoc]
        rfl
    · rw [if_neg c]
      have cv : v < l := by rw [i32_lt]; rw [i32_le] at c; omega
      refine ⟨hI1.1, ?_⟩
      refine qd_remove (N := (N.1.1, N.2)) hL1 hI1 h01 hu (by omega) (by omega) (fun M2 P2 F2 G2 hL2 hI2 => ?_)
      intro _
      refine pd_add ?_
      rw [show ks.length + (rs.length + 1) - 1 = ks.length + rs.length by omega] at hL2 hI2
      refine ih ks f M2 P2 (qd_del ks.length nd) (by omega) (by omega) (hZ1.loc hit h0 hu hnd F2 G2) ?_ hI2 ?_
      · exact hL2.v (fun i hi => (qd_del_list i).symm)
      · rw [hfl, show pl_ok l (v :: rs) = pl_ok l rs by unfold pl_ok; rw [List.filter_cons_of_neg (by simp [cv])]]
theorem qd_linit {N : dNt} {bc bs : Nat} {M : cx_M} {P : dP} {L : dL} {a0 : Nat} {Q : cd_Qt} (h : (a0, (0, 22, 0)) ∈ L) (hP : P a0 2 = none ∧ P a0 3 = none)
    (hy : ∀ M', (∀ c, c ≠ dc a0 → M' c = M c) → (∀ nd v, qd_L (dia N.2) M' P L a0 0 nd v) → Q M' P L 0 none 0 0 0) : jLl_init N bc bs M P L a0 Q := by
  unfold jLl_init jLl_init_0 jAsl_init jAsl_init_0 jAbl_initL jAbl_initL_0 jAbc_initL jAbc_initL_0
  intro _
  refine pd_add ⟨h, pq_put ?_⟩
  intro _
  refine pd_add ?_
  intro _
  refine pd_add ⟨h, pq_put ?_⟩
  refine hy _ (fun c hc => by rw [px_upc hc, px_upc hc]) (fun nd v => ⟨h, by rw [px_up, if_pos ⟨rfl, rfl⟩]; rfl, hP.1, hP.2, fun i j hi => absurd hi (by omega), fun i hi => absurd hi (by omega)⟩)
theorem dCc_spansD_s {f0 : Nat} {ev : Nat → (Nat → Int32) → Int32} {adr : Nat → Nat} {E : ps_E} {M : cx_M} {P : dP} {L : dL} {A : qA} {l w : Int32} {bc bs : Nat} {Q : cd_Qt} (hf : 700 ≤ f0) (hA : qAI E A) (h : qc_A (vN f0 ev) E M A) (hu : qd_u L) (hb : 400 ≤ bc) (hs : 800 ≤ bs)
    (hy : (1 ≤ l.toInt ∧ l.toInt ≤ 128) → ∀ v M' P' L' k n, k ≤ 300 → n ≤ 600 → pa_spans A.1.1 l w = some v → qd_u L' → qd_Z M P L M' P' L' → Q M' P' L' v none 0 k n)
    (h1 : (1 ≤ l.toInt ∧ l.toInt ≤ 128) → ∀ M' P' L' k n, k ≤ 300 → n ≤ 600 → pa_spans A.1.1 l w = none → qd_u L' → qd_Z M P L M' P' L' → Q M' P' L' 0 none 1 k n)
    (h2 : ¬ (1 ≤ l.toInt ∧ l.toInt ≤ 128) → Q M P L 0 none 2 1 6) : dCc_spansD ((f0, ev, vLk f0 ev, vWt f0 ev), adr) bc bs M P L l w Q := by
  obtain ⟨T, hT, hI, -⟩ := hA.2.1.1
  have h6 := pa_I6 hI
  obtain ⟨k0, k1, k2, k3⟩ := pa_kept h6.1
  have n6 : M 1000 6 = A.1.1 0 6 := h.n 6 (Or.inl (by decide)) rfl (by decide)
  obtain ⟨v, hV⟩ := h.V (fun _ => False)
  have hS : pc_S M 1000 (cx_up A.1.1 0 35 v) := hV.1
  obtain ⟨fb, hB42, hlb⟩ := hS.2.2.2.2.2
  have hgb : ∀ k : Nat, k < 128 → (k : Int) < (A.1.1 0 6).toInt → fb k = A.1.1 8 k := fun k hk hk2 => by
    have q := hlb k hk (by rw [px_up, if_neg (by decide)]; exact hk2)
    rw [px_upc (show (8 : Nat) ≠ 0 by decide)] at q
    exact q
  unfold dCc_spansD dCc_spansD_0
  refine pq_calm cCc_within_s ?_
  by_cases c : 1 ≤ l.toInt ∧ l.toInt ≤ 128
  · rw [if_pos (show (1 : Int32).toInt ≤ l.toInt ∧ l.toInt ≤ (128 : Int32).toInt from c)]
    refine cd_thr_s (by omega) (by omega) (fun z => absurd z (by decide)) (fun _ => ⟨fun z => absurd rfl z, fun _ => ?_⟩)
    refine pd_add ?_
    refine pd_new (by omega) (by omega) (fun a0 ha0 => ?_)
    have hm0 : (a0, ((0, 22, 0) : dk)) ∈ L ++ [(a0, ((0, 22, 0) : dk))] := List.mem_append_right _ (List.mem_singleton.mpr rfl)
    refine qd_linit (N := (f0, adr)) hm0 ⟨by unfold dPn; rw [if_pos rfl], by unfold dPn; rw [if_pos rfl]⟩ (fun M1 F1 hL1 => ?_)
    intro _
    refine pd_add ?_
    have hX1 : qd_X M P L M1 (dPn P a0) (L ++ [(a0, (0, 22, 0))]) := (qd_X.out (S := fun z => z = a0) (fun z e => by rw [e]; exact ha0) (fun c hc => by rw [F1 c (hc a0 rfl), px_setc (hc a0 rfl)]) (fun x hx => dPn_ne hx)).snoc ha0
    have hu1 : qd_u (L ++ [(a0, (0, 22, 0))]) := hu.snoc ha0
    have ep : cx_min 128 (A.1.1 0 6) = nI (pn (cx_min 128 (A.1.1 0 6))) := pn_nI k0
    have hpn : pn (cx_min 128 (A.1.1 0 6)) ≤ 128 := by rw [pn_def]; omega
    have hwalk : pa_spans A.1.1 l w = pl_tell w (pl_ok l (pl_runs A.1.1 (pn (cx_min 128 (A.1.1 0 6)) + 1) 0)) ∨ 128 < (pl_runs A.1.1 (pn (cx_min 128 (A.1.1 0 6)) + 1) 0).length := by
      rcases Nat.lt_or_ge 128 (pl_runs A.1.1 (pn (cx_min 128 (A.1.1 0 6)) + 1) 0).length with z | z
      · exact Or.inr z
      · left
        have := pl_walk_s (l := l) (n := w) (pl_runs A.1.1 (pn (cx_min 128 (A.1.1 0 6)) + 1) 0) 0 (by omega)
        unfold pa_spans
        rw [pa_sp_walk c.1]
        refine this.trans ?_
        unfold pl_tell
        rw [Nat.zero_add]
        by_cases w1 : w = -1
        · rw [if_pos w1, if_pos w1]
        · rw [if_neg w1, if_neg w1]
          by_cases w2 : w.toInt < 0
          · rw [if_pos w2, if_pos (by omega)]
          · rw [if_neg w2, if_neg (by omega), show (w.toInt - ((0 : Nat) : Int)).toNat = w.toInt.toNat by omega]
    have hg := fun q (hq : q ≤ pn (cx_min 128 (A.1.1 0 6))) => pl_gap hI ep.symm hpn hq
    generalize pn (cx_min 128 (A.1.1 0 6)) = n at ep hpn hwalk hg
    refine qd_lacks (S := A.1.1) hf h6 ep.symm hpn (by rw [hX1.1 1000 (by decide)]; exact n6) (hB42.fr (hX1.1 1042 (by decide)) (hX1.1 1043 (by decide))) hgb (by omega) (by omega) (fun a b M2 P2 L2 ha hbb hLe hX2 hB2 => ?_)
    intro _
    refine pd_add (pd_nn rfl ⟨hB2.2.1, ?_⟩)
    have hu2 : qd_u L2 := by
      rw [hLe]
      exact (hu1.snoc ha).snoc (fun x hx => by
        rcases List.mem_append.mp hx with z | z
        · exact hbb x z
        · rw [List.mem_singleton.mp z]
          exact hB2.1)
    have hZ2 : qd_Z M P L M2 P2 L2 := (hX1.tr hX2).Z
    have haa : a ≠ a0 := (ha _ hm0).symm
    have hba : b ≠ a0 := (hbb _ hm0).symm
    have hL2 := fun nd v => (hL1 nd v).X hX2
    have loop := dCc_spansD_36_s (N := ((f0, ev, vLk f0 ev, vWt f0 ev), adr)) (bc := bc) (bs := bs) (l := l) (w := w) (Q := Q) (M0 := M) (P0 := P) (L0 := L) (a := a) (b := b) hf hpn hg ha0 haa hba (by omega) (by omega) (fun f M3 P3 L3 k m nd hf0 hk hm hu3 hZ3 hlen hL3 => by
      obtain ⟨f, rfl⟩ : ∃ q, f = q + 1 := ⟨f - 1, by omega⟩
      have hw2 := hwalk.resolve_right (by omega)
      show dCc_spansD_36b ((f0, ev, vLk f0 ev, vWt f0 ev), adr) bc bs Q (dCc_spansD_36 ((f0, ev, vLk f0 ev, vWt f0 ev), adr) bc bs Q f) M3 P3 L3 k m l w a0 a (-1)
      unfold dCc_spansD_36b
      rw [if_pos (by decide)]
      refine ⟨hL3.1, ?_⟩
      refine qd_iterator (N := (f0, adr)) hL3 (show _ < f0 by omega) (by omega) (by omega) (by omega) (fun it M4 P4 hit hX4 hL4 hI4 => ?_)
      intro _
      refine pd_add ?_
      refine dCc_spansD_81_s (N := ((f0, ev, vLk f0 ev, vWt f0 ev), adr)) (M0 := M) (P0 := P) (L0 := L) (fl := pl_ok l (pl_runs A.1.1 (n + 1) 0)) hf ha0 (fun x hx => hit x (hZ3.mem hx)) (hu3.snoc hit) (by omega) (by omega) (fun v' M' P' e hZ' => hy c v' M' P' _ _ _ (by omega) (by omega) (hw2.trans e) (hu3.snoc hit) hZ') (fun M' P' e hZ' => h1 c M' P' _ _ _ (by omega) (by omega) (hw2.trans e) (hu3.snoc hit) hZ') (pl_runs A.1.1 (n + 1) 0) [] f0 M4 P4 nd (by omega) (by rw [List.length_nil]; omega) (hZ3.tr hX4.Z) ?_ ?_ rfl
      · rw [List.length_nil, Nat.zero_add]
        exact hL4
      · rw [List.length_nil, Nat.zero_add]
        exact hI4)
    have hlackn : ∀ j, n ≤ j → pl_lack A.1.1 n j = 0 := fun j hj => by unfold pl_lack; rw [if_neg (by omega)]
    refine qd_nextSet (show 5 ≤ f0 by omega) hB2 (x := 0) (by omega) (fun s s1 s2 s3 s4 => ?_) (fun hno => ?_)
    · intro _
      refine pd_add ?_
      have hsn : s < n := by
        rcases Nat.lt_or_ge s n with z | z
        · exact z
        · exact absurd (hlackn s z) s4
      have hcl := pl_runs_clear hg s 0 (by omega) (fun j a b => s3 j a (by omega))
      rw [Nat.zero_add, Nat.sub_zero] at hcl
      exact loop (129 - s) s f0 M2 P2 L2 _ _ [] (fun _ => 0) (nI s) (by omega) (by omega) (by rw [List.length_nil]; omega) (by omega) (Or.inl ⟨rfl, hsn, s4⟩) (by rw [List.length_nil]; omega) (by rw [List.length_nil]; omega) hu2 hZ2 hB2 (hL2 _ _) hcl
    · intro _
      refine pd_add ?_
      have hcl := pl_runs_clear hg (n + 1) 0 (by omega) (fun j a b => by
        rcases Nat.lt_or_ge j n with z | z
        · exact hno j a (by omega)
        · exact hlackn j z)
      rw [Nat.zero_add, Nat.sub_zero, Nat.sub_self] at hcl
      exact loop 129 0 f0 M2 P2 L2 _ _ [] (fun _ => 0) (-1) (by omega) (by omega) (by rw [List.length_nil]; omega) (by omega) (Or.inr ⟨rfl, by rw [Nat.sub_zero]; exact hcl⟩) (by rw [List.length_nil]; omega) (by rw [List.length_nil]; omega) hu2 hZ2 hB2 (hL2 _ _) rfl
  · rw [if_neg (show ¬ ((1 : Int32).toInt ≤ l.toInt ∧ l.toInt ≤ (128 : Int32).toInt) from c)]
    exact cd_thr_s (by omega) (by omega) (fun _ => ⟨fun _ => h2 c, fun z => absurd z (by decide)⟩) (fun z => absurd rfl z)
