/-! WHAT HOLDS AT THE LOOP'S HEAD; the acts and asks of the law -/
def pi_R (f : Nat) (E : ps_E) (M : cx_M) (A : qA) : Prop := qr_A f E M A ∨ ∃ st tp d, qr_new M st tp d ∧ E = ps_E0 ∧ A = pa_new ps_E0 st tp d
theorem pi_R.pre {f : Nat} {E : ps_E} {M : cx_M} {A : qA} (hf : 3000 ≤ f) (h : pi_R f E M A) : qr_pre f E M A := by
  rcases h with h | ⟨st, tp, d, h, e1, e2⟩
  · exact h.pre
  · rw [e1, e2]
    exact h.pre hf
theorem qr_A.fr {f : Nat} {E : ps_E} {M M' : cx_M} {A : qA} (h : qr_A f E M A) (e : ∀ c, c < 100 → M' c = M c) : qr_A f E M' A :=
  ⟨h.1.oth (fun c hc => e c ((by decide : ∀ c ∈ [8, 60, 3, 4, 5, 6, 26, 27, 28], c < 100) c hc)), h.2.fr (fun c hc => e c ((by decide : ∀ c ∈ [33, 38, 39, 7, 47, 48, 49, 50, 51, 11], c < 100) c hc)) (fun k _ => by rw [e 60 (by decide)])⟩
theorem pi_R.fr {f : Nat} {E : ps_E} {M M' : cx_M} {A : qA} (h : pi_R f E M A) (e : ∀ c, c < 100 → M' c = M c) : pi_R f E M' A := by
  rcases h with h | ⟨st, tp, d, h, e1, e2⟩
  · exact Or.inl (h.fr e)
  · refine Or.inr ⟨st, tp, d, ?_, e1, e2⟩
    unfold qr_new at h ⊢
    rw [e 60 (by decide), e 7 (by decide), e 11 (by decide)]
    exact h
/-- the two queues of wander, with what they hold -/
def pi_D (adr : Nat → Nat) (M : cx_M) (P : dP) (L : dL) : Prop := ∃ b1 z1 b2 z2 hs ls, qw_T adr M P L b1 z1 b2 z2 M P L 0 0 hs ls
theorem qw_S.re {ic : Nat → Nat} {a1 a2 b10 z10 b20 z20 k n : Nat} {M0 M : cx_M} {P0 P : dP} {L0 L : dL} {hs ls : List Nat} (h : qw_S ic a1 a2 M0 P0 L0 b10 z10 b20 z20 M P L k n hs ls) : ∃ b1 z1 b2 z2, qw_S ic a1 a2 M P L b1 z1 b2 z2 M P L 0 0 hs ls := by
  obtain ⟨b1, z1, h1, b2, z2, h2, d1, d2, hne, -, -, -, -, -, -, hu⟩ := h
  exact ⟨b1, z1, b2, z2, b1, z1, h1, b2, z2, h2, d1, d2, hne, ⟨Nat.le_refl _, Nat.le_refl _, by omega, by omega⟩, fun _ _ => rfl, ⟨[], (List.append_nil L).symm, fun y hy => absurd hy (by simp)⟩, fun _ _ _ _ _ _ => ⟨rfl, rfl⟩, Or.inl rfl, Or.inl rfl, hu⟩
theorem pi_D.u {adr : Nat → Nat} {M : cx_M} {P : dP} {L : dL} (h : pi_D adr M P L) : qd_u L := by
  obtain ⟨b1, z1, b2, z2, hs, ls, _, _, _, _, _, _, -, -, -, -, -, -, -, -, -, hu⟩ := h
  exact hu
/-- the queues stand when nothing of theirs was changed -/
theorem pi_D.fr {adr : Nat → Nat} {M M' : cx_M} {P P' : dP} {L L' : dL} (h : pi_D adr M P L) (hu : qd_u L') (hL : ∀ x ∈ L, x ∈ L') (hM : ∀ a, (a, ((0, 19, 0) : dk)) ∈ L → M' (dc a) = M (dc a) ∧ P' a = P a) (hP : ∀ b z, (b, ((3, 4, z) : dk)) ∈ L → P' b = P b) : pi_D adr M' P' L' := by
  obtain ⟨b10, z10, b20, z20, hs, ls, b1, z1, h1, b2, z2, h2, d1, d2, hne, -, -, -, -, -, -, -⟩ := h
  refine ⟨b1, z1, b2, z2, hs, ls, b1, z1, h1, b2, z2, h2, d1.fr hL (hM _ d1.1).1 (hM _ d1.1).2 (hP _ _ d1.2.1), d2.fr hL (hM _ d2.1).1 (hM _ d2.1).2 (hP _ _ d2.2.1), hne, ⟨Nat.le_refl _, Nat.le_refl _, by omega, by omega⟩, fun _ _ => rfl, ⟨[], (List.append_nil L').symm, fun y hy => absurd hy (by simp)⟩, fun _ _ _ _ _ _ => ⟨rfl, rfl⟩, Or.inl rfl, Or.inl rfl, hu⟩
theorem pi_D.Z {adr : Nat → Nat} {M M' : cx_M} {P P' : dP} {L L' : dL} (h : pi_D adr M P L) (hu : qd_u L') (hZ : qd_Z M P L M' P' L') : pi_D adr M' P' L' :=
  h.fr hu (fun x hx => hZ.mem hx) (fun a ha => hZ.2.2 _ ha (show ((0, 19, 0) : dk) ≠ (0, 24, 0) by decide)) (fun b z hb => (hZ.2.2 _ hb (show ((3, 4, z) : dk) ≠ (0, 24, 0) from fun e => absurd (show (3 : Nat) = 0 from congrArg Prod.fst e) (by decide))).2)
/-- what holds between calls -/
def pi_S (f : Nat) (ev : Nat → (Nat → Int32) → Int32) (adr : Nat → Nat) (o : Nat) (E : ps_E) (A : qA) (M : cx_M) (P : dP) (L : dL) : Prop := pi_R f E M A ∧ qc_A (vN f ev) E M A ∧ pi_D adr M P L ∧ (o, (2, 0, 1)) ∈ L
theorem pi_S.af {f : Nat} {ev : Nat → (Nat → Int32) → Int32} {adr : Nat → Nat} {o : Nat} {E : ps_E} {A : qA} {M1 M3 : cx_M} {P1 : dP} {L1 : dL} (hA : qAI E A) (hc : qc_A (vN f ev) E M1 A) (hD : pi_D adr M1 P1 L1) (ho : (o, (2, 0, 1)) ∈ L1) (hr : pi_R f E M3 A) (hM : ∀ c, 100 ≤ c → c ≠ dc o → M3 c = M1 c) : pi_S f ev adr o E A M3 P1 L1 := by
  refine ⟨hr, qc_A.cells hA hc (fun c hk => hM c (by unfold qc_K at hk; omega) (dc_lo (by unfold qc_K at hk; omega))), hD.fr hD.u (fun _ hx => hx) (fun a ha => ⟨hM _ (by unfold dc; omega) (dc_ne (hD.u.ne ha ho (by decide))), rfl⟩) (fun _ _ _ => rfl), ho⟩
/-- an act of both -/
theorem lw_actS {f : Nat} {ev : Nat → (Nat → Int32) → Int32} {adr : Nat → Nat} {o : Nat} {E : ps_E} {A A' : qA} {M : cx_M} {P : dP} {L : dL} {oc : Option cx_R} {tw : cx_M → Option cx_R} {v : Int32} {R : cx_M → Prop} (hA' : qAI E A') (h : pi_S f ev adr o E A M P L) (hc : qc_act (vN f ev) E M oc A' v) (ht : ∀ M1, pi_R f E M1 A → ∃ M2, tw M1 = some (M2, v, 0) ∧ pi_R f E M2 A' ∧ qr_F M1 M2) (hR : ∀ M2, pi_S f ev adr o E A' M2 P L → R M2) :
    cq_cal oc fun M1 v1 => cq_cal (tw M1) fun M2 v2 => if v1 = v2 then R M2 else False := by
  obtain ⟨M1, e1, a1, F1⟩ := hc
  obtain ⟨M2, e2, a2, F2⟩ := ht M1 (h.1.fr (fun c hc => F1 c (Or.inl (by omega))))
  rw [pq_cal e1, pq_cal e2, if_pos rfl]
  refine hR M2 (pi_S.af hA' a1 (h.2.2.1.fr h.2.2.1.u (fun _ hx => hx) (fun a _ => ⟨F1 _ (Or.inr (by unfold dc; omega)), rfl⟩) (fun _ _ _ => rfl)) h.2.2.2 a2 (fun c hc _ => F2 c hc))
/-- an act of both that tells nothing -/
theorem lw_actN {f : Nat} {ev : Nat → (Nat → Int32) → Int32} {adr : Nat → Nat} {o : Nat} {E : ps_E} {A A' : qA} {M : cx_M} {P : dP} {L : dL} {oc : Option cx_R} {tw : cx_M → Option cx_R} {v : Int32} {R : cx_M → Prop} (hA' : qAI E A') (h : pi_S f ev adr o E A M P L) (hc : qc_act (vN f ev) E M oc A' v) (ht : ∀ M1, pi_R f E M1 A → ∃ M2, tw M1 = some (M2, v, 0) ∧ pi_R f E M2 A' ∧ qr_F M1 M2) (hR : ∀ M2, pi_S f ev adr o E A' M2 P L → R M2) :
    cq_cal oc fun M1 _ => cq_cal (tw M1) fun M2 _ => R M2 := by
  obtain ⟨M1, e1, a1, F1⟩ := hc
  obtain ⟨M2, e2, a2, F2⟩ := ht M1 (h.1.fr (fun c hc => F1 c (Or.inl (by omega))))
  rw [pq_cal e1, pq_cal e2]
  refine hR M2 (pi_S.af hA' a1 (h.2.2.1.fr h.2.2.1.u (fun _ hx => hx) (fun a _ => ⟨F1 _ (Or.inr (by unfold dc; omega)), rfl⟩) (fun _ _ _ => rfl)) h.2.2.2 a2 (fun c hc _ => F2 c hc))
theorem tw_act.R {f : Nat} {E : ps_E} {M : cx_M} {o : Option cx_R} {A : qA} {v code : Int32} (h : tw_act f E M o A v code) : ∃ M2, o = some (M2, v, 0) ∧ pi_R f E M2 A ∧ qr_F M M2 := by
  obtain ⟨M', e, a, c, F⟩ := h
  exact ⟨M', e, Or.inl a, F⟩
theorem pi_D.F {adr : Nat → Nat} {M M' : cx_M} {P : dP} {L : dL} (h : pi_D adr M P L) (F : qc_F M M') : pi_D adr M' P L := h.fr h.u (fun _ hx => hx) (fun a _ => ⟨F _ (Or.inr (by unfold dc; omega)), rfl⟩) (fun _ _ _ => rfl)
/-- what the law does behind an ask -/
def lw_k (f o : Nat) (tw : cx_M → Option cx_R) (R : cx_M → dP → dL → Nat → Nat → Prop) (k n : Nat) : cd_Qt := fun M1 P1 L1 v1 _ e k1 n1 => e = 0 ∧ cq_cal (tw M1) fun M2 v2 => cq_cal (tw_thrown f M2) fun M3 v3 => if v3 = v1 then (if v1 = 0 then ((o, (2, 0, 1)) ∈ L1 ∧ cq_ldw M3 (dc o) 1 0 fun w => if lg_cmp w (Int32.toInt64 v2) = 0 then R M3 P1 L1 (k + k1) (n + n1) else False) else R M3 P1 L1 (k + k1) (n + n1)) else False
theorem tw_act.ok2 {f : Nat} {E : ps_E} {M : cx_M} {o : Option cx_R} {A : qA} {v code : Int32} (h : tw_act f E M o A v code) : tw_ok f E A M o v code := by
  obtain ⟨M', e, a, c, F⟩ := h
  exact ⟨M', v, e, a, c, fun _ => rfl, F⟩
theorem lg_self (w : Int64) : lg_cmp w w = 0 := by
  unfold lg_cmp
  split
  · rename_i h
    exact absurd h (Int64.lt_irrefl)
  · rw [if_pos rfl]
theorem lw_yes {f o t k n k1 n1 : Nat} {E : ps_E} {A' : qA} {tw : cx_M → Option cx_R} {v : Int32} {R : cx_M → dP → dL → Nat → Nat → Prop} {M1 : cx_M} {P1 : dP} {L1 : dL} (ho : (o, (2, 0, 1)) ∈ L1) (ht : ∀ M2, (∀ c, c ≠ dc o → M2 c = M1 c) → tw_ok f E A' M2 (tw M2) v 0)
    (hR : ∀ M3, qr_A f E M3 A' → (∀ c, 100 ≤ c → c ≠ dc o → M3 c = M1 c) → R M3 P1 L1 (k + k1) (n + n1)) : lw_end t o (lw_k f o tw R k n) M1 P1 L1 v none 0 k1 n1 := by
  refine ⟨ho, pd_stw (k := 0) (by omega) (by omega) ?_⟩
  obtain ⟨M2, v2, e2, a2, c2, hv, F2⟩ := ht (cx_set M1 (dc o) (bt_put (M1 (dc o)) 0 (Int32.toInt64 v))) (fun c hc => px_setc hc)
  have hv := hv rfl
  refine ⟨rfl, pq_calm e2 (pq_calm (show tw_thrown f M2 = some (M2, M2 60 2, 0) from rfl) ?_)⟩
  rw [c2, if_pos rfl, if_pos rfl]
  refine ⟨ho, pd_ldw (k := 0) (by omega) (by omega) ?_⟩
  have e3 : bt_w (M2 (dc o)) 0 = Int32.toInt64 v2 := by
    rw [F2 (dc o) (by unfold dc; omega), px_sets, bt_w_put]
    show vp_updL _ 0 _ 0 = _
    unfold vp_updL
    rw [if_pos rfl, hv]
  rw [e3, lg_self, if_pos rfl]
  exact hR M2 a2 (fun c h1 h2 => by rw [F2 c h1, px_setc h2])
theorem lw_no {f o k n k1 n1 : Nat} {E : ps_E} {A' : qA} {tw : cx_M → Option cx_R} {v code : Int32} {R : cx_M → dP → dL → Nat → Nat → Prop} {M1 : cx_M} {P1 : dP} {L1 : dL} (hc : code ≠ 0) (ht : tw_ok f E A' M1 (tw M1) v code) (hR : ∀ M3, qr_A f E M3 A' → (∀ c, 100 ≤ c → M3 c = M1 c) → R M3 P1 L1 (k + k1) (n + n1)) : lw_k f o tw R k n M1 P1 L1 code none 0 k1 n1 := by
  obtain ⟨M2, v2, e2, a2, c2, -, F2⟩ := ht
  refine ⟨rfl, pq_calm e2 (pq_calm (show tw_thrown f M2 = some (M2, M2 60 2, 0) from rfl) ?_)⟩
  rw [c2, if_pos rfl, if_neg hc]
  exact hR M2 a2 F2
/-- the whole of an ask: yes, with the number; no, with a code -/
theorem pi_yes {f : Nat} {ev : Nat → (Nat → Int32) → Int32} {adr : Nat → Nat} {o t k n k1 n1 : Nat} {E : ps_E} {A A' : qA} {M M1 : cx_M} {P P1 : dP} {L L1 : dL} {tw : cx_M → Option cx_R} {v code : Int32} {R : cx_M → dP → dL → Nat → Nat → Prop} (hA' : qAI E A') (h : pi_S f ev adr o E A M P L) (hc : qc_A (vN f ev) E M1 A') (hM : ∀ c, c < 100 → M1 c = M c) (hD : pi_D adr M1 P1 L1) (ho : (o, (2, 0, 1)) ∈ L1)
    (ht : ∀ M2, pi_R f E M2 A → tw_ok f E A' M2 (tw M2) v code) (h0 : code = 0) (hR : ∀ M3, pi_S f ev adr o E A' M3 P1 L1 → R M3 P1 L1 (k + k1) (n + n1)) : lw_end t o (lw_k f o tw R k n) M1 P1 L1 v none 0 k1 n1 := by
  subst h0
  refine lw_yes ho (fun M2 e => ht M2 (h.1.fr (fun c hc => by rw [e c (dc_lo (by omega)), hM c hc]))) (fun M3 a3 e3 => hR M3 (pi_S.af hA' hc hD ho (Or.inl a3) e3))
theorem pi_no {f : Nat} {ev : Nat → (Nat → Int32) → Int32} {adr : Nat → Nat} {o k n k1 n1 : Nat} {E : ps_E} {A : qA} {M M1 : cx_M} {P P1 : dP} {L L1 : dL} {tw : cx_M → Option cx_R} {v code c0 : Int32} {R : cx_M → dP → dL → Nat → Nat → Prop} (hA : qAI E A) (h : pi_S f ev adr o E A M P L) (hc : qc_A (vN f ev) E M1 A) (hM : ∀ c, c < 100 → M1 c = M c) (hD : pi_D adr M1 P1 L1) (ho : (o, (2, 0, 1)) ∈ L1)
    (ht : ∀ M2, pi_R f E M2 A → tw_ok f E A M2 (tw M2) v code) (h0 : code = c0) (hne : c0 ≠ 0) (hR : ∀ M3, pi_S f ev adr o E A M3 P1 L1 → R M3 P1 L1 (k + k1) (n + n1)) : lw_k f o tw R k n M1 P1 L1 c0 none 0 k1 n1 := by
  subst h0
  exact lw_no hne (ht M1 (h.1.fr hM)) (fun M3 a3 e3 => hR M3 (pi_S.af hA hc hD ho (Or.inl a3) (fun c hc _ => e3 c hc)))
