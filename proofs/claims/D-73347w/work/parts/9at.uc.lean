/-! READING A LINE, 29: the static view behind a line well told -/
section WN
variable {dA : Nat → ClassId} {adr : Nat → Nat} {Lx L L1 L2 : dL} {Px P P1 : dP} {Mx M M1 Ms : cx_M} {J : rJ} {u : rU} {e8 e9 : Option Nat}
theorem wb_adr {x : Nat × dk} (hx : x ∈ vS) : (x.1 = 8000 ∧ lAd adr J e8 e9 x.1 = J.1) ∨ (x.1 = 8010 ∧ lAd adr J e8 e9 x.1 = J.2.2.1) ∨ (x.1 = 8011 ∧ lAd adr J e8 e9 x.1 = J.2.2.2.1) ∨ ((x.1 ≠ 8000 ∧ x.1 ≠ 8010 ∧ x.1 ≠ 8011) ∧ lAd adr J e8 e9 x.1 = adr x.1) := by
  by_cases c1 : x.1 = 8000
  · exact Or.inl ⟨c1, by rw [c1]; rfl⟩
  · by_cases c2 : x.1 = 8010
    · exact Or.inr (Or.inl ⟨c2, by rw [c2]; rfl⟩)
    · by_cases c3 : x.1 = 8011
      · exact Or.inr (Or.inr (Or.inl ⟨c3, by rw [c3]; rfl⟩))
      · exact Or.inr (Or.inr (Or.inr ⟨⟨c1, c2, c3⟩, lAd_k (wb_noc hx c1 c2 c3)⟩))
/-- what is new is none of the old -/
theorem wb_nw (hnd : (adr 509 :: L1.map Prod.fst).Nodup) {a : Nat} {kd : dk} (ha : (a, kd) ∈ L1) (hfr : ∀ y ∈ vLT adr Lx L, y.1 ≠ a) {x : Nat × dk} (hx : x ∈ vS) : adr x.1 ≠ a := by
  by_cases c : x.1 = 509
  · intro e
    rw [c] at e
    exact (List.nodup_cons.mp hnd).1 (by rw [e]; exact List.mem_map.mpr ⟨_, ha, rfl⟩)
  · exact hfr _ (wb_T hx c)
theorem wb_dN (hn : dN (vLL adr Lx L)) (hnd : (adr 509 :: L1.map Prod.fst).Nodup) (hL2 : L1 = vLT adr Lx L ++ L2) (hf2 : ∀ y ∈ L2, ∀ x ∈ vLT adr Lx L, x.1 ≠ y.1) (hu : qd_u L1) (j1 : (J.1, (0, 7, 0)) ∈ L1) (j2 : (J.2.2.1, (0, 14, 0)) ∈ L1) (j3 : (J.2.2.2.1, (1, 0, 4)) ∈ L1) (hfr : ∀ y ∈ vLT adr Lx L, y.1 ≠ J.1 ∧ y.1 ≠ J.2.1 ∧ y.1 ≠ J.2.2.1 ∧ y.1 ≠ J.2.2.2.1) : dN (vLL (lAd adr J e8 e9) (lLx Lx L L2 J) (lLl L)) := by
  have n12 : J.1 ≠ J.2.2.1 := fun e => absurd (show ((0, 7, 0) : dk) = (0, 14, 0) from hu _ j1 _ j2 e) (by decide)
  have n13 : J.1 ≠ J.2.2.2.1 := fun e => absurd (show ((0, 7, 0) : dk) = (1, 0, 4) from hu _ j1 _ j3 e) (by decide)
  have n23 : J.2.2.1 ≠ J.2.2.2.1 := fun e => absurd (show ((0, 14, 0) : dk) = (1, 0, 4) from hu _ j2 _ j3 e) (by decide)
  have w1 : ∀ x ∈ vS, adr x.1 ≠ J.1 := fun x hx => wb_nw hnd j1 (fun y hy => (hfr y hy).1) hx
  have w2 : ∀ x ∈ vS, adr x.1 ≠ J.2.2.1 := fun x hx => wb_nw hnd j2 (fun y hy => (hfr y hy).2.2.1) hx
  have w3 : ∀ x ∈ vS, adr x.1 ≠ J.2.2.2.1 := fun x hx => wb_nw hnd j3 (fun y hy => (hfr y hy).2.2.2) hx
  refine apart_nd ?_
  unfold vLL
  rw [List.map_append]
  refine List.nodup_append.mpr ⟨nd_apart (fun i j p q hp hq e => ?_), ?_, fun a ha b hb => ?_⟩
  · rw [List.getElem?_map] at hp hq
    cases hi : vS[i]? with
    | none => rw [hi] at hp; exact absurd hp (by simp)
    | some x =>
      cases hj : vS[j]? with
      | none => rw [hj] at hq; exact absurd hq (by simp)
      | some y =>
        rw [hi] at hp
        rw [hj] at hq
        have hx := List.mem_of_getElem? hi
        have hy := List.mem_of_getElem? hj
        rw [← Option.some.inj hp, ← Option.some.inj hq] at e
        have e : lAd adr J e8 e9 x.1 = lAd adr J e8 e9 y.1 := e
        refine vS_inj hi hj ?_
        rcases wb_adr (adr := adr) (J := J) (e8 := e8) (e9 := e9) hx with ⟨a1, a2⟩ | ⟨a1, a2⟩ | ⟨a1, a2⟩ | ⟨a1, a2⟩ <;> rcases wb_adr (adr := adr) (J := J) (e8 := e8) (e9 := e9) hy with ⟨b1, b2⟩ | ⟨b1, b2⟩ | ⟨b1, b2⟩ | ⟨b1, b2⟩ <;> rw [a2, b2] at e
        · rw [a1, b1]
        · exact absurd e n12
        · exact absurd e n13
        · exact absurd e.symm (w1 y hy)
        · exact absurd e.symm n12
        · rw [a1, b1]
        · exact absurd e n23
        · exact absurd e.symm (w2 y hy)
        · exact absurd e.symm n13
        · exact absurd e.symm n23
        · rw [a1, b1]
        · exact absurd e.symm (w3 y hy)
        · exact absurd e (w1 x hx)
        · exact absurd e (w2 x hx)
        · exact absurd e (w3 x hx)
        · exact wb_in hn hx hy e
  · have hN1 : (L1.map Prod.fst).Nodup := (List.nodup_cons.mp hnd).2
    have p1 : (lLx Lx L L2 J ++ lLl L).Perm (Lx ++ (L ++ L2.filter (lKJ J))) := by
      unfold lLx lLl
      rw [List.append_assoc, List.append_assoc]
      refine List.Perm.append_left Lx ?_
      refine (List.perm_append_comm).trans ?_
      exact List.Perm.append_right _ (List.filter_append_perm _ _)
    have s1 : (Lx ++ (L ++ L2.filter (lKJ J))).Sublist L1 := by
      rw [hL2]
      unfold vLT
      rw [← List.append_assoc, List.append_assoc (List.map _ _)]
      refine List.Sublist.trans ?_ (List.sublist_append_right _ _)
      exact List.Sublist.append (List.Sublist.refl _) List.filter_sublist
    refine (List.Perm.nodup_iff (p1.map Prod.fst)).mpr ?_
    exact List.Pairwise.sublist (s1.map Prod.fst) hN1
  · obtain ⟨x', hx', rfl⟩ := List.mem_map.mp ha
    obtain ⟨x, hx, rfl⟩ := List.mem_map.mp hx'
    obtain ⟨y, hy, rfl⟩ := List.mem_map.mp hb
    have hy3 : y ∈ Lx ++ L ∨ (y ∈ L2 ∧ lKJ J y = true) := by
      unfold lLx lLl at hy
      rcases List.mem_append.mp hy with h | h
      · rcases List.mem_append.mp h with h | h
        · exact Or.inl (List.mem_append_left _ h)
        · rcases List.mem_append.mp h with h | h
          · exact Or.inr (List.mem_filter.mp h)
          · exact Or.inl (List.mem_append_right _ (List.mem_filter.mp h).1)
      · exact Or.inl (List.mem_append_right _ (List.mem_filter.mp h).1)
    show lAd adr J e8 e9 x.1 ≠ y.1
    have kj : lKJ J y = true → y.1 ≠ J.1 ∧ y.1 ≠ J.2.2.1 ∧ y.1 ≠ J.2.2.2.1 := by
      intro h
      unfold lKJ at h
      simp only [Bool.and_eq_true, Bool.not_eq_true', beq_eq_false_iff_ne] at h
      exact ⟨h.1.1, h.1.2, h.2⟩
    rcases wb_adr (adr := adr) (J := J) (e8 := e8) (e9 := e9) hx with ⟨a1, a2⟩ | ⟨a1, a2⟩ | ⟨a1, a2⟩ | ⟨a1, a2⟩ <;> rw [a2]
    · rcases hy3 with h | ⟨h, h2⟩
      · exact (hfr y (wb_xl h)).1.symm
      · exact (kj h2).1.symm
    · rcases hy3 with h | ⟨h, h2⟩
      · exact (hfr y (wb_xl h)).2.2.1.symm
      · exact (kj h2).2.1.symm
    · rcases hy3 with h | ⟨h, h2⟩
      · exact (hfr y (wb_xl h)).2.2.2.symm
      · exact (kj h2).2.2.symm
    · rcases hy3 with h | ⟨h, h2⟩
      · exact wb_no hn hx h
      · by_cases c : x.1 = 509
        · intro e
          rw [c] at e
          exact (List.nodup_cons.mp hnd).1 (by rw [e]; exact List.mem_map.mpr ⟨y, by rw [hL2]; exact List.mem_append_right _ h, rfl⟩)
        · exact hf2 y h _ (wb_T hx c)
theorem wb_new {f o : Nat} (hn : dN (vLL adr Lx L)) (hnd : (adr 509 :: L1.map Prod.fst).Nodup) (hO : lN_O (f, adr) (zM adr Lx Mx M) (zP adr M Lx Px P) (vLT adr Lx L) (adr 500) (adr 1000) (adr 1038) (adr 600) J u M1 P1 L1) (ho : (o, ((2, 0, 1) : dk)) ∈ L) (hMs : ∀ c, c ≠ dc o → Ms c = M1 c)
    (h6 : M 602 100 = nI 40 ∧ ∀ k, k < 40 → ∃ j, j < 40 ∧ M 602 k = nI (1200 + 100 * j)) (h7 : M 702 100 = nI 40 ∧ ∀ k, k < 40 → ∃ j, j < 40 ∧ M 702 k = nI (20000 + 100 * j)) (hL2 : L1 = vLT adr Lx L ++ L2) (hf2 : ∀ y ∈ L2, ∀ x ∈ vLT adr Lx L, x.1 ≠ y.1) :
    vFrom dA true (adr 509) L1 P1 Ms (lAd adr J (P1 J.1 8) (P1 J.1 9)) (lLx Lx L L2 J) P1 Ms (lLl L) P1 (lMo adr J u M Ms) := by
  obtain ⟨hu, hY, hfr, ⟨l1, l2, l3, l4⟩, ⟨v1, v2, v3⟩, -, ⟨r1, r2⟩, ⟨a1, a2⟩, ⟨b1, b2⟩, ⟨c1, c2⟩, ⟨d1, d2⟩⟩ := hO
  have v5 : ((500 : Nat), ((0, 1, 0) : dk)) ∈ vS := vS_of (by decide +kernel)
  have v10 : ((1000 : Nat), ((0, 12, 0) : dk)) ∈ vS := by decide +kernel
  have v38 : ((1038 : Nat), ((1, 0, 64) : dk)) ∈ vS := by decide +kernel
  have v6 : ((600 : Nat), ((0, 2, 0) : dk)) ∈ vS := vS_of (by decide +kernel)
  have na : ∀ x ∈ vS, dc (adr x.1) ≠ dc o := fun x hx => dc_ne (wb_no hn hx (List.mem_append_right _ ho))
  have mo := wb_xl (adr := adr) (Lx := Lx) (List.mem_append_right Lx ho)
  have m1 : Ms (dc J.1) = M1 (dc J.1) := hMs _ (dc_ne (fun e => (hfr _ mo).1 e.symm))
  have m3 : Ms (dc J.2.2.2.1) = M1 (dc J.2.2.2.1) := hMs _ (dc_ne (fun e => (hfr _ mo).2.2.2 e.symm))
  refine ⟨wb_dN hn hnd hL2 hf2 hu l1 v1 v3 hfr, fun x hx => ?_, fun x hx => ?_, fun x hx => ?_⟩
  · by_cases c9 : x.1 = 509
    · refine Or.inr ⟨rfl, c9, lAd_k (by decide), ?_⟩
      rw [hMs _ (dc_lo (by decide)), hY.1 509 (by decide), lMo_s (by decide) (by decide) (by decide) (by decide)]
      unfold zM
      rw [if_pos (by decide)]
    · left
      obtain ⟨g1, g2⟩ := wb_old hn hY hx c9
      obtain ⟨k1, k2, k3, k4, k5, k6⟩ := wb_kd hx
      have lo := vS_lt hx
      by_cases e1 : x.1 = 8000
      · -- the line
        have hA : lAd adr J (P1 J.1 8) (P1 J.1 9) x.1 = J.1 := by rw [e1]; rfl
        rw [hA, k1 e1]
        refine ⟨l1, P1 J.1, fun _ _ => rfl, ?_⟩
        refine wb_dE (fun k hk => ?_)
        have e8M : vM (lMo adr J u M Ms) x.1 = fun k => if k < 7 then u.1 k else if k = 8 then (if u.2.2.1 = [] then 0 else 1) else if k = 9 then (if u.2.2.2.1 = [] then 0 else 1) else 0 := by
          rw [wb_M (by omega), e1]
          rfl
        rcases wb_f8000 k hk with ⟨z1, z2⟩ | rfl | rfl | rfl | rfl
        · refine ⟨fun _ => ?_, fun z => absurd z1 z⟩
          rw [e8M, m1]
          show _ = if k < 7 then u.1 k else _
          rw [if_pos z2]
          exact l2 k z2
        · refine ⟨fun z => absurd z (by decide), fun _ => ?_⟩
          rw [l3, e1]
          rfl
        · refine ⟨fun z => absurd z (by decide), fun _ => ?_⟩
          rw [e1]
          show P1 J.1 8 = if (if u.2.2.1 = [] then (0 : Int32) else 1) = 0 then none else some ((P1 J.1 8).getD 0)
          by_cases q : u.2.2.1 = []
          · rw [if_pos q, if_pos rfl]; exact r1.1 q
          · rw [if_neg q, if_neg (by decide)]
            obtain ⟨y, hy, -⟩ := r1.2 q
            rw [hy]; rfl
        · refine ⟨fun z => absurd z (by decide), fun _ => ?_⟩
          rw [e1]
          show P1 J.1 9 = if (if u.2.2.2.1 = [] then (0 : Int32) else 1) = 0 then none else some ((P1 J.1 9).getD 0)
          by_cases q : u.2.2.2.1 = []
          · rw [if_pos q, if_pos rfl]; exact r2.1 q
          · rw [if_neg q, if_neg (by decide)]
            obtain ⟨y, hy, -⟩ := r2.2 q
            rw [hy]; rfl
        · refine ⟨fun z => absurd z (by decide), fun _ => ?_⟩
          rw [l4, e1]
          rfl
      by_cases e2 : x.1 = 8010
      · have hA : lAd adr J (P1 J.1 8) (P1 J.1 9) x.1 = J.2.2.1 := by rw [e2]; rfl
        rw [hA, k2 e2]
        refine ⟨v1, P1 J.2.2.1, fun _ _ => rfl, ?_⟩
        refine wb_dE (fun k hk => ?_)
        obtain ⟨rfl, z⟩ := wb_f8010 k hk
        refine ⟨fun y => absurd y z, fun _ => ?_⟩
        rw [v2, e2]
        rfl
      by_cases e3 : x.1 = 8011
      · have hA : lAd adr J (P1 J.1 8) (P1 J.1 9) x.1 = J.2.2.2.1 := by rw [e3]; rfl
        rw [hA, k3 e3]
        refine ⟨v3, P1 J.2.2.2.1, fun _ _ => rfl, ?_⟩
        have e : vM (lMo adr J u M Ms) x.1 = Ms (dc J.2.2.2.1) := by
          rw [wb_M (by omega), e3]
          rfl
        rw [e]
        rfl
      have hA : lAd adr J (P1 J.1 8) (P1 J.1 9) x.1 = adr x.1 := lAd_k (wb_noc hx e1 e2 e3)
      by_cases e4 : x.1 = 500
      · -- the class's own object
        have hMM : Ms (dc (adr x.1)) = vM (lMo adr J u M Ms) x.1 := by
          rw [wb_M (by omega), lMo_o (Or.inl e4)]
        rw [hA, k4 e4]
        rw [k4 e4] at g1
        refine ⟨g1, P1 (adr x.1), fun _ _ => rfl, ?_⟩
        rw [hMM]
        refine wb_dE (fun k hk => ⟨fun _ => rfl, fun _ => ?_⟩)
        rw [e4, a2 k]
        have hp : vP (lAd adr J (P1 J.1 8) (P1 J.1 9)) (lMo adr J u M Ms) 500 k = some (lAd adr J (P1 J.1 8) (P1 J.1 9) (vref 500 k)) := wb_P (by decide) (wb_vn k)
        rw [hp]
        by_cases c0 : k = 0
        · rw [if_pos c0, c0]; rfl
        · rw [if_neg c0, lAd_k (wb_f500 k hk c0)]
          have q := zP_S (Px := Px) (P := P) (M := M) hn v5
          show zP adr M Lx Px P (adr 500) k = _
          rw [show zP adr M Lx Px P (adr 500) = vP adr M 500 from q]
          exact wb_P (by decide) (wb_vn k)
      by_cases e5 : x.1 = 650
      · have hP : P1 (adr x.1) = vP adr M x.1 := (g2 (fun z => by
          rcases z with z | z | z | z
          · have := wb_in hn hx v5 z; rw [e5] at this; exact absurd this (by decide)
          · have := wb_in hn hx v10 z; rw [e5] at this; exact absurd this (by decide)
          · have := wb_in hn hx v38 z; rw [e5] at this; exact absurd this (by decide)
          · have := wb_in hn hx v6 z; rw [e5] at this; exact absurd this (by decide))).2
        rw [hA] 
        rw [e5] at hP
        have q := wb_lst (dA := dA) (adr := adr) (P1 := P1) (M := M) (Ms := Ms) (J := J) (e8 := P1 J.1 8) (e9 := P1 J.1 9) (M' := lMo adr J u M Ms) (c := 650) (d := 602) (Or.inl ⟨rfl, rfl⟩) (lMo_s (by decide) (by decide) (by decide) (by decide)) h6.1 (fun k hk => by obtain ⟨j, hj, e⟩ := h6.2 k hk; exact ⟨j, hj, Or.inl e⟩) hP
        have h650 : lAd adr J (P1 J.1 8) (P1 J.1 9) 650 = adr 650 := lAd_k (by decide)
        rw [h650] at q
        have kk := k5 e5
        rw [kk] at g1 ⊢
        rw [e5] at g1 ⊢
        exact ⟨g1, q⟩
      by_cases e6 : x.1 = 750
      · have hP : P1 (adr x.1) = vP adr M x.1 := (g2 (fun z => by
          rcases z with z | z | z | z
          · have := wb_in hn hx v5 z; rw [e6] at this; exact absurd this (by decide)
          · have := wb_in hn hx v10 z; rw [e6] at this; exact absurd this (by decide)
          · have := wb_in hn hx v38 z; rw [e6] at this; exact absurd this (by decide)
          · have := wb_in hn hx v6 z; rw [e6] at this; exact absurd this (by decide))).2
        rw [hA]
        rw [e6] at hP
        have q := wb_lst (dA := dA) (adr := adr) (P1 := P1) (M := M) (Ms := Ms) (J := J) (e8 := P1 J.1 8) (e9 := P1 J.1 9) (M' := lMo adr J u M Ms) (c := 750) (d := 702) (Or.inr ⟨rfl, rfl⟩) (lMo_s (by decide) (by decide) (by decide) (by decide)) h7.1 (fun k hk => by obtain ⟨j, hj, e⟩ := h7.2 k hk; exact ⟨j, hj, Or.inr e⟩) hP
        have h750 : lAd adr J (P1 J.1 8) (P1 J.1 9) 750 = adr 750 := lAd_k (by decide)
        rw [h750] at q
        have kk := k6 e6
        rw [kk] at g1 ⊢
        rw [e6] at g1 ⊢
        exact ⟨g1, q⟩
      -- all else
      refine ⟨by rw [hA]; exact g1, ?_⟩
      by_cases e7 : x.1 = 600 ∨ x.1 = 1000 ∨ x.1 = 1038
      · refine wb_gen (M := M) hx e4 e1 e2 e5 e6 hA (by rw [wb_M (by omega), lMo_o (by omega)]) ?_ (fun k hk => ?_)
        · rcases e7 with e | e | e <;> rw [e]
          · exact b2.trans (zP_S (Px := Px) (P := P) (M := M) hn v6)
          · exact c2.trans (zP_S (Px := Px) (P := P) (M := M) hn v10)
          · exact d2.trans (zP_S (Px := Px) (P := P) (M := M) hn v38)
        · rcases e7 with e | e | e
          · rw [e] at hk
            have : vnull 600 k = false := by unfold vnull; simp
            rw [this] at hk
            exact absurd hk (by decide)
          · rw [e] at hk ⊢
            have hk45 : k = 45 := by
              unfold vnull at hk
              simp only [Bool.or_eq_true, Bool.and_eq_true, beq_iff_eq] at hk
              rcases hk with z | z
              · exact absurd z.1 (by decide)
              · exact z.1.1.1.1
            subst hk45
            rw [lMo_o (by decide), hMs _ (na _ v10), c1 45]
            rw [if_neg (by decide), if_neg (by decide), if_neg (by decide), if_neg (by decide), if_neg (by decide)]
            have q := zM_S (Mx := Mx) (M := M) hn v10
            rw [show zM adr Lx Mx M (dc (adr 1000)) = vM M 1000 from q, wb_M (by decide)]
          · rw [e] at hk
            have : vnull 1038 k = false := by unfold vnull; simp
            rw [this] at hk
            exact absurd hk (by decide)
      · have nU : ¬ (adr x.1 = adr 500 ∨ adr x.1 = adr 1000 ∨ adr x.1 = adr 1038 ∨ adr x.1 = adr 600) := by
          rintro (z | z | z | z)
          · exact e4 (wb_in hn hx v5 z)
          · exact e7 (Or.inr (Or.inl (wb_in hn hx v10 z)))
          · exact e7 (Or.inr (Or.inr (wb_in hn hx v38 z)))
          · exact e7 (Or.inl (wb_in hn hx v6 z))
        have es : lMo adr J u M Ms x.1 = M x.1 := lMo_s (by omega) (by omega) e1 e3
        refine wb_gen (M := M) hx e4 e1 e2 e5 e6 hA ?_ (g2 nU).2 (fun k _ => by rw [es])
        rw [hMs _ (na x hx), (g2 nU).1]
        unfold vM
        rw [es]
  · refine ⟨?_, rfl, rfl⟩
    unfold lLx at hx
    rw [hL2]
    rcases List.mem_append.mp hx with h | h
    · exact List.mem_append_left _ (wb_xl (List.mem_append_left _ h))
    · rcases List.mem_append.mp h with h | h
      · exact List.mem_append_right _ (List.mem_filter.mp h).1
      · exact List.mem_append_left _ (wb_xl (List.mem_append_right _ (List.mem_filter.mp h).1))
  · refine ⟨?_, rfl, lMo_d⟩
    unfold lLl at hx
    rw [hL2]
    exact List.mem_append_left _ (wb_xl (List.mem_append_right _ (List.mem_filter.mp hx).1))
end WN
