/-! READING A LINE, 30: constant cells, queues, the class's side behind a line well told -/
/-- what the line's constants are -/
noncomputable def lEv (u : rU) : Nat → (Nat → Int32) → Int32 := fun e view => if e = 0 then sx_ev view u.2.2.1 else if e = 1 then sx_ev view u.2.2.2.1 else if e = 2 then (if view 0 = 0 then nI u.2.1.length else if view 0 = 1 then (if u.2.2.1 = [] then 0 else 1) else (if u.2.2.2.1 = [] then 0 else 1)) else nI (u.2.1.getD (e - 3) 0)
theorem lEv_n {u : rU} : lEv u 2 (fun _ => 0) = nI u.2.1.length := by
  unfold lEv
  rw [if_neg (by decide), if_neg (by decide), if_pos rfl, if_pos rfl]
theorem lEv_8 {u : rU} : lEv u 2 (fun _ => nI (0 + 1)) = if u.2.2.1 = [] then 0 else 1 := by
  unfold lEv
  rw [if_neg (by decide), if_neg (by decide), if_pos rfl, if_neg (by decide), if_pos (by decide)]
theorem lEv_9 {u : rU} : lEv u 2 (fun _ => nI (1 + 1)) = if u.2.2.2.1 = [] then 0 else 1 := by
  unfold lEv
  rw [if_neg (by decide), if_neg (by decide), if_pos rfl, if_neg (by decide), if_neg (by decide)]
theorem lEv_w {u : rU} {k : Nat} : lEv u (3 + k) (fun _ => 0) = nI (u.2.1.getD k 0) := by
  unfold lEv
  rw [if_neg (by omega), if_neg (by omega), if_neg (by omega), Nat.add_sub_cancel_left]
theorem lEv_octet {f : Nat} {u : rU} (h1 : u.2.1.length ≤ 16) (h2 : ∀ v ∈ u.2.1, v ≤ 255) (M : cx_M) (x : Int32) (x0 : 0 ≤ x.toInt) (x1 : x.toInt ≤ 2000000000) : cLn_octet (vN f (lEv u)) M x = some (M, (uE u).2.1 x, 0) := by
  have en : cLn_n (vN f (lEv u)) = nI u.2.1.length := lEv_n
  have tl := pi_nI (n := u.2.1.length) (by omega)
  show _ = some (M, (uW u (pn (cx_rem x (nI (max 1 u.2.1.length)))) + x) &&& 255, 0)
  unfold cLn_octet uW
  rw [en]
  by_cases c : u.2.1 = []
  · rw [if_pos (by rw [c]; rfl), if_pos c]
    have e : (85 + x).toInt = 85 + x.toInt := i32_add (by rw [show (85 : Int32).toInt = 85 from rfl]; omega) (by rw [show (85 : Int32).toInt = 85 from rfl]; omega)
    rw [pi_rem255 (by rw [e]; omega)]
  · have hl : 1 ≤ u.2.1.length := by
      cases hu : u.2.1 with
      | nil => exact absurd hu c
      | cons a r => rw [List.length_cons]; omega
    have emax : max 1 u.2.1.length = u.2.1.length := by omega
    rw [if_neg (fun z => by
      have := congrArg Int32.toInt z
      rw [tl, pi_0] at this
      omega), if_neg c, emax]
    have hr := pi_rem (x := x) (y := nI u.2.1.length) x0 (by omega)
    have r0 := Int.emod_nonneg x.toInt (show (nI u.2.1.length).toInt ≠ 0 by omega)
    have r1 := Int.emod_lt_of_pos x.toInt (show 0 < (nI u.2.1.length).toInt by omega)
    have hk : pn (cx_rem x (nI u.2.1.length)) < u.2.1.length := by rw [pn_def]; omega
    have ew : cLn_w (vN f (lEv u)) (cx_rem x (nI u.2.1.length)).toNatClampNeg = nI (u.2.1.getD (pn (cx_rem x (nI u.2.1.length))) 0) := lEv_w
    unfold cx_chk
    rw [if_neg (by
      rintro (z | z)
      · rw [i32_lt, pi_0] at z; omega
      · rw [nI_clamp (by omega)] at z
        have z : u.2.1.length ≤ pn (cx_rem x (nI u.2.1.length)) := z
        omega), ew]
    generalize pn (cx_rem x (nI u.2.1.length)) = k at hk
    have hv : u.2.1.getD k 0 ≤ 255 := by
      rw [List.getD_eq_getElem?_getD, List.getElem?_eq_getElem hk]
      exact h2 _ (List.getElem_mem hk)
    have tv := pi_nI (n := u.2.1.getD k 0) (by omega)
    have e : (nI (u.2.1.getD k 0) + x).toInt = (nI (u.2.1.getD k 0)).toInt + x.toInt := i32_add (by omega) (by omega)
    show some (M, cx_rem (nI (u.2.1.getD k 0) + x) 256, 0) = _
    rw [pi_rem255 (by rw [e]; omega)]
theorem wb_k5 : vS.all (fun x => !lK5 x.2) = true := by decide +kernel
section WX
variable {dA : Nat → ClassId} {adr : Nat → Nat} {Lx L L1 L2 : dL} {Px P P1 : dP} {Mx M M1 Ms : cx_M} {J : rJ} {u : rU} {ev : Nat → (Nat → Int32) → Int32} {f o : Nat}
theorem vXl.up {Lx' : dL} {Px' : dP} {Mx' : cx_M} {a : Nat} {n : Int32} {w : Nat → Option Nat} (h : vXl Lx Px Mx a n w) (hL : ∀ x ∈ Lx, x ∈ Lx' ∧ Px' x.1 = Px x.1 ∧ Mx' (dc x.1) = Mx (dc x.1)) : vXl Lx' Px' Mx' a n w := by
  obtain ⟨h1, h2, d, z, h3, h4, h5, h6⟩ := h
  obtain ⟨g1, g2, g3⟩ := hL _ h1
  obtain ⟨k1, k2, -⟩ := hL _ h4
  exact ⟨g1, by rw [g3]; exact h2, d, z, by rw [g2]; exact h3, k1, h5, fun j hj => by rw [k2]; exact h6 j hj⟩
theorem lx_5 (hu : qd_u L1) (hL2 : L1 = vLT adr Lx L ++ L2) (j1 : (J.1, (0, 7, 0)) ∈ L1) (j2 : (J.2.2.1, (0, 14, 0)) ∈ L1) (j3 : (J.2.2.2.1, (1, 0, 4)) ∈ L1) {x : Nat × dk} (hx : x ∈ L1) (hk : lK5 x.2 = true) : x ∈ lLx Lx L L2 J := by
  unfold lLx
  have hx2 := hx
  rw [hL2] at hx
  rcases List.mem_append.mp hx with h | h
  · unfold vLT at h
    rcases List.mem_append.mp h with h | h
    · obtain ⟨y, hy, rfl⟩ := List.mem_map.mp h
      have := List.all_eq_true.mp wb_k5 y (List.mem_filter.mp hy).1
      simp only [Bool.not_eq_true'] at this
      rw [show lK5 (adr y.1, y.2).2 = lK5 y.2 from rfl, this] at hk
      exact absurd hk (by decide)
    · rcases List.mem_append.mp h with h | h
      · exact List.mem_append_left _ h
      · exact List.mem_append_right _ (List.mem_append_right _ (List.mem_filter.mpr ⟨h, hk⟩))
  · refine List.mem_append_right _ (List.mem_append_left _ (List.mem_filter.mpr ⟨h, ?_⟩))
    unfold lKJ
    have q : ∀ a kd, (a, kd) ∈ L1 → lK5 kd = false → x.1 ≠ a := fun a kd ha hf e => by
      have : x.2 = kd := hu _ hx2 _ ha e
      rw [this, hf] at hk
      exact absurd hk (by decide)
    simp only [Bool.and_eq_true, Bool.not_eq_true', beq_eq_false_iff_ne]
    exact ⟨⟨q _ _ j1 (by decide), q _ _ j2 (by decide)⟩, q _ _ j3 (by decide)⟩
theorem lx_n (hu : qd_u L1) (hL2 : L1 = vLT adr Lx L ++ L2) (j1 : (J.1, (0, 7, 0)) ∈ L1) (j2 : (J.2.2.1, (0, 14, 0)) ∈ L1) (j3 : (J.2.2.2.1, (1, 0, 4)) ∈ L1) {x : Nat × dk} (hx : x ∈ L1) (hfr : ∀ y ∈ vLT adr Lx L, y.1 ≠ x.1) (k1 : x.2 ≠ (0, 7, 0)) (k2 : x.2 ≠ (0, 14, 0)) (k3 : x.2 ≠ (1, 0, 4)) : x ∈ lLx Lx L L2 J := by
  unfold lLx
  have hx2 := hx
  rw [hL2] at hx
  rcases List.mem_append.mp hx with h | h
  · exact absurd rfl (hfr x h)
  · refine List.mem_append_right _ (List.mem_append_left _ (List.mem_filter.mpr ⟨h, ?_⟩))
    unfold lKJ
    simp only [Bool.and_eq_true, Bool.not_eq_true', beq_eq_false_iff_ne]
    exact ⟨⟨fun e => k1 (hu _ hx2 _ j1 e), fun e => k2 (hu _ hx2 _ j2 e)⟩, fun e => k3 (hu _ hx2 _ j3 e)⟩
theorem wb_X {t : rT} (hX : vX adr Lx Px Mx ev) (hn : dN (vLL adr Lx L)) (hO : lN_O (f, adr) (zM adr Lx Mx M) (zP adr M Lx Px P) (vLT adr Lx L) (adr 500) (adr 1000) (adr 1038) (adr 600) J u M1 P1 L1) (ho : (o, ((2, 0, 1) : dk)) ∈ L) (hMs : ∀ c, c ≠ dc o → Ms c = M1 c) (hL2 : L1 = vLT adr Lx L ++ L2) (hp : rUp u t) (ht : t.2.1 ≤ 700) : vX (lAd adr J (P1 J.1 8) (P1 J.1 9)) (lLx Lx L L2 J) P1 Ms (lEv u) := by
  obtain ⟨hu, hY, hfr, ⟨l1, l2, l3, l4⟩, ⟨v1, v2, v3⟩, ⟨d, z, ⟨s1, s2, s3, s4, s5, s6⟩, s7⟩, ⟨r1, r2⟩, -⟩ := hO
  obtain ⟨-, ⟨g2, g3⟩, ⟨-, g5⟩, ⟨-, g7⟩, -⟩ := hp
  have v5 : ((500 : Nat), ((0, 1, 0) : dk)) ∈ vS := vS_of (by decide +kernel)
  have v10 : ((1000 : Nat), ((0, 12, 0) : dk)) ∈ vS := by decide +kernel
  have v38 : ((1038 : Nat), ((1, 0, 64) : dk)) ∈ vS := by decide +kernel
  have v6 : ((600 : Nat), ((0, 2, 0) : dk)) ∈ vS := vS_of (by decide +kernel)
  have mo := wb_xl (adr := adr) (Lx := Lx) (List.mem_append_right Lx ho)
  have oldX : ∀ x ∈ Lx, x ∈ lLx Lx L L2 J ∧ P1 x.1 = Px x.1 ∧ Ms (dc x.1) = Mx (dc x.1) := by
    intro x hx
    have hxx : x ∈ Lx ++ L := List.mem_append_left _ hx
    obtain ⟨q1, q2, q3⟩ := wb_oldX hn hY hx (by
      rintro (e | e | e | e)
      · exact wb_no hn v5 hxx e.symm
      · exact wb_no hn v10 hxx e.symm
      · exact wb_no hn v38 hxx e.symm
      · exact wb_no hn v6 hxx e.symm)
    refine ⟨List.mem_append_left _ hx, q3, ?_⟩
    rw [hMs, q2]
    refine dc_ne (fun e => ?_)
    obtain ⟨i, hi⟩ := List.mem_iff_getElem?.mp hx
    obtain ⟨j, hj⟩ := List.mem_iff_getElem?.mp ho
    have il := (List.getElem?_eq_some_iff.mp hi).1
    have q := hn ((vS.map (fun x => (adr x.1, x.2))).length + i) ((vS.map (fun x => (adr x.1, x.2))).length + (Lx.length + j)) x (o, (2, 0, 1)) (by unfold vLL; rw [List.getElem?_append_right (by omega), Nat.add_sub_cancel_left, List.getElem?_append_left il]; exact hi) (by unfold vLL; rw [List.getElem?_append_right (by omega), Nat.add_sub_cancel_left, List.getElem?_append_right (by omega), Nat.add_sub_cancel_left]; exact hj) e
    omega
  have hi : ∀ k, 8022 ≤ k → lAd adr J (P1 J.1 8) (P1 J.1 9) k = adr k := fun k hk => lAd_k (lchg_hi hk)
  have h500 : lAd adr J (P1 J.1 8) (P1 J.1 9) 500 = adr 500 := lAd_k (by decide)
  have hdia : dia (lAd adr J (P1 J.1 8) (P1 J.1 9)) = dia adr := funext (fun j => hi _ (by omega))
  obtain ⟨x1, x2, -, x4, x5, ⟨x6, x7⟩, ⟨x8, x9⟩, -⟩ := hX
  have e50 : (fun j => some (lAd adr J (P1 J.1 8) (P1 J.1 9) (9050 + j))) = fun j => some (adr (9050 + j)) := funext (fun j => by rw [hi _ (by omega)])
  have e60 : (fun j => some (lAd adr J (P1 J.1 8) (P1 J.1 9) (9060 + j))) = fun j => some (adr (9060 + j)) := funext (fun j => by rw [hi _ (by omega)])
  have tl := pi_nI (n := u.2.1.length) (by omega)
  have hb : ∀ {x : Nat} {v : Int32}, dBx (dia adr) L1 P1 x v → dBx (dia adr) (lLx Lx L L2 J) P1 x v := fun q => q.fr (fun c hc => ⟨lx_5 hu hL2 l1 v1 v3 hc (show lK5 (0, 16, 0) = true by decide), rfl⟩)
  have tree : ∀ {x : Nat} {s : List Int32}, s.length ≤ t.2.1 → pT adr L1 P1 s.length x s → pT (lAd adr J (P1 J.1 8) (P1 J.1 9)) (lLx Lx L L2 J) P1 899 x s := by
    intro x s hs q
    refine pT_leS (show s.length ≤ 899 by omega) ?_
    refine pT_fr (fun e he => hi _ (by omega)) (fun y hy hk => Or.inr ⟨lx_5 hu hL2 l1 v1 v3 hy ?_, rfl⟩) q
    rcases hk with e | e | e | e <;> rw [e] <;> decide
  refine ⟨?_, ?_, ⟨P1 d, ?_, fun j hj => ?_⟩, fun j hj => ?_, fun j hj => ?_, ⟨?_, ?_⟩, ⟨?_, ?_⟩, fun e he hne => ?_⟩
  · rw [hi 9040 (by decide), e50]; exact x1.up oldX
  · rw [hi 9041 (by decide), e60]; exact x2.up oldX
  · rw [lEv_n]
    show vXl (lLx Lx L L2 J) P1 Ms J.2.1 _ _
    refine ⟨lx_n hu hL2 l1 v1 v3 s1 (fun y hy => (hfr y hy).2.1) (show ((0, 20, 0) : dk) ≠ (0, 7, 0) by decide) (show ((0, 20, 0) : dk) ≠ (0, 14, 0) by decide) (show ((0, 20, 0) : dk) ≠ (1, 0, 4) by decide), ?_, d, z, s2, lx_n hu hL2 l1 v1 v3 s3 s7 dk03.symm dk03.symm (fun e => absurd (show (3 : Nat) = 1 from congrArg Prod.fst e) (by decide)), ?_, fun j _ => rfl⟩
    · rw [hMs _ (dc_ne (fun e => (hfr _ mo).2.1 e.symm))]; exact s4
    · rw [nI_clamp (by omega)]; exact s5.1
  · rw [lEv_n, nI_clamp (by omega)] at hj
    obtain ⟨x, q1, q2⟩ := s6 j u.2.1[j] (List.getElem?_eq_getElem hj)
    refine ⟨x, q1, ?_⟩
    rw [lEv_w, hdia, List.getD_eq_getElem?_getD, List.getElem?_eq_getElem hj]
    exact hb q2
  · obtain ⟨q1, q2⟩ := x4 j hj
    obtain ⟨y1, y2, -⟩ := oldX _ q1
    rw [hi _ (by omega), hi _ (by omega)]
    exact ⟨y1, by rw [y2]; exact q2⟩
  · obtain ⟨q1, q2⟩ := x5 j hj
    obtain ⟨y1, y2, -⟩ := oldX _ q1
    rw [hi _ (by omega), hi _ (by omega)]
    exact ⟨y1, by rw [y2]; exact q2⟩
  · rw [hi 9102 (by decide)]; exact (oldX _ x6).1
  · rw [hi 9102 (by decide), h500]
    exact (oldX _ x6).2.1.trans x7
  · rw [hi 9110 (by decide)]; exact (oldX _ x8).1
  · rw [hi 9110 (by decide), h500]
    exact (oldX _ x8).2.1.trans x9
  · rcases (show e = 0 ∨ e = 1 by omega) with e0 | e0
    · subst e0
      have q : u.2.2.1 ≠ [] := fun q => hne (by rw [lEv_8, if_pos q])
      obtain ⟨x, q1, q2⟩ := r1.2 q
      refine ⟨u.2.2.1, ?_, fun _ => rfl⟩
      have e : lAd adr J (P1 J.1 8) (P1 J.1 9) (8020 + 0) = x := by
        show (P1 J.1 8).getD 0 = x
        rw [q1]
        rfl
      rw [e]
      exact tree g5 q2
    · subst e0
      have q : u.2.2.2.1 ≠ [] := fun q => hne (by rw [lEv_9, if_pos q])
      obtain ⟨x, q1, q2⟩ := r2.2 q
      refine ⟨u.2.2.2.1, ?_, fun _ => rfl⟩
      have e : lAd adr J (P1 J.1 8) (P1 J.1 9) (8020 + 1) = x := by
        show (P1 J.1 9).getD 0 = x
        rw [q1]
        rfl
      rw [e]
      exact tree g7 q2
theorem wb_D (hD : pi_D adr M P L) (hn : dN (vLL adr Lx L)) (hY : qd_J (fun y => y = adr 500 ∨ y = adr 1000 ∨ y = adr 1038 ∨ y = adr 600) (zM adr Lx Mx M) (zP adr M Lx Px P) (vLT adr Lx L) M1 P1 L1) (ho : (o, ((2, 0, 1) : dk)) ∈ L) (hMs : ∀ c, c ≠ dc o → Ms c = M1 c) : pi_D (lAd adr J (P1 J.1 8) (P1 J.1 9)) (lMo adr J u M Ms) P1 (lLl L) := by
  have hu := hD.u
  obtain ⟨b10, z10, b20, z20, hs, ls, b1, z1, h1, b2, z2, h2, d1, d2, hne, -, -, -, -, -, -, -⟩ := hD
  have v5 : ((500 : Nat), ((0, 1, 0) : dk)) ∈ vS := vS_of (by decide +kernel)
  have v10 : ((1000 : Nat), ((0, 12, 0) : dk)) ∈ vS := by decide +kernel
  have v38 : ((1038 : Nat), ((1, 0, 64) : dk)) ∈ vS := by decide +kernel
  have v6 : ((600 : Nat), ((0, 2, 0) : dk)) ∈ vS := vS_of (by decide +kernel)
  have hi : ∀ k, 8022 ≤ k → lAd adr J (P1 J.1 8) (P1 J.1 9) k = adr k := fun k hk => lAd_k (lchg_hi hk)
  have hdia : dia (lAd adr J (P1 J.1 8) (P1 J.1 9)) = dia adr := funext (fun j => hi _ (by omega))
  have old : ∀ x ∈ L, x.2 ≠ (2, 0, 1) → lMo adr J u M Ms (dc x.1) = M (dc x.1) ∧ P1 x.1 = P x.1 := by
    intro x hx hk
    have hxx : x ∈ Lx ++ L := List.mem_append_right _ hx
    obtain ⟨q1, q2, q3⟩ := wb_oldL hn hY hx (by
      rintro (e | e | e | e)
      · exact wb_no hn v5 hxx e.symm
      · exact wb_no hn v10 hxx e.symm
      · exact wb_no hn v38 hxx e.symm
      · exact wb_no hn v6 hxx e.symm)
    refine ⟨?_, q3⟩
    rw [lMo_d, hMs _ (dc_ne (fun e => hk (hu _ hx _ ho e))), q2]
  have keep : ∀ x ∈ L, lK5 x.2 = false → x ∈ lLl L := fun x hx hk => List.mem_filter.mpr ⟨hx, by rw [hk]; rfl⟩
  have key : ∀ {a b z h : Nat} {vs : List Nat}, qd_D (dia adr) M P L a b z h vs → qd_D (dia adr) (lMo adr J u M Ms) P1 (lLl L) a b z h vs := by
    intro a b z h vs q
    obtain ⟨q1, q2, q3, q4, q5, q6, q7, q8, q9⟩ := q
    obtain ⟨o1, o2⟩ := old _ q1 (show ((0, 19, 0) : dk) ≠ (2, 0, 1) by decide)
    obtain ⟨-, o4⟩ := old _ q2 (fun e => absurd (show (3 : Nat) = 2 from congrArg Prod.fst e) (by decide))
    exact ⟨keep _ q1 (show lK5 (0, 19, 0) = false by decide), keep _ q2 rfl, by rw [o2]; exact q3, q4, q5, q6, by rw [o1]; exact q7, by rw [o1]; exact q8, fun i v hv => by rw [o4]; exact q9 i v hv⟩
  refine ⟨b1, z1, b2, z2, hs, ls, ?_⟩
  show qw_S (dia (lAd adr J (P1 J.1 8) (P1 J.1 9))) (lAd adr J (P1 J.1 8) (P1 J.1 9) 9300) (lAd adr J (P1 J.1 8) (P1 J.1 9) 9310) _ _ _ _ _ _ _ _ _ _ _ _ _ _
  rw [hdia, hi 9300 (by decide), hi 9310 (by decide)]
  exact ⟨b1, z1, h1, b2, z2, h2, key d1, key d2, hne, ⟨Nat.le_refl _, Nat.le_refl _, by omega, by omega⟩, fun _ _ => rfl, ⟨[], (List.append_nil _).symm, fun y hy => absurd hy (by simp)⟩, fun _ _ _ _ _ _ => ⟨rfl, rfl⟩, Or.inl rfl, Or.inl rfl, fun x hx y hy e => hu x (List.mem_filter.mp hx).1 y (List.mem_filter.mp hy).1 e⟩
end WX
