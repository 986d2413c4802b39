/-! READING A LINE, 31: the class's side behind a line; the line, whole -/
theorem pf_at {E : ps_E} : ∀ k, k < 34 → pa_first E 0 (pc_F k) = if k = 28 then E.1 5 else if k = 30 then E.1 1 else if k = 31 then E.1 2 else if k = 32 then E.1 3 else 0 := by
  intro k hk
  match k, hk with
  | 0, _ => rfl
  | 1, _ => rfl
  | 2, _ => rfl
  | 3, _ => rfl
  | 4, _ => rfl
  | 5, _ => rfl
  | 6, _ => rfl
  | 7, _ => rfl
  | 8, _ => rfl
  | 9, _ => rfl
  | 10, _ => rfl
  | 11, _ => rfl
  | 12, _ => rfl
  | 13, _ => rfl
  | 14, _ => rfl
  | 15, _ => rfl
  | 16, _ => rfl
  | 17, _ => rfl
  | 18, _ => rfl
  | 19, _ => rfl
  | 20, _ => rfl
  | 21, _ => rfl
  | 22, _ => rfl
  | 23, _ => rfl
  | 24, _ => rfl
  | 25, _ => rfl
  | 26, _ => rfl
  | 27, _ => rfl
  | 28, _ => rfl
  | 29, _ => rfl
  | 30, _ => rfl
  | 31, _ => rfl
  | 32, _ => rfl
  | 33, _ => rfl
  | k + 34, h => exact absurd h (by omega)
theorem uE_7 {u : rU} (h : u.2.1.length ≤ 16) : cx_max 1 (lEv u 2 (fun _ => 0)) = (uE u).1 7 := by
  rw [lEv_n]
  show _ = nI (max 1 u.2.1.length)
  rw [i32_eq, pi_max, pi_nI (by omega), pi_nI (by omega), show (1 : Int32).toInt = 1 from rfl]
  omega
section WE
variable {dA : Nat → ClassId} {adr : Nat → Nat} {Lx L L1 : dL} {Px P P1 : dP} {Mx M M1 Ms : cx_M} {J : rJ} {u : rU} {ev : Nat → (Nat → Int32) → Int32} {f o : Nat} {E : ps_E} {A : qA}
theorem wb_A {t : rT} (hA : qAI E A) (hq : qc_A (vN f ev) E M A) (hn : dN (vLL adr Lx L)) (hO : lN_O (f, adr) (zM adr Lx Mx M) (zP adr M Lx Px P) (vLT adr Lx L) (adr 500) (adr 1000) (adr 1038) (adr 600) J u M1 P1 L1) (ho : (o, ((2, 0, 1) : dk)) ∈ L) (hMs : ∀ c, c ≠ dc o → Ms c = M1 c) (hp : rUp u t) (ht : t.2.1 ≤ 700) :
    qc_A (vN f (lEv u)) (uE u) (lMo adr J u M Ms) (pa_line A u) := by
  obtain ⟨-, -, -, -, -, -, -, ⟨a1, -⟩, ⟨b1, -⟩, ⟨c1, -⟩, ⟨d1, -⟩⟩ := hO
  obtain ⟨-, ⟨g2, g3⟩, ⟨-, g5⟩, ⟨-, g7⟩, -⟩ := hp
  have v5 : ((500 : Nat), ((0, 1, 0) : dk)) ∈ vS := vS_of (by decide +kernel)
  have v10 : ((1000 : Nat), ((0, 12, 0) : dk)) ∈ vS := by decide +kernel
  have v38 : ((1038 : Nat), ((1, 0, 64) : dk)) ∈ vS := by decide +kernel
  have v6 : ((600 : Nat), ((0, 2, 0) : dk)) ∈ vS := vS_of (by decide +kernel)
  have na : ∀ x ∈ vS, dc (adr x.1) ≠ dc o := fun x hx => dc_ne (wb_no hn hx (List.mem_append_right _ ho))
  have z5 : zM adr Lx Mx M (dc (adr 500)) = M 500 := (zM_S hn v5).trans (wb_M (by decide))
  have z10 : zM adr Lx Mx M (dc (adr 1000)) = M 1000 := (zM_S hn v10).trans (wb_M (by decide))
  have z6 : zM adr Lx Mx M (dc (adr 600)) = M 600 := (zM_S hn v6).trans (wb_M (by decide))
  have m5 : ∀ k, lMo adr J u M Ms 500 k = if k = 7 ∨ k = 9 then 0 else if k = 10 then -1 else M 500 k := fun k => by
    rw [lMo_o (by decide), hMs _ (na _ v5), a1 k, z5]
  have m6 : ∀ k, lMo adr J u M Ms 600 k = if k = 5 ∨ k = 6 then 0 else M 600 k := fun k => by
    rw [lMo_o (by decide), hMs _ (na _ v6), b1 k, z6]
  have m10 : ∀ k, lMo adr J u M Ms 1000 k = if k = 28 then u.1 5 else if k = 30 then u.1 1 else if k = 31 then u.1 2 else if k = 32 then u.1 3 else if k < 34 then 0 else M 1000 k := fun k => by
    rw [lMo_o (by decide), hMs _ (na _ v10), c1 k, z10]
  have m38 : ∀ k, k < 64 → lMo adr J u M Ms 1038 k = -1 := fun k hk => by
    rw [lMo_o (by decide), hMs _ (na _ v38), d1 k, if_pos hk]
  have es : ∀ c, c < 10000000 → c ≠ 500 → c ≠ 600 → c ≠ 1000 → c ≠ 1038 → c ≠ 8000 → c ≠ 8011 → lMo adr J u M Ms c = M c := fun c h0 h1 h2 h3 h4 h5 h6 => lMo_s h0 (by omega) h5 h6
  have m1x : ∀ k, 34 ≤ k → lMo adr J u M Ms 1000 k = M 1000 k := fun k hk => by
    rw [m10 k, if_neg (by omega), if_neg (by omega), if_neg (by omega), if_neg (by omega), if_neg (by omega)]
  obtain ⟨hK, ⟨π, ho6, hf6, -, ⟨-, -, n3⟩, hW, -⟩, ⟨y43, y45⟩, him, -, hU11, y11⟩ := hq
  have l6 : qc_lo 600 = 1200 ∧ cBk_st 600 = 1000 := ⟨rfl, rfl⟩
  have l7 : qc_lo 700 = 20000 ∧ cBk_st 700 = 6000 := ⟨rfl, rfl⟩
  have hU10 : pc_U M 1000 := hW.U
  have e602 : lMo adr J u M Ms (600 + 2) = M (600 + 2) := es _ (by decide) (by decide) (by decide) (by decide) (by decide) (by decide) (by decide)
  have t8 := pi_nI (n := u.2.2.1.length) (by omega)
  have t9 := pi_nI (n := u.2.2.2.1.length) (by omega)
  have len0 : ∀ l : List Int32, l.length ≤ 700 → ((if l = [] then (0 : Int32) else 1) = 0 ↔ ¬ 0 < nI l.length) := by
    intro l hl
    have tl := pi_nI (n := l.length) (by omega)
    by_cases q : l = []
    · rw [if_pos q, q]; exact ⟨fun _ => by decide, fun _ => rfl⟩
    · rw [if_neg q]
      have : 1 ≤ l.length := by
        cases l with
        | nil => exact absurd rfl q
        | cons a r => rw [List.length_cons]; omega
      exact ⟨fun z => absurd z (by decide), fun z => absurd (by rw [i32_lt, pi_0, tl]; omega) z⟩
  have hsh : qc_sh M 700 := by
    cases hI : A.2.1 with
    | none =>
      rw [hI] at him
      exact him.2
    | some I =>
      rw [hI] at him
      obtain ⟨-, π', q1, q2, -, -, q3, -⟩ := him
      exact ⟨π', q1, q2, q3.U⟩
  refine ⟨⟨rfl, rfl, rfl, ?_, ?_, fun z => ⟨?_, rfl⟩, fun z => ⟨?_, rfl⟩, fun M x h0 h1 => lEv_octet g2 g3 M x h0 h1⟩, ⟨π, ⟨by rw [e602]; exact ho6.1, ho6.2.1, ho6.2.2.1, by rw [e602]; exact ho6.2.2.2⟩, fun i hi => (hf6 i hi).fr (fun c h1 h2 => es c (by omega) (by omega) (by omega) (by omega) (by omega) (by omega) (by omega)), ?_, ⟨?_, fun j x hx => absurd hx (by show ¬ ([] : List (Int32 × Int32))[j]? = some x; simp), fun j hj => ?_⟩, ?_, fun j S hS => absurd hS (by show ¬ ([] : List ps_S)[j]? = some S; simp)⟩, ⟨?_, ?_⟩, ⟨?_, hsh.fr (Or.inr rfl) (fun c hc => es c (by omega) (by omega) (by omega) (by omega) (by omega) (by omega) (by omega))⟩, ⟨?_, fun j hj => absurd hj (by show ¬ j < 0; omega), ?_⟩, hU11.fr (fun c h1 h2 => es c (by omega) (by omega) (by omega) (by omega) (by omega) (by omega) (by omega)), ?_⟩
  · exact len0 u.2.2.1 (by omega)
  · exact len0 u.2.2.2.1 (by omega)
  · show lEv u 2 (fun _ => nI (0 + 1)) ≠ 0
    rw [lEv_8]
    exact fun q => (len0 u.2.2.1 (by omega)).mp q z
  · show lEv u 2 (fun _ => nI (1 + 1)) ≠ 0
    rw [lEv_9]
    exact fun q => (len0 u.2.2.2.1 (by omega)).mp q z
  · rw [m6 5, if_pos (Or.inl rfl)]; rfl
  · rw [m6 6, if_pos (Or.inr rfl)]; rfl
  · rw [show (600 + 5 : Nat) = 605 from rfl, es 605 (by decide) (by decide) (by decide) (by decide) (by decide) (by decide) (by decide)]
    exact n3 j hj
  · -- the state that begins
    show qc_W (lMo adr J u M Ms) 1000 (pa_first (uE u))
    obtain ⟨w42, fb, hB⟩ := hU10
    refine ⟨M 1000 42, fun k hk => ?_, ?_, fun k hk => ?_, fun k hk => ⟨?_, fun z => ?_⟩, fun k hk => ⟨fun z => ?_, fun z => ?_⟩, fb, ?_, fun k hk z => ?_⟩
    · by_cases c : k = 42
      · subst c
        rw [show pc_F 42 = 35 from rfl, px_up, if_pos ⟨rfl, rfl⟩, m1x 42 (by decide)]
      · have hk34 : k < 34 := by unfold pc_d at hk; omega
        have h35 : pc_F k ≠ 35 := fun z => c (pc_inj hk (Or.inr rfl) (z.trans (show 35 = pc_F 42 from rfl)))
        rw [px_up, if_neg (fun z => h35 z.2), pf_at k hk34, m10 k]
        rw [if_pos hk34]
        rfl
    · rw [px_up, if_pos ⟨rfl, rfl⟩]; exact w42
    · rw [px_up, if_neg (by decide)] at hk
      exact absurd hk (by show ¬ k < 0; omega)
    · rw [show (1000 + 38 : Nat) = 1038 from rfl, m38 k hk, px_upc (show (5 : Nat) ≠ 0 by decide)]
      rfl
    · exact absurd rfl z
    · rw [px_up, if_neg (by decide)] at z
      exact absurd z (by show ¬ (k : Int) < 0; omega)
    · rw [px_up, if_neg (by decide)] at z
      exact absurd z (by show ¬ (k : Int) < 0; omega)
    · exact hB.fr (es _ (by decide) (by decide) (by decide) (by decide) (by decide) (by decide) (by decide)) (es _ (by decide) (by decide) (by decide) (by decide) (by decide) (by decide) (by decide))
    · rw [px_up, if_neg (by decide)] at z
      exact absurd z (by show ¬ (k : Int) < 0; omega)
  · rw [m1x 43 (by decide)]; exact y43
  · rw [m1x 45 (by decide)]; exact y45
  · rw [m5 7, if_pos (Or.inl rfl)]
  · rw [m5 9, if_pos (Or.inr rfl)]; rfl
  · rw [m5 10, if_neg (by decide), if_pos rfl]; rfl
  · rw [es 1100 (by decide) (by decide) (by decide) (by decide) (by decide) (by decide) (by decide)]; exact y11
/-- behind a refused line -/
theorem wb_B {N : cx_N} {pl : Nat} {M' : cx_M} (hA : qAI E A) (hq : qc_A N E M A) (e5 : ∀ k, M' 500 k = if k = 9 then 0 else if k = 10 then nI pl else M 500 k) (e65 : ∀ k, M' 605 k = if k = 0 then M 605 0 + 1 else M 605 k) (es : ∀ c, c < 10000000 → c ≠ 500 → c ≠ 605 → M' c = M c) : qc_A N E M' (pa_refused A pl) := by
  obtain ⟨hK, ⟨π, ho6, hf6, h5, ⟨n1, n2, n3⟩, hW, hL⟩, y4, him, -, hU11, y11⟩ := hq
  have l6 : qc_lo 600 = 1200 ∧ cBk_st 600 = 1000 := ⟨rfl, rfl⟩
  have l7 : qc_lo 700 = 20000 ∧ cBk_st 700 = 6000 := ⟨rfl, rfl⟩
  have hl40 : A.1.2.1.length ≤ 40 := hA.2.1.2.2.1
  have e600 : M' 600 = M 600 := es _ (by decide) (by decide) (by decide)
  have e602 : M' (600 + 2) = M (600 + 2) := es _ (by decide) (by decide) (by decide)
  have e603 : M' (600 + 3) = M (600 + 3) := es _ (by decide) (by decide) (by decide)
  have e604 : M' (600 + 4) = M (600 + 4) := es _ (by decide) (by decide) (by decide)
  refine ⟨hK.fr (es 8000 (by decide) (by decide) (by decide)), ⟨π, ⟨by rw [e602]; exact ho6.1, ho6.2.1, ho6.2.2.1, by rw [e602]; exact ho6.2.2.2⟩, fun i hi => (hf6 i hi).fr (fun c h1 h2 => es c (by omega) (by omega) (by omega)), by rw [e600]; exact h5, ⟨by rw [e600]; exact n1, fun j x hx => by rw [e603, e604]; exact n2 j x hx, fun j hj => ?_⟩, hW.fr (fun c h1 h2 => es c (by omega) (by omega) (by omega)), fun j S hS => ?_⟩, by rw [es 1000 (by decide) (by decide) (by decide)]; exact y4, ?_, ⟨?_, fun j hj => absurd hj (by show ¬ j < 0; omega), ?_⟩, hU11.fr (fun c h1 h2 => es c (by omega) (by omega) (by omega)), by rw [es 1100 (by decide) (by decide) (by decide)]; exact y11⟩
  · show M' 605 j = upd A.1.2.2.2 0 (A.1.2.2.2 0 + 1) j
    rw [e65 j]
    unfold upd
    by_cases c : j = 0
    · rw [if_pos c, if_pos c]
      have := n3 0 (by decide)
      rw [show (600 + 5 : Nat) = 605 from rfl] at this
      rw [this]
    · rw [if_neg c, if_neg c]
      exact n3 j hj
  · have hj : j < 40 := by
      have := (List.getElem?_eq_some_iff.mp hS).1
      have : j < A.1.2.1.length := this
      omega
    have hπ := ho6.2.1 j hj
    exact (hL j S hS).fr (fun c h1 h2 => es c (by omega) (by omega) (by omega))
  · show qc_im M' A.2.1
    unfold qc_im at him ⊢
    have e7 : M' 500 7 = M 500 7 := by rw [e5 7, if_neg (by decide), if_neg (by decide)]
    cases hI : A.2.1 with
    | none =>
      rw [hI] at him
      exact ⟨by rw [e7]; exact him.1, him.2.fr (Or.inr rfl) (fun c hc => es c (by omega) (by omega) (by omega))⟩
    | some I =>
      rw [hI] at him
      exact ⟨by rw [e7]; exact him.1, him.2.frm (Or.inr rfl) (hA.2.2.1 I hI).2.2.1 (fun c hc => es c (by omega) (by omega) (by omega))⟩
  · rw [e5 9, if_pos rfl]; rfl
  · rw [e5 10, if_neg (by decide), if_pos rfl]; rfl
/-- what the law does behind the line -/
theorem lw1b_yes {N : dNx} {k n : Nat} {a : Nat → Int32} {v : Int32} {R : cx_M → dP → dL → Nat → Nat → Prop} (ho : (o, ((2, 0, 1) : dk)) ∈ L) (hw : bt_w (M (dc o)) 0 = Int32.toInt64 v) (ht : tw_ok N.1.1 E A M (tw_line N.1.1 M (a 1)) v 0) (hR : ∀ M3, qr_A N.1.1 E M3 A → qr_F M M3 → R M3 P L k n) : lawF_1b N M P L k n o 0 a R := by
  obtain ⟨M2, v2, e2, a2, c2, hv, F2⟩ := ht
  unfold lawF_1b
  refine pq_calm e2 (pq_calm (show tw_thrown N.1.1 M2 = some (M2, M2 60 2, 0) from rfl) ?_)
  rw [c2, if_pos rfl, if_pos rfl]
  refine ⟨ho, pd_ldw (k := 0) (by omega) (by omega) ?_⟩
  rw [F2 (dc o) (by unfold dc; omega), hw, hv rfl, lg_self, if_pos rfl]
  exact hR M2 a2 F2
theorem lw1b_no {N : dNx} {k n : Nat} {a : Nat → Int32} {v code : Int32} {R : cx_M → dP → dL → Nat → Nat → Prop} (hc : code ≠ 0) (ht : tw_ok N.1.1 E A M (tw_line N.1.1 M (a 1)) v code) (hR : ∀ M3, qr_A N.1.1 E M3 A → qr_F M M3 → R M3 P L k n) : lawF_1b N M P L k n o code a R := by
  obtain ⟨M2, v2, e2, a2, c2, -, F2⟩ := ht
  unfold lawF_1b
  refine pq_calm e2 (pq_calm (show tw_thrown N.1.1 M2 = some (M2, M2 60 2, 0) from rfl) ?_)
  rw [c2, if_pos rfl, if_neg hc]
  exact hR M2 a2 F2
end WE
