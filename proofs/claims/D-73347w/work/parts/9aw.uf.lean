/-! READING A LINE, 32: the law's line keeps what holds at the loop's head -/
theorem lAd_kKA {fT fR : Nat → Nat × Nat} {fV fS : Nat → Nat} {va ca mi : Nat} {ic la : Nat → Nat} {adr : Nat → Nat} {J : rJ} {e8 e9 : Option Nat} (h : kKA fT fR fV fS va ca mi ic la adr) : kKA fT fR fV fS va ca mi ic la (lAd adr J e8 e9) := by
  obtain ⟨obj, rfl, h8⟩ := h
  refine ⟨lAd obj J e8 e9, funext (fun k => ?_), by rw [lAd_k (by decide)]; exact h8⟩
  by_cases c : k < 9100
  · rw [kM_obj c]
    unfold lAd
    rw [kM_obj c]
  · rw [lAd_k (lchg_hi (by omega))]
    unfold kMix
    rw [if_neg c, if_neg c, lAd_k (lchg_hi (by omega))]
theorem h_line {dA : Nat → ClassId} {fT fR : Nat → Nat × Nat} {fV fS : Nat → Nat} {va ca mi : Nat} {ic la : Nat → Nat} {xs : Nat → Int32} {m : Nat} (hS5 : ∀ i j, i < 5 → j < 5 → fS i = fS j → i = j) (hm : m ≤ 384) : pi_line dA (kKA fT fR fV fS va ca mi ic la) xs m := by
  intro i adr Lx Px Mx ev f M P L k n o h hi
  obtain ⟨hka, hX, t, E, A, et, ht, hf, hA, hW, h7, ⟨hR, hq, hD, ho⟩, hk, hn0⟩ := h
  have h508 : adr 508 = 1 := by
    obtain ⟨obj, rfl, h8⟩ := hka
    rw [kM_obj (by decide)]
    exact h8
  have hKd : ∀ i j, i < 5 → j < 5 → adr (9210 + i) = adr (9210 + j) → i = j := by
    obtain ⟨obj, rfl, -⟩ := hka
    intro i j h1 h2 e
    rw [kM_S5 h1, kM_S5 h2] at e
    exact hS5 i j h1 h2 e
  have et1 : i + 6 = 6 * (t + 1) := by omega
  have ht1 : t + 1 ≤ 64 := by omega
  have hbc : 18000 ≤ 1200128 - k := by omega
  have hbs : 80000 ≤ 5501098 - n := by omega
  have h700 : A.2.2.1.1 ≤ 700 := hA.2.2.2
  intro hn
  have H := lN_of (f := f) (Px := Px) (P := P) (Mx := Mx) hn h508 hq
  have hou := hD.u
  have mo := wb_xl (adr := adr) (Lx := Lx) (List.mem_append_right Lx ho)
  have v5 : ((500 : Nat), ((0, 1, 0) : dk)) ∈ vS := vS_of (by decide +kernel)
  have v65 : ((605 : Nat), ((1, 0, 3) : dk)) ∈ vS := vS_of (by decide +kernel)
  unfold lawF_1
  refine ⟨H.2.1.1, ?_⟩
  by_cases hx : xs (i + 1) < 0 ∨ ¬ xs (i + 1) ≤ nI A.2.2.1.1
  · -- too long, or less than nothing
    refine lD_bad H hx (by omega) (by omega) ⟨Or.inl rfl, rfl, fun hnd => ?_⟩
    have hF := wb_ref (dA := dA) (M1 := zM adr Lx Mx M) (P1 := zP adr M Lx Px P) (L1 := vLT adr Lx L) hn qd_J.rf (zP_S hn v5) (zP_S hn v65) ho (Ms := zM adr Lx Mx M) (fun _ _ => rfl)
    have eM : (fun c => if c = dc o then zM adr Lx Mx M c else lMr adr M (zM adr Lx Mx M) c) = M := by
      funext c
      by_cases c1 : c = dc o
      · rw [if_pos c1, c1]
        exact zM_L hn ho
      · rw [if_neg c1]
        unfold lMr
        by_cases c2 : c = 500 ∨ c = 605
        · rw [if_pos c2]
          rcases c2 with e | e <;> rw [e]
          · exact (zM_S hn v5).trans (wb_M (by decide))
          · exact (zM_S hn v65).trans (wb_M (by decide))
        · rw [if_neg c2]
    rw [eM] at hF
    refine ⟨adr, Lx, Px, Mx, ev, f, M, P, L, hF, rfl, rfl, hka, hX, ?_⟩
    refine lw1b_no (N := (vN f ev, adr)) (E := E) (A := A) (v := 0) (by decide) (tw_line_bad (f := f) (hR.pre (show 3000 ≤ f by omega)) hx) (fun M3 a3 F3 => ?_)
    exact ⟨hka, hX, t + 1, E, A, et1, ht1, hf, hA, hW, h7, pi_S.af hA hq hD ho (Or.inl a3) (fun c hc _ => F3 c hc), by omega, by omega⟩
  · -- it is read
    have hx0 : 0 ≤ (xs (i + 1)).toInt := by
      have : ¬ xs (i + 1) < 0 := fun z => hx (Or.inl z)
      rw [i32_lt, pi_0] at this
      omega
    have hx1 : xs (i + 1) ≤ nI A.2.2.1.1 := Decidable.byContradiction (fun z => hx (Or.inr z))
    have tA := pi_nI (n := A.2.2.1.1) (by omega)
    rw [i32_le, tA] at hx1
    have en : xs (i + 1) = nI (pn (xs (i + 1))) := pn_nI hx0
    have hle : pn (xs (i + 1)) ≤ A.2.2.1.1 := by rw [pn_def]; omega
    generalize pn (xs (i + 1)) = n1 at en hle
    have hb0 : ∀ j, j < n1 → 0 ≤ (A.2.2.1.2 j).toInt := fun j hj => by
      rw [← hq.2.2.2.2.1.2.1 j (by omega), pi_and255]
      omega
    obtain ⟨t1, ht1x⟩ := rNx_ex (b := A.2.2.1.2) (n := n1) (p := 0) (by omega)
    have go := fun (M' : cx_M) (hM' : ∀ c, c < 100 → M' c = M c) => tw_line_go hf ((hR.fr hM').pre (by omega)) hle (by omega) hb0 ht1x h700
    have ea : (fun j => xs (i + j)) 1 = nI n1 := en
    rw [en]
    refine lD_go (N := (f, adr)) (Nt := f) hle h700 (show 1100 ≤ f by omega) hKd hb0 H ht1x (by omega) hbc hbs (fun o' ho' hW' => ?_)
    cases o' with
    | inl u =>
      intro J M1 P1 L1 k1 s1 hk1 hs1 hO
      obtain ⟨t', ht', hp⟩ := ho'
      have mo1 := hO.2.1.mem mo
      refine ⟨mo1, pd_stw (k := 0) (by omega) (by omega) ⟨rfl, fun hnd => ?_⟩⟩
      have hMs : ∀ c, c ≠ dc o → cx_set M1 (dc o) (bt_put (M1 (dc o)) 0 (Int32.toInt64 0)) c = M1 c := fun c hc => px_setc hc
      have hwo : bt_w (cx_set M1 (dc o) (bt_put (M1 (dc o)) 0 (Int32.toInt64 0)) (dc o)) 0 = Int32.toInt64 0 := by
        rw [px_sets, bt_w_put]
        show vp_updL _ 0 _ 0 = _
        unfold vp_updL
        rw [if_pos rfl]
      generalize cx_set M1 (dc o) (bt_put (M1 (dc o)) 0 (Int32.toInt64 0)) = Ms at hMs hwo
      obtain ⟨L2, hL2, hf2⟩ := hO.2.1.2.1
      have ord : ∀ b, b = 600 ∨ b = 700 → M (b + 2) 100 = nI 40 ∧ ∀ k, k < 40 → ∃ j, j < 40 ∧ M (b + 2) k = nI (qc_lo b + 100 * j) := by
        have q : ∀ b π, qc_ord M b π → M (b + 2) 100 = nI 40 ∧ ∀ k, k < 40 → ∃ j, j < 40 ∧ M (b + 2) k = nI (qc_lo b + 100 * j) := fun b π h => ⟨h.1, fun k hk => ⟨π k, h.2.1 k hk, h.2.2.2 k hk⟩⟩
        intro b hb
        rcases hb with e | e
        · rw [e]
          obtain ⟨π, h, -⟩ := hq.2.1
          exact q _ π h
        · rw [e]
          have him := hq.2.2.2.1
          cases hI : A.2.1 with
          | none =>
            rw [hI] at him
            obtain ⟨-, π, h, -⟩ := him
            exact q _ π h
          | some I =>
            rw [hI] at him
            obtain ⟨-, π, h, -⟩ := him
            exact q _ π h
      have hA' : qAI (uE u) (pa_line A u) := qAI.new (uE_O hp (by omega)) hp.1.2.2.2 (Nat.zero_le _)
      have hq' := wb_A hA hq hn hO ho hMs hp (by omega)
      have hD' := wb_D (J := J) (u := u) hD hn hO.2.1 ho hMs
      have ho'' : (o, ((2, 0, 1) : dk)) ∈ lLl L := List.mem_filter.mpr ⟨ho, rfl⟩
      have hX' := wb_X (J := J) hX hn hO ho hMs hL2 hp (show t'.2.1 ≤ 700 by omega)
      have h7' : cx_max 1 (lEv u 2 (fun _ => 0)) = (uE u).1 7 := uE_7 hp.2.1.1
      refine ⟨lAd adr J (P1 J.1 8) (P1 J.1 9), lLx Lx L L2 J, P1, Ms, lEv u, f, lMo adr J u M Ms, P1, lLl L, wb_new hn hnd hO ho hMs (ord 600 (Or.inl rfl)) (ord 700 (Or.inr rfl)) hL2 hf2, lAd_k (by decide), lAd_k (by decide), lAd_kKA hka, hX', ?_⟩
      obtain ⟨Mr, M9, y1, y2, y3, y4, y5, y6, y7, y8, y9⟩ := go (lMo adr J u M Ms) (fun c hc => lMo_s (by omega) (by omega) (by omega) (by omega))
      obtain ⟨M10, x1, x2, x3, x4⟩ := hW' f (by omega) M9 0 y2 y3 u0_x
      have key := tw_line_ok hf y4 y5 y6 y7 y8 y9 x2 x3 x4 hp (show t'.2.1 ≤ 700 by omega) (y1.trans x1)
      refine lw1b_yes (N := (vN f (lEv u), lAd adr J (P1 J.1 8) (P1 J.1 9))) (E := uE u) (A := pa_line A u) (v := 0) ho'' (by rw [lMo_d]; exact hwo) (by rw [en]; exact key) (fun M3 a3 F3 => ?_)
      exact ⟨lAd_kKA hka, hX', t + 1, uE u, pa_line A u, et1, ht1, hf, hA', pi_W.new, h7', pi_S.af hA' hq' hD' ho'' (Or.inl a3) (fun c hc _ => F3 c hc), by omega, by omega⟩
    | inr v =>
      obtain ⟨κ, pl⟩ := v
      intro M1 P1 L1 k1 s1 hk1 hs1 hO
      obtain ⟨hu1, hY, ⟨a1, a2⟩, ⟨b1, b2⟩⟩ := hO
      obtain ⟨hκ, hpl⟩ := ho'
      have mo1 := hY.mem mo
      refine ⟨mo1, pd_stw (k := 0) (by omega) (by omega) ⟨rfl, fun hnd => ?_⟩⟩
      have hMs : ∀ c, c ≠ dc o → cx_set M1 (dc o) (bt_put (M1 (dc o)) 0 (Int32.toInt64 (nI κ))) c = M1 c := fun c hc => px_setc hc
      have hwo : bt_w (cx_set M1 (dc o) (bt_put (M1 (dc o)) 0 (Int32.toInt64 (nI κ))) (dc o)) 0 = Int32.toInt64 (nI κ) := by
        rw [px_sets, bt_w_put]
        show vp_updL _ 0 _ 0 = _
        unfold vp_updL
        rw [if_pos rfl]
      generalize cx_set M1 (dc o) (bt_put (M1 (dc o)) 0 (Int32.toInt64 (nI κ))) = Ms at hMs hwo
      have hF := wb_ref (dA := dA) hn hY (a2.trans (zP_S hn v5)) (b2.trans (zP_S hn v65)) ho hMs
      have es : ∀ c, c < 10000000 → c ≠ 500 → c ≠ 605 → (fun c => if c = dc o then Ms c else lMr adr M M1 c) c = M c := by
        intro c hc n5 n6
        show (if c = dc o then Ms c else lMr adr M M1 c) = M c
        rw [if_neg (dc_lo hc)]
        unfold lMr
        rw [if_neg (fun z => z.elim n5 n6)]
      have e5 : ∀ k, (fun c => if c = dc o then Ms c else lMr adr M M1 c) 500 k = if k = 9 then 0 else if k = 10 then nI pl else M 500 k := by
        intro k
        show (if 500 = dc o then Ms 500 else lMr adr M M1 500) k = _
        rw [if_neg (dc_lo (by decide))]
        unfold lMr
        rw [if_pos (Or.inl rfl), a1 k, show zM adr Lx Mx M (dc (adr 500)) = M 500 from (zM_S hn v5).trans (wb_M (by decide))]
      have e65 : ∀ k, (fun c => if c = dc o then Ms c else lMr adr M M1 c) 605 k = if k = 0 then M 605 0 + 1 else M 605 k := by
        intro k
        show (if 605 = dc o then Ms 605 else lMr adr M M1 605) k = _
        rw [if_neg (dc_lo (by decide))]
        unfold lMr
        rw [if_pos (Or.inr rfl), b1 k, show zM adr Lx Mx M (dc (adr 605)) = M 605 from (zM_S hn v65).trans (wb_M (by decide))]
      have hwo' : bt_w ((fun c => if c = dc o then Ms c else lMr adr M M1 c) (dc o)) 0 = Int32.toInt64 (nI κ) := by
        show bt_w (if dc o = dc o then Ms (dc o) else lMr adr M M1 (dc o)) 0 = _
        rw [if_pos rfl]
        exact hwo
      have hoth : ∀ c, 10000000 ≤ c → c ≠ dc o → (fun c => if c = dc o then Ms c else lMr adr M M1 c) c = M c := by
        intro c hc hne
        show (if c = dc o then Ms c else lMr adr M M1 c) = M c
        rw [if_neg hne]
        unfold lMr
        rw [if_neg (by omega)]
      generalize (fun c => if c = dc o then Ms c else lMr adr M M1 c) = Mq at hF es e5 e65 hwo' hoth
      have hA' : qAI E (pa_refused A pl) := ⟨hA.1, hA.2.1, hA.2.2.1, Nat.zero_le _⟩
      have hq' := wb_B hA hq e5 e65 es
      have hD' : pi_D adr Mq P L := hD.fr hou (fun _ hx => hx) (fun a ha => ⟨hoth _ (by unfold dc; omega) (dc_ne (fun e => absurd (show ((0, 19, 0) : dk) = (2, 0, 1) from hou _ ha _ ho e) (by decide))), rfl⟩) (fun _ _ _ => rfl)
      refine ⟨adr, Lx, Px, Mx, ev, f, Mq, P, L, hF, rfl, rfl, hka, hX, ?_⟩
      obtain ⟨Mr, M9, y1, y2, y3, y4, y5, y6, y7, y8, y9⟩ := go Mq (fun c hc => es c (by omega) (by omega) (by omega))
      obtain ⟨M10, x1, x2, x3, x4⟩ := hW' f (by omega) M9 0 y2 y3 u0_x
      have key := tw_line_er y4 y5 y6 y7 y8 y9 x2 x3 x4 hκ (y1.trans x1)
      refine lw1b_yes (N := (vN f ev, adr)) (E := E) (A := pa_refused A pl) (v := nI κ) ho hwo' (by rw [en]; exact key) (fun M3 a3 F3 => ?_)
      exact ⟨hka, hX, t + 1, E, pa_refused A pl, et1, ht1, hf, hA', hW, h7, pi_S.af hA' hq' hD' ho (Or.inl a3) (fun c hc _ => F3 c hc), by omega, by omega⟩
