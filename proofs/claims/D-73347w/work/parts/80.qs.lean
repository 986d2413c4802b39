/-! THE CLASS: the course; toAim, toGain -/
theorem qc_A.tri {N : cx_N} {E : ps_E} {M M' : cx_M} {A : qA} (hA : qAI E A) (h : qc_A N E M A) (hU : pc_U M' 1100) (h45 : M' 1100 45 = 0) (fr : ∀ c, c < 1100 ∨ (1143 < c ∧ c ≤ 8000) ∨ 10000 ≤ c → M' c = M c) : qc_A N E M' A := by
  have l6 : qc_lo 600 = 1200 ∧ cBk_st 600 = 1000 := ⟨rfl, rfl⟩
  have l7 : qc_lo 700 = 20000 ∧ cBk_st 700 = 6000 := ⟨rfl, rfl⟩
  obtain ⟨hK, hb, h3, hi, ⟨t1, t2, t3⟩, -, -⟩ := h
  refine ⟨hK.fr (fr 8000 (by omega)), hb.frm (Or.inl rfl) hA.2.1.2.2.1 (fun c hc => fr c (by omega)), by rw [fr 1000 (by omega)]; exact h3, ?_, ⟨by rw [fr 500 (by omega)]; exact t1, by rw [fr 509 (by omega)]; exact t2, by rw [fr 500 (by omega)]; exact t3⟩, hU, h45⟩
  unfold qc_im at hi ⊢
  cases hI : A.2.1 with
  | none =>
    rw [hI] at hi
    exact ⟨by rw [fr 500 (by omega)]; exact hi.1, hi.2.fr (Or.inr rfl) (fun c hc => fr c (by omega))⟩
  | some I =>
    rw [hI] at hi
    exact ⟨by rw [fr 500 (by omega)]; exact hi.1, hi.2.frm (Or.inr rfl) (hA.2.2.1 I hI).2.2.1 (fun c hc => fr c (by omega))⟩
theorem pq_put {M : cx_M} {c k : Nat} {v : Int32} {f : cx_M → Prop} (h : f (cx_up M c k v)) : cq_put M c k v f := h
theorem pd_add {k k' n n' : Nat} {F : Nat → Nat → Prop} (h : F (k + k') (n + n')) : cd_add k k' n n' F := h
theorem pq_get {M : cx_M} {c k : Nat} {f : Int32 → Prop} (h : f (M c k)) : cq_get M c k f := h
theorem pq_let {a : Int32} {f : Int32 → Prop} (h : f a) : cq_let a f := h
theorem pq_calm {o : Option cx_R} {M : cx_M} {v : Int32} {x : Nat} {f : cx_M → Int32 → Prop} (e : o = some (M, v, x)) (h : f M v) : cq_cal o f := (pq_cal e).mpr h
theorem pc_U.up45 {M : cx_M} {b k : Nat} {v : Int32} (hk : k ≠ 42) : pc_U (cx_up M b k v) b ↔ pc_U M b := by
  have e : ∀ c, c ≠ b → cx_up M b k v c = M c := fun c hc => px_upc hc
  unfold pc_U
  rw [px_up, if_neg (fun z => hk z.2.symm)]
  constructor
  · rintro ⟨u, f, hf⟩
    exact ⟨u, f, hf.fr (e _ (by omega)).symm (e _ (by omega)).symm⟩
  · rintro ⟨u, f, hf⟩
    exact ⟨u, f, hf.fr (e _ (by omega)) (e _ (by omega))⟩
/-- while the course is kept: the trial's flag is on -/
def qc_C (N : cx_N) (E : ps_E) (M : cx_M) (A : qA) (G : ps_S → Prop) : Prop := qc_A N E (cx_up M 1100 45 0) A ∧ M 1100 45 = 1 ∧ pc_O E M 1100 G
theorem qc_C.to {N : cx_N} {E : ps_E} {M M' : cx_M} {A : qA} {G : ps_S → Prop} {s : ps_T} (hA : qAI E A) (h : qc_C N E M A G) (hV : pc_V N E M' 1100 s G) (e : ∀ c, c < 1100 ∨ 1143 < c → c ≠ 8011 → c ≠ 9001 → c ≠ 9002 → M' c = M c) (h45 : M' 1100 45 = M 1100 45) : qc_C N E M' A G := by
  obtain ⟨hq, h1, hO⟩ := h
  refine ⟨qc_A.try hA hq ((pc_U.up45 (by decide)).mpr hV.1.U) (by rw [px_up, if_pos ⟨rfl, rfl⟩]) (fun c a b1 b2 b3 => ?_), by rw [h45, h1], hV.2.2.2⟩
  rw [px_upc (by omega), px_upc (by omega)]
  exact e c a b1 b2 b3
theorem qc_C.tries {N : cx_N} {E : ps_E} {M : cx_M} {A : qA} {G : ps_S → Prop} (hN : 700 ≤ N.1) (hA : qAI E A) (h : qc_C N E M A G) :
    ∃ M' v, cCc_tries N M 0 = some (M', 0, 0) ∧ qc_C N E M' A G ∧ pc_V N E M' 1100 (cx_up A.1.1 0 35 v, []) G ∧ M' 1000 = M 1000 ∧ qc_F M M' := by
  have h' := h
  obtain ⟨T, hT, hI, -⟩ := hA.2.1.1
  obtain ⟨hq, h1, hO⟩ := h
  have hq' := hq
  obtain ⟨π, -, -, -, -, ⟨v, hv⟩, -⟩ := hq'.2.1
  have hv' : pc_S M 1000 (cx_up A.1.1 0 35 v) := pc_S.fr hv (fun c a b => (px_upc (show c ≠ 1100 by have : cBk_st 600 = 1000 := rfl; omega)).symm)
  have hU : pc_U M 1100 := (pc_U.up45 (by decide)).mp hq.2.2.2.2.2.1
  have h31 := qI_31 hA.2.1.1
  obtain ⟨M1, e1, s1, z43, -, z45, f1⟩ := cSt_like_s (N := N) (b := 1100) (b2 := 1000) (by omega) hv' hU (by omega) (by rw [px_up, if_neg (by decide)]; exact h31)
  rw [px_upup] at s1
  generalize M 1100 42 = v2 at s1
  have hK : pc_K N E M1 := hq.1.fr (by rw [px_upc (by decide)]; exact f1 8000 (by omega))
  have hV1 : pc_V N E M1 1100 (cx_up A.1.1 0 35 v2, []) G := ⟨s1, hK, ⟨z43, by show 0 ≤ 8; decide, fun z => absurd z (by show ¬ 0 < 0; decide)⟩, hO.fr z45 (f1 9000 (by omega)) (f1 9001 (by omega)) (f1 9002 (by omega))⟩
  obtain ⟨M2, e2, hV2, hF2⟩ := cCc_goes_s (n := 0) (T := T) hN hA.1 (by decide) hV1 (fun _ i hi => absurd hi (by omega)) (qI_up29 hI (by decide) (by decide) (by decide)) (by omega) (by omega)
  have fr : ∀ c, c < 1100 ∨ 1143 < c → c ≠ 8011 → c ≠ 9001 → c ≠ 9002 → M2 c = M c := fun c a b1 b2 b3 => by rw [hF2.1 c (by omega) b1 b2 b3, f1 c (by omega)]
  refine ⟨M2, v2, ?_, h'.to hA hV2 fr (by rw [hF2.2, z45]), hV2, fr 1000 (by omega) (by omega) (by omega) (by omega), fun c hc => fr c (by omega) (by omega) (by omega) (by omega)⟩
  unfold cCc_tries cCc_tries_0
  rw [px_cal e1, px_cal (show cCc_goes N 1100 M1 0 = some (M2, 0, 0) from e2)]
theorem qc_C.set {N : cx_N} {E : ps_E} {M : cx_M} {A : qA} {G : ps_S → Prop} {s : ps_T} (hA : qAI E A) (h : qc_C N E M A G) (hV : pc_V N E M 1100 s G) (k : Nat) {j : Nat} (v : Int32) (hk : k < 34) (hj : pc_F k = j) (h31 : j ≠ 31) (h35 : j ≠ 35) (h632 : j ≠ 6 ∧ j ≠ 32 := by decide) :
    qc_C N E (cx_up M 1100 k v) A G ∧ pc_V N E (cx_up M 1100 k v) 1100 (cx_up s.1 0 j v, s.2) G := by
  have n (i : Nat) (hi : i ≠ k) : cx_up M 1100 k v 1100 i = M 1100 i := by rw [px_up, if_neg (fun z => hi z.2)]
  have hV' : pc_V N E (cx_up M 1100 k v) 1100 (cx_up s.1 0 j v, s.2) G := ⟨pc_up hV.1 k v (Or.inl hk) hj h31 (fun z => absurd z h35) h632, hV.2.1.fr (px_upc (by decide)), hV.2.2.1.fr (n 43 (by omega)) (n 44 (by omega)), hV.2.2.2.fr (n 45 (by omega)) (px_upc (by decide)) (px_upc (by decide)) (px_upc (by decide))⟩
  exact ⟨h.to hA hV' (fun c a _ _ _ => px_upc (by omega)) (n 45 (by omega)), hV'⟩
theorem qc_C.goes {N : cx_N} {E : ps_E} {M : cx_M} {A : qA} {G : ps_S → Prop} {s : ps_T} {n T : Nat} (hN : 700 ≤ N.1) (hA : qAI E A) (h : qc_C N E M A G) (hV : pc_V N E M 1100 s G) (hG : ∀ i, i < n → ∀ X, ps_ev E (ps_steps E i s) X → G X) (hI : ps_I E s.1 T) (hT : T + n ≤ 22000) (hn : n ≤ 640) :
    ∃ M', cCc_goes N 1100 M (nI n) = some (M', 0, 0) ∧ qc_C N E M' A G ∧ pc_V N E M' 1100 (ps_steps E n s) G ∧ M' 1000 = M 1000 ∧ qc_F M M' := by
  obtain ⟨M2, e2, hV2, hF2⟩ := cCc_goes_s (T := T) hN hA.1 (by decide) hV (fun _ => hG) hI hT hn
  exact ⟨M2, e2, h.to hA hV2 (fun c a b1 b2 b3 => hF2.1 c (by omega) b1 b2 b3) hF2.2, hV2, hF2.1 1000 (by omega) (by omega) (by omega) (by omega), fun c hc => hF2.1 c (by omega) (by omega) (by omega) (by omega)⟩
theorem qc_C.end {N : cx_N} {E : ps_E} {M : cx_M} {A : qA} {G : ps_S → Prop} (h : qc_C N E M A G) : qc_A N E (cx_up M 1100 45 0) A := h.1
theorem qc_C.n7 {N : cx_N} {E : ps_E} {M : cx_M} {A : qA} {G : ps_S → Prop} (h : qc_C N E M A G) (k : Nat) {j : Nat} (hk : pc_d k) (hj : pc_F k = j) (h35 : j ≠ 35) : M 1000 k = A.1.1 0 j := by
  have := h.1.n k hk hj h35
  rw [px_upc (by decide)] at this
  exact this
theorem cCo_begins_loop {N : cx_N} : ∀ (m k n : Nat) (M : cx_M), k + m = 512 → m < n → (∀ j, j < k → M 9001 j = -1 ∧ M 9002 j = -1) → ∃ M', cCo_begins_7 N n M (nI k) = some (M', 0, 0) ∧ (∀ j, j < 512 → M' 9001 j = -1 ∧ M' 9002 j = -1) ∧ ∀ c, c ≠ 9001 → c ≠ 9002 → M' c = M c := by
  intro m
  induction m with
  | zero =>
    intro k n M hk hn h
    obtain ⟨n, rfl⟩ : ∃ j, n = j + 1 := ⟨n - 1, by omega⟩
    refine ⟨M, ?_, fun j hj => h j (by omega), fun _ _ _ => rfl⟩
    show cCo_begins_7b N (cCo_begins_7 N n) M (nI k) = _
    unfold cCo_begins_7b
    rw [if_pos (show (512 : Int32) ≤ nI k by rw [i32_le, pi_nI (by omega), show (512 : Int32).toInt = 512 from rfl]; omega)]
  | succ m ih =>
    intro k n M hk hn h
    obtain ⟨n, rfl⟩ : ∃ j, n = j + 1 := ⟨n - 1, by omega⟩
    have t := pi_nI (n := k) (by omega)
    have pk : pn (nI k) = k := by rw [pn_def, t]; omega
    have h2 : ∀ j, j < k + 1 → cx_up (cx_up M 9001 k (-1)) 9002 k (-1) 9001 j = -1 ∧ cx_up (cx_up M 9001 k (-1)) 9002 k (-1) 9002 j = -1 := by
      intro j hj
      rw [px_up, px_up, px_up, px_up, if_neg (show ¬ (9001 = 9002 ∧ j = k) from fun z => absurd z.1 (by decide))]
      by_cases e : j = k
      · rw [if_pos ⟨rfl, e⟩, if_pos ⟨rfl, e⟩]
        exact ⟨rfl, rfl⟩
      · rw [if_neg (fun z => e z.2), if_neg (fun z => e z.2), if_neg (show ¬ (9002 = 9001 ∧ j = k) from fun z => absurd z.1 (by decide))]
        exact h j (by omega)
    obtain ⟨M2, e2, a2, b2⟩ := ih (k + 1) n _ (by omega) (by omega) h2
    refine ⟨M2, ?_, a2, fun c h1 h2 => by rw [b2 c h1 h2, px_upc h2, px_upc h1]⟩
    show cCo_begins_7b N (cCo_begins_7 N n) M (nI k) = _
    unfold cCo_begins_7b
    rw [if_neg (show ¬ (512 : Int32) ≤ nI k by rw [i32_le, t, show (512 : Int32).toInt = 512 from rfl]; omega), px_st (by omega) (by omega), px_st (by omega) (by omega), pk]
    simp only [px_let]
    rw [← nI_succ]
    exact e2
/-- the course begins -/
theorem qc_C.begins {N : cx_N} {E : ps_E} {M : cx_M} {A : qA} {n T : Nat} (hN : 700 ≤ N.1) (hA : qAI E A) (h : qc_A N E M A) (hI : ps_I E A.1.1 T) (hT : T + n ≤ 22000) :
    ∃ M', cCo_begins N M (M 1000 2) = some (M', 0, 0) ∧ qc_C N E (cx_up M' 1100 45 1) A (pf_G E A.1.1 n) ∧ qc_F M M' := by
  obtain ⟨M1, e1, a1, b1⟩ := cCo_begins_loop (N := N) 512 0 N.1 (cx_up M 9000 2 (M 1000 2)) rfl (by omega) (fun j hj => absurd hj (by omega))
  have fr : ∀ c, c < 9000 ∨ 9003 ≤ c → M1 c = M c := fun c hc => by rw [b1 c (by omega) (by omega), px_upc (by omega)]
  have e9 : M1 9000 2 = A.1.1 0 2 := by
    rw [b1 9000 (by decide) (by decide), px_up, if_pos ⟨rfl, rfl⟩]
    exact h.n 2 (Or.inl (by decide)) rfl (by decide)
  have hU : pc_U M1 1100 := h.2.2.2.2.2.1.fr (fun c a b => fr c (by omega))
  refine ⟨M1, ?_, ⟨?_, by rw [px_up, if_pos ⟨rfl, rfl⟩], Or.inr ⟨by rw [px_up, if_pos ⟨rfl, rfl⟩]; decide, ?_, ?_, ?_⟩⟩, fun c hc => fr c (by omega)⟩
  · show cx_put M 9000 2 (M 1000 2) (fun M1 => cCo_begins_7 N N.1 M1 0) = _
    rw [px_put]
    exact e1
  · rw [px_upup]
    exact qc_A.tri hA h ((pc_U.up45 (by decide)).mpr hU) (by rw [px_up, if_pos ⟨rfl, rfl⟩]) (fun c hc => by rw [px_upc (by omega)]; exact fr c (by omega))
  · rw [px_upc (by decide), e9]
    exact ps_J2 hI.1
  · intro X Y hX hY e
    have v := pf_G_view hA.1 hI hT hX hY e
    unfold ps_delay
    rw [v]
    exact ⟨rfl, Iff.rfl⟩
  · intro X _ j hj _
    rw [px_upc (by decide), px_upc (by decide)]
    exact ⟨Or.inl (a1 j hj).1, Or.inl (a1 j hj).2⟩
theorem pa_aim_35 {E : ps_E} {S : ps_S} {v a : Int32} {n : Nat} : (ps_steps E n (cx_up (cx_up S 0 35 v) 0 29 a, [])).1 0 7 = (ps_steps E n (cx_up S 0 29 a, [])).1 0 7 := by
  rw [px_comm (Or.inr (by decide)), ps_run_n (by decide)]
theorem dCc_toAimD_loop {N : dNx} {E : ps_E} {P : dP} {L : dL} {A : qA} {w : Int32} {bc bs T i : Nat} {Q : cd_Qt} (hN : 700 ≤ N.1.1) (hA : qAI E A) (hI : ps_I E A.1.1 T) (hT : T ≤ 20000) (hi : i ≤ 400) (M0 : cx_M)
    (hy : ∀ (r : Int32 × Int32) M', qc_A N.1 E M' A → qc_F M0 M' → Q M' P L (if w = 0 then (pa_aims E A.1.1 i 64 1 (-1, 999999)).1 else (pa_aims E A.1.1 i 64 1 (-1, 999999)).2) none 0 0 0) :
    ∀ (m k f : Nat) (M : cx_M) (x : Int32 × Int32), k + m = 65 → m < f → qc_C N.1 E M A (pf_G E A.1.1 i) → qc_F M0 M → pa_aims E A.1.1 i m k x = pa_aims E A.1.1 i 64 1 (-1, 999999) → dCc_toAimD_45 N bc bs Q f M P L 0 0 (nI i) w x.1 x.2 (nI k) := by
  intro m
  induction m with
  | zero =>
    intro k f M x hk hf h F hx
    obtain ⟨f, rfl⟩ : ∃ j, f = j + 1 := ⟨f - 1, by omega⟩
    show dCc_toAimD_45b N bc bs Q (dCc_toAimD_45 N bc bs Q f) M P L 0 0 (nI i) w x.1 x.2 (nI k)
    unfold dCc_toAimD_45b
    rw [if_pos (show (64 : Int32) < nI k from nI_lt (a := 64) (by omega) (by omega))]
    have q := hy x (cx_up M 1100 45 0) h.end (F.tr (qc_F.up (by decide)))
    rw [← hx] at q
    show if w = 0 then Q (cx_up M 1100 45 0) P L x.1 none 0 0 0 else Q (cx_up M 1100 45 0) P L x.2 none 0 0 0
    by_cases c : w = 0
    · rw [if_pos c] at q ⊢
      exact q
    · rw [if_neg c] at q ⊢
      exact q
  | succ m ih =>
    intro k f M x hk hf h F hx
    obtain ⟨f, rfl⟩ : ∃ j, f = j + 1 := ⟨f - 1, by omega⟩
    obtain ⟨M1, v, e1, h1, V1, -, F1⟩ := h.tries hN hA
    obtain ⟨h2, V2⟩ := h1.set hA V1 30 (nI k) (by decide) (show pc_F 30 = 29 from rfl) (by decide) (by decide)
    have hpf : pf_e A.1.1 (cx_up (cx_up A.1.1 0 35 v) 0 29 (nI k)) := (pf_e.rf.up2 v (by decide)).up2 _ (by decide)
    have hI2 : ps_I E (cx_up (cx_up A.1.1 0 35 v) 0 29 (nI k)) T := qI_up29 (qI_up29 hI (by decide) (by decide) (by decide)) (by decide) (by decide) (by decide)
    obtain ⟨M3, e3, h3, V3, -, F3⟩ := h2.goes (n := i) (T := T) hN hA V2 (fun i' hi' X hX => pf_G_run hA.1 hI (by omega) hpf i' hi' X hX) hI2 (by omega) (by omega)
    have g1 : M3 1100 7 = (ps_steps E i (cx_up A.1.1 0 29 (nI k), [])).1 0 7 := (pc_n V3.1 7 (Or.inl (by decide)) (show pc_F 7 = 7 from rfl)).trans pa_aim_35
    have g2 : M3 1000 7 = A.1.1 0 7 := h3.n7 7 (Or.inl (by decide)) rfl (by decide)
    have Fm : qc_F M0 M3 := ((F.tr F1).tr (qc_F.up (by decide))).tr F3
    show dCc_toAimD_45b N bc bs Q (dCc_toAimD_45 N bc bs Q f) M P L 0 0 (nI i) w x.1 x.2 (nI k)
    unfold dCc_toAimD_45b
    rw [if_neg (show ¬ (64 : Int32) < nI k from nI_nlt (b := k) (a := 64) (by omega) (by omega)), pq_cal e1]
    refine pq_put ?_
    rw [pq_cal e3]
    show if M3 1100 7 - M3 1000 7 < x.2 then dCc_toAimD_45 N bc bs Q f M3 P L 0 0 (nI i) w (nI k) (M3 1100 7 - M3 1000 7) (nI k + 1) else dCc_toAimD_45 N bc bs Q f M3 P L 0 0 (nI i) w x.1 x.2 (nI k + 1)
    rw [g1, g2, ← nI_succ]
    have hx' : pa_aims E A.1.1 i m (k + 1) (pa_sb (nI k) (pa_aim E A.1.1 i (nI k)) x) = pa_aims E A.1.1 i 64 1 (-1, 999999) := hx
    unfold pa_sb at hx'
    by_cases c : pa_aim E A.1.1 i (nI k) < x.2
    · rw [if_pos c] at hx'
      rw [if_pos (show (ps_steps E i (cx_up A.1.1 0 29 (nI k), [])).1 0 7 - A.1.1 0 7 < x.2 from c)]
      exact ih (k + 1) f M3 (nI k, pa_aim E A.1.1 i (nI k)) (by omega) (by omega) h3 Fm hx'
    · rw [if_neg c] at hx'
      rw [if_neg (show ¬ (ps_steps E i (cx_up A.1.1 0 29 (nI k), [])).1 0 7 - A.1.1 0 7 < x.2 from c)]
      exact ih (k + 1) f M3 x (by omega) (by omega) h3 Fm hx'
theorem pa_aims_first {E : ps_E} {S : ps_S} {T i : Nat} (hE : ps_EO E) (hI : ps_I E S T) (hT : T + i ≤ 22000) : pa_aims E S i 64 1 (-1, 999999) = pa_aims E S i 63 2 (1, pa_aim E S i 1) := by
  show pa_aims E S i 63 2 (pa_sb (nI 1) (pa_aim E S i (nI 1)) (-1, 999999)) = _
  have hI2 : ps_I E (cx_up S 0 29 (nI 1)) T := qI_up29 hI (by decide) (by decide) (by decide)
  have h1 := (ps_steps_I (s := (cx_up S 0 29 (nI 1), [])) hE hI2 i hT).1.1
  have h0 := hI.1.1
  unfold ps_Jn at h1 h0
  unfold pa_sb
  rw [if_pos]
  · rfl
  · show pa_aim E S i (nI 1) < 999999
    unfold pa_aim
    rw [i32_lt, i32_sub (by omega) (by omega), show (999999 : Int32).toInt = 999999 from rfl]
    omega
theorem dCc_toAimD_s {N : dNx} {E : ps_E} {M : cx_M} {P : dP} {L : dL} {A : qA} {m w : Int32} {bc bs : Nat} {Q : cd_Qt} (hN : 700 ≤ N.1.1) (hA : qAI E A) (h : qc_A N.1 E M A) (hb : 1 ≤ bc) (hs : 6 ≤ bs)
    (hy : 0 ≤ w.toInt ∧ w.toInt ≤ 1 → 1 ≤ m.toInt ∧ m.toInt ≤ 400 → ∀ M', qc_A N.1 E M' A → qc_F M M' → Q M' P L (pa_toAim E A.1.1 (pn m) w) none 0 0 0)
    (h2 : 0 ≤ w.toInt ∧ w.toInt ≤ 1 → ¬ (1 ≤ m.toInt ∧ m.toInt ≤ 400) → Q M P L 0 none 2 1 6) (h1 : ¬ (0 ≤ w.toInt ∧ w.toInt ≤ 1) → Q M P L 0 none 1 1 6) : dCc_toAimD N bc bs M P L m w Q := by
  obtain ⟨T, hT, hI, -⟩ := hA.2.1.1
  unfold dCc_toAimD dCc_toAimD_0
  rw [pq_cal cCc_within_s]
  by_cases c : 0 ≤ w.toInt ∧ w.toInt ≤ 1
  · rw [if_pos (show (0 : Int32).toInt ≤ w.toInt ∧ w.toInt ≤ (1 : Int32).toInt from c)]
    refine cd_thr_s hb hs (fun z => absurd z (by decide)) (fun _ => ⟨fun z => absurd rfl z, fun _ => ?_⟩)
    show dCc_soonD N (bc - 0) (bs - 0) M P L m 1 _
    unfold dCc_soonD dCc_soonD_0
    rw [pq_cal cCc_within_s]
    by_cases c2 : 1 ≤ m.toInt ∧ m.toInt ≤ 400
    · rw [if_pos (show (1 : Int32).toInt ≤ m.toInt ∧ m.toInt ≤ (400 : Int32).toInt from c2)]
      refine cd_thr_s hb hs (fun z => absurd z (by decide)) (fun _ => ⟨fun z => absurd rfl z, fun _ => ⟨fun z => absurd rfl z, fun _ => ?_⟩⟩)
      have hi : pn m ≤ 400 := by rw [pn_def]; omega
      obtain ⟨M1, e1, h1, F1⟩ := qc_C.begins (n := pn m) hN hA h hI (by omega)
      show cq_cal (cCo_begins N.1 M (M 1000 2)) (fun M22 v23 => dCc_toAimD_45 N bc bs Q N.1.1 (cx_up M22 1100 45 1) P L 0 0 m w (-1) 999999 1)
      rw [pq_cal e1]
      have hy' := hy c c2
      unfold pa_toAim at hy'
      dsimp only at hy'
      rw [← pa_aims_first hA.1 hI (by omega)] at hy'
      rw [pn_nI (x := m) (by omega)]
      exact dCc_toAimD_loop hN hA hI hT hi M (fun _ => hy') 64 1 N.1.1 _ (-1, 999999) rfl (by omega) h1 (F1.tr (qc_F.up (by decide))) rfl
    · rw [if_neg (show ¬ ((1 : Int32).toInt ≤ m.toInt ∧ m.toInt ≤ (400 : Int32).toInt) from c2)]
      exact cd_thr_s hb hs (fun _ => ⟨fun _ => ⟨fun _ => h2 c c2, fun z => absurd z (by decide)⟩, fun z => absurd z (by decide)⟩) (fun z => absurd rfl z)
  · rw [if_neg (show ¬ ((0 : Int32).toInt ≤ w.toInt ∧ w.toInt ≤ (1 : Int32).toInt) from c)]
    exact cd_thr_s hb hs (fun _ => ⟨fun _ => h1 c, fun z => absurd z (by decide)⟩) (fun z => absurd rfl z)
