/-! THE CLASS: wander -/
theorem qd_D.fr {ic : Nat → Nat} {M M' : cx_M} {P P' : dP} {L L' : dL} {a b z h : Nat} {vs : List Nat} (hD : qd_D ic M P L a b z h vs) (hL : ∀ x ∈ L, x ∈ L') (hM : M' (dc a) = M (dc a)) (ha : P' a = P a) (hb : P' b = P b) : qd_D ic M' P' L' a b z h vs := by
  obtain ⟨h1, h2, h3, h4, h5, h6, h7, h8, h9⟩ := hD
  exact ⟨hL _ h1, hL _ h2, by rw [ha]; exact h3, h4, h5, h6, by rw [hM]; exact h7, by rw [hM]; exact h8, fun i v hv => by rw [hb]; exact h9 i v hv⟩
/-- while something is asked of two queues: what they hold, what was made -/
def qw_S (ic : Nat → Nat) (a1 a2 : Nat) (M0 : cx_M) (P0 : dP) (L0 : dL) (b10 z10 b20 z20 : Nat) (M : cx_M) (P : dP) (L : dL) (k n : Nat) (hs ls : List Nat) : Prop :=
  ∃ b1 z1 h1 b2 z2 h2, qd_D ic M P L a1 b1 z1 h1 hs.reverse ∧ qd_D ic M P L a2 b2 z2 h2 ls.reverse ∧ (a1 ≠ a2 ∧ a1 ≠ b1 ∧ a1 ≠ b2 ∧ a2 ≠ b1 ∧ a2 ≠ b2 ∧ b1 ≠ b2) ∧
    (z10 ≤ z1 ∧ z20 ≤ z2 ∧ k ≤ (z1 - z10) + (z2 - z20) ∧ n ≤ 4 * ((z1 - z10) + (z2 - z20))) ∧ (∀ c, c < 10000000 → M c = M0 c) ∧ (∃ L2, L = L0 ++ L2 ∧ ∀ y ∈ L2, ∀ x ∈ L0, x.1 ≠ y.1) ∧
    (∀ x ∈ L0, x.1 ≠ a1 → x.1 ≠ a2 → x.1 ≠ b10 → x.1 ≠ b20 → M (dc x.1) = M0 (dc x.1) ∧ P x.1 = P0 x.1) ∧ (b1 = b10 ∨ ∀ x ∈ L0, x.1 ≠ b1) ∧ (b2 = b20 ∨ ∀ x ∈ L0, x.1 ≠ b2) ∧ qd_u L
theorem qw_S.swap {ic : Nat → Nat} {a1 a2 b10 z10 b20 z20 k n : Nat} {M0 M : cx_M} {P0 P : dP} {L0 L : dL} {hs ls : List Nat} (h : qw_S ic a1 a2 M0 P0 L0 b10 z10 b20 z20 M P L k n hs ls) : qw_S ic a2 a1 M0 P0 L0 b20 z20 b10 z10 M P L k n ls hs := by
  obtain ⟨b1, z1, h1, b2, z2, h2, d1, d2, ⟨n1, n2, n3, n4, n5, n6⟩, ⟨q1, q2, q3, q4⟩, f1, f2, f3, g1, g2, hu⟩ := h
  exact ⟨b2, z2, h2, b1, z1, h1, d2, d1, ⟨n1.symm, n5, n4, n3, n2, n6.symm⟩, ⟨q2, q1, by omega, by omega⟩, f1, f2, fun x hx y1 y2 y3 y4 => f3 x hx y2 y1 y4 y3, g2, g1, hu⟩
theorem qw_S.kn {ic : Nat → Nat} {a1 a2 b10 z10 b20 z20 k n : Nat} {M0 M : cx_M} {P0 P : dP} {L0 L : dL} {hs ls : List Nat} (h : qw_S ic a1 a2 M0 P0 L0 b10 z10 b20 z20 M P L k n hs ls) : k ≤ 2000 ∧ n ≤ 8000 := by
  obtain ⟨b1, z1, h1, b2, z2, h2, d1, d2, -, ⟨q1, q2, q3, q4⟩, -⟩ := h
  have e1 := d1.2.2.2.1
  have e2 := d2.2.2.2.1
  omega
/-- only the first queue was changed -/
theorem qw_S.one {ic : Nat → Nat} {a1 a2 b10 z10 b20 z20 k n k' n' : Nat} {M0 M M' : cx_M} {P0 P P' : dP} {L0 L L' : dL} {hs hs' ls : List Nat} {b1 z1 h1 b2 z2 h2 b' z' h' : Nat}
    (d1 : qd_D ic M P L a1 b1 z1 h1 hs.reverse) (d2 : qd_D ic M P L a2 b2 z2 h2 ls.reverse) (hne : a1 ≠ a2 ∧ a1 ≠ b1 ∧ a1 ≠ b2 ∧ a2 ≠ b1 ∧ a2 ≠ b2 ∧ b1 ≠ b2) (hq : z10 ≤ z1 ∧ z20 ≤ z2 ∧ k ≤ (z1 - z10) + (z2 - z20) ∧ n ≤ 4 * ((z1 - z10) + (z2 - z20))) (f1 : ∀ c, c < 10000000 → M c = M0 c) (f2 : ∃ L2, L = L0 ++ L2 ∧ ∀ y ∈ L2, ∀ x ∈ L0, x.1 ≠ y.1)
    (f3 : ∀ x ∈ L0, x.1 ≠ a1 → x.1 ≠ a2 → x.1 ≠ b10 → x.1 ≠ b20 → M (dc x.1) = M0 (dc x.1) ∧ P x.1 = P0 x.1) (g1 : b1 = b10 ∨ ∀ x ∈ L0, x.1 ≠ b1) (g2 : b2 = b20 ∨ ∀ x ∈ L0, x.1 ≠ b2) (hu : qd_u L)
    (d1' : qd_D ic M' P' L' a1 b' z' h' hs'.reverse) (hz : z1 ≤ z') (hk : k' ≤ z' - z1) (hn : n' ≤ 4 * (z' - z1)) (hL : b' = b1 ∧ L' = L ∨ (∀ x ∈ L, x.1 ≠ b') ∧ L' = L ++ [(b', (3, 4, z'))]) (hM : ∀ c, c ≠ dc a1 → c ≠ dc b' → M' c = M c) (hP : ∀ y, y ≠ a1 → y ≠ b1 → y ≠ b' → P' y = P y) :
    qw_S ic a1 a2 M0 P0 L0 b10 z10 b20 z20 M' P' L' (k + k') (n + n') hs' ls := by
  obtain ⟨n1, n2, n3, n4, n5, n6⟩ := hne
  obtain ⟨L2, eL, hL2⟩ := f2
  have mem0 : ∀ x ∈ L0, x ∈ L := fun x hx => by rw [eL]; exact List.mem_append_left _ hx
  have hb' : a1 ≠ b' ∧ a2 ≠ b' ∧ b2 ≠ b' := by
    rcases hL with ⟨e, -⟩ | ⟨e, -⟩
    · rw [e]; exact ⟨n2, n4, n6.symm⟩
    · exact ⟨e _ d1.1, e _ d2.1, e _ d2.2.1⟩
  have sub : ∀ x ∈ L, x ∈ L' := by
    rcases hL with ⟨-, e⟩ | ⟨-, e⟩
    · rw [e]; exact fun x hx => hx
    · rw [e]; exact fun x hx => List.mem_append_left _ hx
  refine ⟨b', z', h', b2, z2, h2, d1', d2.fr sub (hM _ (dc_ne n1.symm) (dc_ne hb'.2.1)) (hP _ n1.symm n4 hb'.2.1) (hP _ n3.symm n6.symm hb'.2.2), ⟨n1, hb'.1, n3, hb'.2.1, n5, hb'.2.2.symm⟩, ⟨by omega, hq.2.1, by omega, by omega⟩, fun c hc => by rw [hM c (dc_lo hc) (dc_lo hc)]; exact f1 c hc, ?_, ?_, ?_, g2, ?_⟩
  · rcases hL with ⟨-, e⟩ | ⟨e1, e⟩
    · exact ⟨L2, e.trans eL, hL2⟩
    · refine ⟨L2 ++ [(b', (3, 4, z'))], by rw [e, eL, List.append_assoc], fun y hy x hx => ?_⟩
      rcases List.mem_append.mp hy with z | z
      · exact hL2 y z x hx
      · rw [List.mem_singleton.mp z]
        exact e1 x (mem0 x hx)
  · intro x hx x1 x2 x3 x4
    have xb1 : x.1 ≠ b1 := by
      rcases g1 with e | e
      · rw [e]; exact x3
      · exact e x hx
    have xb' : x.1 ≠ b' := by
      rcases hL with ⟨e, -⟩ | ⟨e, -⟩
      · rw [e]; exact xb1
      · exact e x (mem0 x hx)
    rw [hM _ (dc_ne x1) (dc_ne xb'), hP _ x1 xb1 xb']
    exact f3 x hx x1 x2 x3 x4
  · rcases hL with ⟨e, -⟩ | ⟨e, -⟩
    · rw [e]; exact g1
    · exact Or.inr (fun x hx => e x (mem0 x hx))
  · rcases hL with ⟨-, e⟩ | ⟨e1, e⟩
    · rw [e]; exact hu
    · rw [e]; exact hu.snoc e1
theorem qw_empty {N : dNt} {bc bs a1 a2 b10 z10 b20 z20 k n : Nat} {M0 M : cx_M} {P0 P : dP} {L0 L : dL} {hs ls : List Nat} {Q : cd_Qt} (h : qw_S (dia N.2) a1 a2 M0 P0 L0 b10 z10 b20 z20 M P L k n hs ls) (hy : (a1, (0, 19, 0)) ∈ L → Q M P L (if hs.length = 0 then 1 else 0) none 0 0 0) : (a1, (0, 19, 0)) ∈ L ∧ jAd_isEmpty N bc bs M P L a1 Q := by
  obtain ⟨b1, z1, h1, b2, z2, h2, d1, -⟩ := h
  refine ⟨d1.1, qd_empty d1 ?_⟩
  rw [List.length_reverse]
  exact hy d1.1
theorem qw_peekLast {N : dNt} {bc bs a1 a2 b10 z10 b20 z20 k n v : Nat} {M0 M : cx_M} {P0 P : dP} {L0 L : dL} {hs ls : List Nat} {Q : cd_Qt} (h : qw_S (dia N.2) a1 a2 M0 P0 L0 b10 z10 b20 z20 M P L k n (v :: hs) ls) (hy : v < 128 → Q M P L 0 (some (dia N.2 (v + 128))) 0 0 0) : (a1, (0, 19, 0)) ∈ L ∧ jAd_peekLast N bc bs M P L a1 Q := by
  obtain ⟨b1, z1, h1, b2, z2, h2, d1, -⟩ := h
  rw [List.reverse_cons] at d1
  refine ⟨d1.1, qd_peekLast d1 (hy ?_)⟩
  exact (d1.2.2.2.2.2.2.2.2 hs.reverse.length v (by rw [List.getElem?_append_right (Nat.le_refl _), Nat.sub_self]; rfl)).1
theorem qw_pollLast {N : dNt} {bc bs a1 a2 b10 z10 b20 z20 k n v : Nat} {M0 M : cx_M} {P0 P : dP} {L0 L : dL} {hs ls : List Nat} {Q : cd_Qt} (h : qw_S (dia N.2) a1 a2 M0 P0 L0 b10 z10 b20 z20 M P L k n (v :: hs) ls) (hy : ∀ M' P' r, qw_S (dia N.2) a1 a2 M0 P0 L0 b10 z10 b20 z20 M' P' L k n hs ls → Q M' P' L 0 r 0 0 0) : (a1, (0, 19, 0)) ∈ L ∧ jAd_pollLast N bc bs M P L a1 Q := by
  obtain ⟨b1, z1, h1, b2, z2, h2, d1, d2, hne, hq, f1, f2, f3, g1, g2, hu⟩ := h
  have d1' := d1
  rw [List.reverse_cons] at d1
  refine ⟨d1.1, qd_pollLast d1 hne.2.1 (fun M' P' r dd fr => hy M' P' r ?_)⟩
  exact qw_S.one (k' := 0) (n' := 0) d1' d2 hne hq f1 f2 f3 g1 g2 hu dd (Nat.le_refl _) (by omega) (by omega) (Or.inl ⟨rfl, rfl⟩) (fun c c1 _ => fr.1 c c1) (fun y y1 y2 _ => fr.2 y y1 y2)
theorem qw_peekFirst {N : dNt} {bc bs a1 a2 b10 z10 b20 z20 k n v : Nat} {M0 M : cx_M} {P0 P : dP} {L0 L : dL} {hs ls : List Nat} {Q : cd_Qt} (h : qw_S (dia N.2) a1 a2 M0 P0 L0 b10 z10 b20 z20 M P L k n (hs ++ [v]) ls) (hy : v < 128 → Q M P L 0 (some (dia N.2 (v + 128))) 0 0 0) : (a1, (0, 19, 0)) ∈ L ∧ jAd_peekFirst N bc bs M P L a1 Q := by
  obtain ⟨b1, z1, h1, b2, z2, h2, d1, -⟩ := h
  have e : (hs ++ [v]).reverse = v :: hs.reverse := by rw [List.reverse_append]; rfl
  rw [e] at d1
  exact ⟨d1.1, qd_peekFirst d1 (hy (d1.2.2.2.2.2.2.2.2 0 v rfl).1)⟩
theorem qw_pollFirst {N : dNt} {bc bs a1 a2 b10 z10 b20 z20 k n v : Nat} {M0 M : cx_M} {P0 P : dP} {L0 L : dL} {hs ls : List Nat} {Q : cd_Qt} (h : qw_S (dia N.2) a1 a2 M0 P0 L0 b10 z10 b20 z20 M P L k n (hs ++ [v]) ls) (hy : ∀ M' P' r, qw_S (dia N.2) a1 a2 M0 P0 L0 b10 z10 b20 z20 M' P' L k n hs ls → Q M' P' L 0 r 0 0 0) : (a1, (0, 19, 0)) ∈ L ∧ jAd_pollFirst N bc bs M P L a1 Q := by
  obtain ⟨b1, z1, h1, b2, z2, h2, d1, d2, hne, hq, f1, f2, f3, g1, g2, hu⟩ := h
  have d1' := d1
  have e : (hs ++ [v]).reverse = v :: hs.reverse := by rw [List.reverse_append]; rfl
  rw [e] at d1
  refine ⟨d1.1, qd_pollFirst d1 hne.2.1 (fun M' P' r dd fr => hy M' P' r ?_)⟩
  exact qw_S.one (k' := 0) (n' := 0) d1' d2 hne hq f1 f2 f3 g1 g2 hu dd (Nat.le_refl _) (by omega) (by omega) (Or.inl ⟨rfl, rfl⟩) (fun c c1 _ => fr.1 c c1) (fun y y1 y2 _ => fr.2 y y1 y2)
theorem qw_push {N : dNt} {bc bs a1 a2 b10 z10 b20 z20 k n v : Nat} {M0 M : cx_M} {P0 P : dP} {L0 L : dL} {hs ls : List Nat} {Q : cd_Qt} (h : qw_S (dia N.2) a1 a2 M0 P0 L0 b10 z10 b20 z20 M P L k n hs ls) (hv : v < 128) (hl : hs.length ≤ 130) (hN : 2100 ≤ N.1) (hb : 1 ≤ bc) (hs2 : 400 ≤ bs)
    (hy : ∀ M' P' L' k' n', qw_S (dia N.2) a1 a2 M0 P0 L0 b10 z10 b20 z20 M' P' L' (k + k') (n + n') (v :: hs) ls → Q M' P' L' 0 none 0 k' n') : (a1, (0, 19, 0)) ∈ L ∧ jAd_addLast N bc bs M P L a1 (some (dia N.2 (v + 128))) Q := by
  obtain ⟨b1, z1, h1, b2, z2, h2, d1, d2, hne, hq, f1, f2, f3, g1, g2, hu⟩ := h
  refine ⟨d1.1, qd_push d1 hv (by rw [List.length_reverse]; exact hl) hne.2.1 hN hb hs2 (fun M' P' L' b' z' h' k' n' dd e1 e2 e3 e4 e5 e6 => hy M' P' L' k' n' ?_)⟩
  refine qw_S.one (h' := h') d1 d2 hne hq f1 f2 f3 g1 g2 hu ?_ e1 e2 e3 e4 e5 e6
  rw [List.reverse_cons]
  exact dd
theorem qw_clear {N : dNt} {bc bs a1 a2 b10 z10 b20 z20 k n : Nat} {M0 M : cx_M} {P0 P : dP} {L0 L : dL} {hs ls : List Nat} {Q : cd_Qt} (h : qw_S (dia N.2) a1 a2 M0 P0 L0 b10 z10 b20 z20 M P L k n hs ls) (hN : 2100 ≤ N.1) (hy : ∀ M' P', qw_S (dia N.2) a1 a2 M0 P0 L0 b10 z10 b20 z20 M' P' L k n [] ls → Q M' P' L 0 none 0 0 0) : (a1, (0, 19, 0)) ∈ L ∧ jAd_clear N bc bs M P L a1 Q := by
  obtain ⟨b1, z1, h1, b2, z2, h2, d1, d2, hne, hq, f1, f2, f3, g1, g2, hu⟩ := h
  refine ⟨d1.1, qd_clear d1 hne.2.1 hN (fun M' P' dd fr => hy M' P' ?_)⟩
  exact qw_S.one (hs' := []) (k' := 0) (n' := 0) d1 d2 hne hq f1 f2 f3 g1 g2 hu dd (Nat.le_refl _) (by omega) (by omega) (Or.inl ⟨rfl, rfl⟩) (fun c c1 _ => fr.1 c c1) (fun y y1 y2 _ => fr.2 y y1 y2)
theorem qw_S.A {N : cx_N} {ic : Nat → Nat} {a1 a2 b10 z10 b20 z20 k n : Nat} {M0 M : cx_M} {P0 P : dP} {L0 L : dL} {hs ls : List Nat} {E : ps_E} {A : qA} (h : qw_S ic a1 a2 M0 P0 L0 b10 z10 b20 z20 M P L k n hs ls) (hA : qAI E A) (hq : qc_A N E M0 A) : qc_A N E M A := by
  obtain ⟨b1, z1, h1, b2, z2, h2, -, -, -, -, f1, -⟩ := h
  exact qc_A.cells hA hq (fun c hc => f1 c (by unfold qc_K at hc; omega))
theorem qd_valueC {N : dNt} {bc bs : Nat} {M : cx_M} {P : dP} {L : dL} {i : Nat} {Q : cd_Qt} (hi : i < 128) (hy : Q M P L 0 (some (dia N.2 (i + 128))) 0 0 0) : jI_valueOf N bc bs M P L (nI i) Q := by
  have ti := pi_nI (n := i) (by omega)
  have t128 : (-128 : Int32).toInt = -128 := rfl
  have t127 : (127 : Int32).toInt = 127 := rfl
  have tt : (128 : Int32).toInt = 128 := rfl
  have e : (nI i + 128).toInt = (i : Int) + 128 := by rw [i32_add (by omega) (by omega), ti, tt]
  unfold jI_valueOf jI_valueOf_0
  rw [if_neg (show ¬ nI i < -128 by rw [i32_lt, t128]; omega), if_neg (show ¬ 127 < nI i by rw [i32_lt, t127]; omega)]
  refine pq_ix (n := 256) (by omega) (by omega) ?_
  rw [show pn (nI i + 128) = i + 128 by rw [pn_def, e]; omega]
  exact hy
section wander
variable {f0 : Nat} {ev : Nat → (Nat → Int32) → Int32} {adr : Nat → Nat} {E : ps_E} {A : qA} {M0 : cx_M} {P0 : dP} {L0 : dL} {b10 z10 b20 z20 bc bs : Nat} {Q : cd_Qt} {r : cx_M → dP → dL → Nat → Nat → Int32 → Int32 → Int32 → Int32 → Prop}
abbrev qw_T (adr : Nat → Nat) (M0 : cx_M) (P0 : dP) (L0 : dL) (b10 z10 b20 z20 : Nat) := qw_S (dia adr) (adr 9300) (adr 9310) M0 P0 L0 b10 z10 b20 z20
theorem cSt_sample_y {M : cx_M} {P : dP} {L : dL} {k n v : Nat} {hs ls : List Nat} (hA : qAI E A) (hq : qc_A (vN f0 ev) E M0 A) (h32 : 0 ≤ (A.1.1 0 32).toInt ∧ (A.1.1 0 32).toInt ≤ 90000) (h : qw_T adr M0 P0 L0 b10 z10 b20 z20 M P L k n hs ls) (hv : (v : Int) < (cx_min 128 (A.1.1 0 32)).toInt) : cSt_sampleAt (f0, ev, vLk f0 ev, vWt f0 ev) 1000 M (nI v) = some (M, pa_sampleAt A.1.1 (nI v), 0) :=
  cSt_sampleAt_s (h.A hA hq) h32 (by have := (pa_kept h32.1).2.1; rw [pi_nI (by omega)]; omega)
theorem dCc_wanderD_115_s (hf : 2100 ≤ f0) (hA : qAI E A) (hq : qc_A (vN f0 ev) E M0 A) (h32 : 0 ≤ (A.1.1 0 32).toInt ∧ (A.1.1 0 32).toInt ≤ 90000) (w K best : Int32) (i : Nat) {hs : List Nat} : ∀ (ls : List Nat) (f : Nat) (M : cx_M) (P : dP) (L : dL) (k n : Nat), (∀ v ∈ ls, (v : Int) < (cx_min 128 (A.1.1 0 32)).toInt) → ls.length < f → qw_T adr M0 P0 L0 b10 z10 b20 z20 M P L k n hs ls →
    (∀ M' P', qw_T adr M0 P0 L0 b10 z10 b20 z20 M' P' L k n hs (mq_pop (fun j => -pl_y A.1.1 j) (-pl_y A.1.1 i) ls) → dCc_wanderD_161 ((f0, ev, vLk f0 ev, vWt f0 ev), adr) bc bs Q r M' P' L k n w K best (nI i)) →
    dCc_wanderD_115 ((f0, ev, vLk f0 ev, vWt f0 ev), adr) bc bs Q r f M P L k n w K best (nI i) (pa_sampleAt A.1.1 (nI i)) := by
  intro ls
  induction ls with
  | nil =>
    intro f M P L k n hK hl h hy
    obtain ⟨f, rfl⟩ : ∃ q, f = q + 1 := ⟨f - 1, by omega⟩
    show dCc_wanderD_115b ((f0, ev, vLk f0 ev, vWt f0 ev), adr) bc bs Q r (dCc_wanderD_115 ((f0, ev, vLk f0 ev, vWt f0 ev), adr) bc bs Q r f) M P L k n w K best (nI i) (pa_sampleAt A.1.1 (nI i))
    unfold dCc_wanderD_115b
    refine qw_empty (N := (f0, adr)) h.swap (fun _ => ?_)
    intro _
    refine pd_add ?_
    rw [if_neg (by decide)]
    exact hy M P h
  | cons v ls ih =>
    intro f M P L k n hK hl h hy
    rw [List.length_cons] at hl
    obtain ⟨f, rfl⟩ : ∃ q, f = q + 1 := ⟨f - 1, by omega⟩
    show dCc_wanderD_115b ((f0, ev, vLk f0 ev, vWt f0 ev), adr) bc bs Q r (dCc_wanderD_115 ((f0, ev, vLk f0 ev, vWt f0 ev), adr) bc bs Q r f) M P L k n w K best (nI i) (pa_sampleAt A.1.1 (nI i))
    unfold dCc_wanderD_115b
    refine qw_empty (N := (f0, adr)) h.swap (fun _ => ?_)
    intro _
    refine pd_add ?_
    rw [if_neg (show ¬ (v :: ls).length = 0 by rw [List.length_cons]; omega), if_pos rfl]
    refine qw_peekLast (N := (f0, adr)) h.swap (fun hv => ?_)
    intro _
    have hx : dBx (dia adr) L P (dia adr (v + 128)) (nI v) := qd_Dx hv
    refine pd_add ⟨fun a e => by rw [← Option.some.inj e]; exact dBx_m hx, pd_nn rfl ⟨dBx_m hx, ?_⟩⟩
    refine qd_intValue (N := (f0, adr)) hx ?_
    intro _
    refine pd_add ?_
    refine pq_calm (cSt_sample_y hA hq h32 h (hK v List.mem_cons_self)) ?_
    by_cases c : pa_sampleAt A.1.1 (nI v) < pa_sampleAt A.1.1 (nI i)
    · rw [if_pos c]
      have e : mq_pop (fun j => -pl_y A.1.1 j) (-pl_y A.1.1 i) (v :: ls) = v :: ls := by
        unfold mq_pop
        rw [List.dropWhile_cons, if_neg]
        rw [i32_lt] at c
        have : pl_y A.1.1 v < pl_y A.1.1 i := c
        simp
        omega
      rw [e] at hy
      exact hy M P h
    · rw [if_neg c]
      have e : mq_pop (fun j => -pl_y A.1.1 j) (-pl_y A.1.1 i) (v :: ls) = mq_pop (fun j => -pl_y A.1.1 j) (-pl_y A.1.1 i) ls := by
        unfold mq_pop
        rw [List.dropWhile_cons, if_pos]
        rw [i32_lt] at c
        have : ¬ pl_y A.1.1 v < pl_y A.1.1 i := c
        simp
        omega
      rw [e] at hy
      refine qw_pollLast (N := (f0, adr)) h.swap (fun M' P' _ h' => ?_)
      intro _
      refine pd_add ?_
      exact ih f M' P' L k n (fun x hx => hK x (List.mem_cons_of_mem v hx)) (by omega) h'.swap hy
theorem dCc_wanderD_69_s (hf : 2100 ≤ f0) (hA : qAI E A) (hq : qc_A (vN f0 ev) E M0 A) (h32 : 0 ≤ (A.1.1 0 32).toInt ∧ (A.1.1 0 32).toInt ≤ 90000) (w K best : Int32) (i : Nat) {ls : List Nat} (hll : ls.length ≤ 200) (hKl : ∀ v ∈ ls, (v : Int) < (cx_min 128 (A.1.1 0 32)).toInt) : ∀ (hs : List Nat) (f : Nat) (M : cx_M) (P : dP) (L : dL) (k n : Nat), (∀ v ∈ hs, (v : Int) < (cx_min 128 (A.1.1 0 32)).toInt) → hs.length < f → qw_T adr M0 P0 L0 b10 z10 b20 z20 M P L k n hs ls →
    (∀ M' P', qw_T adr M0 P0 L0 b10 z10 b20 z20 M' P' L k n (mq_pop (pl_y A.1.1) (pl_y A.1.1 i) hs) (mq_pop (fun j => -pl_y A.1.1 j) (-pl_y A.1.1 i) ls) → dCc_wanderD_161 ((f0, ev, vLk f0 ev, vWt f0 ev), adr) bc bs Q r M' P' L k n w K best (nI i)) →
    dCc_wanderD_69 ((f0, ev, vLk f0 ev, vWt f0 ev), adr) bc bs Q r f M P L k n w K best (nI i) (pa_sampleAt A.1.1 (nI i)) := by
  intro hs
  induction hs with
  | nil =>
    intro f M P L k n hK hl h hy
    obtain ⟨f, rfl⟩ : ∃ q, f = q + 1 := ⟨f - 1, by omega⟩
    show dCc_wanderD_69b ((f0, ev, vLk f0 ev, vWt f0 ev), adr) bc bs Q r (dCc_wanderD_69 ((f0, ev, vLk f0 ev, vWt f0 ev), adr) bc bs Q r f) M P L k n w K best (nI i) (pa_sampleAt A.1.1 (nI i))
    unfold dCc_wanderD_69b
    refine qw_empty (N := (f0, adr)) h (fun _ => ?_)
    intro _
    refine pd_add ?_
    rw [if_neg (by decide)]
    exact dCc_wanderD_115_s hf hA hq h32 w K best i ls f0 M P L k n hKl (by omega) h hy
  | cons v hs ih =>
    intro f M P L k n hK hl h hy
    rw [List.length_cons] at hl
    obtain ⟨f, rfl⟩ : ∃ q, f = q + 1 := ⟨f - 1, by omega⟩
    show dCc_wanderD_69b ((f0, ev, vLk f0 ev, vWt f0 ev), adr) bc bs Q r (dCc_wanderD_69 ((f0, ev, vLk f0 ev, vWt f0 ev), adr) bc bs Q r f) M P L k n w K best (nI i) (pa_sampleAt A.1.1 (nI i))
    unfold dCc_wanderD_69b
    refine qw_empty (N := (f0, adr)) h (fun _ => ?_)
    intro _
    refine pd_add ?_
    rw [if_neg (show ¬ (v :: hs).length = 0 by rw [List.length_cons]; omega), if_pos rfl]
    refine qw_peekLast (N := (f0, adr)) h (fun hv => ?_)
    intro _
    have hx : dBx (dia adr) L P (dia adr (v + 128)) (nI v) := qd_Dx hv
    refine pd_add ⟨fun a e => by rw [← Option.some.inj e]; exact dBx_m hx, pd_nn rfl ⟨dBx_m hx, ?_⟩⟩
    refine qd_intValue (N := (f0, adr)) hx ?_
    intro _
    refine pd_add ?_
    refine pq_calm (cSt_sample_y hA hq h32 h (hK v List.mem_cons_self)) ?_
    by_cases c : pa_sampleAt A.1.1 (nI i) < pa_sampleAt A.1.1 (nI v)
    · rw [if_pos c]
      have e : mq_pop (pl_y A.1.1) (pl_y A.1.1 i) (v :: hs) = v :: hs := by
        unfold mq_pop
        rw [List.dropWhile_cons, if_neg]
        rw [i32_lt] at c
        have : pl_y A.1.1 i < pl_y A.1.1 v := c
        simp
        omega
      rw [e] at hy
      exact dCc_wanderD_115_s hf hA hq h32 w K best i ls f0 M P L k n hKl (by omega) h hy
    · rw [if_neg c]
      have e : mq_pop (pl_y A.1.1) (pl_y A.1.1 i) (v :: hs) = mq_pop (pl_y A.1.1) (pl_y A.1.1 i) hs := by
        unfold mq_pop
        rw [List.dropWhile_cons, if_pos]
        rw [i32_lt] at c
        have : ¬ pl_y A.1.1 i < pl_y A.1.1 v := c
        simp
        omega
      rw [e] at hy
      refine qw_pollLast (N := (f0, adr)) h (fun M' P' _ h' => ?_)
      intro _
      refine pd_add ?_
      exact ih f M' P' L k n (fun x hx => hK x (List.mem_cons_of_mem v hx)) (by omega) h' hy
end wander
