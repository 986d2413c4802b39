/-! THE CLASS: wander, to the end -/
theorem mq_len {y : Nat → Int} : ∀ {hs : List Nat} {c : Nat}, hs.Pairwise (fun a b => b < a ∧ y a < y b) → (∀ h ∈ hs, h < c) → hs.length ≤ c
  | [], _, _, _ => Nat.zero_le _
  | a :: hs, c, hp, hc => by
    rw [List.pairwise_cons] at hp
    have h1 := mq_len (c := a) hp.2 (fun h hh => (hp.1 h hh).1)
    have h2 := hc a List.mem_cons_self
    rw [List.length_cons]
    omega
theorem mq.len {y : Nat → Int} {hs : List Nat} {lo c : Nat} (h : mq y hs lo c) : hs.length ≤ c := mq_len h.1 (fun x hx => (h.2.1 x hx).2)
theorem mq.ne {y : Nat → Int} {hs : List Nat} {lo c : Nat} (h : mq y hs lo (c + 1)) (hlo : lo ≤ c) : ∃ init m, hs = init ++ [m] := by
  obtain ⟨x, hx, -⟩ := h.2.2 c hlo (by omega)
  rcases List.eq_nil_or_concat hs with e | ⟨init, m, e⟩
  · rw [e] at hx
    exact absurd hx (by simp)
  · exact ⟨init, m, by rw [e, List.concat_eq_append]⟩
section wander2
variable {f0 : Nat} {ev : Nat → (Nat → Int32) → Int32} {adr : Nat → Nat} {E : ps_E} {A : qA} {M0 : cx_M} {P0 : dP} {L0 : dL} {b10 z10 b20 z20 bc bs : Nat} {Q : cd_Qt} {r : cx_M → dP → dL → Nat → Nat → Int32 → Int32 → Int32 → Int32 → Prop}
theorem dCc_wanderD_241_s (hA : qAI E A) (hq : qc_A (vN f0 ev) E M0 A) (h32 : 0 ≤ (A.1.1 0 32).toInt ∧ (A.1.1 0 32).toInt ≤ 90000) {w K best : Int32} {i m m' : Nat} {hs ls : List Nat} {M : cx_M} {P : dP} {L : dL} {k n : Nat} (hmK : (m : Int) < (cx_min 128 (A.1.1 0 32)).toInt) (hmK' : (m' : Int) < (cx_min 128 (A.1.1 0 32)).toInt) (h : qw_T adr M0 P0 L0 b10 z10 b20 z20 M P L k n (hs ++ [m]) (ls ++ [m']))
    (hy : r M P L k n w K (cx_max best (pa_sampleAt A.1.1 (nI m) - pa_sampleAt A.1.1 (nI m'))) (nI (i + 1))) : dCc_wanderD_241 ((f0, ev, vLk f0 ev, vWt f0 ev), adr) bc bs Q r M P L k n w K best (nI i) := by
  unfold dCc_wanderD_241
  refine qw_peekFirst (N := (f0, adr)) h (fun hv => ?_)
  intro _
  have hx : dBx (dia adr) L P (dia adr (m + 128)) (nI m) := qd_Dx hv
  refine pd_add ⟨fun a e => by rw [← Option.some.inj e]; exact dBx_m hx, pd_nn rfl ⟨dBx_m hx, ?_⟩⟩
  refine qd_intValue (N := (f0, adr)) hx ?_
  intro _
  refine pd_add ?_
  refine pq_calm (cSt_sample_y hA hq h32 h hmK) ?_
  refine qw_peekFirst (N := (f0, adr)) h.swap (fun hv' => ?_)
  intro _
  have hx' : dBx (dia adr) L P (dia adr (m' + 128)) (nI m') := qd_Dx hv'
  refine pd_add ⟨fun a e => by rw [← Option.some.inj e]; exact dBx_m hx', pd_nn rfl ⟨dBx_m hx', ?_⟩⟩
  refine qd_intValue (N := (f0, adr)) hx' ?_
  intro _
  refine pd_add ?_
  refine pq_calm (cSt_sample_y hA hq h32 h hmK') ?_
  refine pq_let (pq_let ?_)
  rw [← nI_succ]
  exact hy
theorem sub_lt_nI {i w m : Nat} (hi : i < 1000) (hw : w < 1000) (hm : m < 1000) : nI i - nI w < nI m ↔ i + 1 - w ≤ m := by
  have t1 := pi_nI (n := i) (by omega)
  have t2 := pi_nI (n := w) (by omega)
  rw [i32_lt, i32_sub (by omega) (by omega), t1, t2, pi_nI (by omega)]
  omega
theorem dCc_wanderD_213_s (hA : qAI E A) (hq : qc_A (vN f0 ev) E M0 A) (h32 : 0 ≤ (A.1.1 0 32).toInt ∧ (A.1.1 0 32).toInt ≤ 90000) {K best : Int32} {i w m : Nat} {hs ls : List Nat} {M : cx_M} {P : dP} {L : dL} {k n : Nat} (hi : i < 128) (hiK : (i : Int) < (cx_min 128 (A.1.1 0 32)).toInt) (hmK : (m : Int) < (cx_min 128 (A.1.1 0 32)).toInt) (hw : 2 ≤ w ∧ w ≤ 128) (h : qw_T adr M0 P0 L0 b10 z10 b20 z20 M P L k n (hs ++ [m]) ls) (hl : mq (fun j => -pl_y A.1.1 j) ls (i - w) (i + 1))
    (hy : ∀ M' P' ls' m', qw_T adr M0 P0 L0 b10 z10 b20 z20 M' P' L k n (hs ++ [m]) (ls' ++ [m']) → mq (fun j => -pl_y A.1.1 j) (ls' ++ [m']) (i + 1 - w) (i + 1) → r M' P' L k n (nI w) K (cx_max best (pa_sampleAt A.1.1 (nI m) - pa_sampleAt A.1.1 (nI m'))) (nI (i + 1))) : dCc_wanderD_213 ((f0, ev, vLk f0 ev, vWt f0 ev), adr) bc bs Q r M P L k n (nI w) K best (nI i) := by
  obtain ⟨init, q, e⟩ := hl.ne (by omega)
  subst e
  unfold dCc_wanderD_213
  refine qw_peekFirst (N := (f0, adr)) h.swap (fun hv => ?_)
  intro _
  have hx : dBx (dia adr) L P (dia adr (q + 128)) (nI q) := qd_Dx hv
  refine pd_add ⟨fun a e => by rw [← Option.some.inj e]; exact dBx_m hx, pd_nn rfl ⟨dBx_m hx, ?_⟩⟩
  refine qd_intValue (N := (f0, adr)) hx ?_
  intro _
  refine pd_add ?_
  have hlt := sub_lt_nI (i := i) (w := w) (m := q) (by omega) (by omega) (by omega)
  have hqK : q < i + 1 := (hl.2.1 q (List.mem_append_right _ (List.mem_singleton.mpr rfl))).2
  by_cases c : nI i - nI w < nI q
  · rw [if_pos c]
    exact dCc_wanderD_241_s hA hq h32 hmK (by omega) h (hy M P init q h (mq_keep hl (by omega) (hlt.mp c)))
  · rw [if_neg c]
    have hge : ¬ i + 1 - w ≤ q := fun z => c (hlt.mpr z)
    have hd := mq_drop hl (by omega)
    rw [show i - w + 1 = i + 1 - w by omega] at hd
    obtain ⟨init2, q2, e2⟩ := hd.ne (by omega)
    subst e2
    have hq2K : q2 < i + 1 := (hd.2.1 q2 (List.mem_append_right _ (List.mem_singleton.mpr rfl))).2
    refine qw_pollFirst (N := (f0, adr)) h.swap (fun M' P' _ h' => ?_)
    intro _
    refine pd_add ?_
    exact dCc_wanderD_241_s hA hq h32 hmK (by omega) h'.swap (hy M' P' init2 q2 h'.swap hd)
theorem dCc_wanderD_161_s (hf : 2100 ≤ f0) (hA : qAI E A) (hq : qc_A (vN f0 ev) E M0 A) (h32 : 0 ≤ (A.1.1 0 32).toInt ∧ (A.1.1 0 32).toInt ≤ 90000) {K best : Int32} {i w : Nat} {hs ls : List Nat} {M : cx_M} {P : dP} {L : dL} {k n : Nat} (hi : i < 128) (hiK : (i : Int) < (cx_min 128 (A.1.1 0 32)).toInt) (hw : 2 ≤ w ∧ w ≤ 128) (hbc : 2100 ≤ bc) (hbs : 8500 ≤ bs) (h : qw_T adr M0 P0 L0 b10 z10 b20 z20 M P L k n hs ls)
    (hh : mq (pl_y A.1.1) (i :: hs) (i - w) (i + 1)) (hl : mq (fun j => -pl_y A.1.1 j) (i :: ls) (i - w) (i + 1))
    (hy : ∀ M' P' L' k' n' hs' m ls' m', qw_T adr M0 P0 L0 b10 z10 b20 z20 M' P' L' k' n' (hs' ++ [m]) (ls' ++ [m']) → mq (pl_y A.1.1) (hs' ++ [m]) (i + 1 - w) (i + 1) → mq (fun j => -pl_y A.1.1 j) (ls' ++ [m']) (i + 1 - w) (i + 1) → r M' P' L' k' n' (nI w) K (cx_max best (pa_sampleAt A.1.1 (nI m) - pa_sampleAt A.1.1 (nI m'))) (nI (i + 1))) : dCc_wanderD_161 ((f0, ev, vLk f0 ev, vWt f0 ev), adr) bc bs Q r M P L k n (nI w) K best (nI i) := by
  have l1 := hh.len
  have l2 := hl.len
  rw [List.length_cons] at l1 l2
  have kn1 := h.kn
  unfold dCc_wanderD_161
  refine qd_valueC (N := (f0, adr)) hi ?_
  intro _
  refine pd_add ?_
  refine qw_push (N := (f0, adr)) h hi (by omega) hf (by omega) (by omega) (fun M1 P1 L1 k1 n1 h1 => ?_)
  have kn2 := h1.kn
  intro _
  refine pd_add ?_
  refine qd_valueC (N := (f0, adr)) hi ?_
  intro _
  refine pd_add ?_
  refine qw_push (N := (f0, adr)) h1.swap hi (by omega) hf (by omega) (by omega) (fun M2 P2 L2 k2 n2 h2 => ?_)
  intro _
  have h2 := h2.swap
  obtain ⟨init, q, e⟩ := hh.ne (by omega)
  rw [e] at h2 hh
  have hqK : q < i + 1 := (hh.2.1 q (List.mem_append_right _ (List.mem_singleton.mpr rfl))).2
  refine pd_add ?_
  refine qw_peekFirst (N := (f0, adr)) h2 (fun hv => ?_)
  intro _
  have hx : dBx (dia adr) L2 P2 (dia adr (q + 128)) (nI q) := qd_Dx hv
  refine pd_add ⟨fun a e => by rw [← Option.some.inj e]; exact dBx_m hx, pd_nn rfl ⟨dBx_m hx, ?_⟩⟩
  refine qd_intValue (N := (f0, adr)) hx ?_
  intro _
  refine pd_add ?_
  have hlt := sub_lt_nI (i := i) (w := w) (m := q) (by omega) (by omega) (by omega)
  by_cases c : nI i - nI w < nI q
  · rw [if_pos c]
    exact dCc_wanderD_213_s hA hq h32 hi hiK (by omega) hw h2 hl (fun M' P' ls' m' h' hl' => hy M' P' _ _ _ init q ls' m' h' (mq_keep hh (by omega) (hlt.mp c)) hl')
  · rw [if_neg c]
    have hge : ¬ i + 1 - w ≤ q := fun z => c (hlt.mpr z)
    have hd := mq_drop hh (by omega)
    rw [show i - w + 1 = i + 1 - w by omega] at hd
    obtain ⟨init2, q2, e2⟩ := hd.ne (by omega)
    subst e2
    have hq2K : q2 < i + 1 := (hd.2.1 q2 (List.mem_append_right _ (List.mem_singleton.mpr rfl))).2
    refine qw_pollFirst (N := (f0, adr)) h2 (fun M' P' _ h' => ?_)
    intro _
    refine pd_add ?_
    exact dCc_wanderD_213_s hA hq h32 hi hiK (by omega) hw h' hl (fun M'' P'' ls' m' h'' hl' => hy M'' P'' _ _ _ init2 q2 ls' m' h'' hd hl')
theorem dCc_wanderD_52_s (hf : 2100 ≤ f0) (hA : qAI E A) (hq : qc_A (vN f0 ev) E M0 A) (h32 : 0 ≤ (A.1.1 0 32).toInt ∧ (A.1.1 0 32).toInt ≤ 90000) (hW : pl_W A.1.1) {K w : Nat} (hK : K ≤ 128) (hKK : (K : Int) ≤ (cx_min 128 (A.1.1 0 32)).toInt) (hw : 2 ≤ w ∧ w ≤ 128) (hbc : 2100 ≤ bc) (hbs : 8500 ≤ bs)
    (hfin : ∀ M P L k n best hs ls, qw_T adr M0 P0 L0 b10 z10 b20 z20 M P L k n hs ls → mx_b (fun i => mx_r (pl_y A.1.1) (i + 1 - w) (i - (i + 1 - w))) K best.toInt → Q M P L best none 0 k n) :
    ∀ (m c f : Nat) (M : cx_M) (P : dP) (L : dL) (k n : Nat) (best : Int32) (hs ls : List Nat), c + m = K → m < f → qw_T adr M0 P0 L0 b10 z10 b20 z20 M P L k n hs ls → mq (pl_y A.1.1) hs (c - w) c → mq (fun j => -pl_y A.1.1 j) ls (c - w) c → mx_b (fun i => mx_r (pl_y A.1.1) (i + 1 - w) (i - (i + 1 - w))) c best.toInt →
      dCc_wanderD_52 ((f0, ev, vLk f0 ev, vWt f0 ev), adr) bc bs Q f M P L k n (nI w) (nI K) best (nI c) := by
  intro m
  induction m with
  | zero =>
    intro c f M P L k n best hs ls hc hf2 h hh hl hb
    obtain ⟨f, rfl⟩ : ∃ q, f = q + 1 := ⟨f - 1, by omega⟩
    show dCc_wanderD_52b ((f0, ev, vLk f0 ev, vWt f0 ev), adr) bc bs Q (dCc_wanderD_52 ((f0, ev, vLk f0 ev, vWt f0 ev), adr) bc bs Q f) M P L k n (nI w) (nI K) best (nI c)
    unfold dCc_wanderD_52b
    rw [if_pos (nI_le (by omega) (by omega))]
    have : c = K := by omega
    subst this
    exact hfin M P L k n best hs ls h hb
  | succ m ih =>
    intro c f M P L k n best hs ls hc hf2 h hh hl hb
    obtain ⟨f, rfl⟩ : ∃ q, f = q + 1 := ⟨f - 1, by omega⟩
    have l1 := hh.len
    have l2 := hl.len
    show dCc_wanderD_52b ((f0, ev, vLk f0 ev, vWt f0 ev), adr) bc bs Q (dCc_wanderD_52 ((f0, ev, vLk f0 ev, vWt f0 ev), adr) bc bs Q f) M P L k n (nI w) (nI K) best (nI c)
    unfold dCc_wanderD_52b
    rw [if_neg (nI_ge (by omega) (by omega))]
    refine pq_calm (cSt_sample_y hA hq h32 h (by omega)) ?_
    refine dCc_wanderD_69_s hf hA hq h32 (nI w) (nI K) best c (by omega) (fun x hx => by have := (hl.2.1 x hx).2; omega) hs f0 M P L k n (fun x hx => by have := (hh.2.1 x hx).2; omega) (by omega) h (fun M1 P1 h1 => ?_)
    refine dCc_wanderD_161_s hf hA hq h32 (by omega) (by omega) hw hbc hbs h1 (mq_push hh (by omega)) (mq_push (y := fun j => -pl_y A.1.1 j) hl (by omega)) (fun M' P' L' k' n' hs' q ls' q' h' hh' hl' => ?_)
    refine ih (c + 1) f M' P' L' k' n' _ _ _ (by omega) (by omega) h' hh' hl' ?_
    have e1 := mq_max hh' (by omega)
    have e2 := mq_max hl' (by omega)
    rw [Nat.add_sub_cancel] at e1 e2
    have q1 := hh'.2.1 q (List.mem_append_right _ (List.mem_singleton.mpr rfl))
    have q2 := hl'.2.1 q' (List.mem_append_right _ (List.mem_singleton.mpr rfl))
    have y1 := pl_y_b hW h32 (i := q) (by omega)
    have y2 := pl_y_b hW h32 (i := q') (by omega)
    have es : (pa_sampleAt A.1.1 (nI q) - pa_sampleAt A.1.1 (nI q')).toInt = mx_r (pl_y A.1.1) (c + 1 - w) (c - (c + 1 - w)) := by
      have t1 : (pa_sampleAt A.1.1 (nI q)).toInt = pl_y A.1.1 q := rfl
      have t2 : (pa_sampleAt A.1.1 (nI q')).toInt = pl_y A.1.1 q' := rfl
      rw [i32_sub (by omega) (by omega), t1, t2]
      unfold mx_r
      omega
    have hb2 := mx_bs hb
    rw [pi_max, es]
    exact hb2
theorem dCc_wanderD_s {M : cx_M} {P : dP} {L : dL} {w : Int32} {hs ls : List Nat} (hf : 2100 ≤ f0) (hA : qAI E A) (hq : qc_A (vN f0 ev) E M A) (hW : pl_W A.1.1) (h : qw_T adr M P L b10 z10 b20 z20 M P L 0 0 hs ls) (hbc : 2100 ≤ bc) (hbs : 8500 ≤ bs)
    (hy : (2 ≤ w.toInt ∧ w.toInt ≤ 128) → ∀ M' P' L' k n hs' ls', k ≤ 2000 → n ≤ 8000 → qw_T adr M P L b10 z10 b20 z20 M' P' L' k n hs' ls' → Q M' P' L' (pa_wander A.1.1 w) none 0 k n)
    (h2 : ¬ (2 ≤ w.toInt ∧ w.toInt ≤ 128) → Q M P L 0 none 2 1 6) : dCc_wanderD ((f0, ev, vLk f0 ev, vWt f0 ev), adr) bc bs M P L w Q := by
  obtain ⟨T, hT, hI, -⟩ := hA.2.1.1
  have h32 := pa_I32 hI
  obtain ⟨k0, k1, k2, k3⟩ := pa_kept h32.1
  have n24 : M 1000 24 = A.1.1 0 32 := hq.n 24 (Or.inl (by decide)) rfl (by decide)
  unfold dCc_wanderD dCc_wanderD_0
  refine pq_calm cCc_within_s ?_
  by_cases c : 2 ≤ w.toInt ∧ w.toInt ≤ 128
  · rw [if_pos (show (2 : Int32).toInt ≤ w.toInt ∧ w.toInt ≤ (128 : Int32).toInt from c)]
    refine cd_thr_s (by omega) (by omega) (fun z => absurd z (by decide)) (fun _ => ⟨fun z => absurd rfl z, fun _ => ?_⟩)
    refine pd_add (pq_get ?_)
    rw [n24]
    refine pq_calm (show cSt_kept (f0, ev, vLk f0 ev, vWt f0 ev) 1000 M (A.1.1 0 32) = some (M, cx_min 128 (A.1.1 0 32), 0) from rfl) ?_
    have hy := hy c
    by_cases c2 : 2 ≤ cx_min 128 (A.1.1 0 32)
    · rw [if_pos c2]
      refine qw_clear (N := (f0, adr)) h hf (fun M1 P1 h1 => ?_)
      intro _
      refine pd_add ?_
      refine qw_clear (N := (f0, adr)) h1.swap hf (fun M2 P2 h2' => ?_)
      intro _
      refine pd_add ?_
      have ew : w = nI (pn w) := pn_nI (by omega)
      have eK : cx_min 128 (A.1.1 0 32) = nI (pn (cx_min 128 (A.1.1 0 32))) := pn_nI k0
      have hK2 : 2 ≤ pn (cx_min 128 (A.1.1 0 32)) := by
        rw [i32_le, show (2 : Int32).toInt = 2 from rfl] at c2
        rw [pn_def]; omega
      have hK3 : pn (cx_min 128 (A.1.1 0 32)) ≤ 128 := by rw [pn_def]; omega
      have hKK : ((pn (cx_min 128 (A.1.1 0 32)) : Nat) : Int) ≤ (cx_min 128 (A.1.1 0 32)).toInt := by rw [pn_def]; omega
      have hw2 : 2 ≤ pn w ∧ pn w ≤ 128 := by rw [pn_def]; omega
      have eL : pn (cx_min (cx_min 128 (A.1.1 0 32)) w) = min (pn (cx_min 128 (A.1.1 0 32))) (pn w) := by
        have := pi_min (x := cx_min 128 (A.1.1 0 32)) (y := w)
        rw [pn_def, pn_def, pn_def, this]
        omega
      unfold pa_wander at hy
      rw [if_pos c2, eL] at hy
      generalize pn (cx_min 128 (A.1.1 0 32)) = K at eK hK2 hK3 hy hKK
      generalize pn w = wn at ew hw2 hy
      have hKK2 := hKK
      rw [ew, eK]
      refine dCc_wanderD_52_s (M0 := M) (P0 := P) (L0 := L) (b10 := b10) (z10 := z10) (b20 := b20) (z20 := z20) hf hA hq h32 hW hK3 hKK2 hw2 hbc hbs (fun M' P' L' k n best hs' ls' h' hb => ?_) K 0 f0 M2 P2 L _ _ 0 [] [] (by omega) (by omega) h2'.swap ⟨List.Pairwise.nil, fun x hx => absurd hx (by simp), fun j _ hj => absurd hj (by omega)⟩ ⟨List.Pairwise.nil, fun x hx => absurd hx (by simp), fun j _ hj => absurd hj (by omega)⟩ mx_b0
      have kn := h'.kn
      have q := hy M' P' L' k n hs' ls' kn.1 kn.2 h'
      have hr := pa_wn_s hW h32 (W := min K wn) (by omega) (by omega) (K + 1 - min K wn) 0 0 (by omega) mx_b0
      rw [Nat.zero_add] at hr
      have e := mx_same (by omega) rfl (by omega) hb hr
      rw [← i32_eq] at e
      rw [← e] at q
      exact q
    · rw [if_neg c2]
      unfold pa_wander at hy
      rw [if_neg c2] at hy
      exact hy M P L 0 0 hs ls (by omega) (by omega) h
  · rw [if_neg (show ¬ ((2 : Int32).toInt ≤ w.toInt ∧ w.toInt ≤ (128 : Int32).toInt) from c)]
    exact cd_thr_s (by omega) (by omega) (fun _ => ⟨fun _ => h2 c, fun z => absurd z (by decide)⟩) (fun z => absurd rfl z)
end wander2
