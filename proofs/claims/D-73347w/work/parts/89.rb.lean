/-! THE CLASS: spans -/
/-- the runs of octets that lacked, the oldest first -/
def pl_runs (S : ps_S) : Nat → Int32 → List Int32
  | 0, _ => []
  | m + 1, x4 => @ite (List Int32) (pa_gap S m) (pa_gapD S m) (pl_runs S m (x4 + 1)) (if x4 = 0 then pl_runs S m 0 else x4 :: pl_runs S m 0)
def pl_walk (l n : Int32) : List Int32 → Int32 → Option Int32
  | [], x3 => if n = -1 then some x3 else none
  | v :: vs, x3 => if v < l then pl_walk l n vs x3 else if x3 = n then some v else pl_walk l n vs (x3 + 1)
theorem pa_sp_walk {S : ps_S} {l n : Int32} (hl : 1 ≤ l.toInt) : ∀ (m : Nat) (x3 x4 : Int32), pa_sp S l n m x3 x4 = pl_walk l n (pl_runs S m x4) x3 := by
  intro m
  induction m with
  | zero => intro x3 x4; rfl
  | succ m ih =>
    intro x3 x4
    unfold pa_sp pl_runs
    by_cases g : pa_gap S m
    · rw [if_pos g, if_pos g]
      exact ih _ _
    · rw [if_neg g, if_neg g]
      by_cases c0 : x4 = 0
      · rw [if_pos (show x4 < l by rw [c0, i32_lt, pi_0]; omega), if_pos c0]
        exact ih _ _
      · rw [if_neg c0]
        unfold pl_walk
        by_cases c1 : x4 < l
        · rw [if_pos c1, if_pos c1]
          exact ih _ _
        · rw [if_neg c1, if_neg c1]
          by_cases c2 : x3 = n
          · rw [if_pos c2, if_pos c2]
          · rw [if_neg c2, if_neg c2]
            exact ih _ _
def pl_ok (l : Int32) (R : List Int32) : List Int32 := R.filter (fun v => decide (¬ v < l))
theorem pl_walk_s {l n : Int32} : ∀ (R : List Int32) (c : Nat), c + R.length < 100000 → pl_walk l n R (nI c) = if n = -1 then some (nI (c + (pl_ok l R).length)) else if n.toInt < c then none else (pl_ok l R)[(n.toInt - c).toNat]? := by
  intro R
  induction R with
  | nil =>
    intro c hc
    unfold pl_walk pl_ok
    by_cases h1 : n = -1
    · rw [if_pos h1, if_pos h1]
      rfl
    · rw [if_neg h1, if_neg h1]
      split <;> rfl
  | cons v vs ih =>
    intro c hc
    rw [List.length_cons] at hc
    have tc := pi_nI (n := c) (by omega)
    unfold pl_walk
    by_cases c1 : v < l
    · rw [if_pos c1, ih c (by omega), show pl_ok l (v :: vs) = pl_ok l vs by unfold pl_ok; rw [List.filter_cons_of_neg (by simp [c1])]]
    · rw [if_neg c1, show pl_ok l (v :: vs) = v :: pl_ok l vs by unfold pl_ok; rw [List.filter_cons_of_pos (by simp [c1])]]
      by_cases c2 : nI c = n
      · have e := i32_eq.mp c2
        rw [tc] at e
        rw [if_pos c2, if_neg (show ¬ n = -1 from fun z => nI_m1 (by omega) (c2.trans z)), if_neg (by omega), show (n.toInt - c).toNat = 0 by omega]
        rfl
      · rw [if_neg c2, ← nI_succ, ih (c + 1) (by omega)]
        by_cases h1 : n = -1
        · rw [if_pos h1, if_pos h1, List.length_cons, show c + 1 + (pl_ok l vs).length = c + ((pl_ok l vs).length + 1) by omega]
        · rw [if_neg h1, if_neg h1]
          have ne : n.toInt ≠ c := fun z => c2 (i32_eq.mpr (by rw [tc, z]))
          by_cases h2 : n.toInt < c
          · rw [if_pos h2, if_pos (by omega)]
          · rw [if_neg h2, if_neg (by omega), show (n.toInt - c).toNat = (n.toInt - ((c + 1 : Nat) : Int)).toNat + 1 by omega, List.getElem?_cons_succ]
theorem pl_gap {E : ps_E} {S : ps_S} {T n q : Nat} (hI : ps_I E S T) (hn : nI n = cx_min 128 (S 0 6)) (hn2 : n ≤ 128) (hq : q ≤ n) : pa_gap S (n - q) ↔ pl_lack S n q ≠ 0 := by
  have h6 := pa_I6 hI
  obtain ⟨k0, k1, k2, k3⟩ := pa_kept h6.1
  have tn := pi_nI (n := n) (by omega)
  rw [← hn, tn] at k2
  unfold pa_gap pl_lack
  by_cases c : q < n
  · have tq := pi_nI (n := q) (by omega)
    have tm := pi_nI (n := n - q) (by omega)
    have e : S 0 6 - nI (n - q) = S 0 6 - nI n + nI q := by
      have e1 : (S 0 6 - nI n).toInt = (S 0 6).toInt - n := by rw [i32_sub (by omega) (by omega), tn]
      rw [i32_eq, i32_sub (by omega) (by omega), i32_add (by omega) (by omega), e1, tm, tq]
      omega
    have hb : (S 0 6 - nI n + nI q).toInt = (S 0 6).toInt - n + q := by
      have e1 : (S 0 6 - nI n).toInt = (S 0 6).toInt - n := by rw [i32_sub (by omega) (by omega), tn]
      rw [i32_add (by omega) (by omega), e1, tq]
    have hp := pi_rp (x := S 0 6 - nI n + nI q) (by omega)
    have e01 := hI.1.2.2.2 _ hp.2.2
    rw [if_pos c, e]
    rcases e01 with z | z
    · rw [z]
      exact ⟨fun y => absurd y.2 (by decide), fun y => absurd rfl y⟩
    · rw [z]
      exact ⟨fun _ => by decide, fun _ => ⟨by omega, rfl⟩⟩
  · rw [if_neg c]
    exact ⟨fun y => absurd (show n - q = 0 by omega) y.1, fun y => absurd rfl y⟩
theorem pl_runs_set {S : ps_S} {n : Nat} (hg : ∀ q, q ≤ n → (pa_gap S (n - q) ↔ pl_lack S n q ≠ 0)) : ∀ (d q : Nat) (x : Int32), q + d ≤ n → (∀ j, q ≤ j → j < q + d → pl_lack S n j ≠ 0) → pl_runs S (n - q + 1) x = pl_runs S (n - (q + d) + 1) (x + nI d) := by
  intro d
  induction d with
  | zero => intro q x _ _; rw [show nI 0 = (0 : Int32) from rfl, pi_add0]; rfl
  | succ d ih =>
    intro q x hq hs
    have g := (hg q (by omega)).mpr (hs q (Nat.le_refl _) (by omega))
    have e : pl_runs S (n - q + 1) x = pl_runs S (n - q) (x + 1) := if_pos g
    rw [e, show n - q = n - (q + 1) + 1 by omega, ih (q + 1) (x + 1) (by omega) (fun j a b => hs j (by omega) (by omega)), show q + 1 + d = q + (d + 1) by omega, nI_succ]
    have : x + 1 + nI d = x + (nI d + 1) := by ac_rfl
    rw [this]
theorem pl_runs_clear {S : ps_S} {n : Nat} (hg : ∀ q, q ≤ n → (pa_gap S (n - q) ↔ pl_lack S n q ≠ 0)) : ∀ (d q : Nat), q + d ≤ n + 1 → (∀ j, q ≤ j → j < q + d → pl_lack S n j = 0) → pl_runs S (n + 1 - q) 0 = pl_runs S (n + 1 - (q + d)) 0 := by
  intro d
  induction d with
  | zero => intro q _ _; rfl
  | succ d ih =>
    intro q hq hs
    have g : ¬ pa_gap S (n - q) := fun z => (hg q (by omega)).mp z (hs q (Nat.le_refl _) (by omega))
    have e : pl_runs S (n - q + 1) 0 = pl_runs S (n - q) 0 := by
      show @ite (List Int32) (pa_gap S (n - q)) (pa_gapD S (n - q)) _ _ = _
      rw [if_neg g, if_pos rfl]
    rw [show n + 1 - q = n - q + 1 by omega, e, show n - q = n + 1 - (q + 1) by omega, ih (q + 1) (by omega) (fun j a b => hs j (by omega) (by omega)), show q + 1 + d = q + (d + 1) by omega]
theorem pl_runs_one {S : ps_S} {n s c : Nat} (hg : ∀ q, q ≤ n → (pa_gap S (n - q) ↔ pl_lack S n q ≠ 0)) (hsc : s < c) (hcn : c ≤ n) (hn : n ≤ 128) (hs : ∀ j, s ≤ j → j < c → pl_lack S n j ≠ 0) (hc : pl_lack S n c = 0) : pl_runs S (n + 1 - s) 0 = nI (c - s) :: pl_runs S (n + 1 - c) 0 := by
  have e := pl_runs_set hg (c - s) s 0 (by omega) (fun j a b => hs j a (by omega))
  have g : ¬ pa_gap S (n - c) := fun z => (hg c hcn).mp z hc
  rw [show n + 1 - s = n - s + 1 by omega, e, show s + (c - s) = c by omega, show (0 : Int32) + nI (c - s) = nI (c - s) from Int32.zero_add _, show n + 1 - c = n - c + 1 by omega]
  have e1 : ∀ x, pl_runs S (n - c + 1) x = if x = 0 then pl_runs S (n - c) 0 else x :: pl_runs S (n - c) 0 := fun x => if_neg g
  rw [e1, e1, if_pos rfl, if_neg (fun z => by have := pw_inj (b := 0) (by omega) (by omega) z; omega)]
theorem qd_L.v {ic : Nat → Nat} {M : cx_M} {P : dP} {L : dL} {a0 n : Nat} {nd : Nat → Nat} {v v' : Nat → Int32} (h : qd_L ic M P L a0 n nd v) (e : ∀ i, i < n → v' i = v i) : qd_L ic M P L a0 n nd v' := by
  obtain ⟨h1, h2, h3, h4, h5, h6⟩ := h
  refine ⟨h1, h2, h3, h4, h5, fun i hi => ?_⟩
  rw [e i hi]
  exact h6 i hi
theorem qd_B.X {M M' : cx_M} {P P' : dP} {L L' : dL} {a b : Nat} {f : Nat → Int32} (h : qd_B M P L a b f) (hX : qd_X M P L M' P' L') : qd_B M' P' L' a b f := by
  obtain ⟨h1, h2, h3, h4, h5, h6, h7⟩ := h
  have ma := (hX.2.2 _ h2).1
  have mb := (hX.2.2 _ h3).1
  have pa := (hX.2.2 _ h2).2
  dsimp only at ma mb pa
  exact ⟨h1, hX.mem h2, hX.mem h3, by rw [pa]; exact h4, by rw [ma, mb]; exact h5, by rw [mb]; exact h6, h7⟩
theorem qd_B.Y {M M' : cx_M} {P P' : dP} {L L' : dL} {a b a0 : Nat} {f : Nat → Int32} (h : qd_B M P L a b f) (hX : qd_Y a0 M P L M' P' L') (ha : a ≠ a0) (hb : b ≠ a0) : qd_B M' P' L' a b f := by
  obtain ⟨h1, h2, h3, h4, h5, h6, h7⟩ := h
  obtain ⟨L2, e, -⟩ := hX.2.1
  have ma := (hX.2.2 _ h2 ha (show ((0, 21, 0) : dk) ≠ (0, 24, 0) by decide)).1
  have mb := (hX.2.2 _ h3 hb (show ((2, 0, 2) : dk) ≠ (0, 24, 0) by decide)).1
  have pa := (hX.2.2 _ h2 ha (show ((0, 21, 0) : dk) ≠ (0, 24, 0) by decide)).2
  dsimp only at ma mb pa
  exact ⟨h1, by rw [e]; exact List.mem_append_left _ h2, by rw [e]; exact List.mem_append_left _ h3, by rw [pa]; exact h4, by rw [ma, mb]; exact h5, by rw [mb]; exact h6, h7⟩
/-- what was there stands as it was, but for nodes -/
def qd_Z (M : cx_M) (P : dP) (L : dL) (M' : cx_M) (P' : dP) (L' : dL) : Prop :=
  (∀ c, c < 10000000 → M' c = M c) ∧ (∃ L2, L' = L ++ L2 ∧ ∀ y ∈ L2, ∀ x ∈ L, x.1 ≠ y.1) ∧ (∀ x ∈ L, x.2 ≠ (0, 24, 0) → M' (dc x.1) = M (dc x.1) ∧ P' x.1 = P x.1)
theorem qd_X.Z {M M' : cx_M} {P P' : dP} {L L' : dL} (h : qd_X M P L M' P' L') : qd_Z M P L M' P' L' := ⟨h.1, h.2.1, fun x hx _ => h.2.2 x hx⟩
theorem qd_Z.mem {M M' : cx_M} {P P' : dP} {L L' : dL} (h : qd_Z M P L M' P' L') {x : Nat × dk} (hx : x ∈ L) : x ∈ L' := by
  obtain ⟨L2, e, -⟩ := h.2.1
  rw [e]
  exact List.mem_append_left _ hx
theorem qd_Z.tr {M M1 M2 : cx_M} {P P1 P2 : dP} {L L1 L2 : dL} (h : qd_Z M P L M1 P1 L1) (h2 : qd_Z M1 P1 L1 M2 P2 L2) : qd_Z M P L M2 P2 L2 := by
  refine ⟨fun c hc => (h2.1 c hc).trans (h.1 c hc), ?_, fun x hx hk => ⟨(h2.2.2 x (h.mem hx) hk).1.trans (h.2.2 x hx hk).1, (h2.2.2 x (h.mem hx) hk).2.trans (h.2.2 x hx hk).2⟩⟩
  obtain ⟨A, e, hA⟩ := h.2.1
  obtain ⟨B, e2, hB⟩ := h2.2.1
  refine ⟨A ++ B, by rw [e2, e, List.append_assoc], fun y hy x hx => ?_⟩
  rcases List.mem_append.mp hy with z | z
  · exact hA y z x hx
  · exact hB y z x (h.mem hx)
/-- changed at a0 too, which was not there -/
theorem qd_Z.Y {M M1 M2 : cx_M} {P P1 P2 : dP} {L L1 L2 : dL} {a0 : Nat} (h : qd_Z M P L M1 P1 L1) (h2 : qd_Y a0 M1 P1 L1 M2 P2 L2) (ha : ∀ x ∈ L, x.1 ≠ a0) : qd_Z M P L M2 P2 L2 := by
  refine ⟨fun c hc => (h2.1 c hc).trans (h.1 c hc), ?_, fun x hx hk => ⟨(h2.2.2 x (h.mem hx) (ha x hx) hk).1.trans (h.2.2 x hx hk).1, (h2.2.2 x (h.mem hx) (ha x hx) hk).2.trans (h.2.2 x hx hk).2⟩⟩
  obtain ⟨A, e, hA⟩ := h.2.1
  obtain ⟨B, e2, hB⟩ := h2.2.1
  refine ⟨A ++ B, by rw [e2, e, List.append_assoc], fun y hy x hx => ?_⟩
  rcases List.mem_append.mp hy with z | z
  · exact hA y z x hx
  · exact hB y z x (h.mem hx)
theorem dCc_spansD_36_s {N : dNx} {bc bs n a0 a b : Nat} {l w : Int32} {S : ps_S} {Q : cd_Qt} {M0 : cx_M} {P0 : dP} {L0 : dL} (hN : 700 ≤ N.1.1) (hn : n ≤ 128) (hg : ∀ q, q ≤ n → (pa_gap S (n - q) ↔ pl_lack S n q ≠ 0)) (h0 : ∀ x ∈ L0, x.1 ≠ a0) (haa : a ≠ a0) (hba : b ≠ a0) (hbc : 300 ≤ bc) (hbs : 600 ≤ bs)
    (hfin : ∀ (f : Nat) (M : cx_M) (P : dP) (L : dL) (k m : Nat) (nd : Nat → Nat), 0 < f → k ≤ 3 + 2 * 128 → m ≤ 9 + 4 * 128 → qd_u L → qd_Z M0 P0 L0 M P L → (pl_runs S (n + 1) 0).length ≤ 128 → qd_L (dia N.2) M P L a0 (pl_runs S (n + 1) 0).length nd (fun i => (pl_runs S (n + 1) 0).getD i 0) → dCc_spansD_36 N bc bs Q f M P L k m l w a0 a (-1)) :
    ∀ (d s f : Nat) (M : cx_M) (P : dP) (L : dL) (k m : Nat) (vs : List Int32) (nd : Nat → Nat) (x5 : Int32), 129 ≤ s + d → d < f → vs.length ≤ s → s ≤ 128 → (x5 = nI s ∧ s < n ∧ pl_lack S n s ≠ 0 ∨ x5 = -1 ∧ pl_runs S (n + 1 - s) 0 = []) → k ≤ 3 + 2 * vs.length → m ≤ 9 + 4 * vs.length → qd_u L → qd_Z M0 P0 L0 M P L → qd_B M P L a b (pl_lack S n) → qd_L (dia N.2) M P L a0 vs.length nd (fun i => vs.getD i 0) → pl_runs S (n + 1) 0 = vs ++ pl_runs S (n + 1 - s) 0 →
      dCc_spansD_36 N bc bs Q f M P L k m l w a0 a x5 := by
  intro d
  induction d with
  | zero => intro s f M P L k m vs nd x5 hs; intro _ _ h; exact absurd h (by omega)
  | succ d ih =>
    intro s f M P L k m vs nd x5 hs hf hvs hs2 hx hk hm hu hZ hB hL hR
    rcases hx with ⟨e5, hsn, hset⟩ | ⟨e5, hnil⟩
    · obtain ⟨f, rfl⟩ : ∃ q, f = q + 1 := ⟨f - 1, by omega⟩
      have ts := pi_nI (n := s) (by omega)
      subst e5
      show dCc_spansD_36b N bc bs Q (dCc_spansD_36 N bc bs Q f) M P L k m l w a0 a (nI s)
      unfold dCc_spansD_36b
      rw [if_neg (show ¬ nI s < 0 by rw [i32_lt, ts, pi_0]; omega)]
      refine ⟨hB.2.1, ?_⟩
      refine qd_nextClear (by omega) hB (by omega) (fun c c1 c2 c3 c4 => ?_)
      intro _
      refine pd_add ?_
      have hlackn : ∀ j, n ≤ j → pl_lack S n j = 0 := fun j hj => by unfold pl_lack; rw [if_neg (by omega)]
      have hcn : c ≤ n := by
        rcases Nat.lt_or_ge n c with z | z
        · exact absurd (hlackn n (Nat.le_refl _)) (c3 n (by omega) z)
        · exact z
      have hsc : s < c := by
        rcases Nat.lt_or_ge s c with z | z
        · exact z
        · have : s = c := by omega
          subst this
          exact absurd (c4 (by omega)) hset
      have hc0 : pl_lack S n c = 0 := by
        rcases Nat.lt_or_ge c n with z | z
        · exact c4 (by omega)
        · exact hlackn c z
      have tc := pi_nI (n := c) (by omega)
      have esub : nI c - nI s = nI (c - s) := by
        rw [i32_eq, i32_sub (by omega) (by omega), tc, ts, pi_nI (by omega)]
        omega
      rw [esub]
      refine qd_valueOf (N := (N.1.1, N.2)) (by rw [pi_nI (by omega)]; omega) hu (by omega) (by omega) (fun bx M1 P1 L1 k1 n1 hk1 hn1 hu1 hX1 hbx => ?_)
      intro _
      refine pd_add ⟨hX1.mem hL.1, ?_⟩
      refine qd_addLast (N := (N.1.1, N.2)) (hL.X hX1) hu1 hbx (by omega) (by omega) (fun a2 M2 P2 hf2 hY2 hL2 => ?_)
      intro _
      have hu2 : qd_u (L1 ++ [(a2, (0, 24, 0))]) := hu1.snoc hf2
      have hB2 := (hB.X hX1).Y hY2 haa hba
      have hZ2 := (hZ.tr hX1.Z).Y hY2 h0
      refine pd_add ⟨hB2.2.1, ?_⟩
      refine qd_nextClear (by omega) hB2 (by omega) (fun c' d1 d2 d3 d4 => ?_)
      have ecc : c' = c := by
        rcases Nat.lt_trichotomy c' c with z | z | z
        · exact absurd (d4 (by omega)) (c3 c' d1 z)
        · exact z
        · exact absurd hc0 (d3 c (by omega) z)
      subst ecc
      intro _
      refine pd_add ⟨hB2.2.1, ?_⟩
      have hlen : (vs ++ [nI (c' - s)]).length = vs.length + 1 := by rw [List.length_append]; rfl
      have hLv : qd_L (dia N.2) M2 P2 (L1 ++ [(a2, (0, 24, 0))]) a0 (vs ++ [nI (c' - s)]).length (fun i => if i = vs.length then a2 else nd i) (fun i => (vs ++ [nI (c' - s)]).getD i 0) := by
        rw [hlen]
        refine hL2.v (fun i hi => ?_)
        show (vs ++ [nI (c' - s)]).getD i 0 = if i = vs.length then nI (c' - s) else vs.getD i 0
        rw [List.getD_eq_getElem?_getD, List.getD_eq_getElem?_getD]
        by_cases ei : i = vs.length
        · rw [if_pos ei, ei, List.getElem?_append_right (Nat.le_refl _), Nat.sub_self]
          rfl
        · rw [if_neg ei, List.getElem?_append_left (by omega)]
      have hone := pl_runs_one hg hsc hcn hn c3 hc0
      have hR2 : pl_runs S (n + 1) 0 = (vs ++ [nI (c' - s)]) ++ pl_runs S (n + 1 - c') 0 := by rw [hR, hone, List.append_assoc]; rfl
      refine qd_nextSet (by omega) hB2 (by omega) (fun s' s1 s2 s3 s4 => ?_) (fun hno => ?_)
      · intro _
        refine pd_add ?_
        have hs'n : s' < n := by
          rcases Nat.lt_or_ge s' n with z | z
          · exact z
          · exact absurd (hlackn s' z) s4
        have hcl := pl_runs_clear hg (s' - c') c' (by omega) (fun j a b => s3 j a (by omega))
        rw [show c' + (s' - c') = s' by omega] at hcl
        have hne : s' ≠ c' := fun z => s4 (by rw [z]; exact hc0)
        exact ih s' f M2 P2 _ _ _ (vs ++ [nI (c' - s)]) _ (nI s') (by omega) (by omega) (by omega) (by omega) (Or.inl ⟨rfl, hs'n, s4⟩) (by omega) (by omega) hu2 hZ2 hB2 hLv (by rw [hR2, hcl])
      · intro _
        refine pd_add ?_
        have hcl := pl_runs_clear hg (n + 1 - c') c' (by omega) (fun j a b => by
          rcases Nat.lt_or_ge j n with z | z
          · exact hno j a (by omega)
          · exact hlackn j z)
        rw [show n + 1 - (c' + (n + 1 - c')) = 0 by omega] at hcl
        exact ih c' f M2 P2 _ _ _ (vs ++ [nI (c' - s)]) _ (-1) (by omega) (by omega) (by omega) (by omega) (Or.inr ⟨rfl, hcl⟩) (by omega) (by omega) hu2 hZ2 hB2 hLv hR2
    · subst e5
      rw [hnil, List.append_nil] at hR
      rw [← hR] at hL hvs hk hm
      exact hfin f M P L k m nd (by omega) (by omega) (by omega) hu hZ (by omega) hL
