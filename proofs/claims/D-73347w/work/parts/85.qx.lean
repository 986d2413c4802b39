/-! DYNAMIC BIT SETS; THE CLASS: played -/
/-- an address is of one kind -/
def qd_u (L : dL) : Prop := ∀ x ∈ L, ∀ y ∈ L, x.1 = y.1 → x.2 = y.2
theorem qd_u.snoc {L : dL} {a : Nat} {kd : dk} (h : qd_u L) (ha : ∀ x ∈ L, x.1 ≠ a) : qd_u (L ++ [(a, kd)]) := by
  intro x hx y hy e
  rcases List.mem_append.mp hx with z | z
  · rcases List.mem_append.mp hy with t | t
    · exact h x z y t e
    · rw [List.mem_singleton.mp t] at e
      exact absurd e (ha x z)
  · rw [List.mem_singleton.mp z] at e ⊢
    rcases List.mem_append.mp hy with t | t
    · exact absurd e.symm (ha y t)
    · rw [List.mem_singleton.mp t]
theorem pd_nn {v : Option Nat} {a : Nat} {F : Nat → Prop} (e : v = some a) (h : F a) : cd_nn v F := by rw [e]; exact h
theorem pd_if0 {v : Option Nat} {A : Prop} {B : Nat → Prop} (e : v = none) (h : A) : cd_if v A B := by rw [e]; exact h
theorem pd_if1 {v : Option Nat} {a : Nat} {A : Prop} {B : Nat → Prop} (e : v = some a) (h : B a) : cd_if v A B := by rw [e]; exact h
theorem pd_ldw {M : cx_M} {c n k : Nat} {f : Int64 → Prop} (hk : k < n) (hn : n < 1000) (h : f (bt_w (M c) k)) : cq_ldw M c n (nI k) f := by
  unfold cq_ldw
  rw [if_neg (vp_in_nI hk (by omega)), nI_clamp (by omega)]
  exact h
theorem pd_stw {M : cx_M} {c n k : Nat} {v : Int64} {f : cx_M → Prop} (hk : k < n) (hn : n < 1000) (h : f (cx_set M c (bt_put (M c) k v))) : cq_stw M c n (nI k) v f := by
  unfold cq_stw
  rw [if_neg (vp_in_nI hk (by omega)), nI_clamp (by omega)]
  exact h
theorem pd_new {bc bs k n sz : Nat} {kd : dk} {M : cx_M} {P : dP} {L : dL} {F : Nat → cx_M → dP → dL → Nat → Nat → Prop} (hb : k + 1 ≤ bc) (hs : n + sz ≤ bs) (h : ∀ a, (∀ x ∈ L, x.1 ≠ a) → F a (cx_set M (dc a) (fun _ => 0)) (dPn P a) (L ++ [(a, kd)]) (k + 1) (n + sz)) : cd_new bc bs k n sz kd M P L F := ⟨hb, hs, h⟩
theorem pd_newa {bc bs k n : Nat} {i : Int32} {kd : Nat → dk} {M : cx_M} {P : dP} {L : dL} {F : Nat → cx_M → dP → dL → Nat → Nat → Prop} (h1 : ¬ i < 0) (h2 : i.toNatClampNeg ≤ 100000) (h : cd_new bc bs k n i.toNatClampNeg (kd i.toNatClampNeg) M P L F) : cd_newa bc bs k n i kd M P L F := ⟨h1, h2, h⟩
theorem dPu_ne {P : dP} {a k : Nat} {v : Option Nat} {b : Nat} (h : b ≠ a) : dPu P a k v b = P b := by unfold dPu; rw [if_neg h]
theorem dPu_at {P : dP} {a k : Nat} {v : Option Nat} {j : Nat} : dPu P a k v a j = if j = k then v else P a j := by
  unfold dPu
  rw [if_pos rfl]
  rfl
theorem dPn_ne {P : dP} {a b : Nat} (h : b ≠ a) : dPn P a b = P b := by unfold dPn; rw [if_neg h]
/-- a dynamic bit set at rest -/
def qd_B (M : cx_M) (P : dP) (L : dL) (a b : Nat) (f : Nat → Int32) : Prop :=
  a ≠ b ∧ (a, (0, 21, 0)) ∈ L ∧ (b, (2, 0, 2)) ∈ L ∧ P a 0 = some b ∧ (∃ w : Nat, w ≤ 2 ∧ M (dc a) 1 = nI w ∧ ∀ q, 64 * w ≤ q → q < 128 → M (dc b) q = 0) ∧ (∀ q, q < 128 → M (dc b) q = f q) ∧ ∀ q, q < 128 → f q = 0 ∨ f q = 1
theorem dc_ne {a b : Nat} (h : a ≠ b) : dc a ≠ dc b := by unfold dc; omega
theorem dc_lo {a c : Nat} (h : c < 10000000) : c ≠ dc a := by unfold dc; omega
/-- what was there stands as it was; L' is L and more -/
def qd_X (M : cx_M) (P : dP) (L : dL) (M' : cx_M) (P' : dP) (L' : dL) : Prop :=
  (∀ c, c < 10000000 → M' c = M c) ∧ (∃ L2, L' = L ++ L2 ∧ ∀ y ∈ L2, ∀ x ∈ L, x.1 ≠ y.1) ∧ (∀ x ∈ L, M' (dc x.1) = M (dc x.1) ∧ P' x.1 = P x.1)
theorem qd_X.rf {M : cx_M} {P : dP} {L : dL} : qd_X M P L M P L := ⟨fun _ _ => rfl, ⟨[], (List.append_nil L).symm, fun y hy => absurd hy (by simp)⟩, fun _ _ => ⟨rfl, rfl⟩⟩
theorem qd_X.mem {M M' : cx_M} {P P' : dP} {L L' : dL} (h : qd_X M P L M' P' L') {x : Nat × dk} (hx : x ∈ L) : x ∈ L' := by
  obtain ⟨L2, e, -⟩ := h.2.1
  rw [e]
  exact List.mem_append_left _ hx
theorem qd_X.tr {M M1 M2 : cx_M} {P P1 P2 : dP} {L L1 L2 : dL} (h : qd_X M P L M1 P1 L1) (h2 : qd_X M1 P1 L1 M2 P2 L2) : qd_X M P L M2 P2 L2 := by
  refine ⟨fun c hc => (h2.1 c hc).trans (h.1 c hc), ?_, fun x hx => ⟨(h2.2.2 x (h.mem hx)).1.trans (h.2.2 x hx).1, (h2.2.2 x (h.mem hx)).2.trans (h.2.2 x hx).2⟩⟩
  obtain ⟨A, e, hA⟩ := h.2.1
  obtain ⟨B, e2, hB⟩ := h2.2.1
  refine ⟨A ++ B, by rw [e2, e, List.append_assoc], fun y hy x hx => ?_⟩
  rcases List.mem_append.mp hy with z | z
  · exact hA y z x hx
  · exact hB y z x (h.mem hx)
/-- only a cell that was not there was changed -/
theorem qd_X.out {M M' : cx_M} {P P' : dP} {L : dL} {S : Nat → Prop} (hS : ∀ a, S a → ∀ x ∈ L, x.1 ≠ a) (h1 : ∀ c, (∀ a, S a → c ≠ dc a) → M' c = M c) (h2 : ∀ x, ¬ S x → P' x = P x) : qd_X M P L M' P' L :=
  ⟨fun c hc => h1 c (fun a _ => dc_lo hc), ⟨[], (List.append_nil L).symm, fun y hy => absurd hy (by simp)⟩, fun x hx => ⟨h1 _ (fun a ha => dc_ne (hS a ha x hx)), h2 x.1 (fun z => hS x.1 z x hx rfl)⟩⟩
theorem qd_X.snoc {M M' : cx_M} {P P' : dP} {L : dL} {a : Nat} {kd : dk} (ha : ∀ x ∈ L, x.1 ≠ a) (h : qd_X M P L M' P' L) : qd_X M P L M' P' (L ++ [(a, kd)]) :=
  ⟨h.1, ⟨[(a, kd)], rfl, fun y hy x hx => by rw [List.mem_singleton.mp hy]; exact ha x hx⟩, h.2.2⟩
theorem qd_init {N bc bs : Nat} {M : cx_M} {P : dP} {L : dL} {a : Nat} {Q : cd_Qt} (ha : (a, (0, 21, 0)) ∈ L) (hb : 1 ≤ bc) (hs : 2 ≤ bs)
    (hy : ∀ b M' P', (∀ x ∈ L, x.1 ≠ b) → qd_B M' P' (L ++ [(b, (2, 0, 2))]) a b (fun _ => 0) → (∀ c, c ≠ dc a → c ≠ dc b → M' c = M c) → (∀ x, x ≠ a → x ≠ b → P' x = P x) → Q M' P' (L ++ [(b, (2, 0, 2))]) 0 none 0 1 2) : jBd_initD N bc bs M P L a 128 Q := by
  unfold jBd_initD jBd_initD_0
  refine ⟨ha, pq_put ⟨ha, pq_put ?_⟩⟩
  rw [if_pos (by decide)]
  refine ⟨ha, ?_⟩
  unfold jBd_initWordsD jBd_initWordsD_0 jBd_wordIndexD jBd_wordIndexD_0
  intro _
  refine pd_add ?_
  rw [show ((128 : Int32) - 1) >>> (6 &&& 31) + 1 = 2 by decide]
  refine pd_newa (by decide) (by decide) ?_
  show cd_new (bc - 0) (bs - 0) 0 0 2 (2, 0, 2) (cx_up (cx_up M (dc a) 1 0) (dc a) 2 0) P L _
  refine pd_new (by omega) (by omega) (fun b hfr => ?_)
  have hab : a ≠ b := hfr _ ha
  refine ⟨List.mem_append_left _ ha, ?_⟩
  show 0 = 0 → _
  intro _
  refine ⟨List.mem_append_left _ ha, ?_⟩
  have e1 : ∀ c, c ≠ dc a → c ≠ dc b → cx_up (cx_set (cx_up (cx_up M (dc a) 1 0) (dc a) 2 0) (dc b) (fun _ => 0)) (dc a) 2 1 c = M c := fun c h1 h2 => by rw [px_upc h1, px_setc h2, px_upc h1, px_upc h1]
  have e2 : ∀ x, x ≠ a → x ≠ b → dPu (dPn P b) a 0 (some b) x = P x := fun x h1 h2 => by rw [dPu_ne h1, dPn_ne h2]
  refine hy b _ _ hfr ⟨hab, List.mem_append_left _ ha, List.mem_append_right _ (List.mem_singleton.mpr rfl), by rw [dPu_at, if_pos rfl], ⟨0, by omega, ?_, fun q _ _ => ?_⟩, fun q _ => ?_, fun _ _ => Or.inl rfl⟩ e1 e2
  · rw [px_up, if_neg (fun z => absurd z.2 (by decide)), px_setc (dc_ne hab), px_up, if_neg (fun z => absurd z.2 (by decide)), px_up, if_pos ⟨rfl, rfl⟩]
    rfl
  · rw [px_upc (dc_ne hab).symm, px_sets]
  · rw [px_upc (dc_ne hab).symm, px_sets]
theorem qd_get {N bc bs x : Nat} {M : cx_M} {P : dP} {L : dL} {a b : Nat} {f : Nat → Int32} {Q : cd_Qt} (h : qd_B M P L a b f) (hx : x < 128) (hy : Q M P L (if f x = 0 then 0 else 1) none 0 0 0) : jBd_getD N bc bs M P L a (nI x) Q := by
  obtain ⟨hab, ha, hb, hP, ⟨w, hw, e1, hz⟩, hf, -⟩ := h
  unfold jBd_getD jBd_getD_0
  rw [if_pos (nI_pos' (by omega))]
  refine ⟨ha, ?_⟩
  show 0 = 0 → 0 = 0 → _
  intro _ _
  refine ⟨ha, ?_⟩
  show if M (dc a) 1 ≤ nI x >>> (6 &&& 31) then Q M P L 0 none 0 0 0 else _
  rw [pw_wi x hx, e1]
  by_cases c1 : w ≤ x / 64
  · rw [if_pos (nI_le c1 (by omega))]
    rw [← hf x hx, hz x (by omega) hx, if_pos rfl] at hy
    exact hy
  · rw [if_neg (nI_ge (by omega) (by omega))]
    refine ⟨ha, ?_⟩
    refine pd_nn hP ⟨2, hb, pd_ldw (by omega) (by omega) ?_⟩
    have hbt : ∀ j, j < 64 → pw_b (bt_w (M (dc b)) (x / 64) &&& cx_shl64 1 (nI x)) j = decide (j = x % 64 ∧ f x ≠ 0) := by
      intro j hj
      rw [pw_and, pw_w _ _ _ hj, pw_sh1 x hx j hj]
      by_cases ej : j = x % 64
      · subst ej
        rw [show 64 * (x / 64) + x % 64 = x by omega, hf x hx]
        simp
      · simp [ej]
    by_cases c2 : f x = 0
    · have e0 : bt_w (M (dc b)) (x / 64) &&& cx_shl64 1 (nI x) = 0 := pw_ext (fun j hj => by rw [hbt j hj, pw_0]; simp [c2])
      rw [if_pos c2] at hy
      rw [e0, if_pos (by decide)]
      exact hy
    · have e0 : ¬ bt_w (M (dc b)) (x / 64) &&& cx_shl64 1 (nI x) = 0 := by
        intro e
        have := hbt (x % 64) (by omega)
        rw [e, pw_0] at this
        simp [c2] at this
      have e1 : ¬ lg_cmp (bt_w (M (dc b)) (x / 64) &&& cx_shl64 1 (nI x)) 0 = 0 := by
        unfold lg_cmp
        split
        · decide
        · first | decide | (rw [if_neg e0]; decide)
      rw [if_neg c2] at hy
      rw [if_neg e1]
      exact hy
theorem qd_set {N bc bs x : Nat} {M : cx_M} {P : dP} {L : dL} {a b : Nat} {f : Nat → Int32} {Q : cd_Qt} (h : qd_B M P L a b f) (hx : x < 128) (hy : ∀ M', qd_B M' P L a b (upd f x 1) → (∀ c, c ≠ dc a → c ≠ dc b → M' c = M c) → Q M' P L 0 none 0 0 0) : jBd_set_2D N bc bs M P L a (nI x) Q := by
  obtain ⟨hab, ha, hb, hP, ⟨w, hw, e1, hz⟩, hf, h01⟩ := h
  have h01' : ∀ q, q < 128 → upd f x 1 q = 0 ∨ upd f x 1 q = 1 := by
    intro q hq
    unfold upd
    split
    · exact Or.inr rfl
    · exact h01 q hq
  have fin : ∀ (M1 : cx_M) (w1 : Nat), w1 ≤ 2 → x / 64 < w1 → w ≤ w1 → M1 (dc a) 1 = nI w1 → (∀ d, d ≠ dc a → M1 d = M d) →
      ((a, (0, 21, 0)) ∈ L ∧ cd_let (P a 0) fun r19 => cd_nn r19 fun a20 => ∃ z22, (a20, (2, 0, z22)) ∈ L ∧ cq_ldw M1 (dc a20) z22 (nI (x / 64)) fun w21 => ∃ z24, (a20, (2, 0, z24)) ∈ L ∧ cq_stw M1 (dc a20) z24 (nI (x / 64)) (w21 ||| (cx_shl64 1 (nI x))) fun M23 =>
        (a, (0, 21, 0)) ∈ L ∧ Q M23 P L 0 none 0 0 0) := by
    intro M1 w1 hw1 hx1 hww ew1 ho
    refine ⟨ha, pd_nn hP ⟨2, hb, pd_ldw (by omega) (by omega) ⟨2, hb, pd_stw (by omega) (by omega) ⟨ha, ?_⟩⟩⟩⟩
    have hbv : ∀ q, q < 128 → bt_put (M1 (dc b)) (x / 64) (bt_w (M1 (dc b)) (x / 64) ||| cx_shl64 1 (nI x)) q = upd f x 1 q := by
      intro q hq
      rw [pw_put, ho (dc b) (dc_ne hab).symm]
      unfold upd
      by_cases c2 : q / 64 = x / 64
      · rw [if_pos c2, pw_or, pw_w _ _ _ (by omega), pw_sh1 x hx _ (by omega), show 64 * (x / 64) + q % 64 = q by omega, hf q hq]
        by_cases c3 : q = x
        · subst c3; simp
        · rw [if_neg c3]
          have c4 : q % 64 ≠ x % 64 := by omega
          rcases h01 q hq with e | e <;> simp [c4, e]
      · rw [if_neg c2, if_neg (by intro e; subst e; exact c2 rfl), hf q hq]
    refine hy _ ⟨hab, ha, hb, hP, ⟨w1, hw1, by rw [px_setc (dc_ne hab)]; exact ew1, fun q h4 h5 => ?_⟩, fun q hq => ?_, h01'⟩ (fun c h4 h5 => by rw [px_setc h5]; exact ho c h4)
    · rw [px_sets, hbv q h5]
      unfold upd
      rw [if_neg (by omega), ← hf q h5]
      exact hz q (by omega) h5
    · rw [px_sets]; exact hbv q hq
  unfold jBd_set_2D jBd_set_2D_0
  rw [if_pos (nI_pos' (by omega))]
  show 0 = 0 → _
  intro _
  refine ⟨ha, ?_⟩
  show jBd_expandToD N (bc - 0) (bs - 0) M P L a (nI x >>> (6 &&& 31)) _
  rw [pw_wi x hx]
  unfold jBd_expandToD jBd_expandToD_0
  show (a, (0, 21, 0)) ∈ L ∧ (if nI (x / 64) + 1 ≤ M (dc a) 1 then _ else _)
  refine ⟨ha, ?_⟩
  rw [e1, ← nI_succ]
  by_cases c1 : x / 64 + 1 ≤ w
  · rw [if_pos (nI_le c1 (by omega))]
    intro _
    obtain ⟨f1, f2⟩ := fin M w hw (by omega) (Nat.le_refl _) e1 (fun _ _ => rfl)
    refine ⟨f1, ?_⟩
    refine pd_nn hP ?_
    have f3 := f2
    rw [hP] at f3
    obtain ⟨z, hz1, f4⟩ := f3
    refine ⟨z, hz1, ?_⟩
    unfold cq_ldw at f4 ⊢
    split at f4
    · exact absurd f4 (fun z => z)
    · rename_i hc
      rw [if_neg hc]
      obtain ⟨z2, hz2, f5⟩ := f4
      refine ⟨z2, hz2, ?_⟩
      unfold cq_stw at f5 ⊢
      split at f5
      · exact absurd f5 (fun z => z)
      · rename_i hc2
        rw [if_neg hc2]
        exact ⟨f5.1, fun _ => f5.2⟩
  · rw [if_neg (nI_ge (by omega) (by omega))]
    refine ⟨ha, ?_⟩
    unfold jBd_ensureCapacityD jBd_ensureCapacityD_0
    refine ⟨ha, pd_nn hP ⟨2, hb, ?_⟩⟩
    rw [if_pos (show nI (x / 64 + 1) ≤ nI 2 from nI_le (by omega) (by omega))]
    show 0 = 0 → _
    intro _
    refine ⟨ha, ?_⟩
    show 0 = 0 → _
    intro _
    obtain ⟨f1, f2⟩ := fin (cx_up M (dc a) 1 (nI (x / 64 + 1))) (x / 64 + 1) (by omega) (by omega) (by omega) (by rw [px_up, if_pos ⟨rfl, rfl⟩]) (fun d hd => px_upc hd)
    refine ⟨f1, ?_⟩
    refine pd_nn hP ?_
    have f3 := f2
    rw [hP] at f3
    obtain ⟨z, hz1, f4⟩ := f3
    refine ⟨z, hz1, ?_⟩
    unfold cq_ldw at f4 ⊢
    split at f4
    · exact absurd f4 (fun z => z)
    · rename_i hc
      rw [if_neg hc]
      obtain ⟨z2, hz2, f5⟩ := f4
      refine ⟨z2, hz2, ?_⟩
      unfold cq_stw at f5 ⊢
      split at f5
      · exact absurd f5 (fun z => z)
      · rename_i hc2
        rw [if_neg hc2]
        exact ⟨f5.1, fun _ => f5.2⟩
/-- what lacked of the octets kept, the oldest first -/
def pl_lack (S : ps_S) (n : Nat) (q : Nat) : Int32 := if q < n then (if S 8 (pn (cx_rem (S 0 6 - nI n + nI q) 128)) = 0 then 0 else 1) else 0
theorem qd_lacks_loop {f0 : Nat} {ev : Nat → (Nat → Int32) → Int32} {adr : Nat → Nat} {bc bs : Nat} {P : dP} {L : dL} {a b n k1 n1 : Nat} {S : ps_S} {Q : cd_Qt} {M0 : cx_M} (hn : n ≤ 128) (h6 : (n : Int) ≤ (S 0 6).toInt ∧ (S 0 6).toInt ≤ 90000)
    (hM6 : M0 1000 6 = S 0 6) {g : Nat → Int32} (hB : pc_B M0 1042 g) (hg : ∀ k : Nat, k < 128 → (k : Int) < (S 0 6).toInt → g k = S 8 k) (hy : ∀ M', qd_B M' P L a b (pl_lack S n) → (∀ c, c ≠ dc a → c ≠ dc b → M' c = M0 c) → Q M' P L 0 (some a) 0 k1 n1) :
    ∀ (m q f : Nat) (M : cx_M), q + m = n → m < f → qd_B M P L a b (fun i => if i < q then pl_lack S n i else 0) → (∀ c, c ≠ dc a → c ≠ dc b → M c = M0 c) → dSt_lacksD_22 ((f0, ev, vLk f0 ev, vWt f0 ev), adr) bc bs Q 1000 f M P L k1 n1 a (nI n) (nI q) := by
  intro m
  induction m with
  | zero =>
    intro q f M hq hf h F
    obtain ⟨f, rfl⟩ : ∃ j, f = j + 1 := ⟨f - 1, by omega⟩
    show dSt_lacksD_22b _ bc bs Q 1000 (dSt_lacksD_22 _ bc bs Q 1000 f) M P L k1 n1 a (nI n) (nI q)
    unfold dSt_lacksD_22b
    rw [if_pos (nI_le (by omega) (by omega))]
    refine hy M ?_ F
    have e : (fun i => if i < q then pl_lack S n i else 0) = pl_lack S n := by
      funext i
      by_cases c : i < q
      · rw [if_pos c]
      · rw [if_neg c]
        unfold pl_lack
        rw [if_neg (by omega)]
    rw [← e]
    exact h
  | succ m ih =>
    intro q f M hq hf h F
    obtain ⟨f, rfl⟩ : ∃ j, f = j + 1 := ⟨f - 1, by omega⟩
    have tn := pi_nI (n := n) (by omega)
    have tq := pi_nI (n := q) (by omega)
    have ei : (S 0 6 - nI n + nI q).toInt = (S 0 6).toInt - n + q := by
      rw [i32_add (by rw [i32_sub (by omega) (by omega), tn]; omega) (by rw [i32_sub (by omega) (by omega), tn]; omega), i32_sub (by omega) (by omega), tn, tq]
    have er := pi_rem128 (x := S 0 6 - nI n + nI q) (by omega)
    have ep : cx_rem (S 0 6 - nI n + nI q) 128 = nI (pn (cx_rem (S 0 6 - nI n + nI q) 128)) := pn_nI (by omega)
    have hp : pn (cx_rem (S 0 6 - nI n + nI q) 128) < 128 := by rw [pn_def]; omega
    have hB' : pc_B M 1042 g := hB.fr (F 1042 (dc_lo (by decide)) (dc_lo (by decide))) (F 1043 (dc_lo (by decide)) (dc_lo (by decide)))
    have h6M : M 1000 6 = S 0 6 := by rw [F 1000 (dc_lo (by decide)) (dc_lo (by decide))]; exact hM6
    have eg := pc_get (N := (f0, ev, vLk f0 ev, vWt f0 ev)) hB' hp
    rw [hg _ hp (by rw [pn_def]; omega), ← ep] at eg
    show dSt_lacksD_22b _ bc bs Q 1000 (dSt_lacksD_22 _ bc bs Q 1000 f) M P L k1 n1 a (nI n) (nI q)
    unfold dSt_lacksD_22b dSt_lacksD_54
    rw [if_neg (nI_ge (by omega) (by omega))]
    refine pq_get ?_
    rw [h6M]
    refine pq_calm eg ?_
    have hl : pl_lack S n q = if S 8 (pn (cx_rem (S 0 6 - nI n + nI q) 128)) = 0 then 0 else 1 := by
      unfold pl_lack
      rw [if_pos (by omega)]
    by_cases c : S 8 (pn (cx_rem (S 0 6 - nI n + nI q) 128)) = 0
    · rw [if_pos c] at hl
      rw [if_pos c, if_pos rfl]
      show dSt_lacksD_22 _ bc bs Q 1000 f M P L k1 n1 a (nI n) (nI q + 1)
      rw [← nI_succ]
      refine ih (q + 1) f M (by omega) (by omega) ?_ F
      have e : (fun i => if i < q + 1 then pl_lack S n i else 0) = fun i => if i < q then pl_lack S n i else 0 := by
        funext i
        show (if i < q + 1 then pl_lack S n i else 0) = if i < q then pl_lack S n i else 0
        by_cases c1 : i < q
        · rw [if_pos c1, if_pos (by omega)]
        · rw [if_neg c1]
          by_cases c2 : i = q
          · rw [if_pos (by omega), c2, hl]
          · rw [if_neg (by omega)]
      rw [e]
      exact h
    · rw [if_neg c] at hl
      rw [if_neg c, if_neg (by decide)]
      refine ⟨h.2.1, qd_set h (by omega) (fun M1 h1 F1 => ?_)⟩
      intro _
      show dSt_lacksD_22 _ bc bs Q 1000 f M1 P L k1 n1 a (nI n) (nI q + 1)
      rw [← nI_succ]
      refine ih (q + 1) f M1 (by omega) (by omega) ?_ (fun c h1 h2 => by rw [F1 c h1 h2, F c h1 h2])
      have e : (fun i => if i < q + 1 then pl_lack S n i else 0) = upd (fun i => if i < q then pl_lack S n i else 0) q 1 := by
        funext i
        show (if i < q + 1 then pl_lack S n i else 0) = if i = q then 1 else if i < q then pl_lack S n i else 0
        by_cases c2 : i = q
        · rw [if_pos c2, if_pos (by omega), c2, hl]
        · rw [if_neg c2]
          by_cases c1 : i < q
          · rw [if_pos c1, if_pos (by omega)]
          · rw [if_neg c1, if_neg (by omega)]
      rw [e]
      exact h1
theorem qd_lacks {f0 : Nat} {ev : Nat → (Nat → Int32) → Int32} {adr : Nat → Nat} {bc bs n : Nat} {M : cx_M} {P : dP} {L : dL} {S : ps_S} {Q : cd_Qt} (hf : 700 ≤ f0) (h6 : 0 ≤ (S 0 6).toInt ∧ (S 0 6).toInt ≤ 90000) (hn : nI n = cx_min 128 (S 0 6)) (hn2 : n ≤ 128)
    (hM6 : M 1000 6 = S 0 6) {g : Nat → Int32} (hB : pc_B M 1042 g) (hg : ∀ k : Nat, k < 128 → (k : Int) < (S 0 6).toInt → g k = S 8 k) (hb : 2 ≤ bc) (hs : 5 ≤ bs)
    (hy : ∀ a b M' P' L', (∀ x ∈ L, x.1 ≠ a) → (∀ x ∈ L, x.1 ≠ b) → L' = (L ++ [(a, (0, 21, 0))]) ++ [(b, (2, 0, 2))] → qd_X M P L M' P' L' → qd_B M' P' L' a b (pl_lack S n) → Q M' P' L' 0 (some a) 0 2 5) : dSt_lacksD ((f0, ev, vLk f0 ev, vWt f0 ev), adr) bc bs M P L 1000 Q := by
  unfold dSt_lacksD dSt_lacksD_0
  refine pd_new (by omega) (by omega) (fun a ha => ?_)
  refine qd_init (List.mem_append_right _ (List.mem_singleton.mpr rfl)) (by omega) (by omega) (fun b M2 P2 hb2 hB2 F2 G2 => ?_)
  have hbL : ∀ x ∈ L, x.1 ≠ b := fun x hx => hb2 x (List.mem_append_left _ hx)
  have F2' : ∀ c, c ≠ dc a → c ≠ dc b → M2 c = M c := fun c h1 h2 => by rw [F2 c h1 h2, px_setc h1]
  have G2' : ∀ x, x ≠ a → x ≠ b → P2 x = P x := fun x h1 h2 => by rw [G2 x h1 h2, dPn_ne h1]
  have c6 : M2 1000 6 = S 0 6 := by rw [F2' 1000 (dc_lo (by decide)) (dc_lo (by decide))]; exact hM6
  have tn := pi_nI (n := n) (by omega)
  have hmin : (cx_min 128 (S 0 6)).toInt ≤ (S 0 6).toInt := (pa_kept h6.1).2.2.1
  intro _
  refine pd_add (pq_get ?_)
  rw [c6]
  refine pq_calm (show cSt_kept (f0, ev, vLk f0 ev, vWt f0 ev) 1000 M2 (S 0 6) = some (M2, cx_min 128 (S 0 6), 0) from rfl) ?_
  rw [← hn]
  refine qd_lacks_loop (b := b) (S := S) (M0 := M2) hn2 (by rw [← hn, tn] at hmin; exact ⟨hmin, h6.2⟩) c6 (hB.fr (F2' 1042 (dc_lo (by decide)) (dc_lo (by decide))) (F2' 1043 (dc_lo (by decide)) (dc_lo (by decide)))) hg (fun M3 h3 F3 => ?_) n 0 f0 M2 (by omega) (by omega) ?_ (fun _ _ _ => rfl)
  · have F3' : ∀ c, c ≠ dc a → c ≠ dc b → M3 c = M c := fun c h1 h2 => by rw [F3 c h1 h2, F2' c h1 h2]
    refine hy a b M3 P2 _ ha hbL rfl ?_ h3
    have x1 : qd_X M P L M3 P2 L := qd_X.out (S := fun z => z = a ∨ z = b) (fun z hz => by rcases hz with e | e <;> subst e; exact ha; exact hbL) (fun c hc => F3' c (hc a (Or.inl rfl)) (hc b (Or.inr rfl))) (fun x hx => G2' x (fun e => hx (Or.inl e)) (fun e => hx (Or.inr e)))
    refine ⟨x1.1, ⟨[(a, (0, 21, 0)), (b, (2, 0, 2))], by rw [List.append_assoc]; rfl, fun y hy x hx => ?_⟩, x1.2.2⟩
    rcases List.mem_cons.mp hy with e | e
    · rw [e]; exact ha x hx
    · rw [List.mem_singleton.mp e]; exact hbL x hx
  · have e : (fun i => if i < 0 then pl_lack S n i else 0) = fun _ => (0 : Int32) := by
      funext i
      rw [if_neg (by omega)]
    rw [e]
    exact hB2
theorem qc_A.X {N : cx_N} {E : ps_E} {M M' : cx_M} {P P' : dP} {L L' : dL} {A : qA} (hA : qAI E A) (h : qc_A N E M A) (hX : qd_X M P L M' P' L') : qc_A N E M' A :=
  qc_A.cells hA h (fun c hc => hX.1 c (by unfold qc_K at hc; omega))
theorem pa_I6 {E : ps_E} {S : ps_S} {T : Nat} (hI : ps_I E S T) : 0 ≤ (S 0 6).toInt ∧ (S 0 6).toInt ≤ 90000 := ⟨hI.1.1.2.2.2.1.1, by have := hI.1.1.2.2.2.1.2.1; have := hI.1.1.1.2.2.2.1; omega⟩
theorem dCc_playedD_s {f0 : Nat} {ev : Nat → (Nat → Int32) → Int32} {adr : Nat → Nat} {E : ps_E} {M : cx_M} {P : dP} {L : dL} {A : qA} {i w : Int32} {bc bs : Nat} {Q : cd_Qt} (hf : 700 ≤ f0) (hA : qAI E A) (h : qc_A (vN f0 ev) E M A) (hu : qd_u L) (hb : 2 ≤ bc) (hs : 6 ≤ bs)
    (hy : (0 ≤ i.toInt ∧ i.toInt < (cx_min 128 (A.1.1 0 6)).toInt) ∧ (0 ≤ w.toInt ∧ w.toInt ≤ 1) → ∀ M' P' L' k n, k ≤ 2 → n ≤ 5 → qd_u L' → qd_X M P L M' P' L' → Q M' P' L' (pa_playedAt A.1.1 i w) none 0 k n)
    (hn : ¬ ((0 ≤ i.toInt ∧ i.toInt < (cx_min 128 (A.1.1 0 6)).toInt) ∧ (0 ≤ w.toInt ∧ w.toInt ≤ 1)) → Q M P L 0 none 1 1 6) : dCc_playedD ((f0, ev, vLk f0 ev, vWt f0 ev), adr) bc bs M P L i w Q := by
  obtain ⟨T, hT, hI, -⟩ := hA.2.1.1
  have h6 := pa_I6 hI
  obtain ⟨k0, k1, k2, k3⟩ := pa_kept h6.1
  have n6 : M 1000 6 = A.1.1 0 6 := h.n 6 (Or.inl (by decide)) rfl (by decide)
  obtain ⟨v, hV⟩ := h.V (fun _ => False)
  have hS : pc_S M 1000 (cx_up A.1.1 0 35 v) := hV.1
  have bad : ¬ ((0 ≤ i.toInt ∧ i.toInt < (cx_min 128 (A.1.1 0 6)).toInt) ∧ (0 ≤ w.toInt ∧ w.toInt ≤ 1)) → dCc_playedD_35 ((f0, ev, vLk f0 ev, vWt f0 ev), adr) bc bs Q M P L 0 0 i w := by
    intro z
    unfold dCc_playedD_35 dCc_playedD_36
    exact cd_thr_s (by omega) hs (fun _ => ⟨fun _ => hn z, fun y => absurd y (by decide)⟩) (fun y => absurd rfl y)
  unfold dCc_playedD dCc_playedD_0
  by_cases c0 : i < 0
  · rw [if_pos c0]
    exact bad (fun z => by rw [i32_lt, pi_0] at c0; omega)
  · rw [if_neg c0]
    have hi0 : 0 ≤ i.toInt := by rw [i32_lt, pi_0] at c0; omega
    refine pq_get ?_
    rw [n6]
    refine pq_calm (show cSt_kept (f0, ev, vLk f0 ev, vWt f0 ev) 1000 M (A.1.1 0 6) = some (M, cx_min 128 (A.1.1 0 6), 0) from rfl) ?_
    by_cases c1 : cx_min 128 (A.1.1 0 6) ≤ i
    · rw [if_pos c1]
      exact bad (fun z => by rw [i32_le] at c1; omega)
    · rw [if_neg c1]
      refine pq_calm cCc_within_s ?_
      have hi1 : i.toInt < (cx_min 128 (A.1.1 0 6)).toInt := by rw [i32_le] at c1; omega
      by_cases c2 : 0 ≤ w.toInt ∧ w.toInt ≤ 1
      · rw [if_pos (show (0 : Int32).toInt ≤ w.toInt ∧ w.toInt ≤ (1 : Int32).toInt from c2), if_neg (by decide)]
        have hy := hy ⟨⟨hi0, hi1⟩, c2⟩
        unfold dCc_playedD_36
        refine cd_thr_s (by omega) hs (fun z => absurd z (by decide)) (fun _ => ⟨fun z => absurd rfl z, fun _ => ?_⟩)
        have ei1 : (i + 1).toInt = i.toInt + 1 := pi_succ (by omega) (by omega)
        have es1 : (A.1.1 0 6 - 1).toInt = (A.1.1 0 6).toInt - 1 := by rw [i32_sub (by rw [i32_1]; omega) (by rw [i32_1]; omega), i32_1]
        have es : (A.1.1 0 6 - 1 - i).toInt = (A.1.1 0 6).toInt - 1 - i.toInt := by rw [i32_sub (by omega) (by omega), es1]
        obtain ⟨q0, q1, q2⟩ := pi_rp (x := A.1.1 0 6 - 1 - i) (by omega)
        show if w = 0 then cq_cal (cSt_back (f0, ev, vLk f0 ev, vWt f0 ev) 1000 M (i + 1)) (fun M32 v33 => Q M32 P L v33 none 0 0 0) else dSt_lacksD ((f0, ev, vLk f0 ev, vWt f0 ev), adr) bc bs M P L 1000 _
        by_cases w0 : w = 0
        · rw [if_pos w0]
          have e : A.1.1 0 6 - (i + 1) = A.1.1 0 6 - 1 - i := by rw [i32_eq, es, i32_sub (by omega) (by omega), ei1]; omega
          have eb : cSt_back (f0, ev, vLk f0 ev, vWt f0 ev) 1000 M (i + 1) = some (M, pa_playedAt A.1.1 i w, 0) := by
            unfold cSt_back cSt_back_0
            simp only [px_get]
            rw [n6, if_pos (by rw [i32_le, ei1]; omega), e, px_ld q0 (by omega), (hS.2.2.2.2.1 _ q2).1 (by rw [px_up, if_neg (by decide), pn_def, pi_rem128 (by omega)]; omega)]
            unfold pa_playedAt
            rw [w0, show 7 + pn 0 = 7 from rfl, px_upc (by decide)]
          rw [pq_cal eb]
          exact hy M P L 0 0 (by omega) (by omega) hu qd_X.rf
        · rw [if_neg w0]
          have w1 : w = 1 := by
            have t0 : (0 : Int32).toInt = 0 := rfl
            rw [i32_eq, i32_1]
            rw [i32_eq] at w0
            omega
          have ep : cx_min 128 (A.1.1 0 6) = nI (pn (cx_min 128 (A.1.1 0 6))) := pn_nI k0
          have hpn : pn (cx_min 128 (A.1.1 0 6)) ≤ 128 := by rw [pn_def]; omega
          obtain ⟨fb, hfb, hlb⟩ := hS.2.2.2.2.2
          refine qd_lacks (S := A.1.1) hf h6 ep.symm hpn n6 hfb (fun k hk hk2 => by
            have q := hlb k hk (by rw [px_up, if_neg (by decide)]; exact hk2)
            rw [px_upc (show (8 : Nat) ≠ 0 by decide)] at q
            exact q) (by omega) (by omega) (fun a b M' P' L' ha hbb hL hX hB => ?_)
          · intro _
            have n6' : M' 1000 6 = A.1.1 0 6 := by rw [hX.1 1000 (by decide)]; exact n6
            refine pd_add (pq_get ?_)
            rw [n6']
            refine pq_calm (show cSt_kept (f0, ev, vLk f0 ev, vWt f0 ev) 1000 M' (A.1.1 0 6) = some (M', cx_min 128 (A.1.1 0 6), 0) from rfl) ?_
            refine pd_nn rfl ⟨hB.2.1, ?_⟩
            have ej : cx_min 128 (A.1.1 0 6) - 1 - i = nI (pn (cx_min 128 (A.1.1 0 6)) - 1 - pn i) := by
              rw [i32_eq, i32_sub (by omega) (by omega), k3, pi_nI (by omega), pn_def, pn_def]
              omega
            have hj : pn (cx_min 128 (A.1.1 0 6)) - 1 - pn i < pn (cx_min 128 (A.1.1 0 6)) := by rw [pn_def, pn_def]; omega
            rw [ej]
            refine qd_get hB (by omega) ?_
            intro _
            have tm := pi_nI (n := pn (cx_min 128 (A.1.1 0 6))) (by omega)
            have tj := pi_nI (n := pn (cx_min 128 (A.1.1 0 6)) - 1 - pn i) (by omega)
            have eidx : A.1.1 0 6 - nI (pn (cx_min 128 (A.1.1 0 6))) + nI (pn (cx_min 128 (A.1.1 0 6)) - 1 - pn i) = A.1.1 0 6 - 1 - i := by
              have e1 : (A.1.1 0 6 - nI (pn (cx_min 128 (A.1.1 0 6)))).toInt = (A.1.1 0 6).toInt - (pn (cx_min 128 (A.1.1 0 6)) : Nat) := by rw [i32_sub (by omega) (by omega), tm]
              rw [i32_eq, es, i32_add (by omega) (by omega), e1, tj]
              rw [pn_def, pn_def] at *
              omega
            have el : pl_lack A.1.1 (pn (cx_min 128 (A.1.1 0 6))) (pn (cx_min 128 (A.1.1 0 6)) - 1 - pn i) = if A.1.1 8 (pn (cx_rem (A.1.1 0 6 - 1 - i) 128)) = 0 then 0 else 1 := by
              unfold pl_lack
              rw [if_pos hj, eidx]
            have e01 := hI.1.2.2.2 _ q2
            have ev : pa_playedAt A.1.1 i w = A.1.1 8 (pn (cx_rem (A.1.1 0 6 - 1 - i) 128)) := by
              unfold pa_playedAt
              rw [w1]
              rfl
            have hu' : qd_u L' := by
              rw [hL]
              exact (hu.snoc ha).snoc (fun x hx => by
                rcases List.mem_append.mp hx with z | z
                · exact hbb x z
                · rw [List.mem_singleton.mp z]
                  exact hB.1)
            have q := hy M' P' L' 2 5 (by omega) (by omega) hu' hX
            rw [ev] at q
            rw [el]
            rcases e01 with z | z
            · rw [z] at q ⊢
              rw [if_pos rfl, if_pos rfl]
              refine pd_add ?_
              rw [if_pos rfl]
              exact q
            · rw [z] at q ⊢
              rw [if_neg (by decide)]
              refine pd_add ?_
              rw [if_neg (by decide)]
              exact q
      · rw [if_neg (show ¬ ((0 : Int32).toInt ≤ w.toInt ∧ w.toInt ≤ (1 : Int32).toInt) from c2), if_pos rfl]
        exact bad (fun z => c2 z.2)
