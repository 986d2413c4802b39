/-! READING A LINE, 23: the reference reckons a rule -/
theorem rS_ev {view : Nat → Int32} : ∀ (h m : Nat) (s : List Int32), rS h m s → ∀ st, s.foldl (sx_st view) st = sx_ev view s :: st := by
  intro h
  induction h with
  | zero => exact fun _ _ q => q.elim
  | succ h ih =>
    intro m s q
    have k : ∃ v, ∀ st, s.foldl (sx_st view) st = v :: st := by
      rcases q with ⟨v, q0, q1, -⟩ | ⟨e, he, q1, -⟩ | ⟨s1, q1, q2⟩ | ⟨c, s1, s2, m2, q0, q1, q2, q3, -⟩
      · exact ⟨nI v, fun st => by rw [q1, List.foldl_cons, List.foldl_nil, sx_stT (by rw [i32_le, pi_nI (by omega), pi_0]; omega)]⟩
      · exact ⟨view e, fun st => by rw [q1, List.foldl_cons, List.foldl_nil, sx_stS he]⟩
      · exact ⟨_, fun st => by rw [q1]; exact sx_fN (ih m s1 q2) st⟩
      · exact ⟨_, fun st => by rw [q1]; exact sx_fB q0 (ih m s1 q2) (ih m2 s2 q3) st⟩
    obtain ⟨v, k⟩ := k
    rw [sx_of k]
    exact k
theorem cx_sw_at {x : Int32} {lo : Int} {p D : Option cx_R} {Bs : List (Option cx_R)} (j : Nat) (h : x.toInt = lo + j) (hj : Bs[j]? = some p) : cx_sw x lo Bs D = p := by
  unfold cx_sw
  have hl := (List.getElem?_eq_some_iff.mp hj).1
  rw [if_neg (by omega), show (x.toInt - lo).toNat = j by omega, List.getD_eq_getElem?_getD, hj]
  rfl
theorem cx_sw_lo {x : Int32} {lo : Int} {D : Option cx_R} {Bs : List (Option cx_R)} (h : x.toInt < lo) : cx_sw x lo Bs D = D := by
  unfold cx_sw
  rw [if_pos (Or.inl h)]
theorem tw_reckon_s {N : Nat} {M : cx_M} {c a b : Int32} (hc : c ∈ sx_acts) : tw_reckon N M (sx_act c) a b = some (M, sx_op (sx_act c) a b, 0) := by
  simp only [sx_acts, List.mem_cons, List.not_mem_nil, or_false] at hc
  unfold tw_reckon tw_reckon_0
  rcases hc with rfl | rfl | rfl | rfl | rfl | rfl | rfl | rfl
  · rw [show sx_act 43 = -20 by decide, cx_sw_at 6 (by decide) rfl]
    rfl
  · rw [show sx_act 45 = -21 by decide, cx_sw_at 5 (by decide) rfl]
    rfl
  · rw [show sx_act 42 = -22 by decide, cx_sw_at 4 (by decide) rfl]
    rfl
  · rw [show sx_act 47 = -23 by decide, cx_sw_at 3 (by decide) rfl]
    show _ = some (M, (if b = 0 then 0 else a / b), 0)
    by_cases z : b = 0
    · rw [if_pos z, if_pos z]
    · rw [if_neg z, if_neg z]; unfold cx_nz; rw [if_neg z]
  · rw [show sx_act 60 = -24 by decide, cx_sw_at 2 (by decide) rfl]
    show _ = some (M, (if a < b then 1 else 0), 0)
    by_cases z : b ≤ a
    · rw [if_pos z, if_neg (by rw [i32_le] at z; rw [i32_lt]; omega)]
    · rw [if_neg z, if_pos (by rw [i32_le] at z; rw [i32_lt]; omega)]
  · rw [show sx_act 61 = -25 by decide, cx_sw_at 1 (by decide) rfl]
    show _ = some (M, (if a = b then 1 else 0), 0)
    by_cases z : a = b
    · rw [if_pos z, if_pos z]
    · rw [if_neg z, if_neg z]
  · rw [show sx_act 38 = -26 by decide, cx_sw_at 0 (by decide) rfl]
    show _ = some (M, (if a ≠ 0 ∧ b ≠ 0 then 1 else 0), 0)
    by_cases z : a = 0
    · rw [if_pos z, if_neg (fun q => q.1 z)]
    · by_cases y : b = 0
      · rw [if_neg z, if_pos y, if_neg (fun q => q.2 y)]
      · rw [if_neg z, if_neg y, if_pos ⟨z, y⟩]
  · rw [show sx_act 124 = -27 by decide, cx_sw_lo (by decide)]
    show _ = some (M, (if a ≠ 0 ∨ b ≠ 0 then 1 else 0), 0)
    by_cases z : a = 0
    · by_cases y : b = 0
      · rw [if_pos z, if_pos y, if_neg (fun q => q.elim (fun q => q z) (fun q => q y))]
      · rw [if_pos z, if_neg y, if_pos (Or.inr y)]
    · rw [if_neg z, if_pos (Or.inl z)]
theorem rS_pos : ∀ {h m : Nat} {s : List Int32}, rS h m s → 1 ≤ m
  | 0, _, _, q => q.elim
  | h + 1, m, s, q => by
    rcases q with ⟨v, -, -, q⟩ | ⟨e, -, -, q⟩ | ⟨s1, -, q⟩ | ⟨c, s1, s2, m2, -, -, q, -⟩
    · exact q
    · exact q
    · exact rS_pos q
    · exact rS_pos q
/-- from a sign on, so many numbers kept: what the loop comes to behind a rule's signs -/
theorem rS_run {N c0 len : Nat} {view : Nat → Int32} (hc0 : c0 = 5 ∨ c0 = 6) (hl : len ≤ 700) : ∀ (h m : Nat) (s : List Int32), rS h m s → ∀ (i d F : Nat) (M : cx_M), (∀ k, k < 4 → M 22 k = view k) → (∀ j y, s[j]? = some y → M c0 (i + j) = y) → d + m ≤ 64 → i + s.length ≤ len →
    ∃ f, tw_valueNow_5 N c0 (F + s.length) M (nI len) (nI d) (nI i) = tw_valueNow_5 N c0 F (cx_set M 23 f) (nI len) (nI (d + 1)) (nI (i + s.length)) ∧ (∀ k, k < d → f k = M 23 k) ∧ f d = sx_ev view s := by
  have hL : twLen c0 = 1400 := by rcases hc0 with e | e <;> rw [e] <;> rfl
  intro h
  induction h with
  | zero => exact fun _ _ q => q.elim
  | succ h ih =>
    intro m s q i d F M hv hrow hd hi
    have td := pi_nI (n := d) (by omega)
    have ti := pi_nI (n := i) (by omega)
    have hs0 : 1 ≤ s.length := by
      cases s with
      | nil => rcases q with ⟨v, -, q1, -⟩ | ⟨e, -, q1, -⟩ | ⟨s1, q1, -⟩ | ⟨c, s1, s2, m2, -, q1, -⟩ <;> simp at q1
      | cons a r => rw [List.length_cons]; omega
    rcases q with ⟨v, q0, q1, q2⟩ | ⟨e, he, q1, q2⟩ | ⟨s1, q1, q2⟩ | ⟨c, s1, s2, m2, q0, q1, q2, q3, q4⟩
    · subst q1
      have tv := pi_nI (n := v) (by omega)
      have e0 := hrow 0 _ rfl
      rw [Nat.add_zero] at e0
      have hi1 : i + 1 ≤ len := hi
      refine ⟨upd (M 23) d (nI v), ?_, fun k hk => by unfold upd; rw [if_neg (by omega)], ?_⟩
      · show tw_valueNow_5b N c0 (tw_valueNow_5 N c0 F) M (nI len) (nI d) (nI i) = _
        unfold tw_valueNow_5b
        rw [if_neg (nI_ge (by omega) (by omega)), hL, px_ld (by omega) (by omega), pn_I (by omega), e0, if_neg (by rw [i32_le, show (-20 : Int32).toInt = -20 from rfl]; omega), if_neg (by rw [i32_lt, pi_0]; omega)]
        unfold tw_valueNow_48 tw_valueNow_119
        rw [px_st (by omega) (by omega), pn_I (by omega)]
        simp only [px_let]
        rw [← nI_succ d, ← nI_succ i]
        rfl
      · unfold upd; rw [if_pos rfl, sx_told (by rw [i32_le, pi_0]; omega)]
    · subst q1
      obtain ⟨z1, z2, z3⟩ := sx_se e he
      have e0 := hrow 0 _ rfl
      rw [Nat.add_zero] at e0
      have hi1 : i + 1 ≤ len := hi
      have e4 : (-1 : Int32) - (-1 - nI e) = nI e := (by decide : ∀ e : Nat, e < 4 → (-1 : Int32) - (-1 - nI e) = nI e) e he
      have te := pi_nI (n := e) (by omega)
      refine ⟨upd (M 23) d (view e), ?_, fun k hk => by unfold upd; rw [if_neg (by omega)], ?_⟩
      · show tw_valueNow_5b N c0 (tw_valueNow_5 N c0 F) M (nI len) (nI d) (nI i) = _
        unfold tw_valueNow_5b
        rw [if_neg (nI_ge (by omega) (by omega)), hL, px_ld (by omega) (by omega), pn_I (by omega), e0, if_neg (by rw [i32_lt, show (-20 : Int32).toInt = -20 from rfl] at z1; rw [i32_le, show (-20 : Int32).toInt = -20 from rfl]; omega), if_pos (by rw [i32_le, pi_0] at z2; rw [i32_lt, pi_0]; omega), e4, px_ld (by omega) (by omega), pn_I (by omega), hv e he]
        unfold tw_valueNow_48 tw_valueNow_119
        rw [px_st (by omega) (by omega), pn_I (by omega)]
        simp only [px_let]
        rw [← nI_succ d, ← nI_succ i]
        rfl
      · unfold upd; rw [if_pos rfl, sx_seen he]
    · subst q1
      have hlen : (s1 ++ [-28]).length = s1.length + 1 := by rw [List.length_append]; rfl
      have hm1 := rS_pos q2
      rw [hlen] at hi ⊢
      obtain ⟨f, g1, g2, g3⟩ := ih m s1 q2 i d (F + 1) M hv (fun j y hy => hrow j y (by rw [List.getElem?_append_left (List.getElem?_eq_some_iff.mp hy).1]; exact hy)) hd (by omega)
      have e0 : M c0 (i + s1.length) = -28 := hrow s1.length _ (by rw [List.getElem?_append_right (Nat.le_refl _), Nat.sub_self]; rfl)
      have e0' : cx_set M 23 f c0 (i + s1.length) = -28 := by rw [px_setc (by rcases hc0 with e | e <;> omega)]; exact e0
      have tis := pi_nI (n := i + s1.length) (by omega)
      have ed : nI (d + 1) - 1 = nI d := by rw [show (1 : Int32) = nI 1 from rfl, nI_sub (by omega) (by omega), Nat.add_sub_cancel]
      refine ⟨upd f d (if sx_ev view s1 = 0 then 1 else 0), ?_, fun k hk => by unfold upd; rw [if_neg (by omega)]; exact g2 k hk, ?_⟩
      · rw [show F + (s1.length + 1) = F + 1 + s1.length by omega, g1]
        show tw_valueNow_5b N c0 (tw_valueNow_5 N c0 F) (cx_set M 23 f) (nI len) (nI (d + 1)) (nI (i + s1.length)) = _
        unfold tw_valueNow_5b
        rw [if_neg (nI_ge (by omega) (by omega)), hL, px_ld (by omega) (by omega), pn_I (by omega), e0', if_pos (by decide), if_pos rfl, ed, px_ld (by omega) (by omega), pn_I (by omega), px_sets, g3]
        have fin : ∀ v : Int32, tw_valueNow_85 N c0 (tw_valueNow_5 N c0 F) (cx_set M 23 f) (nI len) (nI (d + 1)) (nI (i + s1.length)) (nI d) v = tw_valueNow_5 N c0 F (cx_set M 23 (upd f d v)) (nI len) (nI (d + 1)) (nI (i + (s1.length + 1))) := by
          intro v
          unfold tw_valueNow_85 tw_valueNow_119
          rw [px_st (by omega) (by omega), pn_I (by omega)]
          simp only [px_let]
          rw [← nI_succ (i + s1.length)]
          have : cx_up (cx_set M 23 f) 23 d v = cx_set M 23 (upd f d v) := by
            unfold cx_up
            rw [px_sets]
            funext c
            by_cases e : c = 23
            · subst e; rw [px_sets, px_sets]
            · rw [px_setc e, px_setc e, px_setc e]
          rw [this]
          rfl
        by_cases z : sx_ev view s1 = 0
        · rw [if_pos z, if_pos z]; exact fin 1
        · rw [if_neg z, if_neg z]; exact fin 0
      · unfold upd
        rw [if_pos rfl, sx_of (sx_fN (rS_ev h m s1 q2))]
    · subst q1
      have hlen : (s1 ++ s2 ++ [sx_act c]).length = s1.length + s2.length + 1 := by rw [List.length_append, List.length_append]; rfl
      have hm2 := rS_pos q3
      rw [hlen] at hi ⊢
      have r1 : ∀ j y, s1[j]? = some y → M c0 (i + j) = y := fun j y hy => hrow j y (by
        have hj := (List.getElem?_eq_some_iff.mp hy).1
        rw [List.append_assoc, List.getElem?_append_left hj]; exact hy)
      obtain ⟨f, g1, g2, g3⟩ := ih m s1 q2 i d (F + 1 + s2.length) M hv r1 hd (by omega)
      have hcne : c0 ≠ 23 := by rcases hc0 with e | e <;> omega
      have r2 : ∀ j y, s2[j]? = some y → cx_set M 23 f c0 (i + s1.length + j) = y := fun j y hy => by
        have hj := (List.getElem?_eq_some_iff.mp hy).1
        rw [px_setc hcne, Nat.add_assoc]
        refine hrow _ y ?_
        rw [List.append_assoc, List.getElem?_append_right (by omega), Nat.add_sub_cancel_left, List.getElem?_append_left hj]
        exact hy
      obtain ⟨f2, k1, k2, k3⟩ := ih m2 s2 q3 (i + s1.length) (d + 1) (F + 1) (cx_set M 23 f) (fun k hk => by rw [px_setc (by decide)]; exact hv k hk) r2 (by omega) (by omega)
      have hset : cx_set (cx_set M 23 f) 23 f2 = cx_set M 23 f2 := by
        funext x
        by_cases e : x = 23
        · subst e; rw [px_sets, px_sets]
        · rw [px_setc e, px_setc e, px_setc e]
      rw [hset] at k1
      have e0 : M c0 (i + s1.length + s2.length) = sx_act c := by
        rw [Nat.add_assoc]
        refine hrow _ _ ?_
        rw [List.getElem?_append_right (by rw [List.length_append]; omega), List.length_append, Nat.sub_self]
        rfl
      obtain ⟨n1, n2⟩ := sx_act_ne q0
      have tis := pi_nI (n := i + s1.length + s2.length) (by omega)
      have ed : nI (d + 1 + 1) + (-1) = nI (d + 1) := by
        have t1 := pi_nI (n := d + 1 + 1) (by omega)
        have t2 := pi_nI (n := d + 1) (by omega)
        rw [i32_eq, i32_add (by rw [t1, show (-1 : Int32).toInt = -1 from rfl]; omega) (by rw [t1, show (-1 : Int32).toInt = -1 from rfl]; omega), t1, t2, show (-1 : Int32).toInt = -1 from rfl]
        omega
      have ed2 : nI (d + 1) - 1 = nI d := by rw [show (1 : Int32) = nI 1 from rfl, nI_sub (by omega) (by omega), Nat.add_sub_cancel]
      have td1 := pi_nI (n := d + 1) (by omega)
      have fd : f2 d = sx_ev view s1 := by rw [k2 d (by omega), px_sets, g3]
      have fd1 : f2 (d + 1) = sx_ev view s2 := k3
      refine ⟨upd f2 d (sx_op (sx_act c) (sx_ev view s1) (sx_ev view s2)), ?_, fun k hk => ?_, ?_⟩
      · rw [show F + (s1.length + s2.length + 1) = F + 1 + s2.length + s1.length by omega, g1, k1]
        show tw_valueNow_5b N c0 (tw_valueNow_5 N c0 F) (cx_set M 23 f2) (nI len) (nI (d + 1 + 1)) (nI (i + s1.length + s2.length)) = _
        unfold tw_valueNow_5b
        rw [if_neg (nI_ge (by omega) (by omega)), hL, px_ld (by omega) (by omega), pn_I (by omega), px_setc hcne, e0, if_pos (by rw [i32_lt, show (-20 : Int32).toInt = -20 from rfl] at n1; rw [i32_le, show (-20 : Int32).toInt = -20 from rfl]; omega), if_neg n2, px_let, ed, ed2, px_ld (by omega) (by omega), pn_I (by omega), px_ld (by omega) (by omega), pn_I (by omega), px_sets, fd, fd1, px_cal (tw_reckon_s q0), px_st (by omega) (by omega), pn_I (by omega)]
        unfold tw_valueNow_119
        simp only [px_let]
        rw [← nI_succ (i + s1.length + s2.length)]
        have : cx_up (cx_set M 23 f2) 23 d (sx_op (sx_act c) (sx_ev view s1) (sx_ev view s2)) = cx_set M 23 (upd f2 d (sx_op (sx_act c) (sx_ev view s1) (sx_ev view s2))) := by
          unfold cx_up
          rw [px_sets]
          funext x
          by_cases e : x = 23
          · subst e; rw [px_sets, px_sets]
          · rw [px_setc e, px_setc e, px_setc e]
        rw [this, show i + s1.length + s2.length + 1 = i + (s1.length + s2.length + 1) by omega]
      · unfold upd
        rw [if_neg (by omega), k2 k (by omega), px_sets]
        exact g2 k hk
      · unfold upd
        rw [if_pos rfl, sx_of (sx_fB q0 (rS_ev h m s1 q2) (rS_ev h m2 s2 q3))]
/-- a rule's number -/
theorem tw_rule_s {N c0 : Nat} {s : List Int32} {M : cx_M} (hc0 : c0 = 5 ∨ c0 = 6) (hN : 3000 ≤ N) (hl : s.length ≤ 700) (hs : rS s.length 31 s) (hrow : ∀ j y, s[j]? = some y → M c0 j = y) : ∃ st, tw_valueNow N c0 M (nI s.length) = some (cx_set M 23 st, sx_ev (M 22) s, 0) := by
  obtain ⟨f, g1, -, g3⟩ := rS_run (N := N) (view := M 22) hc0 hl s.length 31 s hs 0 0 (N - s.length) M (fun _ _ => rfl) (fun j y hy => by rw [Nat.zero_add]; exact hrow j y hy) (by omega) (by omega)
  refine ⟨f, ?_⟩
  unfold tw_valueNow tw_valueNow_0
  rw [show N - s.length + s.length = N by omega] at g1
  show tw_valueNow_5 N c0 N M (nI s.length) (nI 0) (nI 0) = _
  rw [g1]
  obtain ⟨F, hF⟩ : ∃ F, N - s.length = F + 1 := ⟨N - s.length - 1, by omega⟩
  rw [hF, Nat.zero_add s.length]
  show tw_valueNow_5b N c0 (tw_valueNow_5 N c0 F) (cx_set M 23 f) (nI s.length) (nI 1) (nI s.length) = _
  unfold tw_valueNow_5b
  rw [if_pos (nI_le (Nat.le_refl _) (by omega)), px_get, px_sets, g3]
