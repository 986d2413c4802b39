/-! READING A LINE, 28: the world behind a line well told -/
def lAd (adr : Nat → Nat) (J : rJ) (e8 e9 : Option Nat) : Nat → Nat := fun k => if k = 8000 then J.1 else if k = 8001 then J.2.1 else if k = 8010 then J.2.2.1 else if k = 8011 then J.2.2.2.1 else if k = 8020 then e8.getD 0 else if k = 8021 then e9.getD 0 else adr k
def lMo (adr : Nat → Nat) (J : rJ) (u : rU) (M Ms : cx_M) : cx_M := fun c => if 10000000 ≤ c then Ms c else if c = 500 ∨ c = 600 ∨ c = 1000 ∨ c = 1038 then Ms (dc (adr c)) else if c = 8000 then (fun k => if k < 7 then u.1 k else if k = 8 then (if u.2.2.1 = [] then 0 else 1) else if k = 9 then (if u.2.2.2.1 = [] then 0 else 1) else 0) else if c = 8011 then Ms (dc J.2.2.2.1) else M c
/-- signs and boxes -/
def lK5 (kd : dk) : Bool := kd == (0, 13, 0) || kd == (0, 11, 0) || kd == (0, 9, 0) || kd == (0, 3, 0) || kd == (0, 16, 0)
def lKJ (J : rJ) (x : Nat × dk) : Bool := !(x.1 == J.1) && !(x.1 == J.2.2.1) && !(x.1 == J.2.2.2.1)
def lLx (Lx L L2 : dL) (J : rJ) : dL := Lx ++ (L2.filter (lKJ J) ++ L.filter (fun x => lK5 x.2))
def lLl (L : dL) : dL := L.filter (fun x => !(lK5 x.2))
def lchg (k : Nat) : Bool := k == 8000 || k == 8001 || k == 8010 || k == 8011 || k == 8020 || k == 8021
theorem lAd_k {adr : Nat → Nat} {J : rJ} {e8 e9 : Option Nat} {k : Nat} (h : lchg k = false) : lAd adr J e8 e9 k = adr k := by
  unfold lchg at h
  simp only [Bool.or_eq_false_iff, beq_eq_false_iff_ne] at h
  obtain ⟨⟨⟨⟨⟨h1, h2⟩, h3⟩, h4⟩, h5⟩, h6⟩ := h
  unfold lAd
  rw [if_neg h1, if_neg h2, if_neg h3, if_neg h4, if_neg h5, if_neg h6]
theorem lchg_hi {k : Nat} (h : 8022 ≤ k) : lchg k = false := by
  unfold lchg
  simp only [Bool.or_eq_false_iff, beq_eq_false_iff_ne]
  omega
theorem lchg_lo {k : Nat} (h : k < 8000) : lchg k = false := by
  unfold lchg
  simp only [Bool.or_eq_false_iff, beq_eq_false_iff_ne]
  omega
theorem wb_chk : vS.all (fun x => x.1 == 500 || x.1 == 8000 || x.1 == 8010 || x.1 == 650 || x.1 == 750 || (if x.2.1 = 0 then (List.range (dNf x.2.2.1)).all (fun k => !lchg (vref x.1 k)) else if x.2.1 = 3 then decide (x.1 ≤ 1) else decide (x.2.1 ≤ 2))) = true := by decide +kernel
theorem wb_chg : vS.all (fun x => !lchg x.1 || x.1 == 8000 || x.1 == 8010 || x.1 == 8011) = true := by decide +kernel
theorem wb_kinds : vS.all (fun x => (!(x.1 == 8000) || x.2 == (0, 7, 0)) && (!(x.1 == 8010) || x.2 == (0, 14, 0)) && (!(x.1 == 8011) || x.2 == (1, 0, 4)) && (!(x.1 == 500) || x.2 == (0, 1, 0)) && (!(x.1 == 650) || x.2 == (3, 4, 40)) && (!(x.1 == 750) || x.2 == (3, 4, 40))) = true := by decide +kernel
theorem wb_kd {x : Nat × dk} (hx : x ∈ vS) : (x.1 = 8000 → x.2 = (0, 7, 0)) ∧ (x.1 = 8010 → x.2 = (0, 14, 0)) ∧ (x.1 = 8011 → x.2 = (1, 0, 4)) ∧ (x.1 = 500 → x.2 = (0, 1, 0)) ∧ (x.1 = 650 → x.2 = (3, 4, 40)) ∧ (x.1 = 750 → x.2 = (3, 4, 40)) := by
  have h := List.all_eq_true.mp wb_kinds x hx
  simp only [Bool.and_eq_true, Bool.or_eq_true, Bool.not_eq_true', beq_eq_false_iff_ne, beq_iff_eq] at h
  obtain ⟨⟨⟨⟨⟨h1, h2⟩, h3⟩, h4⟩, h5⟩, h6⟩ := h
  exact ⟨fun e => h1.resolve_left (fun z => z e), fun e => h2.resolve_left (fun z => z e), fun e => h3.resolve_left (fun z => z e), fun e => h4.resolve_left (fun z => z e), fun e => h5.resolve_left (fun z => z e), fun e => h6.resolve_left (fun z => z e)⟩
theorem wb_noc {x : Nat × dk} (hx : x ∈ vS) (h1 : x.1 ≠ 8000) (h2 : x.1 ≠ 8010) (h3 : x.1 ≠ 8011) : lchg x.1 = false := by
  have h := List.all_eq_true.mp wb_chg x hx
  simp only [Bool.or_eq_true, Bool.not_eq_true', beq_iff_eq] at h
  rcases h with ((h | h) | h) | h
  · exact h
  · exact absurd h h1
  · exact absurd h h2
  · exact absurd h h3
theorem vtgt_no {c k : Nat} (h : c ≠ 8000) : vtgt c k = 9000 := by unfold vtgt; rw [if_neg h]
theorem wb_f500 : ∀ k, k < dNf 1 → k ≠ 0 → lchg (vref 500 k) = false := by decide +kernel
theorem wb_f8000 : ∀ k, k < dNf 7 → (dFk 7 k = 0 ∧ k < 7) ∨ k = 7 ∨ k = 8 ∨ k = 9 ∨ k = 10 := by decide +kernel
theorem wb_f8010 : ∀ k, k < dNf 14 → k = 0 ∧ dFk 14 0 ≠ 0 := by decide +kernel
section WO
variable {dA : Nat → ClassId} {adr : Nat → Nat} {Lx L L1 L2 : dL} {Px P P1 : dP} {Mx M M1 Ms : cx_M} {U : Nat → Prop} {J : rJ} {u : rU} {e8 e9 : Option Nat}
theorem lMo_s {c : Nat} (h : c < 10000000) (h2 : ¬ (c = 500 ∨ c = 600 ∨ c = 1000 ∨ c = 1038)) (h3 : c ≠ 8000) (h4 : c ≠ 8011) : lMo adr J u M Ms c = M c := by
  unfold lMo
  rw [if_neg (by omega), if_neg h2, if_neg h3, if_neg h4]
theorem lMo_o {c : Nat} (h2 : c = 500 ∨ c = 600 ∨ c = 1000 ∨ c = 1038) : lMo adr J u M Ms c = Ms (dc (adr c)) := by
  unfold lMo
  rw [if_neg (by omega), if_pos h2]
theorem lMo_d {c : Nat} : lMo adr J u M Ms (dc c) = Ms (dc c) := by
  unfold lMo
  rw [if_pos (by unfold dc; omega)]
/-- an object that stands, or of which only numbers were changed -/
theorem wb_gen {M' : cx_M} {x : Nat × dk} (hx : x ∈ vS) (n1 : x.1 ≠ 500) (n2 : x.1 ≠ 8000) (n3 : x.1 ≠ 8010) (n4 : x.1 ≠ 650) (n5 : x.1 ≠ 750) (hA : lAd adr J e8 e9 x.1 = adr x.1) (hM : Ms (dc (adr x.1)) = vM M' x.1) (hP : P1 (adr x.1) = vP adr M x.1) (hv : ∀ k, vnull x.1 k = true → M' x.1 k = M x.1 k) :
    ∃ p : Nat → Option Nat, (∀ k, (2 < x.2.1 → k < x.2.2.2) → p k = P1 (lAd adr J e8 e9 x.1) k) ∧ dE dA x.2 (Ms (dc (lAd adr J e8 e9 x.1))) p = dE dA x.2 (vM M' x.1) (vP (lAd adr J e8 e9) M' x.1) := by
  have h := List.all_eq_true.mp wb_chk x hx
  simp only [Bool.or_eq_true, beq_iff_eq] at h
  have h := h.resolve_left (by omega)
  refine ⟨P1 (lAd adr J e8 e9 x.1), fun _ _ => rfl, ?_⟩
  rw [hA, hM, hP]
  have key : ∀ k, lchg (vref x.1 k) = false → vP adr M x.1 k = vP (lAd adr J e8 e9) M' x.1 k := by
    intro k hk
    have ed : vdep x.1 = x.1 := by unfold vdep; rw [if_neg n4, if_neg n5]
    have n65 : ¬ (x.1 = 650 ∨ x.1 = 750) := fun z => z.elim n4 n5
    unfold vP vPk
    rw [if_neg n65, if_neg n65, ed]
    by_cases c : vnull x.1 k = true
    · rw [if_pos c, if_pos c, hv k c, vtgt_no n2, lAd_k (k := 9000) (by decide)]
    · rw [if_neg c, if_neg c, lAd_k hk]
  obtain ⟨c, kd, ci, z⟩ := x
  dsimp only at h n1 n2 n3 n4 n5 hA hM hP hv key ⊢
  match kd with
  | 0 =>
    rw [if_pos rfl] at h
    refine wb_dE (fun k hk => ⟨fun _ => rfl, fun _ => key k ?_⟩)
    have := List.all_eq_true.mp h k (List.mem_range.mpr hk)
    simpa using this
  | 1 => rfl
  | 2 => rfl
  | 3 =>
    rw [if_neg (by decide), if_pos rfl, decide_eq_true_eq] at h
    have e : vP adr M c = vP (lAd adr J e8 e9) M' c := by
      funext k
      refine key k (lchg_hi ?_)
      unfold vref
      rcases (show c = 0 ∨ c = 1 by omega) with e | e
      · rw [if_pos e]; omega
      · rw [if_neg (by omega), if_pos e]; omega
    rw [e]
  | n + 4 =>
    rw [if_neg (by omega), if_neg (by omega), decide_eq_true_eq] at h
    exact absurd h (by omega)
/-- a list of states -/
theorem wb_lst {M' : cx_M} {c d : Nat} (hc : (c = 650 ∧ d = 602) ∨ (c = 750 ∧ d = 702)) (hd : M' d = M d) (h40 : M d 100 = nI 40) (ho : ∀ k, k < 40 → ∃ j, j < 40 ∧ (M d k = nI (1200 + 100 * j) ∨ M d k = nI (20000 + 100 * j))) (hP : P1 (adr c) = vP adr M c) :
    ∃ p : Nat → Option Nat, (∀ k, (2 < 3 → k < 40) → p k = P1 (lAd adr J e8 e9 c) k) ∧ dE dA (3, 4, 40) (Ms (dc (lAd adr J e8 e9 c))) p = dE dA (3, 4, 40) (vM M' c) (vP (lAd adr J e8 e9) M' c) := by
  have hA : lAd adr J e8 e9 c = adr c := lAd_k (lchg_lo (by omega))
  refine ⟨vP (lAd adr J e8 e9) M' c, fun k hk => ?_, rfl⟩
  have hk := hk (by decide)
  rw [hA, hP]
  have ed : vdep c = d := by unfold vdep; rcases hc with ⟨e1, e2⟩ | ⟨e1, e2⟩ <;> rw [e1, e2] <;> rfl
  have c65 : c = 650 ∨ c = 750 := by omega
  have hk40 : k < (nI 40).toNatClampNeg := by rw [nI_clamp (by omega)]; exact hk
  unfold vP vPk
  rw [if_pos c65, if_pos c65, ed, hd, h40, if_pos hk40, if_pos hk40]
  obtain ⟨j, hj, e⟩ := ho k hk
  rcases e with e | e
  · rw [e, nI_clamp (by omega), lAd_k (lchg_lo (by omega))]
  · rw [e, nI_clamp (by omega), lAd_k (lchg_hi (by omega))]
end WO
