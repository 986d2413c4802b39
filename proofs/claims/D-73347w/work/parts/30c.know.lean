/-! THE SITES: by program (gen/know.py) -/
section KSi
variable {s : State} {args : Array Value} {D : va_G} {dA : Nat → ClassId} {adr : Nat → Nat}
theorem site_c {x : MethodName} {pc index : Nat} {σ : Lambda.Shape} (h : (Cond.lambdaSite x pc index σ).before args s = true) (hc : σ.captured = []) : ∃ c a, s.lambdaAt? x pc index σ = some (c, some a) := by
  obtain ⟨c, one, h0⟩ := Cond.lambdaSite_spec h
  obtain ⟨m, kc, cf, i0, p0, l, -, -, -, -, -, -, -, -, hl⟩ := State.lambdaAt?_spec h0
  rcases hl with ⟨a, cell, -, e, -⟩ | ⟨-, -, e⟩
  · exact ⟨c, a, by rw [h0, e]⟩
  · exact absurd hc e
theorem site_m {x : MethodName} {pc index : Nat} {σ : Lambda.Shape} (h : (Cond.lambdaSite x pc index σ).before args s = true) (hc : σ.captured ≠ []) : ∃ c, s.lambdaAt? x pc index σ = some (c, none) := by
  obtain ⟨c, one, h0⟩ := Cond.lambdaSite_spec h
  obtain ⟨m, kc, cf, i0, p0, l, -, -, -, -, -, -, -, -, hl⟩ := State.lambdaAt?_spec h0
  rcases hl with ⟨a, cell, -, -, e, -⟩ | ⟨-, e, -⟩
  · exact absurd e hc
  · exact ⟨c, by rw [h0, e]⟩
/-- the sites at the entry -/
def KL (s : State) (dA : Nat → ClassId) (adr : Nat → Nat) : Prop := s.lambdaAt? lmX0 155 83 lmS0 = some (dA 20, some (adr 9100)) ∧ s.lambdaAt? lmX1 175 94 lmS1 = some (dA 21, some (adr 9101)) ∧ s.lambdaAt? lmX2 196 95 lmS2 = some (dA 22, none) ∧ s.lambdaAt? lmX3 217 100 lmS3 = some (dA 23, none) ∧ s.lambdaAt? lmX4 237 107 lmS4 = some (dA 24, some (adr 9111)) ∧ s.lambdaAt? lmX5 257 110 lmS5 = some (dA 25, some (adr 9112)) ∧ s.lambdaAt? lmX6 277 111 lmS6 = some (dA 26, some (adr 9113)) ∧ s.lambdaAt? lmX7 297 112 lmS7 = some (dA 27, some (adr 9114)) ∧ s.lambdaAt? lmX8 317 113 lmS8 = some (dA 28, some (adr 9115)) ∧ s.lambdaAt? lmX9 53 429 lmS9 = some (dA 29, some (adr 9116)) ∧ s.lambdaAt? lmX10 58 430 lmS10 = some (dA 30, some (adr 9130)) ∧ s.lambdaAt? lmX11 70 437 lmS11 = some (dA 31, some (adr 9117)) ∧ s.lambdaAt? lmX12 75 438 lmS12 = some (dA 32, some (adr 9131)) ∧ s.lambdaAt? lmX13 87 439 lmS13 = some (dA 33, some (adr 9118)) ∧ s.lambdaAt? lmX14 92 440 lmS14 = some (dA 34, some (adr 9132)) ∧ s.lambdaAt? lmX15 104 441 lmS15 = some (dA 35, some (adr 9119)) ∧ s.lambdaAt? lmX16 109 442 lmS16 = some (dA 36, some (adr 9133))
theorem kn_sites (hgv : (Jvm.Cond.and given_1 narrow_1).before args s = true) : ∃ (cs : Nat → ClassId) (as : Nat → Nat), KL s (fun k => cs (k - 20)) (fun k => as (k - 9100)) := by
  obtain ⟨c0, a0, h0⟩ := site_c (s := s) (args := args) (flat_n hgv (.lambdaSite lmX0 155 83 lmS0) (by decide +kernel)) rfl
  obtain ⟨c1, a1, h1⟩ := site_c (s := s) (args := args) (flat_n hgv (.lambdaSite lmX1 175 94 lmS1) (by decide +kernel)) rfl
  obtain ⟨c2, h2⟩ := site_m (s := s) (args := args) (flat_n hgv (.lambdaSite lmX2 196 95 lmS2) (by decide +kernel)) (by decide)
  obtain ⟨c3, h3⟩ := site_m (s := s) (args := args) (flat_n hgv (.lambdaSite lmX3 217 100 lmS3) (by decide +kernel)) (by decide)
  obtain ⟨c4, a4, h4⟩ := site_c (s := s) (args := args) (flat_n hgv (.lambdaSite lmX4 237 107 lmS4) (by decide +kernel)) rfl
  obtain ⟨c5, a5, h5⟩ := site_c (s := s) (args := args) (flat_n hgv (.lambdaSite lmX5 257 110 lmS5) (by decide +kernel)) rfl
  obtain ⟨c6, a6, h6⟩ := site_c (s := s) (args := args) (flat_n hgv (.lambdaSite lmX6 277 111 lmS6) (by decide +kernel)) rfl
  obtain ⟨c7, a7, h7⟩ := site_c (s := s) (args := args) (flat_n hgv (.lambdaSite lmX7 297 112 lmS7) (by decide +kernel)) rfl
  obtain ⟨c8, a8, h8⟩ := site_c (s := s) (args := args) (flat_n hgv (.lambdaSite lmX8 317 113 lmS8) (by decide +kernel)) rfl
  obtain ⟨c9, a9, h9⟩ := site_c (s := s) (args := args) (flat_n hgv (.lambdaSite lmX9 53 429 lmS9) (by decide +kernel)) rfl
  obtain ⟨c10, a10, h10⟩ := site_c (s := s) (args := args) (flat_n hgv (.lambdaSite lmX10 58 430 lmS10) (by decide +kernel)) rfl
  obtain ⟨c11, a11, h11⟩ := site_c (s := s) (args := args) (flat_n hgv (.lambdaSite lmX11 70 437 lmS11) (by decide +kernel)) rfl
  obtain ⟨c12, a12, h12⟩ := site_c (s := s) (args := args) (flat_n hgv (.lambdaSite lmX12 75 438 lmS12) (by decide +kernel)) rfl
  obtain ⟨c13, a13, h13⟩ := site_c (s := s) (args := args) (flat_n hgv (.lambdaSite lmX13 87 439 lmS13) (by decide +kernel)) rfl
  obtain ⟨c14, a14, h14⟩ := site_c (s := s) (args := args) (flat_n hgv (.lambdaSite lmX14 92 440 lmS14) (by decide +kernel)) rfl
  obtain ⟨c15, a15, h15⟩ := site_c (s := s) (args := args) (flat_n hgv (.lambdaSite lmX15 104 441 lmS15) (by decide +kernel)) rfl
  obtain ⟨c16, a16, h16⟩ := site_c (s := s) (args := args) (flat_n hgv (.lambdaSite lmX16 109 442 lmS16) (by decide +kernel)) rfl
  exact ⟨fun k => [c0, c1, c2, c3, c4, c5, c6, c7, c8, c9, c10, c11, c12, c13, c14, c15, c16].getD k c0, fun k => [a0, a1, 0, 0, 0, 0, 0, 0, 0, 0, 0, a4, a5, a6, a7, a8, a9, a11, a13, a15, 0, 0, 0, 0, 0, 0, 0, 0, 0, 0, a10, a12, a14, a16].getD k 0, h0, h1, h2, h3, h4, h5, h6, h7, h8, h9, h10, h11, h12, h13, h14, h15, h16⟩
theorem kn_lmH (hts : ∀ w ∈ lw_tbl, w.before args s = true) (hL : KL s dA adr) : lmK_H (vG0 D dA (kA s) (kZ s)) adr := by
  obtain ⟨h0, h1, h2, h3, h4, h5, h6, h7, h8, h9, h10, h11, h12, h13, h14, h15, h16⟩ := hL
  intro U h
  exact ⟨kn_lmK (by decide) h0 (hts _ (by decide +kernel)) (hts _ (by decide +kernel)) h,
    kn_lmK (by decide) h1 (hts _ (by decide +kernel)) (hts _ (by decide +kernel)) h,
    kn_lmK (by decide) h2 (hts _ (by decide +kernel)) (hts _ (by decide +kernel)) h,
    kn_lmK (by decide) h3 (hts _ (by decide +kernel)) (hts _ (by decide +kernel)) h,
    kn_lmK (by decide) h4 (hts _ (by decide +kernel)) (hts _ (by decide +kernel)) h,
    kn_lmK (by decide) h5 (hts _ (by decide +kernel)) (hts _ (by decide +kernel)) h,
    kn_lmK (by decide) h6 (hts _ (by decide +kernel)) (hts _ (by decide +kernel)) h,
    kn_lmK (by decide) h7 (hts _ (by decide +kernel)) (hts _ (by decide +kernel)) h,
    kn_lmK (by decide) h8 (hts _ (by decide +kernel)) (hts _ (by decide +kernel)) h,
    kn_lmK (by decide) h9 (hts _ (by decide +kernel)) (hts _ (by decide +kernel)) h,
    kn_lmK (by decide) h10 (hts _ (by decide +kernel)) (hts _ (by decide +kernel)) h,
    kn_lmK (by decide) h11 (hts _ (by decide +kernel)) (hts _ (by decide +kernel)) h,
    kn_lmK (by decide) h12 (hts _ (by decide +kernel)) (hts _ (by decide +kernel)) h,
    kn_lmK (by decide) h13 (hts _ (by decide +kernel)) (hts _ (by decide +kernel)) h,
    kn_lmK (by decide) h14 (hts _ (by decide +kernel)) (hts _ (by decide +kernel)) h,
    kn_lmK (by decide) h15 (hts _ (by decide +kernel)) (hts _ (by decide +kernel)) h,
    kn_lmK (by decide) h16 (hts _ (by decide +kernel)) (hts _ (by decide +kernel)) h⟩
end KSi
