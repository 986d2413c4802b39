/-! years: the reference -/
def pa_dr (x : Int32) : Int32 := x * 1103515245 + 12345
def pa_dv (x m : Int32) : Int32 := cx_rem ((x >>> (16 &&& 31)) &&& 32767) m
def pa_dvs (v : Int32 → Int32 → Int32) : Prop := ∀ x m : Int32, 0 < m.toInt → 0 ≤ (v x m).toInt ∧ (v x m).toInt < m.toInt
theorem pa_dv_b : pa_dvs pa_dv := by
  intro x m hm
  have h := pi_mask (x >>> (16 &&& 31)) (m := 32767) (k := 15) (by decide) (by decide)
  have e := pi_rem (x := (x >>> (16 &&& 31)) &&& 32767) (y := m) (by omega) hm
  have h1 := Int.emod_nonneg ((x >>> (16 &&& 31)) &&& 32767).toInt (show m.toInt ≠ 0 by omega)
  have h2 := Int.emod_lt_of_pos ((x >>> (16 &&& 31)) &&& 32767).toInt hm
  unfold pa_dv
  omega
def pa_dro (N : Nat) (d : Int32 → Int32) (v : Int32 → Int32 → Int32) : Prop := ∀ (M : cx_M) (m x : Int32), M 60 43 = x → m ≠ 0 → tw_drawOf N M m = some (cx_up M 60 43 (d x), v (d x) m, 0)
theorem pa_dro_s {N : Nat} : pa_dro N pa_dr pa_dv := by
  intro M m x h43 hm
  unfold tw_drawOf tw_drawOf_0 pa_dv pa_dr
  simp only [px_get, px_put]
  rw [h43, px_nz hm, px_up, if_pos ⟨rfl, rfl⟩]
section years
variable {N : Nat} {E : ps_E} {A : qA} {d : Int32 → Int32} {v : Int32 → Int32 → Int32}
def pa_hap (d : Int32 → Int32) (v : Int32 → Int32 → Int32) (x : Int32) (S : ps_S) : Int32 × ps_S :=
  let y := d x
  let b := v y 5
  if b = 0 then (d y, cx_up S 0 25 (v (d y) 4)) else if b = 1 then (d y, cx_up S 0 26 (v (d y) 12)) else if b = 2 then (d y, cx_up S 0 27 (v (d y) 41 - 20)) else (y, S)
def pa_yrs (d : Int32 → Int32) (v : Int32 → Int32 → Int32) (E : ps_E) : Nat → Int32 → ps_S → Int32 → ps_S × Int32
  | 0, _, S, t => (S, t)
  | m + 1, x, S, t => pa_yrs d v E m (pa_hap d v x S).1 (ps_steps E 10 ((pa_hap d v x S).2, [])).1 (cx_max t (ps_level E (ps_steps E 10 ((pa_hap d v x S).2, [])).1))
def pa_years (d : Int32 → Int32) (v : Int32 → Int32 → Int32) (E : ps_E) (S : ps_S) (x : Int32) (n : Nat) (w : Int32) : Int32 :=
  let r := pa_yrs d v E n x S 0
  if w = 0 then r.1 0 7 - S 0 7 else if w = 1 then r.1 0 12 - S 0 12 else r.2
theorem pa_hap_I {S : ps_S} {T : Nat} {x : Int32} (hv : pa_dvs v) (hI : ps_I E S T) : ps_I E (pa_hap d v x S).2 T ∧ (pa_hap d v x S).2 0 33 = S 0 33 ∧ (pa_hap d v x S).2 0 34 = S 0 34 := by
  have h41 := hv (d (d x)) 41 (by decide)
  have e41 : (41 : Int32).toInt = 41 := rfl
  have e20 : (20 : Int32).toInt = 20 := rfl
  have hu : ∀ (k : Nat) (z : Int32), k ≠ 33 → k ≠ 34 → cx_up S 0 k z 0 33 = S 0 33 ∧ cx_up S 0 k z 0 34 = S 0 34 := fun k z h1 h2 => ⟨by rw [px_up, if_neg (fun y => h1 y.2.symm)], by rw [px_up, if_neg (fun y => h2 y.2.symm)]⟩
  unfold pa_hap
  try dsimp only
  split
  · exact ⟨qI_up29 hI (by decide) (by decide) (by decide), hu 25 (v (d (d x)) 4) (by decide) (by decide)⟩
  · split
    · exact ⟨qI_up29 hI (by decide) (by decide) (by decide), hu 26 (v (d (d x)) 12) (by decide) (by decide)⟩
    · split
      · refine ⟨ps_I_go hI ?_, hu 27 (v (d (d x)) 41 - 20) (by decide) (by decide)⟩
        rw [i32_sub (by omega) (by omega)]
        omega
      · exact ⟨hI, rfl, rfl⟩
theorem tw_years_body {M : cx_M} {S : ps_S} {x x2 x3 t x5 : Int32} {r : cx_M → Int32 → Int32 → Int32 → Int32 → Option cx_R} (hd : pa_dro N d v) (h : qr_T N E M A (S, [])) (h43 : M 60 43 = x) :
    ∃ M', (cx_cal (tw_drawOf N M 5) fun M5 v6 => if v6 = 0 then (cx_cal (tw_drawOf N M5 4) fun M7 v8 => cx_put M7 8 25 v8 fun M9 => tw_years_85 N r M9 x2 x3 t x5 v6) else tw_years_85 N r M5 x2 x3 t x5 v6) = tw_years_126 N r M' x2 x3 t x5 ∧ qr_T N E M' A ((pa_hap d v x S).2, []) ∧ M' 60 43 = (pa_hap d v x S).1 ∧ qr_F M M' := by
  have e1 := hd M 5 x h43 (by decide)
  have h1 := h.put 43 (d x) (by decide)
  have g43 : cx_up M 60 43 (d x) 60 43 = d x := by rw [px_up, if_pos ⟨rfl, rfl⟩]
  have hF1 : qr_F M (cx_up M 60 43 (d x)) := qr_F.up (by decide)
  rw [px_cal e1]
  generalize cx_up M 60 43 (d x) = M1 at h1 g43 hF1 ⊢
  have more : ∀ (m : Int32) (k : Nat) (f : Int32 → Int32), m ≠ 0 → k < 33 → ∃ M', (∀ F : cx_M → Option cx_R, (cx_cal (tw_drawOf N M1 m) fun M7 v8 => cx_put M7 8 k (f v8) F) = F M') ∧ qr_T N E M' A (cx_up S 0 k (f (v (d (d x)) m)), []) ∧ M' 60 43 = d (d x) ∧ qr_F M M' := by
    intro m k f hm hk
    have e2 := hd M1 m (d x) g43 hm
    have h2 := h1.put 43 (d (d x)) (by decide)
    refine ⟨cx_up (cx_up M1 60 43 (d (d x))) 8 k (f (v (d (d x)) m)), fun F => ?_, h2.row k _ hk, by rw [px_upc (by decide), px_up, if_pos ⟨rfl, rfl⟩], (hF1.tr (qr_F.up (by decide))).tr (qr_F.up (by decide))⟩
    rw [px_cal e2]
    rfl
  unfold pa_hap tw_years_85 tw_years_104
  try dsimp only
  by_cases b0 : v (d x) 5 = 0
  · rw [if_pos b0, if_pos b0]
    obtain ⟨M2, e2, h2, g2, F2⟩ := more 4 25 (fun y => y) (by decide) (by decide)
    refine ⟨M2, ?_, h2, g2, F2⟩
    rw [e2 (fun M9 => _)]
    rw [if_neg (by rw [b0]; decide), if_neg (by rw [b0]; decide)]
  · rw [if_neg b0, if_neg b0]
    by_cases b1 : v (d x) 5 = 1
    · rw [if_pos b1, if_pos b1]
      obtain ⟨M2, e2, h2, g2, F2⟩ := more 12 26 (fun y => y) (by decide) (by decide)
      refine ⟨M2, ?_, h2, g2, F2⟩
      rw [e2 (fun M9 => _)]
      rw [if_neg (by rw [b1]; decide)]
    · rw [if_neg b1, if_neg b1]
      by_cases b2 : v (d x) 5 = 2
      · rw [if_pos b2, if_pos b2]
        obtain ⟨M2, e2, h2, g2, F2⟩ := more 41 27 (fun y => y - 20) (by decide) (by decide)
        refine ⟨M2, ?_, h2, g2, F2⟩
        exact e2 (fun M9 => _)
      · rw [if_neg b2, if_neg b2]
        exact ⟨M1, rfl, h1, g43, hF1⟩
theorem tw_years_loop {T z : Nat} {w : Int32} (hd : pa_dro N d v) (hv : pa_dvs v) (hN : 700 ≤ N) (hE : ps_EO E) (hT : T ≤ 20000) (hz : z ≤ 60) : ∀ (m k f : Nat) (M : cx_M) (S : ps_S) (x t : Int32), k + m = z → qr_T N E M A (S, []) → ps_I E S (T + 10 * k) → S 0 33 = A.1.1 0 33 → S 0 34 = A.1.1 0 34 → M 60 43 = x → m < f →
    ∃ M', tw_years_55 N f M (nI z) w t (nI k) = some (M', if w = 0 then (pa_yrs d v E m x S t).1 0 7 - A.1.1 0 7 else if w = 1 then (pa_yrs d v E m x S t).1 0 12 - A.1.1 0 12 else (pa_yrs d v E m x S t).2, 0) ∧ qr_T N E M' A (A.1.1, []) ∧ qr_F M M' := by
  intro m
  induction m with
  | zero =>
    intro k f M S x t hk h hI h33 h34 h43 hf
    obtain ⟨f, rfl⟩ : ∃ q, f = q + 1 := ⟨f - 1, by omega⟩
    have bk : ∀ y : Int32, ∃ M', tw_years_197 N M y = some (M', y, 0) ∧ qr_T N E M' A (A.1.1, []) ∧ qr_F M M' := by
      intro y
      obtain ⟨M1, e1, h1, ho1⟩ := h.back hN h33 h34 y
      unfold tw_years_197
      rw [px_cal e1]
      exact ⟨M1, rfl, h1, fun c hc => ho1 c (by omega)⟩
    show ∃ M', tw_years_55b N (tw_years_55 N f) M (nI z) w t (nI k) = _ ∧ _
    unfold tw_years_55b pa_yrs
    simp only [px_get]
    rw [if_pos (nI_le (by omega) (by omega)), pr_n h.1.1 7 (by decide), pr_n h.2.1 7 (by decide), pr_n h.1.1 12 (by decide), pr_n h.2.1 12 (by decide)]
    by_cases w0 : w = 0
    · rw [if_pos w0, if_pos w0]; exact bk _
    · rw [if_neg w0, if_neg w0]
      by_cases w1 : w = 1
      · rw [if_pos w1, if_pos w1]; exact bk _
      · rw [if_neg w1, if_neg w1]; exact bk _
  | succ m ih =>
    intro k f M S x t hk h hI h33 h34 h43 hf
    obtain ⟨f, rfl⟩ : ∃ q, f = q + 1 := ⟨f - 1, by omega⟩
    obtain ⟨hI1, g33, g34⟩ := pa_hap_I (x := x) hv hI
    obtain ⟨M1, e1, h1, k43, hF1⟩ := tw_years_body (x2 := nI z) (x3 := w) (t := t) (x5 := nI k) (r := tw_years_55 N f) hd h h43
    obtain ⟨M2, e2, h2, hF2⟩ := h1.goOn (n := 10) hN hE hI1 (by omega) (by omega)
    have hI2 : ps_I E (ps_steps E 10 ((pa_hap d v x S).2, [])).1 (T + 10 * (k + 1)) := by
      have := ps_steps_I (s := ((pa_hap d v x S).2, [])) hE hI1 10 (by omega)
      rw [show T + 10 * (k + 1) = T + 10 * k + 10 by omega]
      exact this
    have e33 : (ps_steps E 10 ((pa_hap d v x S).2, [])).1 0 33 = A.1.1 0 33 := by rw [ps_steps_0 (by decide)]; exact g33.trans h33
    have e34 : (ps_steps E 10 ((pa_hap d v x S).2, [])).1 0 34 = A.1.1 0 34 := by rw [ps_steps_0 (by decide)]; exact g34.trans h34
    have h2' : qr_T N E M2 A ((ps_steps E 10 ((pa_hap d v x S).2, [])).1, []) := by
      have q := ps_steps_q (E := E) (s := ((pa_hap d v x S).2, [])) rfl 10
      have : ps_steps E 10 ((pa_hap d v x S).2, []) = ((ps_steps E 10 ((pa_hap d v x S).2, [])).1, []) := Prod.ext rfl q
      rw [← this]
      exact h2
    obtain ⟨M3, e3, h3, hF3⟩ := ih (k + 1) f M2 (ps_steps E 10 ((pa_hap d v x S).2, [])).1 (pa_hap d v x S).1 (cx_max t (ps_level E (ps_steps E 10 ((pa_hap d v x S).2, [])).1)) (by omega) h2' hI2 e33 e34 (by rw [hF2.2 43 (by decide)]; exact k43) (by omega)
    refine ⟨M3, ?_, h3, (hF1.tr hF2.q).tr hF3⟩
    show tw_years_55b N (tw_years_55 N f) M (nI z) w t (nI k) = _
    unfold tw_years_55b
    rw [if_neg (nI_ge (by omega) (by omega)), e1]
    unfold tw_years_126
    rw [px_cal (show tw_goOn N M1 10 = _ from e2), px_cal (tw_level_s (by omega) hE h2.1)]
    simp only [px_let]
    rw [← nI_succ]
    exact e3
theorem tw_years_s {M : cx_M} {x n w : Int32} (hN : 700 ≤ N) (hA : qAI E A) (h : qr_pre N E M A) :
    tw_ok N E A M (tw_years N M x n w) (pa_years pa_dr pa_dv E A.1.1 x (pn n) w) (if 0 ≤ w.toInt ∧ w.toInt ≤ 2 then (if 0 ≤ n.toInt ∧ n.toInt ≤ 60 then 0 else 2) else 1) := by
  obtain ⟨M1, e1, hA1, hc1, hF1⟩ := h
  obtain ⟨hE, ⟨⟨T, hT, hI, -⟩, -⟩, -⟩ := hA
  unfold tw_ok tw_years tw_years_0
  rw [px_cal e1, px_cal tw_isIn_s]
  by_cases cw : 0 ≤ w.toInt ∧ w.toInt ≤ 2
  · rw [if_pos (show (0 : Int64).toInt ≤ w.toInt ∧ w.toInt ≤ (2 : Int64).toInt from cw), if_neg (by decide), px_cal tw_isIn_s, if_pos cw]
    by_cases cn : 0 ≤ n.toInt ∧ n.toInt ≤ 60
    · rw [if_pos (show (0 : Int64).toInt ≤ n.toInt ∧ n.toInt ≤ (60 : Int64).toInt from cn), if_neg (by decide), if_pos cn]
      obtain ⟨M2, e2, h2, hF2, -⟩ := qr_T.remember hN hA1 hc1
      rw [px_cal e2]
      simp only [px_put]
      have en : n = nI (pn n) := pn_nI (by omega)
      have hn : pn n ≤ 60 := by rw [pn_def]; omega
      generalize pn n = nn at en hn ⊢
      subst en
      obtain ⟨M3, e3, h3, hF3⟩ := tw_years_loop (w := w) pa_dro_s pa_dv_b hN hE hT hn nn 0 N (cx_up M2 60 43 x) A.1.1 x 0 (by omega) (h2.put 43 x (by decide)) hI rfl rfl (by rw [px_up, if_pos ⟨rfl, rfl⟩]) (by omega)
      exact ⟨M3, _, e3, h3.end, h3.2.2.2, fun _ => rfl, ((hF1.tr hF2).tr (qr_F.up (by decide))).tr hF3⟩
    · rw [if_neg (show ¬ ((0 : Int64).toInt ≤ n.toInt ∧ n.toInt ≤ (60 : Int64).toInt) from cn), if_pos rfl, if_neg cn]
      obtain ⟨M2, e2, hA2, hc2, hF2⟩ := tw_fail_s (x := 2) hA1
      rw [px_cal e2]
      exact ⟨M2, 0, rfl, hA2, hc2, fun z => absurd z (by decide), hF1.tr hF2⟩
  · rw [if_neg (show ¬ ((0 : Int64).toInt ≤ w.toInt ∧ w.toInt ≤ (2 : Int64).toInt) from cw), if_pos rfl, if_neg cw]
    obtain ⟨M2, e2, hA2, hc2, hF2⟩ := tw_fail_s (x := 1) hA1
    rw [px_cal e2]
    exact ⟨M2, 0, rfl, hA2, hc2, fun z => absurd z (by decide), hF1.tr hF2⟩
end years
