/-! THE LAW'S CASES but line -/
theorem lw_e1 {t o k n : Nat} {Q : cd_Qt} {M : cx_M} {P : dP} {L : dL} (ht : t = 1 ∨ t = 3) (h : Q M P L 1 none 0 k n) : lw_end t o Q M P L 0 none 1 k n := ⟨ht, h⟩
theorem lw_e2 {o k n : Nat} {Q : cd_Qt} {M : cx_M} {P : dP} {L : dL} (h : Q M P L 1 none 0 k n) : lw_end 2 o Q M P L 0 none 2 k n := ⟨Or.inl rfl, h⟩
theorem lw_e3 {o k n : Nat} {Q : cd_Qt} {M : cx_M} {P : dP} {L : dL} (h : Q M P L 2 none 0 k n) : lw_end 3 o Q M P L 0 none 2 k n := ⟨Or.inr rfl, h⟩
/-- what is known of the loop's rest -/
def pi_K (f : Nat) (ev : Nat → (Nat → Int32) → Int32) (adr : Nat → Nat) (o : Nat) (E : ps_E) (k n : Nat) (R : cx_M → dP → dL → Nat → Nat → Prop) : Prop :=
  ∀ A M P L k' n', qAI E A → pi_W A → pi_S f ev adr o E A M P L → k' ≤ k + 2100 → n' ≤ n + 9000 → R M P L k' n'
section cases
variable {f : Nat} {ev : Nat → (Nat → Int32) → Int32} {adr : Nat → Nat} {o k n : Nat} {E : ps_E} {A : qA} {M : cx_M} {P : dP} {L : dL} {R : cx_M → dP → dL → Nat → Nat → Prop} {a : Nat → Int32}
theorem pi_c0 (hf : 30000 ≤ f) (hA : qAI E A) (hW : pi_W A) (h : pi_S f ev adr o E A M P L) (hR : pi_K f ev adr o E k n R) : lawF_0 (vN f ev, adr) M P L k n o a R := by
  refine lw_actS (tw := fun M1 => tw_feed f M1 (a 1) (a 2) (a 3) (a 4) (a 5)) (hA.feed (x1 := a 1) (x2 := a 2) (x3 := a 3) (x4 := a 4) (x5 := a 5)) h (cCc_feed_s (show 65 ≤ f by omega) hA h.2.1) (fun M1 hr => ?_) (fun M2 h2 => hR _ M2 P L k n hA.feed ⟨⟨hW.1.1, hW.1.2⟩, hW.2⟩ h2 (by omega) (by omega))
  rcases hr with hr | ⟨st, tp, d, hr, e1, e2⟩
  · exact (tw_feed_s (by omega) hA hr).R
  · have h7 : tp.1 ≤ 700 := by
      have := hA.2.2.2
      rw [e2] at this
      exact this
    obtain ⟨M', e, n', -, F, -⟩ := hr.feed (x1 := a 1) (x2 := a 2) (x3 := a 3) (x4 := a 4) (x5 := a 5) (show 700 ≤ f by omega) h7
    rw [e2]
    exact ⟨M', e, Or.inr ⟨st, _, d, n', e1, rfl⟩, F⟩
theorem pi_c2 (hf : 30000 ≤ f) (hA : qAI E A) (hW : pi_W A) (h : pi_S f ev adr o E A M P L) (hR : pi_K f ev adr o E k n R) : lawF_2 (vN f ev, adr) M P L k n o a R :=
  lw_actS (tw := fun M1 => tw_fault f M1) hA h (cCc_fault_s h.2.1) (fun M1 hr => (tw_fault_s (hr.pre (by omega))).R) (fun M2 h2 => hR _ M2 P L k n hA hW h2 (by omega) (by omega))
theorem pi_c11 (hf : 30000 ≤ f) (hA : qAI E A) (hW : pi_W A) (h : pi_S f ev adr o E A M P L) (hR : pi_K f ev adr o E k n R) : lawF_11 (vN f ev, adr) M P L k n o a R :=
  lw_actS (tw := fun M1 => tw_steps f M1 (a 1)) hA.steps h (cCc_steps_s (show 700 ≤ f by omega) hA h.2.1) (fun M1 hr => (tw_steps_s hf hA (hr.pre (by omega))).R) (fun M2 h2 => hR _ M2 P L k n hA.steps (hW.steps hA) h2 (by omega) (by omega))
theorem pi_c12 (hf : 30000 ≤ f) (hA : qAI E A) (hW : pi_W A) (h : pi_S f ev adr o E A M P L) (hR : pi_K f ev adr o E k n R) : lawF_12 (vN f ev, adr) M P L k n o a R :=
  lw_actS (tw := fun M1 => tw_lose f M1 (a 1)) hA.lose h (cCc_lose_s (show 65 ≤ f by omega) hA h.2.1) (fun M1 hr => (tw_lose_s hf hA (hr.pre (by omega))).R) (fun M2 h2 => hR _ M2 P L k n hA.lose (hW.turn (by decide) (by decide)) h2 (by omega) (by omega))
theorem pi_c13 (hf : 30000 ≤ f) (hA : qAI E A) (hW : pi_W A) (h : pi_S f ev adr o E A M P L) (hR : pi_K f ev adr o E k n R) : lawF_13 (vN f ev, adr) M P L k n o a R :=
  lw_actS (tw := fun M1 => tw_stall f M1 (a 1)) hA.stall h (cCc_stall_s (show 65 ≤ f by omega) hA h.2.1) (fun M1 hr => (tw_stall_s hf hA (hr.pre (by omega))).R) (fun M2 h2 => hR _ M2 P L k n hA.stall (hW.turn (by decide) (by decide)) h2 (by omega) (by omega))
theorem pi_c15 (hf : 30000 ≤ f) (hA : qAI E A) (hW : pi_W A) (h : pi_S f ev adr o E A M P L) (hR : pi_K f ev adr o E k n R) : lawF_15 (vN f ev, adr) M P L k n o a R :=
  lw_actS (tw := fun M1 => tw_undo f M1) hA.undo h (cCc_undo_s (show 65 ≤ f by omega) hA h.2.1) (fun M1 hr => (tw_undo_s hf hA (hr.pre (by omega))).R) (fun M2 h2 => hR _ M2 P L k n hA.undo hW.undo h2 (by omega) (by omega))
theorem pi_c18 (hf : 30000 ≤ f) (hA : qAI E A) (hW : pi_W A) (h : pi_S f ev adr o E A M P L) (hR : pi_K f ev adr o E k n R) : lawF_18 (vN f ev, adr) M P L k n o a R := by
  refine lw_actS (tw := fun M1 => tw_settles f M1) hA h (cCc_settles_s (show 700 ≤ f by omega) hA h.2.1) (fun M1 hr => ?_) (fun M2 h2 => hR _ M2 P L k n hA hW h2 (by omega) (by omega))
  obtain ⟨M2, v2, e2, a2, -, hv, F2⟩ := tw_settles_s (by omega) hA (hr.pre (by omega))
  rw [hv rfl] at e2
  exact ⟨M2, e2, Or.inl a2, F2⟩
theorem pi_c21 (hf : 30000 ≤ f) (hA : qAI E A) (hW : pi_W A) (h : pi_S f ev adr o E A M P L) (hR : pi_K f ev adr o E k n R) : lawF_21 (vN f ev, adr) M P L k n o a R :=
  lw_actS (tw := fun M1 => tw_note f M1 (a 1) (a 2)) hA.note h (cCc_note_s hA h.2.1) (fun M1 hr => (tw_note_s hA (hr.pre (by omega))).R) (fun M2 h2 => hR _ M2 P L k n hA.note hW.note h2 (by omega) (by omega))
theorem pi_c24 (hf : 30000 ≤ f) (hA : qAI E A) (hW : pi_W A) (h : pi_S f ev adr o E A M P L) (hR : pi_K f ev adr o E k n R) : lawF_24 (vN f ev, adr) M P L k n o a R :=
  lw_actN (tw := fun M1 => tw_forget f M1) hA.forget h (cCc_forget_s hA h.2.1) (fun M1 hr => (tw_forget_s (hr.pre (by omega))).R) (fun M2 h2 => hR _ M2 P L k n hA.forget hW.forget h2 (by omega) (by omega))
theorem pi_c27 (hf : 30000 ≤ f) (hA : qAI E A) (hW : pi_W A) (h : pi_S f ev adr o E A M P L) (hR : pi_K f ev adr o E k n R) : lawF_27 (vN f ev, adr) M P L k n o a R :=
  lw_actN (tw := fun M1 => tw_image f M1) hA.image h (cCc_image_s (show 65 ≤ f by omega) hA h.2.1) (fun M1 hr => (tw_image_s hf hA (hr.pre (by omega))).R) (fun M2 h2 => hR _ M2 P L k n hA.image hW.image h2 (by omega) (by omega))
theorem pi_c28 (hf : 30000 ≤ f) (hA : qAI E A) (hW : pi_W A) (h : pi_S f ev adr o E A M P L) (hR : pi_K f ev adr o E k n R) : lawF_28 (vN f ev, adr) M P L k n o a R :=
  lw_actS (tw := fun M1 => tw_restore f M1) hA.restore h (cCc_restore_s (show 65 ≤ f by omega) hA h.2.1) (fun M1 hr => (tw_restore_s hf hA (hr.pre (by omega))).R) (fun M2 h2 => hR _ M2 P L k n hA.restore hW.restore h2 (by omega) (by omega))
/-- asks that change nothing in the class -/
theorem pi_y0 {t : Nat} {tw : cx_M → Option cx_R} {v code : Int32} (hA : qAI E A) (hW : pi_W A) (h : pi_S f ev adr o E A M P L) (hR : pi_K f ev adr o E k n R) (ht : ∀ M2, pi_R f E M2 A → tw_ok f E A M2 (tw M2) v code) (h0 : code = 0) : lw_end t o (lw_k f o tw R k n) M P L v none 0 0 0 :=
  pi_yes hA h h.2.1 (fun _ _ => rfl) h.2.2.1 h.2.2.2 ht h0 (fun M3 h3 => hR _ M3 P L _ _ hA hW h3 (by omega) (by omega))
theorem pi_y1 {t : Nat} {tw : cx_M → Option cx_R} {v code : Int32} (hA : qAI E A) (hW : pi_W A) (h : pi_S f ev adr o E A M P L) (hR : pi_K f ev adr o E k n R) (ht : ∀ M2, pi_R f E M2 A → tw_ok f E A M2 (tw M2) v code) (h0 : code = 0) (M' : cx_M) (hc : qc_A (vN f ev) E M' A) (F : qc_F M M') : lw_end t o (lw_k f o tw R k n) M' P L v none 0 0 0 :=
  pi_yes hA h hc (fun c hc => F c (Or.inl (by omega))) (h.2.2.1.F F) h.2.2.2 ht h0 (fun M3 h3 => hR _ M3 P L _ _ hA hW h3 (by omega) (by omega))
theorem pi_n0 {tw : cx_M → Option cx_R} {v code c0 : Int32} (hA : qAI E A) (hW : pi_W A) (h : pi_S f ev adr o E A M P L) (hR : pi_K f ev adr o E k n R) (ht : ∀ M2, pi_R f E M2 A → tw_ok f E A M2 (tw M2) v code) (h0 : code = c0) (hne : c0 ≠ 0) : lw_k f o tw R k n M P L c0 none 0 1 6 :=
  pi_no hA h h.2.1 (fun _ _ => rfl) h.2.2.1 h.2.2.2 ht h0 hne (fun M3 h3 => hR _ M3 P L _ _ hA hW h3 (by omega) (by omega))
theorem pi_c3 (hk : k ≤ 1180000) (hn : n ≤ 5350000) (hf : 30000 ≤ f) (hA : qAI E A) (hW : pi_W A) (h : pi_S f ev adr o E A M P L) (hR : pi_K f ev adr o E k n R) : lawF_3 (vN f ev, adr) M P L k n o a R := by
  have ht := fun M2 (hr : pi_R f E M2 A) => tw_count_s (w := a 1) (show 700 ≤ f by omega) hA (hr.pre (by omega))
  exact dCc_countD_s (show 65 ≤ f by omega) hA h.2.1 (by omega) (by omega) (fun c => pi_y0 hA hW h hR ht (if_pos c)) (fun c => lw_e1 (Or.inl rfl) (pi_n0 hA hW h hR ht (if_neg c) (by decide)))
theorem pi_c4 (hk : k ≤ 1180000) (hn : n ≤ 5350000) (h7 : cx_max 1 (ev 2 (fun _ => 0)) = E.1 7) (hf : 30000 ≤ f) (hA : qAI E A) (hW : pi_W A) (h : pi_S f ev adr o E A M P L) (hR : pi_K f ev adr o E k n R) : lawF_4 (vN f ev, adr) M P L k n o a R := by
  have ht := fun M2 (hr : pi_R f E M2 A) => tw_set_s (w := a 1) hA (hr.pre (by omega))
  exact dCc_setD_s (N := (vN f ev, adr)) h7 hA h.2.1 (by omega) (by omega) (fun c => pi_y0 hA hW h hR ht (if_pos c)) (fun c => lw_e1 (Or.inl rfl) (pi_n0 hA hW h hR ht (if_neg c) (by decide)))
theorem pi_c5 (hk : k ≤ 1180000) (hn : n ≤ 5350000) (hf : 30000 ≤ f) (hA : qAI E A) (hW : pi_W A) (h : pi_S f ev adr o E A M P L) (hR : pi_K f ev adr o E k n R) : lawF_5 (vN f ev, adr) M P L k n o a R := by
  have ht := fun M2 (hr : pi_R f E M2 A) => tw_flying_s (i := a 1) (w := a 2) hA (hr.pre (by omega))
  exact dCc_flyingD_s (N := (vN f ev, adr)) hA h.2.1 (by omega) (by omega) (fun c => pi_y0 hA hW h hR ht (if_pos c)) (fun c => lw_e1 (Or.inl rfl) (pi_n0 hA hW h hR ht (if_neg c) (by decide)))
theorem pi_c6 (hk : k ≤ 1180000) (hn : n ≤ 5350000) (hf : 30000 ≤ f) (hA : qAI E A) (hW : pi_W A) (h : pi_S f ev adr o E A M P L) (hR : pi_K f ev adr o E k n R) : lawF_6 (vN f ev, adr) M P L k n o a R := by
  have ht := fun M2 (hr : pi_R f E M2 A) => tw_slot_s (w := a 1) hA (hr.pre (by omega))
  exact dCc_slotD_s (N := (vN f ev, adr)) hA h.2.1 (by omega) (by omega) (fun c => pi_y0 hA hW h hR ht (if_pos c)) (fun c => lw_e1 (Or.inl rfl) (pi_n0 hA hW h hR ht (if_neg c) (by decide)))
theorem pi_c7 (hk : k ≤ 1180000) (hn : n ≤ 5350000) (hf : 30000 ≤ f) (hA : qAI E A) (hW : pi_W A) (h : pi_S f ev adr o E A M P L) (hR : pi_K f ev adr o E k n R) : lawF_7 (vN f ev, adr) M P L k n o a R := by
  have ht := fun M2 (hr : pi_R f E M2 A) => tw_played_s (i := a 1) (w := a 2) hA (hr.pre (by omega))
  refine dCc_playedD_s (show 700 ≤ f by omega) hA h.2.1 h.2.2.1.u (by omega) (by omega) (fun c M' P' L' k' n' h1 h2 hu hX => ?_) (fun c => lw_e1 (Or.inl rfl) (pi_n0 hA hW h hR ht (if_neg c) (by decide)))
  exact pi_yes hA h (h.2.1.X hA hX) (fun c hc => hX.1 c (by omega)) (h.2.2.1.Z hu hX.Z) (hX.mem h.2.2.2) ht (if_pos c) (fun M3 h3 => hR _ M3 P' L' _ _ hA hW h3 (by omega) (by omega))
theorem pi_c8 (hk : k ≤ 1180000) (hn : n ≤ 5350000) (hf : 30000 ≤ f) (hA : qAI E A) (hW : pi_W A) (h : pi_S f ev adr o E A M P L) (hR : pi_K f ev adr o E k n R) : lawF_8 (vN f ev, adr) M P L k n o a R := by
  have ht := fun M2 (hr : pi_R f E M2 A) => tw_spans_s (l := a 1) (n := a 2) (show 700 ≤ f by omega) hA (hr.pre (by omega))
  have hcA : ∀ {M' : cx_M} {P' : dP} {L' : dL}, qd_Z M P L M' P' L' → qc_A (vN f ev) E M' A := fun hZ => qc_A.cells hA h.2.1 (fun c hc => hZ.1 c (by unfold qc_K at hc; omega))
  refine dCc_spansD_s (show 700 ≤ f by omega) hA h.2.1 h.2.2.1.u (by omega) (by omega) (fun c v M' P' L' k' n' h1 h2 e hu hZ => ?_) (fun c M' P' L' k' n' h1 h2 e hu hZ => ?_) (fun c => lw_e3 (pi_n0 hA hW h hR ht (if_neg c) (by decide)))
  · have ht2 := fun M2 hr => ht M2 hr
    rw [e] at ht2
    exact pi_yes hA h (hcA hZ) (fun c hc => hZ.1 c (by omega)) (h.2.2.1.Z hu hZ) (hZ.mem h.2.2.2) ht2 (by rw [if_pos c]; rfl) (fun M3 h3 => hR _ M3 P' L' _ _ hA hW h3 (by omega) (by omega))
  · have ht2 := fun M2 hr => ht M2 hr
    rw [e] at ht2
    exact lw_e1 (Or.inr rfl) (pi_no hA h (hcA hZ) (fun c hc => hZ.1 c (by omega)) (h.2.2.1.Z hu hZ) (hZ.mem h.2.2.2) ht2 (by rw [if_pos c]; rfl) (by decide) (fun M3 h3 => hR _ M3 P' L' _ _ hA hW h3 (by omega) (by omega)))
theorem pi_c9 (hk : k ≤ 1180000) (hn : n ≤ 5350000) (hf : 30000 ≤ f) (hA : qAI E A) (hW : pi_W A) (h : pi_S f ev adr o E A M P L) (hR : pi_K f ev adr o E k n R) : lawF_9 (vN f ev, adr) M P L k n o a R := by
  have ht := fun M2 (hr : pi_R f E M2 A) => tw_sample_s (i := a 1) hA (hr.pre (by omega))
  exact dCc_sampleD_s (N := (vN f ev, adr)) hA h.2.1 (by omega) (by omega) (fun c => pi_y0 hA hW h hR ht (if_pos c)) (fun c => lw_e1 (Or.inl rfl) (pi_n0 hA hW h hR ht (if_neg c) (by decide)))
theorem pi_c10 (hk : k ≤ 1180000) (hn : n ≤ 5350000) (hf : 30000 ≤ f) (hA : qAI E A) (hW : pi_W A) (h : pi_S f ev adr o E A M P L) (hR : pi_K f ev adr o E k n R) : lawF_10 (vN f ev, adr) M P L k n o a R := by
  have ht := fun M2 (hr : pi_R f E M2 A) => tw_wander_s (w := a 1) (show 700 ≤ f by omega) hA (hr.pre (by omega))
  obtain ⟨b1, z1, b2, z2, hs, ls, hq⟩ := h.2.2.1
  refine dCc_wanderD_s (show 2100 ≤ f by omega) hA h.2.1 (hW.1.1.W hA.2.1.1) hq (by omega) (by omega) (fun c M' P' L' k' n' hs' ls' h1 h2 hq' => ?_) (fun c => lw_e2 (pi_n0 hA hW h hR ht (if_neg c) (by decide)))
  obtain ⟨c1, y1, c2, y2, hre⟩ := hq'.re
  have hmem : (o, ((2, 0, 1) : dk)) ∈ L' := by
    obtain ⟨_, _, _, _, _, _, -, -, -, -, -, ⟨L2, e, -⟩, -⟩ := hq'
    rw [e]
    exact List.mem_append_left _ h.2.2.2
  have hlo : ∀ c, c < 10000000 → M' c = M c := by
    obtain ⟨_, _, _, _, _, _, -, -, -, -, f1, -⟩ := hq'
    exact f1
  exact pi_yes hA h (hq'.A hA h.2.1) (fun c hc => hlo c (by omega)) ⟨c1, y1, c2, y2, hs', ls', hre⟩ hmem ht (if_pos c) (fun M3 h3 => hR _ M3 P' L' _ _ hA hW h3 (by omega) (by omega))
theorem pi_c14 (hk : k ≤ 1180000) (hn : n ≤ 5350000) (hf : 30000 ≤ f) (hA : qAI E A) (hW : pi_W A) (h : pi_S f ev adr o E A M P L) (hR : pi_K f ev adr o E k n R) : lawF_14 (vN f ev, adr) M P L k n o a R := by
  have ht := fun M2 (hr : pi_R f E M2 A) => tw_turn_s (w := a 1) (x := a 2) hf hA (hr.pre (by omega))
  refine dCc_turnD_s (N := (vN f ev, adr)) (show 65 ≤ f by omega) hA h.2.1 (by omega) (by omega) (fun c M' hc F => ?_) (fun c => lw_e1 (Or.inl rfl) (pi_n0 (code := 1) hA hW h hR (fun M2 hr => ((ht M2 hr).2 c).ok2) rfl (by decide)))
  exact pi_yes (code := 0) hA.turns h hc (fun c hc => F c (Or.inl (by omega))) (h.2.2.1.F F) h.2.2.2 (fun M2 hr => ((ht M2 hr).1 c).ok2) rfl (fun M3 h3 => hR _ M3 P L _ _ hA.turns hW.turns h3 (by omega) (by omega))
theorem pi_c16 (hk : k ≤ 1180000) (hn : n ≤ 5350000) (hf : 30000 ≤ f) (hA : qAI E A) (hW : pi_W A) (h : pi_S f ev adr o E A M P L) (hR : pi_K f ev adr o E k n R) : lawF_16 (vN f ev, adr) M P L k n o a R := by
  have ht := fun M2 (hr : pi_R f E M2 A) => tw_then_s (n := a 1) (w := a 2) (show 700 ≤ f by omega) hA (hr.pre (by omega))
  exact dCc_thenD_s (show 700 ≤ f by omega) hA h.2.1 (by omega) (by omega) (fun c c2 => pi_y1 hA hW h hR ht (by rw [if_pos c, if_pos c2])) (fun c c2 => lw_e3 (pi_n0 hA hW h hR ht (by rw [if_pos c, if_neg c2]) (by decide))) (fun c => lw_e1 (Or.inr rfl) (pi_n0 hA hW h hR ht (if_neg c) (by decide)))
theorem pi_c17 (hk : k ≤ 1180000) (hn : n ≤ 5350000) (hf : 30000 ≤ f) (hA : qAI E A) (hW : pi_W A) (h : pi_S f ev adr o E A M P L) (hR : pi_K f ev adr o E k n R) : lawF_17 (vN f ev, adr) M P L k n o a R := by
  have ht := fun M2 (hr : pi_R f E M2 A) => tw_when_s (w := a 1) (show 700 ≤ f by omega) hA (hr.pre (by omega))
  exact dCc_whenD_s (show 700 ≤ f by omega) hA h.2.1 (by omega) (by omega) (fun c => pi_y1 hA hW h hR ht (if_pos c)) (fun c => lw_e1 (Or.inl rfl) (pi_n0 hA hW h hR ht (if_neg c) (by decide)))
theorem pi_c19 (hk : k ≤ 1180000) (hn : n ≤ 5350000) (hf : 30000 ≤ f) (hA : qAI E A) (hW : pi_W A) (h : pi_S f ev adr o E A M P L) (hR : pi_K f ev adr o E k n R) : lawF_19 (vN f ev, adr) M P L k n o a R := by
  have ht := fun M2 (hr : pi_R f E M2 A) => tw_toAim_s (n := a 1) (w := a 2) (show 700 ≤ f by omega) hA (hr.pre (by omega))
  exact dCc_toAimD_s (N := (vN f ev, adr)) (show 700 ≤ f by omega) hA h.2.1 (by omega) (by omega) (fun c c2 => pi_y1 hA hW h hR ht (by rw [if_pos c, if_pos c2])) (fun c c2 => lw_e3 (pi_n0 hA hW h hR ht (by rw [if_pos c, if_neg c2]) (by decide))) (fun c => lw_e1 (Or.inr rfl) (pi_n0 hA hW h hR ht (if_neg c) (by decide)))
theorem pi_c20 (hk : k ≤ 1180000) (hn : n ≤ 5350000) (hf : 30000 ≤ f) (hA : qAI E A) (hW : pi_W A) (h : pi_S f ev adr o E A M P L) (hR : pi_K f ev adr o E k n R) : lawF_20 (vN f ev, adr) M P L k n o a R := by
  have ht := fun M2 (hr : pi_R f E M2 A) => tw_toGain_s (n := a 1) (w := a 2) (show 700 ≤ f by omega) hA (hr.pre (by omega))
  exact dCc_toGainD_s (N := (vN f ev, adr)) (show 700 ≤ f by omega) hA h.2.1 (by omega) (by omega) (fun c c2 => pi_y1 hA hW h hR ht (by rw [if_pos c, if_pos c2])) (fun c c2 => lw_e3 (pi_n0 hA hW h hR ht (by rw [if_pos c, if_neg c2]) (by decide))) (fun c => lw_e1 (Or.inr rfl) (pi_n0 hA hW h hR ht (if_neg c) (by decide)))
theorem pi_c22 (hk : k ≤ 1180000) (hn : n ≤ 5350000) (hf : 30000 ≤ f) (hA : qAI E A) (hW : pi_W A) (h : pi_S f ev adr o E A M P L) (hR : pi_K f ev adr o E k n R) : lawF_22 (vN f ev, adr) M P L k n o a R := by
  have ht := fun M2 (hr : pi_R f E M2 A) => tw_other_s (w := a 1) (show 700 ≤ f by omega) hA (hr.pre (by omega))
  exact dCc_otherD_s (N := (vN f ev, adr)) (show 700 ≤ f by omega) hA h.2.1 (by omega) (by omega) (fun c => pi_y1 hA hW h hR ht (if_pos c)) (fun c => lw_e1 (Or.inl rfl) (pi_n0 hA hW h hR ht (if_neg c) (by decide)))
theorem pi_c23 (hk : k ≤ 1180000) (hn : n ≤ 5350000) (hf : 30000 ≤ f) (hA : qAI E A) (hW : pi_W A) (h : pi_S f ev adr o E A M P L) (hR : pi_K f ev adr o E k n R) : lawF_23 (vN f ev, adr) M P L k n o a R := by
  have ht := fun M2 (hr : pi_R f E M2 A) => tw_look_s (w := a 1) (show 700 ≤ f by omega) hA (hr.pre (by omega))
  exact dCc_lookD_s (N := (vN f ev, adr)) (show 700 ≤ f by omega) hA h.2.1 (by omega) (by omega) (fun c => pi_y1 hA hW h hR ht (if_pos c)) (fun c => lw_e1 (Or.inl rfl) (pi_n0 hA hW h hR ht (if_neg c) (by decide)))
theorem pi_c25 (hk : k ≤ 1180000) (hn : n ≤ 5350000) (hf : 30000 ≤ f) (hA : qAI E A) (hW : pi_W A) (h : pi_S f ev adr o E A M P L) (hR : pi_K f ev adr o E k n R) : lawF_25 (vN f ev, adr) M P L k n o a R := by
  have ht := fun M2 (hr : pi_R f E M2 A) => tw_storms_s (p := a 1) (t := a 2) (show 700 ≤ f by omega) hA (hr.pre (by omega))
  exact dCc_stormsD_s (N := (vN f ev, adr)) (show 700 ≤ f by omega) hA h.2.1 (by omega) (by omega) (fun c => pi_y1 hA hW h hR ht (if_pos c)) (fun c => lw_e2 (pi_n0 hA hW h hR ht (if_neg c) (by decide)))
theorem pi_c26 (hk : k ≤ 1180000) (hn : n ≤ 5350000) (hf : 30000 ≤ f) (hA : qAI E A) (hW : pi_W A) (h : pi_S f ev adr o E A M P L) (hR : pi_K f ev adr o E k n R) : lawF_26 (vN f ev, adr) M P L k n o a R := by
  have ht := fun M2 (hr : pi_R f E M2 A) => tw_years_s (x := a 1) (n := a 2) (w := a 3) (show 700 ≤ f by omega) hA (hr.pre (by omega))
  exact dCc_yearsD_s (N := (vN f ev, adr)) (show 700 ≤ f by omega) hA h.2.1 (by omega) (by omega) (fun c c2 => pi_y1 hA hW h hR ht (by rw [if_pos c, if_pos c2])) (fun c c2 => lw_e3 (pi_n0 hA hW h hR ht (by rw [if_pos c, if_neg c2]) (by decide))) (fun c => lw_e1 (Or.inr rfl) (pi_n0 hA hW h hR ht (if_neg c) (by decide)))
end cases
