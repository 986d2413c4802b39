/-! THE WHOLE OUT OF THE PLAIN LAW -/
theorem kn_lwH {s : State} {args : Array Value} {D : va_G} {dA : Nat → ClassId} {adr : Nat → Nat} {l : Launch} {Lx : dL} {Px : dP} {Mx : cx_M} {ev : Nat → (Nat → Int32) → Int32} {f : Nat} (hl : l.stackTraces = false) (hts : ∀ w ∈ lw_tbl, w.before args s = true) (hgv : (Jvm.Cond.and given_1 narrow_1).before args s = true) (hK : KN s args adr) (hlm : lmK_H (vG0 D dA (kA s) (kZ s)) adr) (hX : vX adr Lx Px Mx ev) : lwH l (vwG D dA (kA s) (kZ s) adr Lx Px Mx) (vN f ev, adr) :=
  ⟨⟨kn_dRW hl hts hgv hK, fun L P => vH_cp (kn_dI hts hgv hK) ⟨kn_cEn hts hgv hK, kn_BitSet hts hgv⟩ hlm hX, hlm⟩, kn_Nc1 (D := D) (dA := dA) hgv, fun L P => vH_twd (kn_twHs hts hK) (kn_cJ hts hgv)⟩
theorem whole_plain {p : Program} {e : Env} {s : State} {m : MethodId} {below : List Frame} {meth : Method} {c : Code} {l : Launch} (hl : l.stackTraces = false) {b L f : Nat} {xs : Nat → Int32} (hL : L ≤ 384) (C0 : lw_At p s m meth c b L xs) {D : va_G} {dA : Nat → ClassId} {adr0 : Nat → Nat} {PI : lwPI} {KA : (Nat → Nat) → Prop}
    (hKD : va_K D vwCl (cx_tys dA) s) (hK0 : KN s #[Value.ref b] adr0) (h508 : ¬ adr0 508 = 1) (hlm0 : lmK_H (vG0 D dA (kA s) (kZ s)) adr0) (hKA : ∀ adr, KA adr → KN s #[Value.ref b] adr ∧ lmK_H (vG0 D dA (kA s) (kZ s)) adr) (h0 : lwStart dA f adr0 PI) (hB : lwBound PI KA) (hStep : lwStep dA PI KA xs L) :
    W p l e room_1 s m #[Value.ref b] below meth c s.heap [] 0 0 (lw_Z below #[Value.ref b] s) (entryFrame m ([Value.ref b] : List Value).toArray 7) := by
  obtain ⟨hx, hb, hr, hml, hown, hts, hX, hbl, hlocks, hgv⟩ := id C0
  have hl7 := lv_entry ([.ref b]) (n := 7) (Nat.le_of_ble_eq_true rfl)
  rw [lg_entry_eq]
  generalize (lg_sl ([.ref b]) ++ List.replicate (7 - (lg_sl ([.ref b])).length) Slot.unset).toArray = ls at hl7 ⊢
  have hl7 : lv_has ls 7 [(0, .ref b)] := hl7
  have K := law_V (l := l) (p := p) (e := e) (s := s) (mm := m) (below := below) (meth := meth) (c := c) (D := D) (dA := dA) (A := kA s) (Z := kZ s) (b := b) (m := L) (f := f) (xs := xs) (adr0 := adr0) (PI := PI) (KA := KA) (fun q hq => hq) ⟨kn_dR0 hl hts hgv hK0 h508, hlm0⟩ (kn_dM hts hgv hK0) (fun adr hka => ⟨kn_dRT hl hts hgv (hKA adr hka).1 rfl, fun Lx Px Mx ev f hx => kn_lwH hl hts hgv (hKA adr hka).1 (hKA adr hka).2 hx⟩) (kn_lwS hX hbl) hL h0 hB hStep
  refine K ⟨hx, hb, hml, hown, fun w hw => hts w (List.mem_filter.mp hw).1, ⟨hlocks, fun h => by cases h⟩, hr, hKD, kn_nst hts, kZ_zc, kZ_self⟩ s.heap [] ls ⟨fun k q h => ?_, fun i j p q h => ?_, fun k q h => ?_⟩ va_S.rf hl7
  · exact absurd h (by show ¬ ([] : va_W)[k]? = some q; simp)
  · exact absurd h (by show ¬ ([] : va_W)[i]? = some p; simp)
  · exact absurd h (by show ¬ ([] : va_W)[k]? = some q; simp)
