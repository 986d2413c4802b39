/-! NUMBERS FOR WHAT IS KNOWN -/
def kMix (fT fR : Nat → Nat × Nat) (fV fS : Nat → Nat) (va ca mi : Nat) (ic la : Nat → Nat) (obj : Nat → Nat) (k : Nat) : Nat :=
  if k < 9100 then obj k else if k < 9140 then (if k = 9102 ∨ k = 9110 then obj k else la (k - 9100)) else if k < 9200 then obj k else if k < 9204 then fV (k - 9200) else if k < 9210 then obj k else if k < 9215 then fS (k - 9210) else if k = 9299 then va else if k < 1000000 then obj k else if k < 1000016 then (fT (k - 1000000)).1 else if k < 1000100 then 0 else if k < 1000116 then (fT (k - 1000100)).2 else if k < 1100000 then 0 else if k < 1100026 then (fR (k - 1100000)).1 else if k < 1200000 then 0 else if k < 1200026 then (fR (k - 1200000)).2 else if k < 2000000 then 0 else if k < 2000256 then ic (k - 2000000) else if k = 2000998 then mi else if k = 2000999 then ca else 0
section KX
variable {fT fR : Nat → Nat × Nat} {fV fS : Nat → Nat} {va ca mi : Nat} {ic la obj : Nat → Nat}
theorem kM_T {w : Nat} (h : w < 16) : kMix fT fR fV fS va ca mi ic la obj (1000000 + w) = (fT w).1 ∧ kMix fT fR fV fS va ca mi ic la obj (1000100 + w) = (fT w).2 := by
  unfold kMix
  refine ⟨?_, ?_⟩
  · repeat (first | rw [if_neg (by omega)] | rw [if_pos (by omega)])
    rw [Nat.add_sub_cancel_left]
  · repeat (first | rw [if_neg (by omega)] | rw [if_pos (by omega)])
    rw [Nat.add_sub_cancel_left]
theorem kM_R {w : Nat} (h : w < 26) : kMix fT fR fV fS va ca mi ic la obj (1100000 + w) = (fR w).1 ∧ kMix fT fR fV fS va ca mi ic la obj (1200000 + w) = (fR w).2 := by
  unfold kMix
  refine ⟨?_, ?_⟩
  · repeat (first | rw [if_neg (by omega)] | rw [if_pos (by omega)])
    rw [Nat.add_sub_cancel_left]
  · repeat (first | rw [if_neg (by omega)] | rw [if_pos (by omega)])
    rw [Nat.add_sub_cancel_left]
theorem kM_V {w : Nat} (h : w < 4) : kMix fT fR fV fS va ca mi ic la obj (9200 + w) = fV w := by
  unfold kMix
  repeat (first | rw [if_neg (by omega)] | rw [if_pos (by omega)])
  rw [Nat.add_sub_cancel_left]
theorem kM_S {w : Nat} (h : w < 5) : kMix fT fR fV fS va ca mi ic la obj (9210 + w) = fS w := by
  unfold kMix
  repeat (first | rw [if_neg (by omega)] | rw [if_pos (by omega)])
  rw [Nat.add_sub_cancel_left]
theorem kM_I {w : Nat} (h : w < 256) : kMix fT fR fV fS va ca mi ic la obj (2000000 + w) = ic w := by
  unfold kMix
  repeat (first | rw [if_neg (by omega)] | rw [if_pos (by omega)])
  rw [Nat.add_sub_cancel_left]
end KX
theorem kn_KN {s : State} {args : Array Value} (hgv : (Jvm.Cond.and given_1 narrow_1).before args s = true) : ∃ (fT fR : Nat → Nat × Nat) (fV fS : Nat → Nat) (va ca mi : Nat) (ic : Nat → Nat), ∀ la obj : Nat → Nat, KN s args (kMix fT fR fV fS va ca mi ic la obj) := by
  obtain ⟨fT, hT⟩ := kn_twS hgv
  obtain ⟨fR, hR⟩ := kn_rdS hgv
  have hV : ∀ e : Nat, ∃ a : Nat, e < 4 → (Term.static "CircuitCells$Value" (kVn.getD e "") "LCircuitCells$Value;").eval args s none [] s = some (.ref a) ∧ cx_RO "CircuitCells$Value" a s := by
    intro e
    by_cases he : e < 4
    · obtain ⟨a, h⟩ := ev_ref (s := s) (args := args) (t := .static "CircuitCells$Value" (kVn.getD e "") "LCircuitCells$Value;") (C := "CircuitCells$Value") (flat_n hgv _ (by
        match e, he with
        | 0, _ => decide +kernel
        | 1, _ => decide +kernel
        | 2, _ => decide +kernel
        | 3, _ => decide +kernel
        | e + 4, he => exact absurd he (by omega)))
      exact ⟨a, fun _ => h⟩
    · exact ⟨0, fun h => absurd h he⟩
  obtain ⟨fV, hV⟩ := Classical.axiomOfChoice hV
  have hS : ∀ e : Nat, ∃ a : Nat, e < 5 → (Term.static "CircuitCells$Sort" (kSn.getD e "") "LCircuitCells$Sort;").eval args s none [] s = some (.ref a) ∧ cx_RO "CircuitCells$Sort" a s := by
    intro e
    by_cases he : e < 5
    · obtain ⟨a, h⟩ := ev_ref (s := s) (args := args) (t := .static "CircuitCells$Sort" (kSn.getD e "") "LCircuitCells$Sort;") (C := "CircuitCells$Sort") (flat_n hgv _ (by
        match e, he with
        | 0, _ => decide +kernel
        | 1, _ => decide +kernel
        | 2, _ => decide +kernel
        | 3, _ => decide +kernel
        | 4, _ => decide +kernel
        | e + 5, he => exact absurd he (by omega)))
      exact ⟨a, fun _ => h⟩
    · exact ⟨0, fun h => absurd h he⟩
  obtain ⟨fS, hS⟩ := Classical.axiomOfChoice hS
  obtain ⟨va, hva, -⟩ := ev_ref (s := s) (args := args) (t := kVt) (C := "[LCircuitCells$Value;") (flat_n hgv _ (by decide +kernel))
  have hlen := ev_int (s := s) (args := args) (t := .length kCa) (v := 256) (flat_n hgv _ (by decide +kernel))
  obtain ⟨ca, cell, hca, -⟩ := Term.length_spec hlen
  obtain ⟨ic, hic, hel⟩ := vb_Cof (s := s) (args := args) (A := kA s) (st := kCa) rfl hlen (flat_n hgv _ (by decide +kernel)) (fun a h => kA_old h)
  obtain ⟨mi, hmi⟩ := va_Mi.of (flat_n hgv (.isRef (.mirror "[Ljava/lang/Object;")) (by decide +kernel))
  refine ⟨fT, fR, fV, fS, va, ca, mi, ic, fun la obj => ⟨fun w hw => ?_, fun w hw => ?_, fun e he => ?_, fun e he => ?_, hva, ⟨hca, ⟨fun k hk => ?_, fun k hk => ?_⟩, fun j hj => ?_⟩, hmi⟩⟩
  · rw [(kM_T hw).1, (kM_T hw).2]; exact hT w hw
  · rw [(kM_R hw).1, (kM_R hw).2]; exact hR w hw
  · rw [kM_V he]; exact hV e he
  · rw [kM_S he]; exact (hS e he).1
  · show va_O _ (kMix fT fR fV fS va ca mi ic la obj (2000000 + k)) _ _ _
    rw [kM_I hk]; exact hic.1 k hk
  · show va_OF _ _ _ _ (kMix fT fR fV fS va ca mi ic la obj (2000000 + k)) _ _ _
    rw [kM_I hk]; exact hic.2 k hk
  · show _ = some (Value.ref (kMix fT fR fV fS va ca mi ic la obj (2000000 + j)))
    rw [kM_I hj]; exact hel j hj
theorem no_traces {l : Launch} (h : l.flags = flags0) : l.stackTraces = false := by
  unfold Launch.stackTraces
  rw [h]
  decide +kernel
