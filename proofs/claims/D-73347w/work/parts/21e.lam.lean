/-! FUNCTION OBJECTS: by program (gen/lamp.py) -/
theorem cx_calE {o : Option cx_R} (h : ∀ r, o = some r → r.2.2 = 0) : cx_cal o (fun M v => some (M, v, 0)) = o := by
  cases o with
  | none => rfl
  | some r =>
    have := h r rfl
    obtain ⟨a, b, c⟩ := r
    cases this
    rfl
theorem cSt_back_fi {N : cx_N} {b : Nat} {M : cx_M} {x : Int32} : cSt_back N b M x = cFi_bk b M x := by
  unfold cSt_back cSt_back_0 cFi_bk cx_get
  dsimp only
  by_cases h : x ≤ M b 6
  · rw [if_pos h, if_neg (by rw [i32_le] at h; rw [i32_lt]; omega)]
  · rw [if_neg h, if_pos (by rw [i32_le] at h; rw [i32_lt]; omega)]
theorem cFi_bk0 {b : Nat} {M : cx_M} {x : Int32} {r : cx_R} (h : cFi_bk b M x = some r) : r.2.2 = 0 := by
  unfold cFi_bk at h
  split at h
  · cases h; rfl
  · unfold cx_ld at h
    split at h
    · cases h
    · cases h; rfl
theorem laN_0 : (⟨"CircuitCells$Fill", "of", "(LCircuitCells$State;)I"⟩ : MethodName) = ⟨lmS0.iface, lmS0.name, lmS0.sam.toString⟩ := by decide +kernel
theorem laS_0 : lmX0.cls = "CircuitCells" ∧ lmS0.implClass = "CircuitCells" ∧ (lmS0.iface ≠ "java/lang/invoke/MethodHandle" ∧ lmS0.iface ≠ "java/lang/invoke/VarHandle") ∧ yX1_lambda_new_0 = ⟨"CircuitCells", lmS0.implName, lmS0.implDesc.toString⟩ ∧ lmS0.sam.returnType = some .int ∧ (parseMethodDescriptor lmS0.sam.toString).map (fun d => d.parameters.length) = some 1 ∧ (parseMethodDescriptor yX1_lambda_new_0.desc).map (fun d => d.parameters.length) = some 1 := ⟨rfl, rfl, ⟨by decide +kernel, by decide +kernel⟩, by decide +kernel, rfl, by decide +kernel, by decide +kernel⟩
theorem laN_1 : (⟨"CircuitCells$Fill", "of", "(LCircuitCells$State;)I"⟩ : MethodName) = ⟨lmS1.iface, lmS1.name, lmS1.sam.toString⟩ := by decide +kernel
theorem laS_1 : lmX1.cls = "CircuitCells" ∧ lmS1.implClass = "CircuitCells" ∧ (lmS1.iface ≠ "java/lang/invoke/MethodHandle" ∧ lmS1.iface ≠ "java/lang/invoke/VarHandle") ∧ yX1_idle = ⟨"CircuitCells", lmS1.implName, lmS1.implDesc.toString⟩ ∧ lmS1.sam.returnType = some .int ∧ (parseMethodDescriptor lmS1.sam.toString).map (fun d => d.parameters.length) = some 1 ∧ (parseMethodDescriptor yX1_idle.desc).map (fun d => d.parameters.length) = some 1 := ⟨rfl, rfl, ⟨by decide +kernel, by decide +kernel⟩, by decide +kernel, rfl, by decide +kernel, by decide +kernel⟩
theorem laN_2 : (⟨"CircuitCells$Fill", "of", "(LCircuitCells$State;)I"⟩ : MethodName) = ⟨lmS2.iface, lmS2.name, lmS2.sam.toString⟩ := by decide +kernel
theorem laS_2 : lmX2.cls = "CircuitCells" ∧ (lmS2.implClass = "CircuitCells" ∧ lmS2.implItf = false) ∧ (lmS2.iface ≠ "java/lang/invoke/MethodHandle" ∧ lmS2.iface ≠ "java/lang/invoke/VarHandle") ∧ yX1_framed = ⟨"CircuitCells", lmS2.implName, lmS2.implDesc.toString⟩ ∧ lmS2.sam.returnType = some .int ∧ (parseMethodDescriptor lmS2.sam.toString).map (fun d => d.parameters.length) = some 1 ∧ (parseMethodDescriptor yX1_framed.desc).map (fun d => d.parameters.length) = some 1 := ⟨rfl, ⟨rfl, rfl⟩, ⟨by decide +kernel, by decide +kernel⟩, by decide +kernel, rfl, by decide +kernel, by decide +kernel⟩
theorem laN_3 : (⟨"CircuitCells$Look", "at", "(LCircuitCells$State;)I"⟩ : MethodName) = ⟨lmS3.iface, lmS3.name, lmS3.sam.toString⟩ := by decide +kernel
theorem laS_3 : lmX3.cls = "CircuitCells" ∧ (lmS3.implClass = "CircuitCells" ∧ lmS3.implItf = false) ∧ (lmS3.iface ≠ "java/lang/invoke/MethodHandle" ∧ lmS3.iface ≠ "java/lang/invoke/VarHandle") ∧ yX1_lambda_new_1 = ⟨"CircuitCells", lmS3.implName, lmS3.implDesc.toString⟩ ∧ lmS3.sam.returnType = some .int ∧ (parseMethodDescriptor lmS3.sam.toString).map (fun d => d.parameters.length) = some 1 ∧ (parseMethodDescriptor yX1_lambda_new_1.desc).map (fun d => d.parameters.length) = some 1 := ⟨rfl, ⟨rfl, rfl⟩, ⟨by decide +kernel, by decide +kernel⟩, by decide +kernel, rfl, by decide +kernel, by decide +kernel⟩
theorem laN_4 : (⟨"CircuitCells$Look", "at", "(LCircuitCells$State;)I"⟩ : MethodName) = ⟨lmS4.iface, lmS4.name, lmS4.sam.toString⟩ := by decide +kernel
theorem laS_4 : lmX4.cls = "CircuitCells" ∧ lmS4.implClass = "CircuitCells" ∧ (lmS4.iface ≠ "java/lang/invoke/MethodHandle" ∧ lmS4.iface ≠ "java/lang/invoke/VarHandle") ∧ yX1_lambda_new_2 = ⟨"CircuitCells", lmS4.implName, lmS4.implDesc.toString⟩ ∧ lmS4.sam.returnType = some .int ∧ (parseMethodDescriptor lmS4.sam.toString).map (fun d => d.parameters.length) = some 1 ∧ (parseMethodDescriptor yX1_lambda_new_2.desc).map (fun d => d.parameters.length) = some 1 := ⟨rfl, rfl, ⟨by decide +kernel, by decide +kernel⟩, by decide +kernel, rfl, by decide +kernel, by decide +kernel⟩
theorem laN_5 : (⟨"CircuitCells$Look", "at", "(LCircuitCells$State;)I"⟩ : MethodName) = ⟨lmS5.iface, lmS5.name, lmS5.sam.toString⟩ := by decide +kernel
theorem laS_5 : lmX5.cls = "CircuitCells" ∧ lmS5.implClass = "CircuitCells" ∧ (lmS5.iface ≠ "java/lang/invoke/MethodHandle" ∧ lmS5.iface ≠ "java/lang/invoke/VarHandle") ∧ yX1_lambda_new_3 = ⟨"CircuitCells", lmS5.implName, lmS5.implDesc.toString⟩ ∧ lmS5.sam.returnType = some .int ∧ (parseMethodDescriptor lmS5.sam.toString).map (fun d => d.parameters.length) = some 1 ∧ (parseMethodDescriptor yX1_lambda_new_3.desc).map (fun d => d.parameters.length) = some 1 := ⟨rfl, rfl, ⟨by decide +kernel, by decide +kernel⟩, by decide +kernel, rfl, by decide +kernel, by decide +kernel⟩
theorem laN_6 : (⟨"CircuitCells$Look", "at", "(LCircuitCells$State;)I"⟩ : MethodName) = ⟨lmS6.iface, lmS6.name, lmS6.sam.toString⟩ := by decide +kernel
theorem laS_6 : lmX6.cls = "CircuitCells" ∧ lmS6.implClass = "CircuitCells" ∧ (lmS6.iface ≠ "java/lang/invoke/MethodHandle" ∧ lmS6.iface ≠ "java/lang/invoke/VarHandle") ∧ yX1_lambda_new_4 = ⟨"CircuitCells", lmS6.implName, lmS6.implDesc.toString⟩ ∧ lmS6.sam.returnType = some .int ∧ (parseMethodDescriptor lmS6.sam.toString).map (fun d => d.parameters.length) = some 1 ∧ (parseMethodDescriptor yX1_lambda_new_4.desc).map (fun d => d.parameters.length) = some 1 := ⟨rfl, rfl, ⟨by decide +kernel, by decide +kernel⟩, by decide +kernel, rfl, by decide +kernel, by decide +kernel⟩
theorem laN_7 : (⟨"CircuitCells$Look", "at", "(LCircuitCells$State;)I"⟩ : MethodName) = ⟨lmS7.iface, lmS7.name, lmS7.sam.toString⟩ := by decide +kernel
theorem laS_7 : lmX7.cls = "CircuitCells" ∧ lmS7.implClass = "CircuitCells" ∧ (lmS7.iface ≠ "java/lang/invoke/MethodHandle" ∧ lmS7.iface ≠ "java/lang/invoke/VarHandle") ∧ yX1_lambda_new_5 = ⟨"CircuitCells", lmS7.implName, lmS7.implDesc.toString⟩ ∧ lmS7.sam.returnType = some .int ∧ (parseMethodDescriptor lmS7.sam.toString).map (fun d => d.parameters.length) = some 1 ∧ (parseMethodDescriptor yX1_lambda_new_5.desc).map (fun d => d.parameters.length) = some 1 := ⟨rfl, rfl, ⟨by decide +kernel, by decide +kernel⟩, by decide +kernel, rfl, by decide +kernel, by decide +kernel⟩
theorem laN_8 : (⟨"CircuitCells$Look", "at", "(LCircuitCells$State;)I"⟩ : MethodName) = ⟨lmS8.iface, lmS8.name, lmS8.sam.toString⟩ := by decide +kernel
theorem laS_8 : lmX8.cls = "CircuitCells" ∧ lmS8.implClass = "CircuitCells" ∧ (lmS8.iface ≠ "java/lang/invoke/MethodHandle" ∧ lmS8.iface ≠ "java/lang/invoke/VarHandle") ∧ yX1_lambda_new_6 = ⟨"CircuitCells", lmS8.implName, lmS8.implDesc.toString⟩ ∧ lmS8.sam.returnType = some .int ∧ (parseMethodDescriptor lmS8.sam.toString).map (fun d => d.parameters.length) = some 1 ∧ (parseMethodDescriptor yX1_lambda_new_6.desc).map (fun d => d.parameters.length) = some 1 := ⟨rfl, rfl, ⟨by decide +kernel, by decide +kernel⟩, by decide +kernel, rfl, by decide +kernel, by decide +kernel⟩
theorem laN_9 : (⟨"CircuitCells$Look", "at", "(LCircuitCells$State;)I"⟩ : MethodName) = ⟨lmS9.iface, lmS9.name, lmS9.sam.toString⟩ := by decide +kernel
theorem laS_9 : lmX9.cls = "CircuitCells" ∧ lmS9.implClass = "CircuitCells" ∧ (lmS9.iface ≠ "java/lang/invoke/MethodHandle" ∧ lmS9.iface ≠ "java/lang/invoke/VarHandle") ∧ yX1_lambda_when_7 = ⟨"CircuitCells", lmS9.implName, lmS9.implDesc.toString⟩ ∧ lmS9.sam.returnType = some .int ∧ (parseMethodDescriptor lmS9.sam.toString).map (fun d => d.parameters.length) = some 1 ∧ (parseMethodDescriptor yX1_lambda_when_7.desc).map (fun d => d.parameters.length) = some 1 := ⟨rfl, rfl, ⟨by decide +kernel, by decide +kernel⟩, by decide +kernel, rfl, by decide +kernel, by decide +kernel⟩
theorem laN_10 : (⟨"CircuitCells$Wait", "is", "(LCircuitCells$State;I)Z"⟩ : MethodName) = ⟨lmS10.iface, lmS10.name, lmS10.sam.toString⟩ := by decide +kernel
theorem laS_10 : lmX10.cls = "CircuitCells" ∧ lmS10.implClass = "CircuitCells" ∧ (lmS10.iface ≠ "java/lang/invoke/MethodHandle" ∧ lmS10.iface ≠ "java/lang/invoke/VarHandle") ∧ yX1_lambda_when_8 = ⟨"CircuitCells", lmS10.implName, lmS10.implDesc.toString⟩ ∧ lmS10.sam.returnType = some .boolean ∧ (parseMethodDescriptor lmS10.sam.toString).map (fun d => d.parameters.length) = some 2 ∧ (parseMethodDescriptor yX1_lambda_when_8.desc).map (fun d => d.parameters.length) = some 2 := ⟨rfl, rfl, ⟨by decide +kernel, by decide +kernel⟩, by decide +kernel, rfl, by decide +kernel, by decide +kernel⟩
theorem laN_11 : (⟨"CircuitCells$Look", "at", "(LCircuitCells$State;)I"⟩ : MethodName) = ⟨lmS11.iface, lmS11.name, lmS11.sam.toString⟩ := by decide +kernel
theorem laS_11 : lmX11.cls = "CircuitCells" ∧ lmS11.implClass = "CircuitCells" ∧ (lmS11.iface ≠ "java/lang/invoke/MethodHandle" ∧ lmS11.iface ≠ "java/lang/invoke/VarHandle") ∧ yX1_lambda_when_9 = ⟨"CircuitCells", lmS11.implName, lmS11.implDesc.toString⟩ ∧ lmS11.sam.returnType = some .int ∧ (parseMethodDescriptor lmS11.sam.toString).map (fun d => d.parameters.length) = some 1 ∧ (parseMethodDescriptor yX1_lambda_when_9.desc).map (fun d => d.parameters.length) = some 1 := ⟨rfl, rfl, ⟨by decide +kernel, by decide +kernel⟩, by decide +kernel, rfl, by decide +kernel, by decide +kernel⟩
theorem laN_12 : (⟨"CircuitCells$Wait", "is", "(LCircuitCells$State;I)Z"⟩ : MethodName) = ⟨lmS12.iface, lmS12.name, lmS12.sam.toString⟩ := by decide +kernel
theorem laS_12 : lmX12.cls = "CircuitCells" ∧ lmS12.implClass = "CircuitCells" ∧ (lmS12.iface ≠ "java/lang/invoke/MethodHandle" ∧ lmS12.iface ≠ "java/lang/invoke/VarHandle") ∧ yX1_lambda_when_10 = ⟨"CircuitCells", lmS12.implName, lmS12.implDesc.toString⟩ ∧ lmS12.sam.returnType = some .boolean ∧ (parseMethodDescriptor lmS12.sam.toString).map (fun d => d.parameters.length) = some 2 ∧ (parseMethodDescriptor yX1_lambda_when_10.desc).map (fun d => d.parameters.length) = some 2 := ⟨rfl, rfl, ⟨by decide +kernel, by decide +kernel⟩, by decide +kernel, rfl, by decide +kernel, by decide +kernel⟩
theorem laN_13 : (⟨"CircuitCells$Look", "at", "(LCircuitCells$State;)I"⟩ : MethodName) = ⟨lmS13.iface, lmS13.name, lmS13.sam.toString⟩ := by decide +kernel
theorem laS_13 : lmX13.cls = "CircuitCells" ∧ lmS13.implClass = "CircuitCells" ∧ (lmS13.iface ≠ "java/lang/invoke/MethodHandle" ∧ lmS13.iface ≠ "java/lang/invoke/VarHandle") ∧ yX1_lambda_when_11 = ⟨"CircuitCells", lmS13.implName, lmS13.implDesc.toString⟩ ∧ lmS13.sam.returnType = some .int ∧ (parseMethodDescriptor lmS13.sam.toString).map (fun d => d.parameters.length) = some 1 ∧ (parseMethodDescriptor yX1_lambda_when_11.desc).map (fun d => d.parameters.length) = some 1 := ⟨rfl, rfl, ⟨by decide +kernel, by decide +kernel⟩, by decide +kernel, rfl, by decide +kernel, by decide +kernel⟩
theorem laN_14 : (⟨"CircuitCells$Wait", "is", "(LCircuitCells$State;I)Z"⟩ : MethodName) = ⟨lmS14.iface, lmS14.name, lmS14.sam.toString⟩ := by decide +kernel
theorem laS_14 : lmX14.cls = "CircuitCells" ∧ lmS14.implClass = "CircuitCells" ∧ (lmS14.iface ≠ "java/lang/invoke/MethodHandle" ∧ lmS14.iface ≠ "java/lang/invoke/VarHandle") ∧ yX1_lambda_when_12 = ⟨"CircuitCells", lmS14.implName, lmS14.implDesc.toString⟩ ∧ lmS14.sam.returnType = some .boolean ∧ (parseMethodDescriptor lmS14.sam.toString).map (fun d => d.parameters.length) = some 2 ∧ (parseMethodDescriptor yX1_lambda_when_12.desc).map (fun d => d.parameters.length) = some 2 := ⟨rfl, rfl, ⟨by decide +kernel, by decide +kernel⟩, by decide +kernel, rfl, by decide +kernel, by decide +kernel⟩
theorem laN_15 : (⟨"CircuitCells$Look", "at", "(LCircuitCells$State;)I"⟩ : MethodName) = ⟨lmS15.iface, lmS15.name, lmS15.sam.toString⟩ := by decide +kernel
theorem laS_15 : lmX15.cls = "CircuitCells" ∧ lmS15.implClass = "CircuitCells" ∧ (lmS15.iface ≠ "java/lang/invoke/MethodHandle" ∧ lmS15.iface ≠ "java/lang/invoke/VarHandle") ∧ yX1_lambda_when_13 = ⟨"CircuitCells", lmS15.implName, lmS15.implDesc.toString⟩ ∧ lmS15.sam.returnType = some .int ∧ (parseMethodDescriptor lmS15.sam.toString).map (fun d => d.parameters.length) = some 1 ∧ (parseMethodDescriptor yX1_lambda_when_13.desc).map (fun d => d.parameters.length) = some 1 := ⟨rfl, rfl, ⟨by decide +kernel, by decide +kernel⟩, by decide +kernel, rfl, by decide +kernel, by decide +kernel⟩
theorem laN_16 : (⟨"CircuitCells$Wait", "is", "(LCircuitCells$State;I)Z"⟩ : MethodName) = ⟨lmS16.iface, lmS16.name, lmS16.sam.toString⟩ := by decide +kernel
theorem laS_16 : lmX16.cls = "CircuitCells" ∧ lmS16.implClass = "CircuitCells" ∧ (lmS16.iface ≠ "java/lang/invoke/MethodHandle" ∧ lmS16.iface ≠ "java/lang/invoke/VarHandle") ∧ yX1_lambda_when_14 = ⟨"CircuitCells", lmS16.implName, lmS16.implDesc.toString⟩ ∧ lmS16.sam.returnType = some .boolean ∧ (parseMethodDescriptor lmS16.sam.toString).map (fun d => d.parameters.length) = some 2 ∧ (parseMethodDescriptor yX1_lambda_when_14.desc).map (fun d => d.parameters.length) = some 2 := ⟨rfl, rfl, ⟨by decide +kernel, by decide +kernel⟩, by decide +kernel, rfl, by decide +kernel, by decide +kernel⟩
theorem vF_fi {g : cx_G} {adr : Nat → Nat} {N : cx_N} (H : cLn_H g adr ∧ cCc_H g adr) (HK : lmK_H g adr) (hC : lm_C g (adr 9102) (g.2.1 22) (adr 500)) : cLs_Hfi g adr N := by
  have HC := H.2
  intro how hhow b hb l X S cc pc lv st M k n Q F index count h d hml hif hfr hlo hcat hk hn K
  match how, hhow with
  | 0, _ =>
    have e : cFi_of N 0 b M = cCc_lambda_new_0 N b M := by
      unfold cCc_lambda_new_0 cCc_lambda_new_0_0 cFi_of
      rw [if_neg (by decide), cSt_back_fi, cx_calE (fun r hr => cFi_bk0 hr)]
      rfl
    rw [e] at h
    exact cq_lamS1 (x := lmX0) (σ := lmS0) (y := yX1_lambda_new_0) (S' := sX1_lambda_new_0) (o := cCc_lambda_new_0 N b M) st h (fun rs' h' => cCf_lambda_new_0_m H hb M rs' h') (lmK_0 HK) lmO_0 laS_0 d (laN_0 ▸ hml) (lw_meth q960) q959 q116 ⟨rfl, rfl, rfl⟩ ⟨Nat.le_trans (by decide) hfr, Nat.le_trans (by decide) hlo⟩ ⟨hk, hn⟩ rfl (Nat.le_trans hcat (by decide)) K
  | 1, _ =>
    have e : cFi_of N 1 b M = cCc_idle N b M := by
      rfl
    rw [e] at h
    exact cq_lamS1 (x := lmX1) (σ := lmS1) (y := yX1_idle) (S' := sX1_idle) (o := cCc_idle N b M) st h (fun rs' h' => cCf_idle_m H hb M rs' h') (lmK_1 HK) lmO_1 laS_1 d (laN_1 ▸ hml) (lw_meth q976) q975 q116 ⟨rfl, rfl, rfl⟩ ⟨Nat.le_trans (by decide) hfr, Nat.le_trans (by decide) hlo⟩ ⟨hk, hn⟩ rfl (Nat.le_trans hcat (by decide)) K
  | 2, _ =>
    have e : cFi_of N 2 b M = cCc_framed N b M := by
      unfold cCc_framed cCc_framed_0 cFi_of
      unfold cx_get
      dsimp only
      rw [if_neg (by decide), cSt_back_fi, cx_calE (fun r hr => cFi_bk0 hr)]
      rfl
    rw [e] at h
    exact cq_lamV (x := lmX2) (σ := lmS2) (y := yX1_framed) (S' := sX1_framed) (o := cCc_framed N b M) st h (fun rs' h' => cCf_framed_m H hb M rs' h') (lmK_2 HK) hC (cCc_rc0 HC) lmO_2 lmF_2 laS_2 d (laN_2 ▸ hml) (lw_meth q979) q978 q116 qs5 ⟨rfl, rfl, rfl⟩ ⟨Nat.le_trans (by decide) hfr, Nat.le_trans (by decide) hlo⟩ ⟨hk, hn⟩ rfl (Nat.le_trans hcat (by decide)) K
/-- what is looked at, waited for: the lambdas' functions -/
noncomputable def vLk (f : Nat) (ev : Nat → (Nat → Int32) → Int32) : Nat → Nat → cx_M → Option cx_R := fun kL b M => match kL with
  | 0 => cCc_lambda_new_1 (f, ev, fun _ _ _ => none, fun _ _ _ _ => none) b M
  | 1 => cCc_lambda_new_2 (f, ev, fun _ _ _ => none, fun _ _ _ _ => none) b M
  | 2 => cCc_lambda_new_3 (f, ev, fun _ _ _ => none, fun _ _ _ _ => none) b M
  | 3 => cCc_lambda_new_4 (f, ev, fun _ _ _ => none, fun _ _ _ _ => none) b M
  | 4 => cCc_lambda_new_5 (f, ev, fun _ _ _ => none, fun _ _ _ _ => none) b M
  | 5 => cCc_lambda_new_6 (f, ev, fun _ _ _ => none, fun _ _ _ _ => none) b M
  | 6 => cCc_lambda_when_7 (f, ev, fun _ _ _ => none, fun _ _ _ _ => none) b M
  | 7 => cCc_lambda_when_9 (f, ev, fun _ _ _ => none, fun _ _ _ _ => none) b M
  | 8 => cCc_lambda_when_11 (f, ev, fun _ _ _ => none, fun _ _ _ _ => none) b M
  | 9 => cCc_lambda_when_13 (f, ev, fun _ _ _ => none, fun _ _ _ _ => none) b M
  | _ => none
noncomputable def vWt (f : Nat) (ev : Nat → (Nat → Int32) → Int32) : Nat → Nat → cx_M → Int32 → Option cx_R := fun kW b M x => match kW with
  | 0 => cCc_lambda_when_8 (f, ev, fun _ _ _ => none, fun _ _ _ _ => none) b M x
  | 1 => cCc_lambda_when_10 (f, ev, fun _ _ _ => none, fun _ _ _ _ => none) b M x
  | 2 => cCc_lambda_when_12 (f, ev, fun _ _ _ => none, fun _ _ _ _ => none) b M x
  | 3 => cCc_lambda_when_14 (f, ev, fun _ _ _ => none, fun _ _ _ _ => none) b M x
  | _ => none
noncomputable def vN (f : Nat) (ev : Nat → (Nat → Int32) → Int32) : cx_N := (f, ev, vLk f ev, vWt f ev)
def vN0 (f : Nat) (ev : Nat → (Nat → Int32) → Int32) : cx_N := (f, ev, fun _ _ _ => none, fun _ _ _ _ => none)
theorem vF_at {g : cx_G} {adr : Nat → Nat} {f : Nat} {ev : Nat → (Nat → Int32) → Int32} (H : cCp_H g adr (vN0 f ev)) (HC : cCc_H g adr) (HK : lmK_H g adr) (hC : lm_C g (adr 9110) (g.2.1 23) (adr 500)) : cLs_Hat g adr (vN f ev) := by
  intro kL hkL b hb l X S cc pc lv st M k n Q F index count h d hml hif hfr hlo hcat hk hn K
  match kL, hkL with
  | 0, _ => exact cq_lamV (x := lmX3) (σ := lmS3) (y := yX1_lambda_new_1) (S' := sX1_lambda_new_1) (o := cCc_lambda_new_1 (vN0 f ev) b M) st h (fun rs' h' => cCc_lambda_new_1_m H hb M rs' h') (lmK_3 HK) hC (cCc_rc0 HC) lmO_3 lmF_3 laS_3 d (laN_3 ▸ hml) (lw_meth q984) q983 q116 qs6 ⟨rfl, rfl, rfl⟩ ⟨Nat.le_trans (by decide) hfr, Nat.le_trans (by decide) hlo⟩ ⟨hk, hn⟩ rfl (Nat.le_trans hcat (by decide)) K
  | 1, _ => exact cq_lamS1 (x := lmX4) (σ := lmS4) (y := yX1_lambda_new_2) (S' := sX1_lambda_new_2) (o := cCc_lambda_new_2 (vN0 f ev) b M) st h (fun rs' h' => cCc_lambda_new_2_m H hb M rs' h') (lmK_4 HK) lmO_4 laS_4 d (laN_4 ▸ hml) (lw_meth q1000) q999 q116 ⟨rfl, rfl, rfl⟩ ⟨Nat.le_trans (by decide) hfr, Nat.le_trans (by decide) hlo⟩ ⟨hk, hn⟩ rfl (Nat.le_trans hcat (by decide)) K
  | 2, _ => exact cq_lamS1 (x := lmX5) (σ := lmS5) (y := yX1_lambda_new_3) (S' := sX1_lambda_new_3) (o := cCc_lambda_new_3 (vN0 f ev) b M) st h (fun rs' h' => cCc_lambda_new_3_m H hb M rs' h') (lmK_5 HK) lmO_5 laS_5 d (laN_5 ▸ hml) (lw_meth q1002) q1001 q116 ⟨rfl, rfl, rfl⟩ ⟨Nat.le_trans (by decide) hfr, Nat.le_trans (by decide) hlo⟩ ⟨hk, hn⟩ rfl (Nat.le_trans hcat (by decide)) K
  | 3, _ => exact cq_lamS1 (x := lmX6) (σ := lmS6) (y := yX1_lambda_new_4) (S' := sX1_lambda_new_4) (o := cCc_lambda_new_4 (vN0 f ev) b M) st h (fun rs' h' => cCc_lambda_new_4_m H hb M rs' h') (lmK_6 HK) lmO_6 laS_6 d (laN_6 ▸ hml) (lw_meth q1004) q1003 q116 ⟨rfl, rfl, rfl⟩ ⟨Nat.le_trans (by decide) hfr, Nat.le_trans (by decide) hlo⟩ ⟨hk, hn⟩ rfl (Nat.le_trans hcat (by decide)) K
  | 4, _ => exact cq_lamS1 (x := lmX7) (σ := lmS7) (y := yX1_lambda_new_5) (S' := sX1_lambda_new_5) (o := cCc_lambda_new_5 (vN0 f ev) b M) st h (fun rs' h' => cCc_lambda_new_5_m H hb M rs' h') (lmK_7 HK) lmO_7 laS_7 d (laN_7 ▸ hml) (lw_meth q1006) q1005 q116 ⟨rfl, rfl, rfl⟩ ⟨Nat.le_trans (by decide) hfr, Nat.le_trans (by decide) hlo⟩ ⟨hk, hn⟩ rfl (Nat.le_trans hcat (by decide)) K
  | 5, _ => exact cq_lamS1 (x := lmX8) (σ := lmS8) (y := yX1_lambda_new_6) (S' := sX1_lambda_new_6) (o := cCc_lambda_new_6 (vN0 f ev) b M) st h (fun rs' h' => cCc_lambda_new_6_m H hb M rs' h') (lmK_8 HK) lmO_8 laS_8 d (laN_8 ▸ hml) (lw_meth q1008) q1007 q116 ⟨rfl, rfl, rfl⟩ ⟨Nat.le_trans (by decide) hfr, Nat.le_trans (by decide) hlo⟩ ⟨hk, hn⟩ rfl (Nat.le_trans hcat (by decide)) K
  | 6, _ => exact cq_lamS1 (x := lmX9) (σ := lmS9) (y := yX1_lambda_when_7) (S' := sX1_lambda_when_7) (o := cCc_lambda_when_7 (vN0 f ev) b M) st h (fun rs' h' => cCc_lambda_when_7_m H hb M rs' h') (lmK_9 HK) lmO_9 laS_9 d (laN_9 ▸ hml) (lw_meth q2273) q2272 q116 ⟨rfl, rfl, rfl⟩ ⟨Nat.le_trans (by decide) hfr, Nat.le_trans (by decide) hlo⟩ ⟨hk, hn⟩ rfl (Nat.le_trans hcat (by decide)) K
  | 7, _ => exact cq_lamS1 (x := lmX11) (σ := lmS11) (y := yX1_lambda_when_9) (S' := sX1_lambda_when_9) (o := cCc_lambda_when_9 (vN0 f ev) b M) st h (fun rs' h' => cCc_lambda_when_9_m H hb M rs' h') (lmK_11 HK) lmO_11 laS_11 d (laN_11 ▸ hml) (lw_meth q2285) q2284 q116 ⟨rfl, rfl, rfl⟩ ⟨Nat.le_trans (by decide) hfr, Nat.le_trans (by decide) hlo⟩ ⟨hk, hn⟩ rfl (Nat.le_trans hcat (by decide)) K
  | 8, _ => exact cq_lamS1 (x := lmX13) (σ := lmS13) (y := yX1_lambda_when_11) (S' := sX1_lambda_when_11) (o := cCc_lambda_when_11 (vN0 f ev) b M) st h (fun rs' h' => cCc_lambda_when_11_m H hb M rs' h') (lmK_13 HK) lmO_13 laS_13 d (laN_13 ▸ hml) (lw_meth q2289) q2288 q116 ⟨rfl, rfl, rfl⟩ ⟨Nat.le_trans (by decide) hfr, Nat.le_trans (by decide) hlo⟩ ⟨hk, hn⟩ rfl (Nat.le_trans hcat (by decide)) K
  | 9, _ => exact cq_lamS1 (x := lmX15) (σ := lmS15) (y := yX1_lambda_when_13) (S' := sX1_lambda_when_13) (o := cCc_lambda_when_13 (vN0 f ev) b M) st h (fun rs' h' => cCc_lambda_when_13_m H hb M rs' h') (lmK_15 HK) lmO_15 laS_15 d (laN_15 ▸ hml) (lw_meth q2293) q2292 q116 ⟨rfl, rfl, rfl⟩ ⟨Nat.le_trans (by decide) hfr, Nat.le_trans (by decide) hlo⟩ ⟨hk, hn⟩ rfl (Nat.le_trans hcat (by decide)) K
  | n + 10, _ => exact absurd h (fun h => h)
theorem laZ_10 {N : cx_N} {b : Nat} {M : cx_M} {x : Int32} {rs : cx_R} (h : cCc_lambda_when_8 N b M x = some rs) : narrow .boolean (.int rs.2.1) = .int rs.2.1 := by
  unfold cCc_lambda_when_8 cCc_lambda_when_8_0 cx_get at h
  dsimp only at h
  split at h <;> (cases h; first | exact cx_z_1 | exact cx_z_0)
theorem laZ_12 {N : cx_N} {b : Nat} {M : cx_M} {x : Int32} {rs : cx_R} (h : cCc_lambda_when_10 N b M x = some rs) : narrow .boolean (.int rs.2.1) = .int rs.2.1 := by
  unfold cCc_lambda_when_10 cCc_lambda_when_10_0 cx_get at h
  dsimp only at h
  split at h <;> (cases h; first | exact cx_z_1 | exact cx_z_0)
theorem laZ_14 {N : cx_N} {b : Nat} {M : cx_M} {x : Int32} {rs : cx_R} (h : cCc_lambda_when_12 N b M x = some rs) : narrow .boolean (.int rs.2.1) = .int rs.2.1 := by
  unfold cCc_lambda_when_12 cCc_lambda_when_12_0 cx_get cx_bl at h
  dsimp only at h
  split at h
  · next q =>
    cases h
    rcases q with q | q <;> (show narrow .boolean (.int (M b 42)) = .int (M b 42); rw [q]; first | exact cx_z_1 | exact cx_z_0)
  · cases h
theorem laZ_16 {N : cx_N} {b : Nat} {M : cx_M} {x : Int32} {rs : cx_R} (h : cCc_lambda_when_14 N b M x = some rs) : narrow .boolean (.int rs.2.1) = .int rs.2.1 := by
  unfold cCc_lambda_when_14 cCc_lambda_when_14_0 cx_get at h
  dsimp only at h
  split at h <;> (cases h; first | exact cx_z_1 | exact cx_z_0)
theorem vF_is {g : cx_G} {adr : Nat → Nat} {f : Nat} {ev : Nat → (Nat → Int32) → Int32} (H : cCp_H g adr (vN0 f ev)) (HK : lmK_H g adr) : cLs_His g adr (vN f ev) := by
  intro kW hkW b hb l X S cc pc lv st M k n Q F index count x h d hml hif hfr hlo hcat hk hn K
  match kW, hkW with
  | 0, _ => exact cq_lamS2 (x := lmX10) (σ := lmS10) (y := yX1_lambda_when_8) (S' := sX1_lambda_when_8) (o := cCc_lambda_when_8 (vN0 f ev) b M x) st h (fun rs' h' => cCc_lambda_when_8_m H hb M x rs' h') (fun rs' h' => laZ_10 h') (lmK_10 HK) lmO_10 laS_10 d (laN_10 ▸ hml) (lw_meth q2275) q2274 q116 ⟨rfl, rfl, rfl⟩ ⟨Nat.le_trans (by decide) hfr, Nat.le_trans (by decide) hlo⟩ ⟨hk, hn⟩ rfl (Nat.le_trans hcat (by decide)) K
  | 1, _ => exact cq_lamS2 (x := lmX12) (σ := lmS12) (y := yX1_lambda_when_10) (S' := sX1_lambda_when_10) (o := cCc_lambda_when_10 (vN0 f ev) b M x) st h (fun rs' h' => cCc_lambda_when_10_m H hb M x rs' h') (fun rs' h' => laZ_12 h') (lmK_12 HK) lmO_12 laS_12 d (laN_12 ▸ hml) (lw_meth q2287) q2286 q116 ⟨rfl, rfl, rfl⟩ ⟨Nat.le_trans (by decide) hfr, Nat.le_trans (by decide) hlo⟩ ⟨hk, hn⟩ rfl (Nat.le_trans hcat (by decide)) K
  | 2, _ => exact cq_lamS2 (x := lmX14) (σ := lmS14) (y := yX1_lambda_when_12) (S' := sX1_lambda_when_12) (o := cCc_lambda_when_12 (vN0 f ev) b M x) st h (fun rs' h' => cCc_lambda_when_12_m H hb M x rs' h') (fun rs' h' => laZ_14 h') (lmK_14 HK) lmO_14 laS_14 d (laN_14 ▸ hml) (lw_meth q2291) q2290 q116 ⟨rfl, rfl, rfl⟩ ⟨Nat.le_trans (by decide) hfr, Nat.le_trans (by decide) hlo⟩ ⟨hk, hn⟩ rfl (Nat.le_trans hcat (by decide)) K
  | 3, _ => exact cq_lamS2 (x := lmX16) (σ := lmS16) (y := yX1_lambda_when_14) (S' := sX1_lambda_when_14) (o := cCc_lambda_when_14 (vN0 f ev) b M x) st h (fun rs' h' => cCc_lambda_when_14_m H hb M x rs' h') (fun rs' h' => laZ_16 h') (lmK_16 HK) lmO_16 laS_16 d (laN_16 ▸ hml) (lw_meth q2295) q2294 q116 ⟨rfl, rfl, rfl⟩ ⟨Nat.le_trans (by decide) hfr, Nat.le_trans (by decide) hlo⟩ ⟨hk, hn⟩ rfl (Nat.le_trans hcat (by decide)) K
  | n + 4, _ => exact absurd h (fun h => h)
