theorem cx_bp_38 : (Int8.ofInt 38).toInt32 = 38 := by decide +kernel
theorem cx_bp_124 : (Int8.ofInt 124).toInt32 = 124 := by decide +kernel
def rdS : List (List Int32) := [[], [59], [115, 105, 122, 101], [116, 97, 114, 103, 101, 116], [103, 97, 105, 110], [101, 118, 101, 114, 121], [111, 102, 102, 115, 101, 116], [102, 114, 97, 109, 101], [119, 111, 114, 100], [100, 101, 108, 97, 121], [108, 111, 115, 116], [45], [40], [111, 114], [97, 110, 100], [110, 111, 116], [60], [61], [43], [42], [47], [41], [112, 97, 99, 107, 101, 116], [116, 105, 109, 101], [108, 97, 115, 116], [102, 108, 121, 105, 110, 103]]
def rdSn (w : Nat) : Nat := (rdS.getD w []).length
def rdSf (w : Nat) : Nat → Int32 := fun j => (rdS.getD w []).getD j 0
/-- the constants of Sort -/
def dSo (g : cx_G) (adr : Nat → Nat) : Prop := ∀ U : State, cx_K g U → va_Z "CircuitCells$Sort" "WORD" "LCircuitCells$Sort;" (.ref (adr 9210)) g.2.2.2.1 U U.heap ∧ va_Z "CircuitCells$Sort" "NUMBER" "LCircuitCells$Sort;" (.ref (adr 9211)) g.2.2.2.1 U U.heap ∧ va_Z "CircuitCells$Sort" "SIGN" "LCircuitCells$Sort;" (.ref (adr 9212)) g.2.2.2.1 U U.heap ∧ va_Z "CircuitCells$Sort" "BAD" "LCircuitCells$Sort;" (.ref (adr 9213)) g.2.2.2.1 U U.heap ∧ va_Z "CircuitCells$Sort" "END" "LCircuitCells$Sort;" (.ref (adr 9214)) g.2.2.2.1 U U.heap
def dRk (g : cx_G) (adr : Nat → Nat) : Prop := (∀ U : State, cx_K g U → vk_R RX11 9 "" (adr (1100000 + 0)) U) ∧ (∀ U : State, cx_K g U → vk_R RX11 136 ";" (adr (1100000 + 1)) U) ∧ (∀ U : State, cx_K g U → vk_R RX11 145 "size" (adr (1100000 + 2)) U) ∧ (∀ U : State, cx_K g U → vk_R RX11 146 "target" (adr (1100000 + 3)) U) ∧ (∀ U : State, cx_K g U → vk_R RX11 148 "gain" (adr (1100000 + 4)) U) ∧ (∀ U : State, cx_K g U → vk_R RX11 150 "every" (adr (1100000 + 5)) U) ∧ (∀ U : State, cx_K g U → vk_R RX11 152 "offset" (adr (1100000 + 6)) U) ∧ (∀ U : State, cx_K g U → vk_R RX11 154 "frame" (adr (1100000 + 7)) U) ∧ (∀ U : State, cx_K g U → vk_R RX11 156 "word" (adr (1100000 + 8)) U) ∧ (∀ U : State, cx_K g U → vk_R RX11 157 "delay" (adr (1100000 + 9)) U) ∧ (∀ U : State, cx_K g U → vk_R RX11 159 "lost" (adr (1100000 + 10)) U) ∧ (∀ U : State, cx_K g U → vk_R RX11 179 "-" (adr (1100000 + 11)) U) ∧ (∀ U : State, cx_K g U → vk_R RX11 209 "(" (adr (1100000 + 12)) U) ∧ (∀ U : State, cx_K g U → vk_R RX11 214 "or" (adr (1100000 + 13)) U) ∧ (∀ U : State, cx_K g U → vk_R RX11 224 "and" (adr (1100000 + 14)) U) ∧ (∀ U : State, cx_K g U → vk_R RX11 225 "not" (adr (1100000 + 15)) U) ∧ (∀ U : State, cx_K g U → vk_R RX11 229 "<" (adr (1100000 + 16)) U) ∧ (∀ U : State, cx_K g U → vk_R RX11 231 "=" (adr (1100000 + 17)) U) ∧ (∀ U : State, cx_K g U → vk_R RX11 245 "+" (adr (1100000 + 18)) U) ∧ (∀ U : State, cx_K g U → vk_R RX11 250 "*" (adr (1100000 + 19)) U) ∧ (∀ U : State, cx_K g U → vk_R RX11 252 "/" (adr (1100000 + 20)) U) ∧ (∀ U : State, cx_K g U → vk_R RX11 257 ")" (adr (1100000 + 21)) U) ∧ (∀ U : State, cx_K g U → vk_R RX11 267 "packet" (adr (1100000 + 22)) U) ∧ (∀ U : State, cx_K g U → vk_R RX11 269 "time" (adr (1100000 + 23)) U) ∧ (∀ U : State, cx_K g U → vk_R RX11 271 "last" (adr (1100000 + 24)) U) ∧ (∀ U : State, cx_K g U → vk_R RX11 273 "flying" (adr (1100000 + 25)) U)
/-- what a base says of the Reader's surroundings -/
def dR (l : Launch) (g : cx_G) (adr : Nat → Nat) : Prop := dI g adr ∧ dT l g ∧ (adr 508 = 1 → ∀ (L : dL) (P : dP), cx_AI (dG g L P) 509 700 (adr 509) 2 .byte) ∧ dSo g adr ∧ cEn_H0 g adr ∧ (∀ w, w < 26 → cx_Str g (adr (1100000 + w)) (adr (1200000 + w)) (rdSn w) (rdSf w) ∧ ¬ g.2.2.2.1 (adr (1100000 + w))) ∧ dRk g adr ∧ dV g (adr 9299)
theorem dR_s0 {l : Launch} {g : cx_G} {adr : Nat → Nat} {L : dL} {P : dP} (H : dR l g adr) : ∀ U, cx_K (dG g L P) U → va_Z "CircuitCells$Sort" "WORD" "LCircuitCells$Sort;" (.ref (adr 9210)) g.2.2.2.1 U U.heap := fun U h => (H.2.2.2.1 U h).1
theorem dR_s1 {l : Launch} {g : cx_G} {adr : Nat → Nat} {L : dL} {P : dP} (H : dR l g adr) : ∀ U, cx_K (dG g L P) U → va_Z "CircuitCells$Sort" "NUMBER" "LCircuitCells$Sort;" (.ref (adr 9211)) g.2.2.2.1 U U.heap := fun U h => (H.2.2.2.1 U h).2.1
theorem dR_s2 {l : Launch} {g : cx_G} {adr : Nat → Nat} {L : dL} {P : dP} (H : dR l g adr) : ∀ U, cx_K (dG g L P) U → va_Z "CircuitCells$Sort" "SIGN" "LCircuitCells$Sort;" (.ref (adr 9212)) g.2.2.2.1 U U.heap := fun U h => (H.2.2.2.1 U h).2.2.1
theorem dR_s3 {l : Launch} {g : cx_G} {adr : Nat → Nat} {L : dL} {P : dP} (H : dR l g adr) : ∀ U, cx_K (dG g L P) U → va_Z "CircuitCells$Sort" "BAD" "LCircuitCells$Sort;" (.ref (adr 9213)) g.2.2.2.1 U U.heap := fun U h => (H.2.2.2.1 U h).2.2.2.1
theorem dR_s4 {l : Launch} {g : cx_G} {adr : Nat → Nat} {L : dL} {P : dP} (H : dR l g adr) : ∀ U, cx_K (dG g L P) U → va_Z "CircuitCells$Sort" "END" "LCircuitCells$Sort;" (.ref (adr 9214)) g.2.2.2.1 U U.heap := fun U h => (H.2.2.2.1 U h).2.2.2.2
theorem dR_v0 {l : Launch} {g : cx_G} {adr : Nat → Nat} {L : dL} {P : dP} (H : dR l g adr) : ∀ U, cx_K (dG g L P) U → va_Z "CircuitCells$Value" "PACKET" "LCircuitCells$Value;" (.ref (adr 9200)) g.2.2.2.1 U U.heap := fun U h => (H.2.2.2.2.1 U h).1
theorem dR_v1 {l : Launch} {g : cx_G} {adr : Nat → Nat} {L : dL} {P : dP} (H : dR l g adr) : ∀ U, cx_K (dG g L P) U → va_Z "CircuitCells$Value" "TIME" "LCircuitCells$Value;" (.ref (adr 9201)) g.2.2.2.1 U U.heap := fun U h => (H.2.2.2.2.1 U h).2.1
theorem dR_v2 {l : Launch} {g : cx_G} {adr : Nat → Nat} {L : dL} {P : dP} (H : dR l g adr) : ∀ U, cx_K (dG g L P) U → va_Z "CircuitCells$Value" "LAST" "LCircuitCells$Value;" (.ref (adr 9202)) g.2.2.2.1 U U.heap := fun U h => (H.2.2.2.2.1 U h).2.2.1
theorem dR_v3 {l : Launch} {g : cx_G} {adr : Nat → Nat} {L : dL} {P : dP} (H : dR l g adr) : ∀ U, cx_K (dG g L P) U → va_Z "CircuitCells$Value" "FLYING" "LCircuitCells$Value;" (.ref (adr 9203)) g.2.2.2.1 U U.heap := fun U h => (H.2.2.2.2.1 U h).2.2.2.1
theorem dR_k9 {l : Launch} {g : cx_G} {adr : Nat → Nat} {L : dL} {P : dP} (H : dR l g adr) : ∀ U, cx_K (dG g L P) U → vk_R RX11 9 "" (adr (1100000 + 0)) U := fun U h => H.2.2.2.2.2.2.1.1 U h
theorem dR_k136 {l : Launch} {g : cx_G} {adr : Nat → Nat} {L : dL} {P : dP} (H : dR l g adr) : ∀ U, cx_K (dG g L P) U → vk_R RX11 136 ";" (adr (1100000 + 1)) U := fun U h => H.2.2.2.2.2.2.1.2.1 U h
theorem dR_k145 {l : Launch} {g : cx_G} {adr : Nat → Nat} {L : dL} {P : dP} (H : dR l g adr) : ∀ U, cx_K (dG g L P) U → vk_R RX11 145 "size" (adr (1100000 + 2)) U := fun U h => H.2.2.2.2.2.2.1.2.2.1 U h
theorem dR_k146 {l : Launch} {g : cx_G} {adr : Nat → Nat} {L : dL} {P : dP} (H : dR l g adr) : ∀ U, cx_K (dG g L P) U → vk_R RX11 146 "target" (adr (1100000 + 3)) U := fun U h => H.2.2.2.2.2.2.1.2.2.2.1 U h
theorem dR_k148 {l : Launch} {g : cx_G} {adr : Nat → Nat} {L : dL} {P : dP} (H : dR l g adr) : ∀ U, cx_K (dG g L P) U → vk_R RX11 148 "gain" (adr (1100000 + 4)) U := fun U h => H.2.2.2.2.2.2.1.2.2.2.2.1 U h
theorem dR_k150 {l : Launch} {g : cx_G} {adr : Nat → Nat} {L : dL} {P : dP} (H : dR l g adr) : ∀ U, cx_K (dG g L P) U → vk_R RX11 150 "every" (adr (1100000 + 5)) U := fun U h => H.2.2.2.2.2.2.1.2.2.2.2.2.1 U h
theorem dR_k152 {l : Launch} {g : cx_G} {adr : Nat → Nat} {L : dL} {P : dP} (H : dR l g adr) : ∀ U, cx_K (dG g L P) U → vk_R RX11 152 "offset" (adr (1100000 + 6)) U := fun U h => H.2.2.2.2.2.2.1.2.2.2.2.2.2.1 U h
theorem dR_k154 {l : Launch} {g : cx_G} {adr : Nat → Nat} {L : dL} {P : dP} (H : dR l g adr) : ∀ U, cx_K (dG g L P) U → vk_R RX11 154 "frame" (adr (1100000 + 7)) U := fun U h => H.2.2.2.2.2.2.1.2.2.2.2.2.2.2.1 U h
theorem dR_k156 {l : Launch} {g : cx_G} {adr : Nat → Nat} {L : dL} {P : dP} (H : dR l g adr) : ∀ U, cx_K (dG g L P) U → vk_R RX11 156 "word" (adr (1100000 + 8)) U := fun U h => H.2.2.2.2.2.2.1.2.2.2.2.2.2.2.2.1 U h
theorem dR_k157 {l : Launch} {g : cx_G} {adr : Nat → Nat} {L : dL} {P : dP} (H : dR l g adr) : ∀ U, cx_K (dG g L P) U → vk_R RX11 157 "delay" (adr (1100000 + 9)) U := fun U h => H.2.2.2.2.2.2.1.2.2.2.2.2.2.2.2.2.1 U h
theorem dR_k159 {l : Launch} {g : cx_G} {adr : Nat → Nat} {L : dL} {P : dP} (H : dR l g adr) : ∀ U, cx_K (dG g L P) U → vk_R RX11 159 "lost" (adr (1100000 + 10)) U := fun U h => H.2.2.2.2.2.2.1.2.2.2.2.2.2.2.2.2.2.1 U h
theorem dR_k179 {l : Launch} {g : cx_G} {adr : Nat → Nat} {L : dL} {P : dP} (H : dR l g adr) : ∀ U, cx_K (dG g L P) U → vk_R RX11 179 "-" (adr (1100000 + 11)) U := fun U h => H.2.2.2.2.2.2.1.2.2.2.2.2.2.2.2.2.2.2.1 U h
theorem dR_k209 {l : Launch} {g : cx_G} {adr : Nat → Nat} {L : dL} {P : dP} (H : dR l g adr) : ∀ U, cx_K (dG g L P) U → vk_R RX11 209 "(" (adr (1100000 + 12)) U := fun U h => H.2.2.2.2.2.2.1.2.2.2.2.2.2.2.2.2.2.2.2.1 U h
theorem dR_k214 {l : Launch} {g : cx_G} {adr : Nat → Nat} {L : dL} {P : dP} (H : dR l g adr) : ∀ U, cx_K (dG g L P) U → vk_R RX11 214 "or" (adr (1100000 + 13)) U := fun U h => H.2.2.2.2.2.2.1.2.2.2.2.2.2.2.2.2.2.2.2.2.1 U h
theorem dR_k224 {l : Launch} {g : cx_G} {adr : Nat → Nat} {L : dL} {P : dP} (H : dR l g adr) : ∀ U, cx_K (dG g L P) U → vk_R RX11 224 "and" (adr (1100000 + 14)) U := fun U h => H.2.2.2.2.2.2.1.2.2.2.2.2.2.2.2.2.2.2.2.2.2.1 U h
theorem dR_k225 {l : Launch} {g : cx_G} {adr : Nat → Nat} {L : dL} {P : dP} (H : dR l g adr) : ∀ U, cx_K (dG g L P) U → vk_R RX11 225 "not" (adr (1100000 + 15)) U := fun U h => H.2.2.2.2.2.2.1.2.2.2.2.2.2.2.2.2.2.2.2.2.2.2.1 U h
theorem dR_k229 {l : Launch} {g : cx_G} {adr : Nat → Nat} {L : dL} {P : dP} (H : dR l g adr) : ∀ U, cx_K (dG g L P) U → vk_R RX11 229 "<" (adr (1100000 + 16)) U := fun U h => H.2.2.2.2.2.2.1.2.2.2.2.2.2.2.2.2.2.2.2.2.2.2.2.1 U h
theorem dR_k231 {l : Launch} {g : cx_G} {adr : Nat → Nat} {L : dL} {P : dP} (H : dR l g adr) : ∀ U, cx_K (dG g L P) U → vk_R RX11 231 "=" (adr (1100000 + 17)) U := fun U h => H.2.2.2.2.2.2.1.2.2.2.2.2.2.2.2.2.2.2.2.2.2.2.2.2.1 U h
theorem dR_k245 {l : Launch} {g : cx_G} {adr : Nat → Nat} {L : dL} {P : dP} (H : dR l g adr) : ∀ U, cx_K (dG g L P) U → vk_R RX11 245 "+" (adr (1100000 + 18)) U := fun U h => H.2.2.2.2.2.2.1.2.2.2.2.2.2.2.2.2.2.2.2.2.2.2.2.2.2.1 U h
theorem dR_k250 {l : Launch} {g : cx_G} {adr : Nat → Nat} {L : dL} {P : dP} (H : dR l g adr) : ∀ U, cx_K (dG g L P) U → vk_R RX11 250 "*" (adr (1100000 + 19)) U := fun U h => H.2.2.2.2.2.2.1.2.2.2.2.2.2.2.2.2.2.2.2.2.2.2.2.2.2.2.1 U h
theorem dR_k252 {l : Launch} {g : cx_G} {adr : Nat → Nat} {L : dL} {P : dP} (H : dR l g adr) : ∀ U, cx_K (dG g L P) U → vk_R RX11 252 "/" (adr (1100000 + 20)) U := fun U h => H.2.2.2.2.2.2.1.2.2.2.2.2.2.2.2.2.2.2.2.2.2.2.2.2.2.2.2.1 U h
theorem dR_k257 {l : Launch} {g : cx_G} {adr : Nat → Nat} {L : dL} {P : dP} (H : dR l g adr) : ∀ U, cx_K (dG g L P) U → vk_R RX11 257 ")" (adr (1100000 + 21)) U := fun U h => H.2.2.2.2.2.2.1.2.2.2.2.2.2.2.2.2.2.2.2.2.2.2.2.2.2.2.2.2.1 U h
theorem dR_k267 {l : Launch} {g : cx_G} {adr : Nat → Nat} {L : dL} {P : dP} (H : dR l g adr) : ∀ U, cx_K (dG g L P) U → vk_R RX11 267 "packet" (adr (1100000 + 22)) U := fun U h => H.2.2.2.2.2.2.1.2.2.2.2.2.2.2.2.2.2.2.2.2.2.2.2.2.2.2.2.2.2.1 U h
theorem dR_k269 {l : Launch} {g : cx_G} {adr : Nat → Nat} {L : dL} {P : dP} (H : dR l g adr) : ∀ U, cx_K (dG g L P) U → vk_R RX11 269 "time" (adr (1100000 + 23)) U := fun U h => H.2.2.2.2.2.2.1.2.2.2.2.2.2.2.2.2.2.2.2.2.2.2.2.2.2.2.2.2.2.2.1 U h
theorem dR_k271 {l : Launch} {g : cx_G} {adr : Nat → Nat} {L : dL} {P : dP} (H : dR l g adr) : ∀ U, cx_K (dG g L P) U → vk_R RX11 271 "last" (adr (1100000 + 24)) U := fun U h => H.2.2.2.2.2.2.1.2.2.2.2.2.2.2.2.2.2.2.2.2.2.2.2.2.2.2.2.2.2.2.2.1 U h
theorem dR_k273 {l : Launch} {g : cx_G} {adr : Nat → Nat} {L : dL} {P : dP} (H : dR l g adr) : ∀ U, cx_K (dG g L P) U → vk_R RX11 273 "flying" (adr (1100000 + 25)) U := fun U h => H.2.2.2.2.2.2.1.2.2.2.2.2.2.2.2.2.2.2.2.2.2.2.2.2.2.2.2.2.2.2.2.2 U h
theorem dCl_X11 : cx_Cl 10 RX11 TX11 9 tyX11 := ⟨rfl, in_X11, tyX11_ok, nmX11⟩
theorem dDf_J8 : ∀ j, j < 4 → defaultValue (tyJ8 j) = dFv 18 j (fun _ => 0) (fun _ => none) := by decide +kernel
theorem dCl_X14 : cx_Cl 13 RX14 TX14 1 tyX14 := ⟨rfl, in_X14, tyX14_ok, nmX14⟩
theorem dCl_X15 : cx_Cl 11 RX15 TX15 1 tyX15 := ⟨rfl, in_X15, tyX15_ok, nmX15⟩
theorem dCl_X17 : cx_Cl 9 RX17 TX17 1 tyX17 := ⟨rfl, in_X17, tyX17_ok, nmX17⟩
theorem dCl_X16 : cx_Cl 3 RX16 TX16 3 tyX16 := ⟨rfl, in_X16, tyX16_ok, nmX16⟩
theorem dDf_X14 : ∀ j, j < 1 → defaultValue (tyX14 j) = dFv 13 j (fun _ => 0) (fun _ => none) := by decide +kernel
theorem dDf_X15 : ∀ j, j < 1 → defaultValue (tyX15 j) = dFv 11 j (fun _ => 0) (fun _ => none) := by decide +kernel
theorem dDf_X16 : ∀ j, j < 3 → defaultValue (tyX16 j) = dFv 3 j (fun _ => 0) (fun _ => none) := by decide +kernel
theorem dDf_X17 : ∀ j, j < 1 → defaultValue (tyX17 j) = dFv 9 j (fun _ => 0) (fun _ => none) := by decide +kernel
theorem dCl_X3 : cx_Cl 14 RX3 TX3 1 tyX3 := ⟨rfl, in_X3, tyX3_ok, nmX3⟩
theorem dCl_X2 : cx_Cl 7 RX2 TX2 11 tyX2 := ⟨rfl, in_X2, tyX2_ok, nmX2⟩
theorem dDf_J2 : ∀ j, j < 3 → defaultValue (tyJ2 j) = dFv 20 j (fun _ => 0) (fun _ => none) := by decide +kernel
theorem dDf_X3 : ∀ j, j < 1 → defaultValue (tyX3 j) = dFv 14 j (fun _ => 0) (fun _ => none) := by decide +kernel
theorem dDf_X2 : ∀ j, j < 11 → defaultValue (tyX2 j) = dFv 7 j (fun _ => 0) (fun _ => none) := by decide +kernel
theorem dDf_J19 : ∀ j, j < 3 → defaultValue (tyJ19 j) = dFv 21 j (fun _ => 0) (fun _ => none) := by decide +kernel
theorem gd_J9_541C : GoodIn lw_all (va_wsS RJ9 541 yJ15_equals (ws_ yJ15_equals cJ15_equals 3 (some .boolean))) := lw_S q1583 q1584 q134 q1585
theorem hgd_J9_541C : yJ15_equals.cls ≠ "java/lang/invoke/MethodHandle" ∧ yJ15_equals.cls ≠ "java/lang/invoke/VarHandle" ∧ (parseMethodDescriptor yJ15_equals.desc).map (fun d => d.parameters.length) = some 2 := by decide +kernel
theorem gf_J15_9 : GoodIn lw_all (va_wsS RJ15 9 yJ9_checkIndex (ws_ yJ9_checkIndex cJ9_checkIndex 2 none)) := lw_S q1709 q1420 q127 q1421
theorem hgf_J15_9 : yJ9_checkIndex.cls ≠ "java/lang/invoke/MethodHandle" ∧ yJ9_checkIndex.cls ≠ "java/lang/invoke/VarHandle" ∧ (parseMethodDescriptor yJ9_checkIndex.desc).map (fun d => d.parameters.length) = some 2 := by decide +kernel
theorem gd_J9_495 : GoodIn lw_all (va_wsS RJ9 495 yJ15_charAt (ws_ yJ15_charAt cJ15_charAt 2 (some .char))) := lw_S q1706 q1707 q134 q1708
theorem hgd_J9_495 : yJ15_charAt.cls ≠ "java/lang/invoke/MethodHandle" ∧ yJ15_charAt.cls ≠ "java/lang/invoke/VarHandle" ∧ (parseMethodDescriptor yJ15_charAt.desc).map (fun d => d.parameters.length) = some 2 := by decide +kernel
theorem gd_X11_38 : GoodIn lw_all (wsV RX11 38 RX11 yX11_byteAt (ws_ yX11_byteAt cX11_byteAt 2 (some .int))) := lw_V q1389 q1391 qs29 q148 q1392
theorem hgd_X11_38 : yX11_byteAt.cls = RX11 ∧ yX11_byteAt.cls ≠ "java/lang/invoke/MethodHandle" ∧ yX11_byteAt.cls ≠ "java/lang/invoke/VarHandle" ∧ (parseMethodDescriptor yX11_byteAt.desc).map (fun d => d.parameters.length) = some 1 := by decide +kernel
theorem gd_X11_58 : GoodIn lw_all (va_wsS RX11 58 yX11_isLetter (ws_ yX11_isLetter cX11_isLetter 1 (some .boolean))) := lw_S q1395 q1396 q148 q1397
theorem hgd_X11_58 : yX11_isLetter.cls ≠ "java/lang/invoke/MethodHandle" ∧ yX11_isLetter.cls ≠ "java/lang/invoke/VarHandle" ∧ (parseMethodDescriptor yX11_isLetter.desc).map (fun d => d.parameters.length) = some 1 := by decide +kernel
theorem gd_X11_82 : GoodIn lw_all (va_wsS RX11 82 yX11_isDigit (ws_ yX11_isDigit cX11_isDigit 1 (some .boolean))) := lw_S q1426 q1427 q148 q1428
theorem hgd_X11_82 : yX11_isDigit.cls ≠ "java/lang/invoke/MethodHandle" ∧ yX11_isDigit.cls ≠ "java/lang/invoke/VarHandle" ∧ (parseMethodDescriptor yX11_isDigit.desc).map (fun d => d.parameters.length) = some 1 := by decide +kernel
theorem gd_X11_91 : GoodIn lw_all (va_wsS RX11 91 yX11_isSign (ws_ yX11_isSign cX11_isSign 1 (some .boolean))) := lw_S q1431 q1432 q148 q1433
theorem hgd_X11_91 : yX11_isSign.cls ≠ "java/lang/invoke/MethodHandle" ∧ yX11_isSign.cls ≠ "java/lang/invoke/VarHandle" ∧ (parseMethodDescriptor yX11_isSign.desc).map (fun d => d.parameters.length) = some 1 := by decide +kernel
theorem gd_X11_64 : GoodIn lw_all (ws_ yJ8_init_2 cJ8_init_2 2 none) := lw_meth q1401
theorem hgd_X11_64 : yJ8_init_2.cls ≠ "java/lang/invoke/MethodHandle" ∧ yJ8_init_2.cls ≠ "java/lang/invoke/VarHandle" ∧ (parseMethodDescriptor yJ8_init_2.desc).map (fun d => d.parameters.length) = some 1 := by decide +kernel
theorem gd_X11_75 : GoodIn lw_all (wsV RX11 75 RJ8 yJ8_toString (ws_ yJ8_toString cJ8_toString 1 (some (.object "java/lang/String")))) := lw_V q1423 q422 q423 q126 q424
theorem hgd_X11_75 : yJ8_toString.cls = RJ8 ∧ yJ8_toString.cls ≠ "java/lang/invoke/MethodHandle" ∧ yJ8_toString.cls ≠ "java/lang/invoke/VarHandle" ∧ (parseMethodDescriptor yJ8_toString.desc).map (fun d => d.parameters.length) = some 0 := by decide +kernel
theorem gd_X11_67 : GoodIn lw_all (wsV RX11 67 RJ8 yJ8_length (ws_ yJ8_length cJ8_length 1 (some .int))) := lw_V q1402 q443 q2958 q126 q444
theorem hgd_X11_67 : yJ8_length.cls = RJ8 ∧ yJ8_length.cls ≠ "java/lang/invoke/MethodHandle" ∧ yJ8_length.cls ≠ "java/lang/invoke/VarHandle" ∧ (parseMethodDescriptor yJ8_length.desc).map (fun d => d.parameters.length) = some 0 := by decide +kernel
theorem gd_X11_71 : GoodIn lw_all (wsV RX11 71 RJ8 yJ8_append_3 (ws_ yJ8_append_3 cJ8_append_3 2 (some (.object "java/lang/StringBuilder")))) := lw_V q1403 q1404 q1405 q126 q1406
theorem hgd_X11_71 : yJ8_append_3.cls = RJ8 ∧ yJ8_append_3.cls ≠ "java/lang/invoke/MethodHandle" ∧ yJ8_append_3.cls ≠ "java/lang/invoke/VarHandle" ∧ (parseMethodDescriptor yJ8_append_3.desc).map (fun d => d.parameters.length) = some 1 := by decide +kernel
theorem gd_X11_100 : GoodIn lw_all (va_wsS RX11 100 yJ9_valueOf (ws_ yJ9_valueOf cJ9_valueOf 1 (some (.object "java/lang/String")))) := lw_S q1438 q1439 q127 q1440
theorem hgd_X11_100 : yJ9_valueOf.cls ≠ "java/lang/invoke/MethodHandle" ∧ yJ9_valueOf.cls ≠ "java/lang/invoke/VarHandle" ∧ (parseMethodDescriptor yJ9_valueOf.desc).map (fun d => d.parameters.length) = some 1 := by decide +kernel
theorem gd_X11_106C : GoodIn lw_all (wsV RX11 106 RJ9 yJ9_equals (ws_ yJ9_equals cJ9_equals 3 (some .boolean))) := lw_V q1579 q1580 q1581 q127 q1582
theorem hgd_X11_106C : yJ9_equals.cls = RJ9 ∧ yJ9_equals.cls ≠ "java/lang/invoke/MethodHandle" ∧ yJ9_equals.cls ≠ "java/lang/invoke/VarHandle" ∧ (parseMethodDescriptor yJ9_equals.desc).map (fun d => d.parameters.length) = some 1 := by decide +kernel
theorem gd_X11_115 : GoodIn lw_all (wsV RX11 115 RX11 yX11_is (ws_ yX11_is cX11_is 2 (some .boolean))) := lw_V q1608 q1610 qs34 q148 q1611
theorem hgd_X11_115 : yX11_is.cls = RX11 ∧ yX11_is.cls ≠ "java/lang/invoke/MethodHandle" ∧ yX11_is.cls ≠ "java/lang/invoke/VarHandle" ∧ (parseMethodDescriptor yX11_is.desc).map (fun d => d.parameters.length) = some 1 := by decide +kernel
theorem gd_X11_119 : GoodIn lw_all (wsV RX11 119 RX11 yX11_check (ws_ yX11_check cX11_check 3 none)) := lw_V q1490 q1492 qs31 q148 q1493
theorem hgd_X11_119 : yX11_check.cls = RX11 ∧ yX11_check.cls ≠ "java/lang/invoke/MethodHandle" ∧ yX11_check.cls ≠ "java/lang/invoke/VarHandle" ∧ (parseMethodDescriptor yX11_check.desc).map (fun d => d.parameters.length) = some 2 := by decide +kernel
theorem gd_X11_32 : GoodIn lw_all (wsV RX11 32 RX11 yX11_go (ws_ yX11_go cX11_go 3 none)) := lw_V q1385 q1387 qs28 q148 q1388
theorem hgd_X11_32 : yX11_go.cls = RX11 ∧ yX11_go.cls ≠ "java/lang/invoke/MethodHandle" ∧ yX11_go.cls ≠ "java/lang/invoke/VarHandle" ∧ (parseMethodDescriptor yX11_go.desc).map (fun d => d.parameters.length) = some 0 := by decide +kernel
theorem gd_X11_123D : GoodIn lw_all (wsV RX11 123 RJ19 yJ19_get (ws_ yJ19_get cJ19_get 3 (some .boolean))) := lw_V q1598 q1599 q1600 q142 q1601
theorem hgd_X11_123D : yJ19_get.cls = RJ19 ∧ yJ19_get.cls ≠ "java/lang/invoke/MethodHandle" ∧ yJ19_get.cls ≠ "java/lang/invoke/VarHandle" ∧ (parseMethodDescriptor yJ19_get.desc).map (fun d => d.parameters.length) = some 1 := by decide +kernel
theorem gd_X11_126D : GoodIn lw_all (wsV RX11 126 RJ19 yJ19_set_2 (ws_ yJ19_set_2 cJ19_set_2 3 none)) := lw_V q1602 q1286 q1287 q142 q1288
theorem hgd_X11_126D : yJ19_set_2.cls = RJ19 ∧ yJ19_set_2.cls ≠ "java/lang/invoke/MethodHandle" ∧ yJ19_set_2.cls ≠ "java/lang/invoke/VarHandle" ∧ (parseMethodDescriptor yJ19_set_2.desc).map (fun d => d.parameters.length) = some 1 := by decide +kernel
theorem gd_X14_1 : GoodIn lw_all (ws_ yX13_init cX13_init 1 none) := lw_meth q1667
theorem hgd_X14_1 : yX13_init.cls ≠ "java/lang/invoke/MethodHandle" ∧ yX13_init.cls ≠ "java/lang/invoke/VarHandle" ∧ (parseMethodDescriptor yX13_init.desc).map (fun d => d.parameters.length) = some 0 := by decide +kernel
theorem gd_X15_1 : GoodIn lw_all (ws_ yX13_init cX13_init 1 none) := lw_meth q1667
theorem hgd_X15_1 : yX13_init.cls ≠ "java/lang/invoke/MethodHandle" ∧ yX13_init.cls ≠ "java/lang/invoke/VarHandle" ∧ (parseMethodDescriptor yX13_init.desc).map (fun d => d.parameters.length) = some 0 := by decide +kernel
theorem gd_X17_1 : GoodIn lw_all (ws_ yX13_init cX13_init 1 none) := lw_meth q1667
theorem hgd_X17_1 : yX13_init.cls ≠ "java/lang/invoke/MethodHandle" ∧ yX13_init.cls ≠ "java/lang/invoke/VarHandle" ∧ (parseMethodDescriptor yX13_init.desc).map (fun d => d.parameters.length) = some 0 := by decide +kernel
theorem gd_X16_1 : GoodIn lw_all (ws_ yX13_init cX13_init 1 none) := lw_meth q1667
theorem hgd_X16_1 : yX13_init.cls ≠ "java/lang/invoke/MethodHandle" ∧ yX13_init.cls ≠ "java/lang/invoke/VarHandle" ∧ (parseMethodDescriptor yX13_init.desc).map (fun d => d.parameters.length) = some 0 := by decide +kernel
theorem gd_X11_142 : GoodIn lw_all (wsV RX11 142 RJ9 yJ9_hashCode (ws_ yJ9_hashCode cJ9_hashCode 2 (some .int))) := lw_V q1517 q1518 q1519 q127 q1520
theorem hgd_X11_142 : yJ9_hashCode.cls = RJ9 ∧ yJ9_hashCode.cls ≠ "java/lang/invoke/MethodHandle" ∧ yJ9_hashCode.cls ≠ "java/lang/invoke/VarHandle" ∧ (parseMethodDescriptor yJ9_hashCode.desc).map (fun d => d.parameters.length) = some 0 := by decide +kernel
theorem gd_X11_200 : GoodIn lw_all (wsV RX11 200 RX11 yX11_expr (ws_ yX11_expr cX11_expr 3 (some (.object "CircuitCells$Expr")))) := lw_V q1634 q1636 qs35 q148 q1637
theorem hgd_X11_200 : yX11_expr.cls = RX11 ∧ yX11_expr.cls ≠ "java/lang/invoke/MethodHandle" ∧ yX11_expr.cls ≠ "java/lang/invoke/VarHandle" ∧ (parseMethodDescriptor yX11_expr.desc).map (fun d => d.parameters.length) = some 1 := by decide +kernel
theorem gd_X11_138 : GoodIn lw_all (wsV RX11 138 RX11 yX11_need (ws_ yX11_need cX11_need 2 none)) := lw_V q1674 q1676 qs41 q148 q1677
theorem hgd_X11_138 : yX11_need.cls = RX11 ∧ yX11_need.cls ≠ "java/lang/invoke/MethodHandle" ∧ yX11_need.cls ≠ "java/lang/invoke/VarHandle" ∧ (parseMethodDescriptor yX11_need.desc).map (fun d => d.parameters.length) = some 1 := by decide +kernel
theorem gd_X11_164 : GoodIn lw_all (wsV RX11 164 RX11 yX11_number (ws_ yX11_number cX11_number 4 (some .int))) := lw_V q1603 q1605 qs33 q148 q1606
theorem hgd_X11_164 : yX11_number.cls = RX11 ∧ yX11_number.cls ≠ "java/lang/invoke/MethodHandle" ∧ yX11_number.cls ≠ "java/lang/invoke/VarHandle" ∧ (parseMethodDescriptor yX11_number.desc).map (fun d => d.parameters.length) = some 2 := by decide +kernel
theorem gd_X11_256 : GoodIn lw_all (ws_ yX14_init cX14_init 2 none) := lw_meth q1664
theorem hgd_X11_256 : yX14_init.cls ≠ "java/lang/invoke/MethodHandle" ∧ yX14_init.cls ≠ "java/lang/invoke/VarHandle" ∧ (parseMethodDescriptor yX14_init.desc).map (fun d => d.parameters.length) = some 1 := by decide +kernel
theorem gd_X11_259 : GoodIn lw_all (wsV RX11 259 RX11 yX11_valueOf (ws_ yX11_valueOf cX11_valueOf 4 (some (.object "CircuitCells$Value")))) := lw_V q1678 q1680 qs42 q148 q1681
theorem hgd_X11_259 : yX11_valueOf.cls = RX11 ∧ yX11_valueOf.cls ≠ "java/lang/invoke/MethodHandle" ∧ yX11_valueOf.cls ≠ "java/lang/invoke/VarHandle" ∧ (parseMethodDescriptor yX11_valueOf.desc).map (fun d => d.parameters.length) = some 1 := by decide +kernel
theorem gd_X11_264 : GoodIn lw_all (ws_ yX15_init cX15_init 2 none) := lw_meth q1694
theorem hgd_X11_264 : yX15_init.cls ≠ "java/lang/invoke/MethodHandle" ∧ yX15_init.cls ≠ "java/lang/invoke/VarHandle" ∧ (parseMethodDescriptor yX15_init.desc).map (fun d => d.parameters.length) = some 1 := by decide +kernel
theorem gd_X11_247 : GoodIn lw_all (wsV RX11 247 RX11 yX11_part (ws_ yX11_part cX11_part 3 (some (.object "CircuitCells$Expr")))) := lw_V q1656 q1658 qs40 q148 q1659
theorem hgd_X11_247 : yX11_part.cls = RX11 ∧ yX11_part.cls ≠ "java/lang/invoke/MethodHandle" ∧ yX11_part.cls ≠ "java/lang/invoke/VarHandle" ∧ (parseMethodDescriptor yX11_part.desc).map (fun d => d.parameters.length) = some 1 := by decide +kernel
theorem gd_X11_233 : GoodIn lw_all (wsV RX11 233 RJ9 yJ9_charAt (ws_ yJ9_charAt cJ9_charAt 2 (some .char))) := lw_V q1702 q1703 q1704 q127 q1705
theorem hgd_X11_233 : yJ9_charAt.cls = RJ9 ∧ yJ9_charAt.cls ≠ "java/lang/invoke/MethodHandle" ∧ yJ9_charAt.cls ≠ "java/lang/invoke/VarHandle" ∧ (parseMethodDescriptor yJ9_charAt.desc).map (fun d => d.parameters.length) = some 1 := by decide +kernel
theorem gd_X11_218 : GoodIn lw_all (ws_ yX16_init cX16_init 4 none) := lw_meth q1717
theorem hgd_X11_218 : yX16_init.cls ≠ "java/lang/invoke/MethodHandle" ∧ yX16_init.cls ≠ "java/lang/invoke/VarHandle" ∧ (parseMethodDescriptor yX16_init.desc).map (fun d => d.parameters.length) = some 3 := by decide +kernel
theorem gd_X11_242 : GoodIn lw_all (wsV RX11 242 RX11 yX11_product (ws_ yX11_product cX11_product 4 (some (.object "CircuitCells$Expr")))) := lw_V q1652 q1654 qs39 q148 q1655
theorem hgd_X11_242 : yX11_product.cls = RX11 ∧ yX11_product.cls ≠ "java/lang/invoke/MethodHandle" ∧ yX11_product.cls ≠ "java/lang/invoke/VarHandle" ∧ (parseMethodDescriptor yX11_product.desc).map (fun d => d.parameters.length) = some 1 := by decide +kernel
theorem gd_X11_226 : GoodIn lw_all (wsV RX11 226 RX11 yX11_sum (ws_ yX11_sum cX11_sum 4 (some (.object "CircuitCells$Expr")))) := lw_V q1648 q1650 qs38 q148 q1651
theorem hgd_X11_226 : yX11_sum.cls = RX11 ∧ yX11_sum.cls ≠ "java/lang/invoke/MethodHandle" ∧ yX11_sum.cls ≠ "java/lang/invoke/VarHandle" ∧ (parseMethodDescriptor yX11_sum.desc).map (fun d => d.parameters.length) = some 1 := by decide +kernel
theorem gd_X11_239 : GoodIn lw_all (ws_ yX17_init cX17_init 2 none) := lw_meth q1736
theorem hgd_X11_239 : yX17_init.cls ≠ "java/lang/invoke/MethodHandle" ∧ yX17_init.cls ≠ "java/lang/invoke/VarHandle" ∧ (parseMethodDescriptor yX17_init.desc).map (fun d => d.parameters.length) = some 1 := by decide +kernel
theorem gd_X11_221 : GoodIn lw_all (wsV RX11 221 RX11 yX11_not (ws_ yX11_not cX11_not 5 (some (.object "CircuitCells$Expr")))) := lw_V q1643 q1645 qs37 q148 q1646
theorem hgd_X11_221 : yX11_not.cls = RX11 ∧ yX11_not.cls ≠ "java/lang/invoke/MethodHandle" ∧ yX11_not.cls ≠ "java/lang/invoke/VarHandle" ∧ (parseMethodDescriptor yX11_not.desc).map (fun d => d.parameters.length) = some 1 := by decide +kernel
theorem gd_X11_211 : GoodIn lw_all (wsV RX11 211 RX11 yX11_and (ws_ yX11_and cX11_and 3 (some (.object "CircuitCells$Expr")))) := lw_V q1639 q1641 qs36 q148 q1642
theorem hgd_X11_211 : yX11_and.cls = RX11 ∧ yX11_and.cls ≠ "java/lang/invoke/MethodHandle" ∧ yX11_and.cls ≠ "java/lang/invoke/VarHandle" ∧ (parseMethodDescriptor yX11_and.desc).map (fun d => d.parameters.length) = some 1 := by decide +kernel
theorem gd_X3_7 : GoodIn lw_all (va_wsS RX3 7 yX4_values (ws_ yX4_values cX4_values 0 (some (.array (.object "CircuitCells$Value"))))) := lw_S q541 q542 q139 q543
theorem gd_X2_32 : GoodIn lw_all (ws_ yJ2_init cJ2_init 2 none) := lw_meth q188
theorem hgd_X2_32 : yJ2_init.cls ≠ "java/lang/invoke/MethodHandle" ∧ yJ2_init.cls ≠ "java/lang/invoke/VarHandle" ∧ (parseMethodDescriptor yJ2_init.desc).map (fun d => d.parameters.length) = some 1 := by decide +kernel
theorem gd_X2_41 : GoodIn lw_all (ws_ yX3_init cX3_init 1 none) := lw_meth q539
theorem hgd_X2_41 : yX3_init.cls ≠ "java/lang/invoke/MethodHandle" ∧ yX3_init.cls ≠ "java/lang/invoke/VarHandle" ∧ (parseMethodDescriptor yX3_init.desc).map (fun d => d.parameters.length) = some 0 := by decide +kernel
theorem gd_X11_161 : GoodIn lw_all (wsV RX11 161 RX11 yX11_once (ws_ yX11_once cX11_once 2 none)) := lw_V q1594 q1596 qs32 q148 q1597
theorem hgd_X11_161 : yX11_once.cls = RX11 ∧ yX11_once.cls ≠ "java/lang/invoke/MethodHandle" ∧ yX11_once.cls ≠ "java/lang/invoke/VarHandle" ∧ (parseMethodDescriptor yX11_once.desc).map (fun d => d.parameters.length) = some 1 := by decide +kernel
theorem gd_X11_188 : GoodIn lw_all (wsV RX11 188 RJ2 yJ2_size (ws_ yJ2_size cJ2_size 1 (some .int))) := lw_V q1612 q1268 q1269 q120 q1270
theorem hgd_X11_188 : yJ2_size.cls = RJ2 ∧ yJ2_size.cls ≠ "java/lang/invoke/MethodHandle" ∧ yJ2_size.cls ≠ "java/lang/invoke/VarHandle" ∧ (parseMethodDescriptor yJ2_size.desc).map (fun d => d.parameters.length) = some 0 := by decide +kernel
theorem gd_X11_192 : GoodIn lw_all (va_wsS RX11 192 yJ17_valueOf (ws_ yJ17_valueOf cJ17_valueOf 1 (some (.object "java/lang/Integer")))) := lw_S q1613 q1614 q136 q1615
theorem hgd_X11_192 : yJ17_valueOf.cls ≠ "java/lang/invoke/MethodHandle" ∧ yJ17_valueOf.cls ≠ "java/lang/invoke/VarHandle" ∧ (parseMethodDescriptor yJ17_valueOf.desc).map (fun d => d.parameters.length) = some 1 := by decide +kernel
theorem gd_X11_197 : GoodIn lw_all (wsV RX11 197 RJ2 yJ2_add (ws_ yJ2_add cJ2_add 2 (some .boolean))) := lw_V q1633 q827 q828 q120 q829
theorem hgd_X11_197 : yJ2_add.cls = RJ2 ∧ yJ2_add.cls ≠ "java/lang/invoke/MethodHandle" ∧ yJ2_add.cls ≠ "java/lang/invoke/VarHandle" ∧ (parseMethodDescriptor yJ2_add.desc).map (fun d => d.parameters.length) = some 1 := by decide +kernel
theorem gd_X11_131 : GoodIn lw_all (ws_ yX2_init cX2_init 1 none) := lw_meth q182
theorem hgd_X11_131 : yX2_init.cls ≠ "java/lang/invoke/MethodHandle" ∧ yX2_init.cls ≠ "java/lang/invoke/VarHandle" ∧ (parseMethodDescriptor yX2_init.desc).map (fun d => d.parameters.length) = some 0 := by decide +kernel
theorem gd_X11_132 : GoodIn lw_all (wsV RX11 132 RX11 yX11_clause (ws_ yX11_clause cX11_clause 5 none)) := lw_V q1486 q1488 qs30 q148 q1489
theorem hgd_X11_132 : yX11_clause.cls = RX11 ∧ yX11_clause.cls ≠ "java/lang/invoke/MethodHandle" ∧ yX11_clause.cls ≠ "java/lang/invoke/VarHandle" ∧ (parseMethodDescriptor yX11_clause.desc).map (fun d => d.parameters.length) = some 1 := by decide +kernel
theorem gd_X11_19D : GoodIn lw_all (ws_ yJ19_init_2 cJ19_init_2 1 none) := lw_meth q1384
theorem hgd_X11_19D : yJ19_init_2.cls ≠ "java/lang/invoke/MethodHandle" ∧ yJ19_init_2.cls ≠ "java/lang/invoke/VarHandle" ∧ (parseMethodDescriptor yJ19_init_2.desc).map (fun d => d.parameters.length) = some 0 := by decide +kernel
abbrev esJ15_equalsC (bc bs : Nat) : cx_S := (3, RJ15, cx_rI, { frames := 0, cells := bc, slots := bs, locals := 0 }, some .boolean, false)
def jL_equalsC_9b (N : dNt) (bc bs : Nat) (Q : cd_Qt) (c1 : Nat) (r_9 : cx_M → dP → dL → Nat → Nat → Nat → Int32 → Prop) (M : cx_M) (P : dP) (L : dL) (k n : Nat) (x0 : Nat) (x2 : Int32) : Prop :=
  ∃ z1, (x0, (1, 2, z1)) ∈ L ∧
  if (nI z1) ≤ x2 then (
    Q M P L 1 none 0 k n)
  else (
    ∃ z3, (x0, (1, 2, z3)) ∈ L ∧ cq_ld M (dc x0) z3 x2 fun v2 =>
    cq_chk x2 (rdSn c1) (rdSf c1 (x2).toNatClampNeg) fun v4 =>
    if v2 = v4 then (
      cq_let (x2 + 1) fun v5 =>
      r_9 M P L k n x0 v5)
    else (
      Q M P L 0 none 0 k n))
set_option maxRecDepth 100000 in
theorem jL_equalsC_9b_v {l : Launch} {g : cx_G} {X : cx_X} {N : dNt} {bc bs : Nat} {Q : cd_Qt} {c1 : Nat} {r_9 : cx_M → dP → dL → Nat → Nat → Nat → Int32 → Prop} (H : dR l g N.2) (hX : X.2.2.2.2.2.2.1.name = "equals") (hc1 : c1 < 26) (hr_9 : ∀ (M : cx_M) (P : dP) (L : dL) (k n : Nat) (x0 : Nat) (x2 : Int32), (k ≤ bc ∧ n ≤ bs) → r_9 M P L k n x0 x2 → cq_V l (dG g L P) X (esJ15_equalsC bc bs) cJ15_equals 9 [(0, .ref x0), (1, .ref (N.2 (1200000 + c1))), (2, .int x2)] [] M k n (cd_fin g X (esJ15_equalsC bc bs) cd_rI Q)) (M : cx_M) (P : dP) (L : dL) (k n : Nat) (x0 : Nat) (x2 : Int32) (hk : k ≤ bc ∧ n ≤ bs) (h : jL_equalsC_9b N bc bs Q c1 r_9 M P L k n x0 x2) : cq_V l (dG g L P) X (esJ15_equalsC bc bs) cJ15_equals 9 [(0, .ref x0), (1, .ref (N.2 (1200000 + c1))), (2, .int x2)] [] M k n (cd_fin g X (esJ15_equalsC bc bs) cd_rI Q) := by
  unfold jL_equalsC_9b at h
  refine cq_iload_n 2 dJ15_equals_9 rfl ?_
  refine cq_aload_n 0 dJ15_equals_10 rfl ?_
  obtain ⟨z1, hm, h⟩ := h
  refine cq_nd H.1.1.1 (fun hn => cq_alen (nI z1) (dG_AI H.1.1.1 hn hm rfl) rfl dJ15_equals_11 ?_)
  refine cq_icmp_ge 32 h dJ15_equals_12 rfl (fun h => ?_) (fun h => ?_)
  · refine cq_iconst 1 dJ15_equals_32 cx_ic_1 ?_
    exact cd_zret hk h cx_z_1 rfl dJ15_equals_33
  · refine cq_aload_n 0 dJ15_equals_15 rfl ?_
    refine cq_iload_n 2 dJ15_equals_16 rfl ?_
    obtain ⟨z3, hm, h⟩ := h
    refine cq_nd H.1.1.1 (fun hn => cq_ldBy h (dG_AI H.1.1.1 hn hm rfl) dJ15_equals_17 (fun v2 h => ?_))
    refine cq_aload_n 1 dJ15_equals_18 rfl ?_
    refine cq_iload_n 2 dJ15_equals_19 rfl ?_
    refine cq_ldB h (fun M U p q => (dG_Str (H.2.2.2.2.2.1 _ hc1).1 M U p q).2.2.2) dJ15_equals_20 (fun v4 h => ?_)
    refine cq_icmp_eq 26 h dJ15_equals_21 rfl (fun h => ?_) (fun h => ?_)
    · refine cq_iinc 2 1 (fun v5 => [(2, .int v5), (0, .ref x0), (1, .ref (N.2 (1200000 + c1)))]) h dJ15_equals_26 rfl cx_ic_1 (cx_lt rfl) (fun _ => rfl) (fun v5 h => ?_)
      refine cq_goto 9 dJ15_equals_29 rfl ?_
      refine cq_sub (lv' := [(0, .ref x0), (1, .ref (N.2 (1200000 + c1))), (2, .int v5)]) [1, 2, 0] rfl ?_
      exact hr_9 M P L k n x0 v5 hk h
    · refine cq_iconst 0 dJ15_equals_24 cx_ic_0 ?_
      exact cd_zret hk h cx_z_0 rfl dJ15_equals_25
def jL_equalsC_9 (N : dNt) (bc bs : Nat) (Q : cd_Qt) (c1 : Nat) : Nat → cx_M → dP → dL → Nat → Nat → Nat → Int32 → Prop :=
  cx_fix (fun _ _ _ _ _ _ _ => False) (fun r_9 => jL_equalsC_9b N bc bs Q c1 r_9)
theorem jL_equalsC_9_v {l : Launch} {g : cx_G} {X : cx_X} {N : dNt} {bc bs : Nat} {Q : cd_Qt} {c1 : Nat} (H : dR l g N.2) (hX : X.2.2.2.2.2.2.1.name = "equals") (hc1 : c1 < 26) : ∀ (f : Nat) (M : cx_M) (P : dP) (L : dL) (k n : Nat) (x0 : Nat) (x2 : Int32), (k ≤ bc ∧ n ≤ bs) → jL_equalsC_9 N bc bs Q c1 f M P L k n x0 x2 → cq_V l (dG g L P) X (esJ15_equalsC bc bs) cJ15_equals 9 [(0, .ref x0), (1, .ref (N.2 (1200000 + c1))), (2, .int x2)] [] M k n (cd_fin g X (esJ15_equalsC bc bs) cd_rI Q) :=
  cx_fixI (fun (r : cx_M → dP → dL → Nat → Nat → Nat → Int32 → Prop) => ∀ (M : cx_M) (P : dP) (L : dL) (k n : Nat) (x0 : Nat) (x2 : Int32), (k ≤ bc ∧ n ≤ bs) → r M P L k n x0 x2 → cq_V l (dG g L P) X (esJ15_equalsC bc bs) cJ15_equals 9 [(0, .ref x0), (1, .ref (N.2 (1200000 + c1))), (2, .int x2)] [] M k n (cd_fin g X (esJ15_equalsC bc bs) cd_rI Q)) (fun _ _ _ _ _ _ _ _ h => by cases h) (fun r hr M P L k n x0 x2 hk h => jL_equalsC_9b_v H hX hc1 hr M P L k n x0 x2 hk h)
def jL_equalsC_0 (N : dNt) (bc bs : Nat) (Q : cd_Qt) (c1 : Nat) (M : cx_M) (P : dP) (L : dL) (k n : Nat) (x0 : Option Nat) : Prop :=
  cd_nn x0 fun a1 =>
  ∃ z2, (a1, (1, 2, z2)) ∈ L ∧
  if (nI z2) = (nI (rdSn c1)) then (
    jL_equalsC_9 N bc bs Q c1 N.1 M P L k n a1 0)
  else (
    Q M P L 0 none 0 k n)
set_option maxRecDepth 100000 in
theorem jL_equalsC_0_v {l : Launch} {g : cx_G} {X : cx_X} {N : dNt} {bc bs : Nat} {Q : cd_Qt} {c1 : Nat} (H : dR l g N.2) (hX : X.2.2.2.2.2.2.1.name = "equals") (hc1 : c1 < 26) (M : cx_M) (P : dP) (L : dL) (k n : Nat) (x0 : Option Nat) (hk : k ≤ bc ∧ n ≤ bs) (h : jL_equalsC_0 N bc bs Q c1 M P L k n x0) : cq_V l (dG g L P) X (esJ15_equalsC bc bs) cJ15_equals 0 [(0, va_rf x0), (1, .ref (N.2 (1200000 + c1)))] [] M k n (cd_fin g X (esJ15_equalsC bc bs) cd_rI Q) := by
  unfold jL_equalsC_0 at h
  refine cd_aload_n (v := x0) 0 dJ15_equals_0 rfl ?_
  obtain ⟨a1, e9, h⟩ := cd_nn_some h
  subst e9
  obtain ⟨z2, hm, h⟩ := h
  refine cq_nd H.1.1.1 (fun hn => cq_alen (nI z2) (dG_AI H.1.1.1 hn hm rfl) rfl dJ15_equals_1 ?_)
  refine cq_aload_n 1 dJ15_equals_2 rfl ?_
  refine cq_alenB (nI (rdSn c1)) (fun M U p q => (dG_Str (H.2.2.2.2.2.1 _ hc1).1 M U p q).2.2.2) rfl dJ15_equals_3 ?_
  refine cq_icmp_ne 34 h dJ15_equals_4 rfl (fun h => ?_) (fun h => ?_)
  · refine cq_iconst 0 dJ15_equals_34 cx_ic_0 ?_
    exact cd_zret hk h cx_z_0 rfl dJ15_equals_35
  · refine cq_iconst 0 dJ15_equals_7 cx_ic_0 ?_
    refine cq_istore_n [(2, .int 0), (0, .ref a1), (1, .ref (N.2 (1200000 + c1)))] dJ15_equals_8 (cx_lt rfl) rfl ?_
    refine cq_sub (lv' := [(0, .ref a1), (1, .ref (N.2 (1200000 + c1))), (2, .int 0)]) [1, 2, 0] rfl ?_
    exact jL_equalsC_9_v H hX hc1 N.1 M P L k n a1 0 hk h
def jL_equalsC (N : dNt) (bc bs : Nat) (M : cx_M) (P : dP) (L : dL) (x0 : Option Nat) (c1 : Nat) (Q : cd_Qt) : Prop := jL_equalsC_0 N bc bs Q c1 M P L 0 0 x0
set_option maxRecDepth 100000 in
theorem jL_equalsC_m {l : Launch} {g : cx_G} {N : dNt} {bc bs : Nat} {Q : cd_Qt} (H : dR l g N.2) (M : cx_M) (P : dP) (L : dL) (x0 : Option Nat) (c1 : Nat) (hc1 : c1 < 26) (h : jL_equalsC N bc bs M P L x0 c1 Q) : cd_Met l g yJ15_equals cJ15_equals (esJ15_equalsC bc bs) cd_rI [va_rf x0, .ref (N.2 (1200000 + c1))] M P L Q :=
  cd_met (by decide +kernel) rfl rfl (lv := [(0, va_rf x0), (1, .ref (N.2 (1200000 + c1)))]) (by cases x0 <;> rfl) (by cases x0 <;> exact cx_le rfl) (fun X hX => cq_sub (lv' := [(0, va_rf x0), (1, .ref (N.2 (1200000 + c1)))]) [0, 1] rfl (jL_equalsC_0_v H hX hc1 M P L 0 0 x0 ⟨Nat.zero_le _, Nat.zero_le _⟩ h))

abbrev esJ9_equalsC (bc bs : Nat) : cx_S := (3, RJ9, cx_rI, { frames := 1, cells := bc, slots := bs, locals := 22 }, some .boolean, false)
def jS_equalsC_36 (N : dNt) (bc bs : Nat) (Q : cd_Qt) (a0 : Nat) (c1 : Nat) (M : cx_M) (P : dP) (L : dL) (k n : Nat) : Prop :=
  (a0, (0, 17, 0)) ∈ L ∧ cd_let (P a0 0) fun r1 =>
  jL_equalsC N (bc - k) (bs - n) M P L r1 c1 (fun M2 P3 L4 v5 r6 e9 k7 n8 => e9 = 0 → cd_add k k7 n n8 fun k9 n10 =>
  if v5 = 0 then (
    Q M2 P3 L4 0 none 0 k9 n10)
  else (
    Q M2 P3 L4 1 none 0 k9 n10))
set_option maxRecDepth 100000 in
theorem jS_equalsC_36_v {l : Launch} {g : cx_G} {X : cx_X} {N : dNt} {bc bs : Nat} {Q : cd_Qt} {a0 : Nat} {c1 : Nat} (H : dR l g N.2) (hX : X.2.2.2.2.2.2.1.name = "equals") (hc1 : c1 < 26) (M : cx_M) (P : dP) (L : dL) (k n : Nat) (hk : k ≤ bc ∧ n ≤ bs) (h : jS_equalsC_36 N bc bs Q a0 c1 M P L k n) : cq_V l (dG g L P) X (esJ9_equalsC bc bs) cJ9_equals 36 [(0, .ref a0), (2, .ref (N.2 (1100000 + c1)))] [] M k n (cd_fin g X (esJ9_equalsC bc bs) cd_rI Q) := by
  unfold jS_equalsC_36 at h
  refine cq_aload_n 0 dJ9_equals_36 rfl ?_
  refine cq_getR (dG_FR (k := 0) H.1.1.1 h.1 dCl_J9 (cx_lt rfl) rfl rfl) q502 dJ9_equals_37 ?_
  refine cd_letI h.2 (fun r1 h => ?_)
  refine cq_aload_n 1 dJ9_equals_40 rfl ?_
  refine cq_getS (fun M U p q => ((dG_Str (H.2.2.2.2.2.1 _ hc1).1) M U p q).2.2.1) q502 dJ9_equals_41 ?_
  refine cd_cS [va_rf r1, .ref (N.2 (1200000 + c1))] [] (jL_equalsC_m H (N := N) (bc := bc - k) (bs := bs - n) M P L r1 c1 hc1 h) dJ9_equals_44 gd_J9_541C hgd_J9_541C ⟨cx_le rfl, cx_le rfl⟩ (cd_bud hk) rfl (cx_le rfl) (fun M2 P3 L4 v5 r6 k7 n8 hk2 h => ?_)
  refine cd_addI (h rfl) (cd_bk hk hk2) (fun k9 n10 h hk => ?_)
  refine cq_if_eq 54 h dJ9_equals_47 rfl (fun h => ?_) (fun h => ?_)
  · refine cq_iconst 0 dJ9_equals_54 cx_ic_0 ?_
    exact cd_zret hk h cx_z_0 rfl dJ9_equals_55
  · refine cq_iconst 1 dJ9_equals_50 cx_ic_1 ?_
    refine cq_goto 55 dJ9_equals_51 rfl ?_
    exact cd_zret hk h cx_z_1 rfl dJ9_equals_55
def jS_equalsC_0 (N : dNt) (bc bs : Nat) (Q : cd_Qt) (a0 : Nat) (c1 : Nat) (M : cx_M) (P : dP) (L : dL) (k n : Nat) : Prop :=
  (a0, (0, 17, 0)) ∈ L ∧
  (a0, (0, 17, 0)) ∈ L ∧ cq_get M (dc a0) 1 fun v1 =>
  if v1 = 0 then (
    jS_equalsC_36 N bc bs Q a0 c1 M P L k n)
  else (
    Q M P L 0 none 0 k n)
set_option maxRecDepth 100000 in
theorem jS_equalsC_0_v {l : Launch} {g : cx_G} {X : cx_X} {N : dNt} {bc bs : Nat} {Q : cd_Qt} {a0 : Nat} {c1 : Nat} (H : dR l g N.2) (hX : X.2.2.2.2.2.2.1.name = "equals") (hc1 : c1 < 26) (M : cx_M) (P : dP) (L : dL) (k n : Nat) (hk : k ≤ bc ∧ n ≤ bs) (h : jS_equalsC_0 N bc bs Q a0 c1 M P L k n) : cq_V l (dG g L P) X (esJ9_equalsC bc bs) cJ9_equals 0 [(0, .ref a0), (1, .ref (N.2 (1100000 + c1)))] [] M k n (cd_fin g X (esJ9_equalsC bc bs) cd_rI Q) := by
  unfold jS_equalsC_0 at h
  refine cq_aload_n 0 dJ9_equals_0 rfl ?_
  refine cq_aload_n 1 dJ9_equals_1 rfl ?_
  refine cd_acmpNA 7 H.1.1.1 h.1 (H.2.2.2.2.2.1 _ hc1).2 dJ9_equals_2 rfl ?_
  replace h := h.2
  refine cq_aload_n 1 dJ9_equals_7 rfl ?_
  refine cd_instR (fun M U p q => (dG_Str (H.2.2.2.2.2.1 _ hc1).1 M U p q).1) q1442 dJ9_equals_8 ?_
  refine cq_if_eq 54 (A := False) (B := _) (by rw [if_neg (by decide)]; exact h) dJ9_equals_11 rfl (fun h => by cases h) (fun h => ?_)
  refine cq_aload_n 1 dJ9_equals_14 rfl ?_
  refine cq_cast (fun M U p q => (dG_Str (H.2.2.2.2.2.1 _ hc1).1 M U p q).1) q1442 dJ9_equals_15 ?_
  refine cq_astore_n [(2, .ref (N.2 (1100000 + c1))), (0, .ref a0), (1, .ref (N.2 (1100000 + c1)))] dJ9_equals_18 (cx_lt rfl) rfl ?_
  refine cq_gets (fun U k => (H.1.1.2.1 U k).1) q361 dJ9_equals_19 ?_
  refine cq_if_eq 36 (A := False) (B := _) (by rw [if_neg (by decide)]; exact h) dJ9_equals_22 rfl (fun h => by cases h) (fun h => ?_)
  refine cq_aload_n 1 dJ9_equals_25 rfl ?_
  refine cq_nd H.1.1.1 (fun hn => cq_getI h.2 (dG_FI H.1.1.1 hn h.1 dCl_J9 (cx_lt rfl) rfl rfl rfl) q503 dJ9_equals_26 (fun v1 h => ?_))
  refine cq_aload_n 0 dJ9_equals_29 rfl ?_
  refine cq_getS (fun M U p q => ((dG_Str (H.2.2.2.2.2.1 _ hc1).1) M U p q).2.1) q503 dJ9_equals_30 ?_
  refine cq_icmp_ne 54 h dJ9_equals_33 rfl (fun h => ?_) (fun h => ?_)
  · refine cq_iconst 0 dJ9_equals_54 cx_ic_0 ?_
    exact cd_zret hk h cx_z_0 rfl dJ9_equals_55
  · refine cq_sub (lv' := [(0, .ref a0), (2, .ref (N.2 (1100000 + c1)))]) [1, 0] rfl ?_
    exact jS_equalsC_36_v H hX hc1 M P L k n hk h
def jS_equalsC (N : dNt) (bc bs : Nat) (M : cx_M) (P : dP) (L : dL) (a0 : Nat) (c1 : Nat) (Q : cd_Qt) : Prop := jS_equalsC_0 N bc bs Q a0 c1 M P L 0 0
set_option maxRecDepth 100000 in
theorem jS_equalsC_m {l : Launch} {g : cx_G} {N : dNt} {bc bs : Nat} {Q : cd_Qt} (H : dR l g N.2) (M : cx_M) (P : dP) (L : dL) (a0 : Nat) (c1 : Nat) (hc1 : c1 < 26) (h : jS_equalsC N bc bs M P L a0 c1 Q) : cd_Met l g yJ9_equals cJ9_equals (esJ9_equalsC bc bs) cd_rI [.ref a0, .ref (N.2 (1100000 + c1))] M P L Q :=
  cd_met (by decide +kernel) rfl rfl (lv := [(0, .ref a0), (1, .ref (N.2 (1100000 + c1)))]) rfl (cx_le rfl) (fun X hX => cq_sub (lv' := [(0, .ref a0), (1, .ref (N.2 (1100000 + c1)))]) [0, 1] rfl (jS_equalsC_0_v H hX hc1 M P L 0 0 ⟨Nat.zero_le _, Nat.zero_le _⟩ h))

abbrev esJ15_charAt (bc bs : Nat) : cx_S := (2, RJ15, cx_rI, { frames := 2, cells := bc, slots := bs, locals := 43 }, some .char, false)
def jL_charAt_0 (N : dNt) (bc bs : Nat) (Q : cd_Qt) (M : cx_M) (P : dP) (L : dL) (k n : Nat) (x0 : Option Nat) (x1 : Int32) : Prop :=
  cd_nn x0 fun a1 =>
  ∃ z2, (a1, (1, 2, z2)) ∈ L ∧
  cq_cal (jSt_checkIndex N.1 M x1 (nI z2)) fun M3 _ =>
  ∃ z6, (a1, (1, 2, z6)) ∈ L ∧ cq_ld M3 (dc a1) z6 x1 fun v5 =>
  cq_cr (cx_char (v5 &&& 255)) (Q M3 P L (cx_char (v5 &&& 255)) none 0 k n)
set_option maxRecDepth 100000 in
theorem jL_charAt_0_v {l : Launch} {g : cx_G} {X : cx_X} {N : dNt} {bc bs : Nat} {Q : cd_Qt} (H : dR l g N.2) (hX : X.2.2.2.2.2.2.1.name = "charAt") (M : cx_M) (P : dP) (L : dL) (k n : Nat) (x0 : Option Nat) (x1 : Int32) (hk : k ≤ bc ∧ n ≤ bs) (h : jL_charAt_0 N bc bs Q M P L k n x0 x1) : cq_V l (dG g L P) X (esJ15_charAt bc bs) cJ15_charAt 0 [(0, va_rf x0), (1, .int x1)] [] M k n (cd_fin g X (esJ15_charAt bc bs) cd_rI Q) := by
  unfold jL_charAt_0 at h
  refine cq_iload_n 1 dJ15_charAt_0 rfl ?_
  refine cd_aload_n (v := x0) 0 dJ15_charAt_1 rfl ?_
  obtain ⟨a1, e9, h⟩ := cd_nn_some h
  subst e9
  obtain ⟨z2, hm, h⟩ := h
  refine cq_nd H.1.1.1 (fun hn => cq_alen (nI z2) (dG_AI H.1.1.1 hn hm rfl) rfl dJ15_charAt_2 ?_)
  refine cq_cSv [.int x1, .int (nI z2)] [] h (fun rs' h' => jSt_checkIndex_m (g := dG g L P) (N := N.1) H.1.1.2.1 M x1 (nI z2) rs' h') dJ15_charAt_3 gf_J15_9 hgf_J15_9 ⟨cx_le rfl, cx_le rfl⟩ rfl ⟨rfl, rfl⟩ hk rfl (cx_le rfl) (fun M3 _ h => ?_)
  refine cq_aload_n 0 dJ15_charAt_6 rfl ?_
  refine cq_iload_n 1 dJ15_charAt_7 rfl ?_
  obtain ⟨z6, hm, h⟩ := h
  refine cq_nd H.1.1.1 (fun hn => cq_ldBy h (dG_AI H.1.1.1 hn hm rfl) dJ15_charAt_8 (fun v5 h => ?_))
  refine cq_sipush 255 dJ15_charAt_9 cx_sp_255 ?_
  refine cq_iand dJ15_charAt_12 ?_
  refine cq_i2c dJ15_charAt_13 ?_
  refine cq_crI h (fun hz h => ?_)
  exact cd_zret hk h hz rfl dJ15_charAt_14
def jL_charAt (N : dNt) (bc bs : Nat) (M : cx_M) (P : dP) (L : dL) (x0 : Option Nat) (x1 : Int32) (Q : cd_Qt) : Prop := jL_charAt_0 N bc bs Q M P L 0 0 x0 x1
set_option maxRecDepth 100000 in
theorem jL_charAt_m {l : Launch} {g : cx_G} {N : dNt} {bc bs : Nat} {Q : cd_Qt} (H : dR l g N.2) (M : cx_M) (P : dP) (L : dL) (x0 : Option Nat) (x1 : Int32) (h : jL_charAt N bc bs M P L x0 x1 Q) : cd_Met l g yJ15_charAt cJ15_charAt (esJ15_charAt bc bs) cd_rI [va_rf x0, .int x1] M P L Q :=
  cd_met (by decide +kernel) rfl rfl (lv := [(0, va_rf x0), (1, .int x1)]) (by cases x0 <;> rfl) (by cases x0 <;> exact cx_le rfl) (fun X hX => cq_sub (lv' := [(0, va_rf x0), (1, .int x1)]) [0, 1] rfl (jL_charAt_0_v H hX M P L 0 0 x0 x1 ⟨Nat.zero_le _, Nat.zero_le _⟩ h))

abbrev esJ9_charAt (bc bs : Nat) : cx_S := (2, RJ9, cx_rI, { frames := 3, cells := bc, slots := bs, locals := 64 }, some .char, false)
def jS_charAt_0 (N : dNt) (bc bs : Nat) (Q : cd_Qt) (a0 : Nat) (M : cx_M) (P : dP) (L : dL) (k n : Nat) (x1 : Int32) : Prop :=
  (a0, (0, 17, 0)) ∈ L ∧
  jS_isLatin1 N.1 (bc - k) (bs - n) M P L a0 (fun M1 P2 L3 v4 r5 e9 k6 n7 => e9 = 0 → cd_add k k6 n n7 fun k8 n9 =>
  if v4 = 0 then (
    False)
  else (
    (a0, (0, 17, 0)) ∈ L3 ∧ cd_let (P2 a0 0) fun r10 =>
    jL_charAt N (bc - k8) (bs - n9) M1 P2 L3 r10 x1 (fun M11 P12 L13 v14 r15 e9 k16 n17 => e9 = 0 → cd_add k8 k16 n9 n17 fun k18 n19 =>
    cq_cr v14 (Q M11 P12 L13 v14 none 0 k18 n19))))
set_option maxRecDepth 100000 in
theorem jS_charAt_0_v {l : Launch} {g : cx_G} {X : cx_X} {N : dNt} {bc bs : Nat} {Q : cd_Qt} {a0 : Nat} (H : dR l g N.2) (hX : X.2.2.2.2.2.2.1.name = "charAt") (M : cx_M) (P : dP) (L : dL) (k n : Nat) (x1 : Int32) (hk : k ≤ bc ∧ n ≤ bs) (h : jS_charAt_0 N bc bs Q a0 M P L k n x1) : cq_V l (dG g L P) X (esJ9_charAt bc bs) cJ9_charAt 0 [(0, .ref a0), (1, .int x1)] [] M k n (cd_fin g X (esJ9_charAt bc bs) cd_rI Q) := by
  unfold jS_charAt_0 at h
  refine cq_aload_n 0 dJ9_charAt_0 rfl ?_
  obtain ⟨hmr, h⟩ := h
  refine cd_cV [] [] (jS_isLatin1_m H.1.1 (N := N.1) (bc := bc - k) (bs := bs - n) M P L a0 h) (dG_Rc H.1.1.1 hmr dCl_J9) dJ9_charAt_1 gd_J9_492 hgd_J9_492 ⟨cx_le rfl, cx_le rfl⟩ (cd_bud hk) rfl (cx_le rfl) (fun M1 P2 L3 v4 r5 k6 n7 hk2 h => ?_)
  refine cd_addI (h rfl) (cd_bk hk hk2) (fun k8 n9 h hk => ?_)
  refine cq_if_eq 16 h dJ9_charAt_4 rfl (fun h => ?_) (fun h => ?_)
  · cases h
  · refine cq_aload_n 0 dJ9_charAt_7 rfl ?_
    refine cq_getR (dG_FR (k := 0) H.1.1.1 h.1 dCl_J9 (cx_lt rfl) rfl rfl) q502 dJ9_charAt_8 ?_
    refine cd_letI h.2 (fun r10 h => ?_)
    refine cq_iload_n 1 dJ9_charAt_11 rfl ?_
    refine cd_cS [va_rf r10, .int x1] [] (jL_charAt_m H (N := N) (bc := bc - k8) (bs := bs - n9) M1 P2 L3 r10 x1 h) dJ9_charAt_12 gd_J9_495 hgd_J9_495 ⟨cx_le rfl, cx_le rfl⟩ (cd_bud hk) rfl (cx_le rfl) (fun M11 P12 L13 v14 r15 k16 n17 hk2 h => ?_)
    refine cd_addI (h rfl) (cd_bk hk hk2) (fun k18 n19 h hk => ?_)
    refine cq_crI h (fun hz h => ?_)
    exact cd_zret hk h hz rfl dJ9_charAt_15
def jS_charAt (N : dNt) (bc bs : Nat) (M : cx_M) (P : dP) (L : dL) (a0 : Nat) (x1 : Int32) (Q : cd_Qt) : Prop := jS_charAt_0 N bc bs Q a0 M P L 0 0 x1
set_option maxRecDepth 100000 in
theorem jS_charAt_m {l : Launch} {g : cx_G} {N : dNt} {bc bs : Nat} {Q : cd_Qt} (H : dR l g N.2) (M : cx_M) (P : dP) (L : dL) (a0 : Nat) (x1 : Int32) (h : jS_charAt N bc bs M P L a0 x1 Q) : cd_Met l g yJ9_charAt cJ9_charAt (esJ9_charAt bc bs) cd_rI [.ref a0, .int x1] M P L Q :=
  cd_met (by decide +kernel) rfl rfl (lv := [(0, .ref a0), (1, .int x1)]) rfl (cx_le rfl) (fun X hX => cq_sub (lv' := [(0, .ref a0), (1, .int x1)]) [0, 1] rfl (jS_charAt_0_v H hX M P L 0 0 x1 ⟨Nat.zero_le _, Nat.zero_le _⟩ h))

abbrev esX11_byteAt (bc bs : Nat) : cx_S := (2, RX11, cx_rI, { frames := 0, cells := bc, slots := bs, locals := 0 }, some .int, false)
def rd_byteAt_0 (N : dNt) (bc bs : Nat) (Q : cd_Qt) (a0 : Nat) (M : cx_M) (P : dP) (L : dL) (k n : Nat) (x1 : Int32) : Prop :=
  (a0, (0, 10, 0)) ∈ L ∧ cq_get M (dc a0) 1 fun v1 =>
  if v1 ≤ x1 then (
    Q M P L 0 none 0 k n)
  else (
    (a0, (0, 10, 0)) ∈ L ∧ cd_let (P a0 0) fun r2 =>
    cd_nn r2 fun a3 =>
    a3 = N.2 509 ∧ N.2 508 = 1 ∧ cq_ld M 509 700 x1 fun v4 =>
    Q M P L (v4 &&& 255) none 0 k n)
set_option maxRecDepth 100000 in
theorem rd_byteAt_0_v {l : Launch} {g : cx_G} {X : cx_X} {N : dNt} {bc bs : Nat} {Q : cd_Qt} {a0 : Nat} (H : dR l g N.2) (hX : X.2.2.2.2.2.2.1.name = "byteAt") (M : cx_M) (P : dP) (L : dL) (k n : Nat) (x1 : Int32) (hk : k ≤ bc ∧ n ≤ bs) (h : rd_byteAt_0 N bc bs Q a0 M P L k n x1) : cq_V l (dG g L P) X (esX11_byteAt bc bs) cX11_byteAt 0 [(0, .ref a0), (1, .int x1)] [] M k n (cd_fin g X (esX11_byteAt bc bs) cd_rI Q) := by
  unfold rd_byteAt_0 at h
  refine cq_iload_n 1 dX11_byteAt_0 rfl ?_
  refine cq_aload_n 0 dX11_byteAt_1 rfl ?_
  refine cq_nd H.1.1.1 (fun hn => cq_getI h.2 (dG_FI H.1.1.1 hn h.1 dCl_X11 (cx_lt rfl) rfl rfl rfl) q1453 dX11_byteAt_2 (fun v1 h => ?_))
  refine cq_icmp_ge 21 h dX11_byteAt_5 rfl (fun h => ?_) (fun h => ?_)
  · refine cq_iconst 0 dX11_byteAt_21 cx_ic_0 ?_
    exact cd_iret hk h rfl dX11_byteAt_22
  · refine cq_aload_n 0 dX11_byteAt_8 rfl ?_
    refine cq_getR (dG_FR (k := 0) H.1.1.1 h.1 dCl_X11 (cx_lt rfl) rfl rfl) q1452 dX11_byteAt_9 ?_
    refine cd_letI h.2 (fun r2 h => ?_)
    refine cq_iload_n 1 dX11_byteAt_12 rfl ?_
    obtain ⟨a3, e9, h⟩ := cd_nn_some h
    subst e9
    obtain ⟨e9, e8, h9⟩ := h; subst e9; refine cq_ldBy h9 (H.2.2.1 e8 _ _) dX11_byteAt_13 (fun v4 h => ?_)
    refine cq_sipush 255 dX11_byteAt_14 cx_sp_255 ?_
    refine cq_iand dX11_byteAt_17 ?_
    refine cq_goto 22 dX11_byteAt_18 rfl ?_
    exact cd_iret hk h rfl dX11_byteAt_22
def rd_byteAt (N : dNt) (bc bs : Nat) (M : cx_M) (P : dP) (L : dL) (a0 : Nat) (x1 : Int32) (Q : cd_Qt) : Prop := rd_byteAt_0 N bc bs Q a0 M P L 0 0 x1
set_option maxRecDepth 100000 in
theorem rd_byteAt_m {l : Launch} {g : cx_G} {N : dNt} {bc bs : Nat} {Q : cd_Qt} (H : dR l g N.2) (M : cx_M) (P : dP) (L : dL) (a0 : Nat) (x1 : Int32) (h : rd_byteAt N bc bs M P L a0 x1 Q) : cd_Met l g yX11_byteAt cX11_byteAt (esX11_byteAt bc bs) cd_rI [.ref a0, .int x1] M P L Q :=
  cd_met (by decide +kernel) rfl rfl (lv := [(0, .ref a0), (1, .int x1)]) rfl (cx_le rfl) (fun X hX => cq_sub (lv' := [(0, .ref a0), (1, .int x1)]) [0, 1] rfl (rd_byteAt_0_v H hX M P L 0 0 x1 ⟨Nat.zero_le _, Nat.zero_le _⟩ h))

abbrev esX11_isLetter (bc bs : Nat) : cx_S := (1, RX11, cx_rI, { frames := 0, cells := bc, slots := bs, locals := 0 }, some .boolean, false)
def rd_isLetter_0 (N : dNt) (bc bs : Nat) (Q : cd_Qt) (M : cx_M) (P : dP) (L : dL) (k n : Nat) (x0 : Int32) : Prop :=
  if x0 < 97 then (
    Q M P L 0 none 0 k n)
  else (
    if 122 < x0 then (
      Q M P L 0 none 0 k n)
    else (
      Q M P L 1 none 0 k n))
set_option maxRecDepth 100000 in
theorem rd_isLetter_0_v {l : Launch} {g : cx_G} {X : cx_X} {N : dNt} {bc bs : Nat} {Q : cd_Qt} (H : dR l g N.2) (hX : X.2.2.2.2.2.2.1.name = "isLetter") (M : cx_M) (P : dP) (L : dL) (k n : Nat) (x0 : Int32) (hk : k ≤ bc ∧ n ≤ bs) (h : rd_isLetter_0 N bc bs Q M P L k n x0) : cq_V l (dG g L P) X (esX11_isLetter bc bs) cX11_isLetter 0 [(0, .int x0)] [] M k n (cd_fin g X (esX11_isLetter bc bs) cd_rI Q) := by
  unfold rd_isLetter_0 at h
  refine cq_iload_n 0 dX11_isLetter_0 rfl ?_
  refine cq_bipush 97 dX11_isLetter_1 cx_bp_97 ?_
  refine cq_icmp_lt 16 h dX11_isLetter_3 rfl (fun h => ?_) (fun h => ?_)
  · refine cq_iconst 0 dX11_isLetter_16 cx_ic_0 ?_
    exact cd_zret hk h cx_z_0 rfl dX11_isLetter_17
  · refine cq_iload_n 0 dX11_isLetter_6 rfl ?_
    refine cq_bipush 122 dX11_isLetter_7 cx_bp_122 ?_
    refine cq_icmp_gt 16 h dX11_isLetter_9 rfl (fun h => ?_) (fun h => ?_)
    · refine cq_iconst 0 dX11_isLetter_16 cx_ic_0 ?_
      exact cd_zret hk h cx_z_0 rfl dX11_isLetter_17
    · refine cq_iconst 1 dX11_isLetter_12 cx_ic_1 ?_
      refine cq_goto 17 dX11_isLetter_13 rfl ?_
      exact cd_zret hk h cx_z_1 rfl dX11_isLetter_17
def rd_isLetter (N : dNt) (bc bs : Nat) (M : cx_M) (P : dP) (L : dL) (x0 : Int32) (Q : cd_Qt) : Prop := rd_isLetter_0 N bc bs Q M P L 0 0 x0
set_option maxRecDepth 100000 in
theorem rd_isLetter_m {l : Launch} {g : cx_G} {N : dNt} {bc bs : Nat} {Q : cd_Qt} (H : dR l g N.2) (M : cx_M) (P : dP) (L : dL) (x0 : Int32) (h : rd_isLetter N bc bs M P L x0 Q) : cd_Met l g yX11_isLetter cX11_isLetter (esX11_isLetter bc bs) cd_rI [.int x0] M P L Q :=
  cd_met (by decide +kernel) rfl rfl (lv := [(0, .int x0)]) rfl (cx_le rfl) (fun X hX => cq_sub (lv' := [(0, .int x0)]) [0] rfl (rd_isLetter_0_v H hX M P L 0 0 x0 ⟨Nat.zero_le _, Nat.zero_le _⟩ h))

abbrev esX11_isDigit (bc bs : Nat) : cx_S := (1, RX11, cx_rI, { frames := 0, cells := bc, slots := bs, locals := 0 }, some .boolean, false)
def rd_isDigit_0 (N : dNt) (bc bs : Nat) (Q : cd_Qt) (M : cx_M) (P : dP) (L : dL) (k n : Nat) (x0 : Int32) : Prop :=
  if x0 < 48 then (
    Q M P L 0 none 0 k n)
  else (
    if 57 < x0 then (
      Q M P L 0 none 0 k n)
    else (
      Q M P L 1 none 0 k n))
set_option maxRecDepth 100000 in
theorem rd_isDigit_0_v {l : Launch} {g : cx_G} {X : cx_X} {N : dNt} {bc bs : Nat} {Q : cd_Qt} (H : dR l g N.2) (hX : X.2.2.2.2.2.2.1.name = "isDigit") (M : cx_M) (P : dP) (L : dL) (k n : Nat) (x0 : Int32) (hk : k ≤ bc ∧ n ≤ bs) (h : rd_isDigit_0 N bc bs Q M P L k n x0) : cq_V l (dG g L P) X (esX11_isDigit bc bs) cX11_isDigit 0 [(0, .int x0)] [] M k n (cd_fin g X (esX11_isDigit bc bs) cd_rI Q) := by
  unfold rd_isDigit_0 at h
  refine cq_iload_n 0 dX11_isDigit_0 rfl ?_
  refine cq_bipush 48 dX11_isDigit_1 cx_bp_48 ?_
  refine cq_icmp_lt 16 h dX11_isDigit_3 rfl (fun h => ?_) (fun h => ?_)
  · refine cq_iconst 0 dX11_isDigit_16 cx_ic_0 ?_
    exact cd_zret hk h cx_z_0 rfl dX11_isDigit_17
  · refine cq_iload_n 0 dX11_isDigit_6 rfl ?_
    refine cq_bipush 57 dX11_isDigit_7 cx_bp_57 ?_
    refine cq_icmp_gt 16 h dX11_isDigit_9 rfl (fun h => ?_) (fun h => ?_)
    · refine cq_iconst 0 dX11_isDigit_16 cx_ic_0 ?_
      exact cd_zret hk h cx_z_0 rfl dX11_isDigit_17
    · refine cq_iconst 1 dX11_isDigit_12 cx_ic_1 ?_
      refine cq_goto 17 dX11_isDigit_13 rfl ?_
      exact cd_zret hk h cx_z_1 rfl dX11_isDigit_17
def rd_isDigit (N : dNt) (bc bs : Nat) (M : cx_M) (P : dP) (L : dL) (x0 : Int32) (Q : cd_Qt) : Prop := rd_isDigit_0 N bc bs Q M P L 0 0 x0
set_option maxRecDepth 100000 in
theorem rd_isDigit_m {l : Launch} {g : cx_G} {N : dNt} {bc bs : Nat} {Q : cd_Qt} (H : dR l g N.2) (M : cx_M) (P : dP) (L : dL) (x0 : Int32) (h : rd_isDigit N bc bs M P L x0 Q) : cd_Met l g yX11_isDigit cX11_isDigit (esX11_isDigit bc bs) cd_rI [.int x0] M P L Q :=
  cd_met (by decide +kernel) rfl rfl (lv := [(0, .int x0)]) rfl (cx_le rfl) (fun X hX => cq_sub (lv' := [(0, .int x0)]) [0] rfl (rd_isDigit_0_v H hX M P L 0 0 x0 ⟨Nat.zero_le _, Nat.zero_le _⟩ h))

abbrev esX11_isSign (bc bs : Nat) : cx_S := (1, RX11, cx_rI, { frames := 0, cells := bc, slots := bs, locals := 0 }, some .boolean, false)
def rd_isSign_0 (N : dNt) (bc bs : Nat) (Q : cd_Qt) (M : cx_M) (P : dP) (L : dL) (k n : Nat) (x0 : Int32) : Prop :=
  if x0 = 59 then (
    Q M P L 1 none 0 k n)
  else (
    if x0 = 40 then (
      Q M P L 1 none 0 k n)
    else (
      if x0 = 41 then (
        Q M P L 1 none 0 k n)
      else (
        if x0 = 43 then (
          Q M P L 1 none 0 k n)
        else (
          if x0 = 45 then (
            Q M P L 1 none 0 k n)
          else (
            if x0 = 42 then (
              Q M P L 1 none 0 k n)
            else (
              if x0 = 47 then (
                Q M P L 1 none 0 k n)
              else (
                if x0 = 60 then (
                  Q M P L 1 none 0 k n)
                else (
                  if x0 = 61 then (
                    Q M P L 1 none 0 k n)
                  else (
                    Q M P L 0 none 0 k n)))))))))
set_option maxRecDepth 100000 in
theorem rd_isSign_0_v {l : Launch} {g : cx_G} {X : cx_X} {N : dNt} {bc bs : Nat} {Q : cd_Qt} (H : dR l g N.2) (hX : X.2.2.2.2.2.2.1.name = "isSign") (M : cx_M) (P : dP) (L : dL) (k n : Nat) (x0 : Int32) (hk : k ≤ bc ∧ n ≤ bs) (h : rd_isSign_0 N bc bs Q M P L k n x0) : cq_V l (dG g L P) X (esX11_isSign bc bs) cX11_isSign 0 [(0, .int x0)] [] M k n (cd_fin g X (esX11_isSign bc bs) cd_rI Q) := by
  unfold rd_isSign_0 at h
  refine cq_iload_n 0 dX11_isSign_0 rfl ?_
  refine cq_bipush 59 dX11_isSign_1 cx_bp_59 ?_
  refine cq_icmp_eq 54 h dX11_isSign_3 rfl (fun h => ?_) (fun h => ?_)
  · refine cq_iconst 1 dX11_isSign_54 cx_ic_1 ?_
    refine cq_goto 59 dX11_isSign_55 rfl ?_
    exact cd_zret hk h cx_z_1 rfl dX11_isSign_59
  · refine cq_iload_n 0 dX11_isSign_6 rfl ?_
    refine cq_bipush 40 dX11_isSign_7 cx_bp_40 ?_
    refine cq_icmp_eq 54 h dX11_isSign_9 rfl (fun h => ?_) (fun h => ?_)
    · refine cq_iconst 1 dX11_isSign_54 cx_ic_1 ?_
      refine cq_goto 59 dX11_isSign_55 rfl ?_
      exact cd_zret hk h cx_z_1 rfl dX11_isSign_59
    · refine cq_iload_n 0 dX11_isSign_12 rfl ?_
      refine cq_bipush 41 dX11_isSign_13 cx_bp_41 ?_
      refine cq_icmp_eq 54 h dX11_isSign_15 rfl (fun h => ?_) (fun h => ?_)
      · refine cq_iconst 1 dX11_isSign_54 cx_ic_1 ?_
        refine cq_goto 59 dX11_isSign_55 rfl ?_
        exact cd_zret hk h cx_z_1 rfl dX11_isSign_59
      · refine cq_iload_n 0 dX11_isSign_18 rfl ?_
        refine cq_bipush 43 dX11_isSign_19 cx_bp_43 ?_
        refine cq_icmp_eq 54 h dX11_isSign_21 rfl (fun h => ?_) (fun h => ?_)
        · refine cq_iconst 1 dX11_isSign_54 cx_ic_1 ?_
          refine cq_goto 59 dX11_isSign_55 rfl ?_
          exact cd_zret hk h cx_z_1 rfl dX11_isSign_59
        · refine cq_iload_n 0 dX11_isSign_24 rfl ?_
          refine cq_bipush 45 dX11_isSign_25 cx_bp_45 ?_
          refine cq_icmp_eq 54 h dX11_isSign_27 rfl (fun h => ?_) (fun h => ?_)
          · refine cq_iconst 1 dX11_isSign_54 cx_ic_1 ?_
            refine cq_goto 59 dX11_isSign_55 rfl ?_
            exact cd_zret hk h cx_z_1 rfl dX11_isSign_59
          · refine cq_iload_n 0 dX11_isSign_30 rfl ?_
            refine cq_bipush 42 dX11_isSign_31 cx_bp_42 ?_
            refine cq_icmp_eq 54 h dX11_isSign_33 rfl (fun h => ?_) (fun h => ?_)
            · refine cq_iconst 1 dX11_isSign_54 cx_ic_1 ?_
              refine cq_goto 59 dX11_isSign_55 rfl ?_
              exact cd_zret hk h cx_z_1 rfl dX11_isSign_59
            · refine cq_iload_n 0 dX11_isSign_36 rfl ?_
              refine cq_bipush 47 dX11_isSign_37 cx_bp_47 ?_
              refine cq_icmp_eq 54 h dX11_isSign_39 rfl (fun h => ?_) (fun h => ?_)
              · refine cq_iconst 1 dX11_isSign_54 cx_ic_1 ?_
                refine cq_goto 59 dX11_isSign_55 rfl ?_
                exact cd_zret hk h cx_z_1 rfl dX11_isSign_59
              · refine cq_iload_n 0 dX11_isSign_42 rfl ?_
                refine cq_bipush 60 dX11_isSign_43 cx_bp_60 ?_
                refine cq_icmp_eq 54 h dX11_isSign_45 rfl (fun h => ?_) (fun h => ?_)
                · refine cq_iconst 1 dX11_isSign_54 cx_ic_1 ?_
                  refine cq_goto 59 dX11_isSign_55 rfl ?_
                  exact cd_zret hk h cx_z_1 rfl dX11_isSign_59
                · refine cq_iload_n 0 dX11_isSign_48 rfl ?_
                  refine cq_bipush 61 dX11_isSign_49 cx_bp_61 ?_
                  refine cq_icmp_ne 58 h dX11_isSign_51 rfl (fun h => ?_) (fun h => ?_)
                  · refine cq_iconst 0 dX11_isSign_58 cx_ic_0 ?_
                    exact cd_zret hk h cx_z_0 rfl dX11_isSign_59
                  · refine cq_iconst 1 dX11_isSign_54 cx_ic_1 ?_
                    refine cq_goto 59 dX11_isSign_55 rfl ?_
                    exact cd_zret hk h cx_z_1 rfl dX11_isSign_59
def rd_isSign (N : dNt) (bc bs : Nat) (M : cx_M) (P : dP) (L : dL) (x0 : Int32) (Q : cd_Qt) : Prop := rd_isSign_0 N bc bs Q M P L 0 0 x0
set_option maxRecDepth 100000 in
theorem rd_isSign_m {l : Launch} {g : cx_G} {N : dNt} {bc bs : Nat} {Q : cd_Qt} (H : dR l g N.2) (M : cx_M) (P : dP) (L : dL) (x0 : Int32) (h : rd_isSign N bc bs M P L x0 Q) : cd_Met l g yX11_isSign cX11_isSign (esX11_isSign bc bs) cd_rI [.int x0] M P L Q :=
  cd_met (by decide +kernel) rfl rfl (lv := [(0, .int x0)]) rfl (cx_le rfl) (fun X hX => cq_sub (lv' := [(0, .int x0)]) [0] rfl (rd_isSign_0_v H hX M P L 0 0 x0 ⟨Nat.zero_le _, Nat.zero_le _⟩ h))

abbrev esX11_go (bc bs : Nat) : cx_S := (3, RX11, cx_rI, { frames := 6, cells := bc, slots := bs, locals := 151 }, none, false)
def rd_go_37 (N : dNt) (bc bs : Nat) (Q : cd_Qt) (a0 : Nat) (r_0 : cx_M → dP → dL → Nat → Nat → Prop) (M : cx_M) (P : dP) (L : dL) (k n : Nat) : Prop :=
  (a0, (0, 10, 0)) ∈ L ∧ cq_get M (dc a0) 2 fun v1 =>
  (a0, (0, 10, 0)) ∈ L ∧ cq_put M (dc a0) 2 (v1 + 1) fun M2 =>
  r_0 M2 P L k n
set_option maxRecDepth 100000 in
theorem rd_go_37_v {l : Launch} {g : cx_G} {X : cx_X} {N : dNt} {bc bs : Nat} {Q : cd_Qt} {a0 : Nat} {r_0 : cx_M → dP → dL → Nat → Nat → Prop} (H : dR l g N.2) (hX : X.2.2.2.2.2.2.1.name = "go") (hr_0 : ∀ (M : cx_M) (P : dP) (L : dL) (k n : Nat), (k ≤ bc ∧ n ≤ bs) → r_0 M P L k n → cq_V l (dG g L P) X (esX11_go bc bs) cX11_go 0 [(0, .ref a0)] [] M k n (cd_fin g X (esX11_go bc bs) cd_rV Q)) (M : cx_M) (P : dP) (L : dL) (k n : Nat) (hk : k ≤ bc ∧ n ≤ bs) (h : rd_go_37 N bc bs Q a0 r_0 M P L k n) : cq_V l (dG g L P) X (esX11_go bc bs) cX11_go 37 [(0, .ref a0)] [] M k n (cd_fin g X (esX11_go bc bs) cd_rV Q) := by
  unfold rd_go_37 at h
  refine cq_aload_n 0 dX11_go_37 rfl ?_
  refine cq_dup dX11_go_38 rfl ?_
  refine cq_nd H.1.1.1 (fun hn => cq_getI h.2 (dG_FI H.1.1.1 hn h.1 dCl_X11 (cx_lt rfl) rfl rfl rfl) q1454 dX11_go_39 (fun v1 h => ?_))
  refine cq_iconst 1 dX11_go_42 cx_ic_1 ?_
  refine cq_iadd dX11_go_43 ?_
  refine cq_nd H.1.1.1 (fun hn => cq_putI h.2 (dG_FI H.1.1.1 hn h.1 dCl_X11 (cx_lt rfl) rfl rfl rfl) rfl rfl rfl q1454 dX11_go_44 (fun M2 h => ?_))
  refine cq_goto 0 dX11_go_47 rfl ?_
  exact hr_0 M2 P L k n hk h
def rd_go_153 (N : dNt) (bc bs : Nat) (Q : cd_Qt) (a0 : Nat) (r_116 : cx_M → dP → dL → Nat → Nat → Nat → Prop) (M : cx_M) (P : dP) (L : dL) (k n : Nat) (x2 : Nat) : Prop :=
  (a0, (0, 10, 0)) ∈ L ∧ cq_get M (dc a0) 2 fun v1 =>
  (a0, (0, 10, 0)) ∈ L ∧ cq_put M (dc a0) 2 (v1 + 1) fun M2 =>
  r_116 M2 P L k n x2
set_option maxRecDepth 100000 in
theorem rd_go_153_v {l : Launch} {g : cx_G} {X : cx_X} {N : dNt} {bc bs : Nat} {Q : cd_Qt} {a0 : Nat} {r_116 : cx_M → dP → dL → Nat → Nat → Nat → Prop} (H : dR l g N.2) (hX : X.2.2.2.2.2.2.1.name = "go") (hr_116 : ∀ (M : cx_M) (P : dP) (L : dL) (k n : Nat) (x2 : Nat), (k ≤ bc ∧ n ≤ bs) → r_116 M P L k n x2 → cq_V l (dG g L P) X (esX11_go bc bs) cX11_go 116 [(0, .ref a0), (2, .ref x2)] [] M k n (cd_fin g X (esX11_go bc bs) cd_rV Q)) (M : cx_M) (P : dP) (L : dL) (k n : Nat) (x2 : Nat) (hk : k ≤ bc ∧ n ≤ bs) (h : rd_go_153 N bc bs Q a0 r_116 M P L k n x2) : cq_V l (dG g L P) X (esX11_go bc bs) cX11_go 153 [(0, .ref a0), (2, .ref x2)] [] M k n (cd_fin g X (esX11_go bc bs) cd_rV Q) := by
  unfold rd_go_153 at h
  refine cq_aload_n 0 dX11_go_153 rfl ?_
  refine cq_dup dX11_go_154 rfl ?_
  refine cq_nd H.1.1.1 (fun hn => cq_getI h.2 (dG_FI H.1.1.1 hn h.1 dCl_X11 (cx_lt rfl) rfl rfl rfl) q1454 dX11_go_155 (fun v1 h => ?_))
  refine cq_iconst 1 dX11_go_158 cx_ic_1 ?_
  refine cq_iadd dX11_go_159 ?_
  refine cq_nd H.1.1.1 (fun hn => cq_putI h.2 (dG_FI H.1.1.1 hn h.1 dCl_X11 (cx_lt rfl) rfl rfl rfl) rfl rfl rfl q1454 dX11_go_160 (fun M2 h => ?_))
  refine cq_goto 116 dX11_go_163 rfl ?_
  exact hr_116 M2 P L k n x2 hk h
def rd_go_116b (N : dNt) (bc bs : Nat) (Q : cd_Qt) (a0 : Nat) (r_116 : cx_M → dP → dL → Nat → Nat → Nat → Prop) (M : cx_M) (P : dP) (L : dL) (k n : Nat) (x2 : Nat) : Prop :=
  (a0, (0, 10, 0)) ∈ L ∧ cq_get M (dc a0) 2 fun v1 =>
  (a0, (0, 10, 0)) ∈ L ∧
  rd_byteAt N (bc - k) (bs - n) M P L a0 v1 (fun M2 P3 L4 v5 r6 e9 k7 n8 => e9 = 0 → cd_add k k7 n n8 fun k9 n10 =>
  rd_isLetter N (bc - k9) (bs - n10) M2 P3 L4 v5 (fun M11 P12 L13 v14 r15 e9 k16 n17 => e9 = 0 → cd_add k9 k16 n10 n17 fun k18 n19 =>
  if v14 = 0 then (
    (x2, (0, 18, 0)) ∈ L13 ∧
    jB_toString N.1 (bc - k18) (bs - n19) M11 P12 L13 x2 (fun M20 P21 L22 v23 r24 e9 k25 n26 => e9 = 0 → cd_add k18 k25 n19 n26 fun k27 n28 =>
    (a0, (0, 10, 0)) ∈ L22 ∧ cd_put P21 a0 7 r24 fun P29 =>
    (a0, (0, 10, 0)) ∈ L22 ∧ cd_put P29 a0 6 (some ((N.2 9210))) fun P30 =>
    Q M20 P30 L22 0 none 0 k27 n28))
  else (
    (x2, (0, 18, 0)) ∈ L13 ∧
    jB_length N.1 (bc - k18) (bs - n19) M11 P12 L13 x2 (fun M31 P32 L33 v34 r35 e9 k36 n37 => e9 = 0 → cd_add k18 k36 n19 n37 fun k38 n39 =>
    if 12 ≤ v34 then (
      rd_go_153 N bc bs Q a0 r_116 M31 P32 L33 k38 n39 x2)
    else (
      (a0, (0, 10, 0)) ∈ L33 ∧ cq_get M31 (dc a0) 2 fun v40 =>
      (a0, (0, 10, 0)) ∈ L33 ∧
      rd_byteAt N (bc - k38) (bs - n39) M31 P32 L33 a0 v40 (fun M41 P42 L43 v44 r45 e9 k46 n47 => e9 = 0 → cd_add k38 k46 n39 n47 fun k48 n49 =>
      (x2, (0, 18, 0)) ∈ L43 ∧
      jB_append_3 N.1 (bc - k48) (bs - n49) M41 P42 L43 x2 (cx_char v44) (fun M50 P51 L52 v53 r54 e9 k55 n56 => e9 = 0 → cd_add k48 k55 n49 n56 fun k57 n58 =>
      rd_go_153 N bc bs Q a0 r_116 M50 P51 L52 k57 n58 x2)))))))
set_option maxRecDepth 100000 in
theorem rd_go_116b_v {l : Launch} {g : cx_G} {X : cx_X} {N : dNt} {bc bs : Nat} {Q : cd_Qt} {a0 : Nat} {r_116 : cx_M → dP → dL → Nat → Nat → Nat → Prop} (H : dR l g N.2) (hX : X.2.2.2.2.2.2.1.name = "go") (hr_116 : ∀ (M : cx_M) (P : dP) (L : dL) (k n : Nat) (x2 : Nat), (k ≤ bc ∧ n ≤ bs) → r_116 M P L k n x2 → cq_V l (dG g L P) X (esX11_go bc bs) cX11_go 116 [(0, .ref a0), (2, .ref x2)] [] M k n (cd_fin g X (esX11_go bc bs) cd_rV Q)) (M : cx_M) (P : dP) (L : dL) (k n : Nat) (x2 : Nat) (hk : k ≤ bc ∧ n ≤ bs) (h : rd_go_116b N bc bs Q a0 r_116 M P L k n x2) : cq_V l (dG g L P) X (esX11_go bc bs) cX11_go 116 [(0, .ref a0), (2, .ref x2)] [] M k n (cd_fin g X (esX11_go bc bs) cd_rV Q) := by
  unfold rd_go_116b at h
  refine cq_aload_n 0 dX11_go_116 rfl ?_
  refine cq_aload_n 0 dX11_go_117 rfl ?_
  refine cq_nd H.1.1.1 (fun hn => cq_getI h.2 (dG_FI H.1.1.1 hn h.1 dCl_X11 (cx_lt rfl) rfl rfl rfl) q1454 dX11_go_118 (fun v1 h => ?_))
  obtain ⟨hmr, h⟩ := h
  refine cd_cV [.int v1] [] (rd_byteAt_m H (N := N) (bc := bc - k) (bs := bs - n) M P L a0 v1 h) (dG_Rc H.1.1.1 hmr dCl_X11) dX11_go_121 gd_X11_38 hgd_X11_38 ⟨cx_le rfl, cx_le rfl⟩ (cd_bud hk) rfl (cx_le rfl) (fun M2 P3 L4 v5 r6 k7 n8 hk2 h => ?_)
  refine cd_addI (h rfl) (cd_bk hk hk2) (fun k9 n10 h hk => ?_)
  refine cd_cS [.int v5] [] (rd_isLetter_m H (N := N) (bc := bc - k9) (bs := bs - n10) M2 P3 L4 v5 h) dX11_go_124 gd_X11_58 hgd_X11_58 ⟨cx_le rfl, cx_le rfl⟩ (cd_bud hk) rfl (cx_le rfl) (fun M11 P12 L13 v14 r15 k16 n17 hk2 h => ?_)
  refine cd_addI (h rfl) (cd_bk hk hk2) (fun k18 n19 h hk => ?_)
  refine cq_if_eq 166 h dX11_go_127 rfl (fun h => ?_) (fun h => ?_)
  · refine cq_aload_n 0 dX11_go_166 rfl ?_
    refine cq_aload_n 1 dX11_go_167 rfl ?_
    obtain ⟨hmr, h⟩ := h
    refine cd_cV [] [.ref a0] (jB_toString_m H.1.1 (N := N.1) (bc := bc - k18) (bs := bs - n19) M11 P12 L13 x2 h) (dG_Rc H.1.1.1 hmr dCl_J8) dX11_go_168 gd_X11_75 hgd_X11_75 ⟨cx_le rfl, cx_le rfl⟩ (cd_bud hk) rfl (cx_le rfl) (fun M20 P21 L22 v23 r24 k25 n26 hk2 h => ?_)
    refine cd_addI (h rfl) (cd_bk hk hk2) (fun k27 n28 h hk => ?_)
    refine cq_nd H.1.1.1 (fun hn => cd_putR (v := r24) H.1.1.1 hn h.1 h.2 dCl_X11 (cx_lt rfl) rfl rfl rfl cd_nfO rfl q1459 dX11_go_171 (fun P29 h => ?_))
    refine cq_aload_n 0 dX11_go_174 rfl ?_
    refine cq_gets (dR_s0 H) q1424 dX11_go_175 ?_
    refine cq_nd H.1.1.1 (fun hn => cd_putR (v := (some ((N.2 9210)))) H.1.1.1 hn h.1 h.2 dCl_X11 (cx_lt rfl) rfl rfl rfl cd_nfO rfl q1458 dX11_go_178 (fun P30 h => ?_))
    refine cq_goto 340 dX11_go_181 rfl ?_
    exact cd_vret hk h rfl dX11_go_340
  · refine cq_aload_n 1 dX11_go_130 rfl ?_
    obtain ⟨hmr, h⟩ := h
    refine cd_cV [] [] (jB_length_m H.1.1 (N := N.1) (bc := bc - k18) (bs := bs - n19) M11 P12 L13 x2 h) (dG_Rc H.1.1.1 hmr dCl_J8) dX11_go_131 gd_X11_67 hgd_X11_67 ⟨cx_le rfl, cx_le rfl⟩ (cd_bud hk) rfl (cx_le rfl) (fun M31 P32 L33 v34 r35 k36 n37 hk2 h => ?_)
    refine cd_addI (h rfl) (cd_bk hk hk2) (fun k38 n39 h hk => ?_)
    refine cq_bipush 12 dX11_go_134 cx_bp_12 ?_
    refine cq_icmp_ge 153 h dX11_go_136 rfl (fun h => ?_) (fun h => ?_)
    · exact rd_go_153_v H hX hr_116 M31 P32 L33 k38 n39 x2 hk h
    · refine cq_aload_n 1 dX11_go_139 rfl ?_
      refine cq_aload_n 0 dX11_go_140 rfl ?_
      refine cq_aload_n 0 dX11_go_141 rfl ?_
      refine cq_nd H.1.1.1 (fun hn => cq_getI h.2 (dG_FI H.1.1.1 hn h.1 dCl_X11 (cx_lt rfl) rfl rfl rfl) q1454 dX11_go_142 (fun v40 h => ?_))
      obtain ⟨hmr, h⟩ := h
      refine cd_cV [.int v40] [.ref x2] (rd_byteAt_m H (N := N) (bc := bc - k38) (bs := bs - n39) M31 P32 L33 a0 v40 h) (dG_Rc H.1.1.1 hmr dCl_X11) dX11_go_145 gd_X11_38 hgd_X11_38 ⟨cx_le rfl, cx_le rfl⟩ (cd_bud hk) rfl (cx_le rfl) (fun M41 P42 L43 v44 r45 k46 n47 hk2 h => ?_)
      refine cd_addI (h rfl) (cd_bk hk hk2) (fun k48 n49 h hk => ?_)
      refine cq_i2c dX11_go_148 ?_
      obtain ⟨hmr, h⟩ := h
      refine cd_cV [.int (cx_char v44)] [] (jB_append_3_m H.1.1 (N := N.1) (bc := bc - k48) (bs := bs - n49) M41 P42 L43 x2 (cx_char v44) h) (dG_Rc H.1.1.1 hmr dCl_J8) dX11_go_149 gd_X11_71 hgd_X11_71 ⟨cx_le rfl, cx_le rfl⟩ (cd_bud hk) rfl (cx_le rfl) (fun M50 P51 L52 v53 r54 k55 n56 hk2 h => ?_)
      refine cd_addI (h rfl) (cd_bk hk hk2) (fun k57 n58 h hk => ?_)
      refine cq_pop dX11_go_152 (va_rf_cat _) ?_
      exact rd_go_153_v H hX hr_116 M50 P51 L52 k57 n58 x2 hk h
def rd_go_116 (N : dNt) (bc bs : Nat) (Q : cd_Qt) (a0 : Nat) : Nat → cx_M → dP → dL → Nat → Nat → Nat → Prop :=
  cx_fix (fun _ _ _ _ _ _ => False) (fun r_116 => rd_go_116b N bc bs Q a0 r_116)
theorem rd_go_116_v {l : Launch} {g : cx_G} {X : cx_X} {N : dNt} {bc bs : Nat} {Q : cd_Qt} {a0 : Nat} (H : dR l g N.2) (hX : X.2.2.2.2.2.2.1.name = "go") : ∀ (f : Nat) (M : cx_M) (P : dP) (L : dL) (k n : Nat) (x2 : Nat), (k ≤ bc ∧ n ≤ bs) → rd_go_116 N bc bs Q a0 f M P L k n x2 → cq_V l (dG g L P) X (esX11_go bc bs) cX11_go 116 [(0, .ref a0), (2, .ref x2)] [] M k n (cd_fin g X (esX11_go bc bs) cd_rV Q) :=
  cx_fixI (fun (r : cx_M → dP → dL → Nat → Nat → Nat → Prop) => ∀ (M : cx_M) (P : dP) (L : dL) (k n : Nat) (x2 : Nat), (k ≤ bc ∧ n ≤ bs) → r M P L k n x2 → cq_V l (dG g L P) X (esX11_go bc bs) cX11_go 116 [(0, .ref a0), (2, .ref x2)] [] M k n (cd_fin g X (esX11_go bc bs) cd_rV Q)) (fun _ _ _ _ _ _ _ h => by cases h) (fun r hr M P L k n x2 hk h => rd_go_116b_v H hX hr M P L k n x2 hk h)
def rd_go_246 (N : dNt) (bc bs : Nat) (Q : cd_Qt) (a0 : Nat) (r_196 : cx_M → dP → dL → Nat → Nat → Prop) (M : cx_M) (P : dP) (L : dL) (k n : Nat) : Prop :=
  (a0, (0, 10, 0)) ∈ L ∧ cq_get M (dc a0) 2 fun v1 =>
  (a0, (0, 10, 0)) ∈ L ∧ cq_put M (dc a0) 2 (v1 + 1) fun M2 =>
  r_196 M2 P L k n
set_option maxRecDepth 100000 in
theorem rd_go_246_v {l : Launch} {g : cx_G} {X : cx_X} {N : dNt} {bc bs : Nat} {Q : cd_Qt} {a0 : Nat} {r_196 : cx_M → dP → dL → Nat → Nat → Prop} (H : dR l g N.2) (hX : X.2.2.2.2.2.2.1.name = "go") (hr_196 : ∀ (M : cx_M) (P : dP) (L : dL) (k n : Nat), (k ≤ bc ∧ n ≤ bs) → r_196 M P L k n → cq_V l (dG g L P) X (esX11_go bc bs) cX11_go 196 [(0, .ref a0)] [] M k n (cd_fin g X (esX11_go bc bs) cd_rV Q)) (M : cx_M) (P : dP) (L : dL) (k n : Nat) (hk : k ≤ bc ∧ n ≤ bs) (h : rd_go_246 N bc bs Q a0 r_196 M P L k n) : cq_V l (dG g L P) X (esX11_go bc bs) cX11_go 246 [(0, .ref a0)] [] M k n (cd_fin g X (esX11_go bc bs) cd_rV Q) := by
  unfold rd_go_246 at h
  refine cq_aload_n 0 dX11_go_246 rfl ?_
  refine cq_dup dX11_go_247 rfl ?_
  refine cq_nd H.1.1.1 (fun hn => cq_getI h.2 (dG_FI H.1.1.1 hn h.1 dCl_X11 (cx_lt rfl) rfl rfl rfl) q1454 dX11_go_248 (fun v1 h => ?_))
  refine cq_iconst 1 dX11_go_251 cx_ic_1 ?_
  refine cq_iadd dX11_go_252 ?_
  refine cq_nd H.1.1.1 (fun hn => cq_putI h.2 (dG_FI H.1.1.1 hn h.1 dCl_X11 (cx_lt rfl) rfl rfl rfl) rfl rfl rfl q1454 dX11_go_253 (fun M2 h => ?_))
  refine cq_goto 196 dX11_go_256 rfl ?_
  exact hr_196 M2 P L k n hk h
def rd_go_278 (N : dNt) (bc bs : Nat) (Q : cd_Qt) (a0 : Nat) (M : cx_M) (P : dP) (L : dL) (k n : Nat) (z1 : Int32) : Prop :=
  cq_bl z1 <|
  (a0, (0, 10, 0)) ∈ L ∧ cq_put M (dc a0) 5 z1 fun M1 =>
  (a0, (0, 10, 0)) ∈ L ∧ cd_put P a0 6 (some ((N.2 9211))) fun P2 =>
  Q M1 P2 L 0 none 0 k n
set_option maxRecDepth 100000 in
theorem rd_go_278_v {l : Launch} {g : cx_G} {X : cx_X} {N : dNt} {bc bs : Nat} {Q : cd_Qt} {a0 : Nat} (H : dR l g N.2) (hX : X.2.2.2.2.2.2.1.name = "go") (M : cx_M) (P : dP) (L : dL) (k n : Nat) (z1 : Int32) (hk : k ≤ bc ∧ n ≤ bs) (h : rd_go_278 N bc bs Q a0 M P L k n z1) : cq_V l (dG g L P) X (esX11_go bc bs) cX11_go 278 [(0, .ref a0)] [.int z1, .ref a0] M k n (cd_fin g X (esX11_go bc bs) cd_rV Q) := by
  unfold rd_go_278 at h
  refine cd_blG h (fun hz h => ?_)
  refine cq_nd H.1.1.1 (fun hn => cq_putI h.2 (dG_FI H.1.1.1 hn h.1 dCl_X11 (cx_lt rfl) rfl rfl rfl) hz.1 hz.2.1 rfl q1457 dX11_go_278 (fun M1 h => ?_))
  refine cq_aload_n 0 dX11_go_281 rfl ?_
  refine cq_gets (dR_s1 H) q1429 dX11_go_282 ?_
  refine cq_nd H.1.1.1 (fun hn => cd_putR (v := (some ((N.2 9211)))) H.1.1.1 hn h.1 h.2 dCl_X11 (cx_lt rfl) rfl rfl rfl cd_nfO rfl q1458 dX11_go_285 (fun P2 h => ?_))
  refine cq_goto 340 dX11_go_288 rfl ?_
  exact cd_vret hk h rfl dX11_go_340
def rd_go_196b (N : dNt) (bc bs : Nat) (Q : cd_Qt) (a0 : Nat) (r_196 : cx_M → dP → dL → Nat → Nat → Prop) (M : cx_M) (P : dP) (L : dL) (k n : Nat) : Prop :=
  (a0, (0, 10, 0)) ∈ L ∧ cq_get M (dc a0) 2 fun v1 =>
  (a0, (0, 10, 0)) ∈ L ∧
  rd_byteAt N (bc - k) (bs - n) M P L a0 v1 (fun M2 P3 L4 v5 r6 e9 k7 n8 => e9 = 0 → cd_add k k7 n n8 fun k9 n10 =>
  rd_isDigit N (bc - k9) (bs - n10) M2 P3 L4 v5 (fun M11 P12 L13 v14 r15 e9 k16 n17 => e9 = 0 → cd_add k9 k16 n10 n17 fun k18 n19 =>
  if v14 = 0 then (
    (a0, (0, 10, 0)) ∈ L13 ∧ cq_get M11 (dc a0) 2 fun v20 =>
    (a0, (0, 10, 0)) ∈ L13 ∧ cq_get M11 (dc a0) 3 fun v21 =>
    if (v20 - v21) ≤ 4 then (
      rd_go_278 N bc bs Q a0 M11 P12 L13 k18 n19 0)
    else (
      rd_go_278 N bc bs Q a0 M11 P12 L13 k18 n19 1))
  else (
    (a0, (0, 10, 0)) ∈ L13 ∧ cq_get M11 (dc a0) 2 fun v22 =>
    (a0, (0, 10, 0)) ∈ L13 ∧ cq_get M11 (dc a0) 3 fun v23 =>
    if 4 ≤ (v22 - v23) then (
      rd_go_246 N bc bs Q a0 r_196 M11 P12 L13 k18 n19)
    else (
      (a0, (0, 10, 0)) ∈ L13 ∧ cq_get M11 (dc a0) 4 fun v24 =>
      (a0, (0, 10, 0)) ∈ L13 ∧ cq_get M11 (dc a0) 2 fun v25 =>
      (a0, (0, 10, 0)) ∈ L13 ∧
      rd_byteAt N (bc - k18) (bs - n19) M11 P12 L13 a0 v25 (fun M26 P27 L28 v29 r30 e9 k31 n32 => e9 = 0 → cd_add k18 k31 n19 n32 fun k33 n34 =>
      (a0, (0, 10, 0)) ∈ L28 ∧ cq_put M26 (dc a0) 4 ((((10 : Int32) * v24) + v29) - 48) fun M35 =>
      rd_go_246 N bc bs Q a0 r_196 M35 P27 L28 k33 n34)))))
set_option maxRecDepth 100000 in
theorem rd_go_196b_v {l : Launch} {g : cx_G} {X : cx_X} {N : dNt} {bc bs : Nat} {Q : cd_Qt} {a0 : Nat} {r_196 : cx_M → dP → dL → Nat → Nat → Prop} (H : dR l g N.2) (hX : X.2.2.2.2.2.2.1.name = "go") (hr_196 : ∀ (M : cx_M) (P : dP) (L : dL) (k n : Nat), (k ≤ bc ∧ n ≤ bs) → r_196 M P L k n → cq_V l (dG g L P) X (esX11_go bc bs) cX11_go 196 [(0, .ref a0)] [] M k n (cd_fin g X (esX11_go bc bs) cd_rV Q)) (M : cx_M) (P : dP) (L : dL) (k n : Nat) (hk : k ≤ bc ∧ n ≤ bs) (h : rd_go_196b N bc bs Q a0 r_196 M P L k n) : cq_V l (dG g L P) X (esX11_go bc bs) cX11_go 196 [(0, .ref a0)] [] M k n (cd_fin g X (esX11_go bc bs) cd_rV Q) := by
  unfold rd_go_196b at h
  refine cq_aload_n 0 dX11_go_196 rfl ?_
  refine cq_aload_n 0 dX11_go_197 rfl ?_
  refine cq_nd H.1.1.1 (fun hn => cq_getI h.2 (dG_FI H.1.1.1 hn h.1 dCl_X11 (cx_lt rfl) rfl rfl rfl) q1454 dX11_go_198 (fun v1 h => ?_))
  obtain ⟨hmr, h⟩ := h
  refine cd_cV [.int v1] [] (rd_byteAt_m H (N := N) (bc := bc - k) (bs := bs - n) M P L a0 v1 h) (dG_Rc H.1.1.1 hmr dCl_X11) dX11_go_201 gd_X11_38 hgd_X11_38 ⟨cx_le rfl, cx_le rfl⟩ (cd_bud hk) rfl (cx_le rfl) (fun M2 P3 L4 v5 r6 k7 n8 hk2 h => ?_)
  refine cd_addI (h rfl) (cd_bk hk hk2) (fun k9 n10 h hk => ?_)
  refine cd_cS [.int v5] [] (rd_isDigit_m H (N := N) (bc := bc - k9) (bs := bs - n10) M2 P3 L4 v5 h) dX11_go_204 gd_X11_82 hgd_X11_82 ⟨cx_le rfl, cx_le rfl⟩ (cd_bud hk) rfl (cx_le rfl) (fun M11 P12 L13 v14 r15 k16 n17 hk2 h => ?_)
  refine cd_addI (h rfl) (cd_bk hk hk2) (fun k18 n19 h hk => ?_)
  refine cq_if_eq 259 h dX11_go_207 rfl (fun h => ?_) (fun h => ?_)
  · refine cq_aload_n 0 dX11_go_259 rfl ?_
    refine cq_aload_n 0 dX11_go_260 rfl ?_
    refine cq_nd H.1.1.1 (fun hn => cq_getI h.2 (dG_FI H.1.1.1 hn h.1 dCl_X11 (cx_lt rfl) rfl rfl rfl) q1454 dX11_go_261 (fun v20 h => ?_))
    refine cq_aload_n 0 dX11_go_264 rfl ?_
    refine cq_nd H.1.1.1 (fun hn => cq_getI h.2 (dG_FI H.1.1.1 hn h.1 dCl_X11 (cx_lt rfl) rfl rfl rfl) q1455 dX11_go_265 (fun v21 h => ?_))
    refine cq_isub dX11_go_268 ?_
    refine cq_iconst 4 dX11_go_269 cx_ic_4 ?_
    refine cq_icmp_le 277 h dX11_go_270 rfl (fun h => ?_) (fun h => ?_)
    · refine cq_iconst 0 dX11_go_277 cx_ic_0 ?_
      exact rd_go_278_v H hX M11 P12 L13 k18 n19 0 hk h
    · refine cq_iconst 1 dX11_go_273 cx_ic_1 ?_
      refine cq_goto 278 dX11_go_274 rfl ?_
      exact rd_go_278_v H hX M11 P12 L13 k18 n19 1 hk h
  · refine cq_aload_n 0 dX11_go_210 rfl ?_
    refine cq_nd H.1.1.1 (fun hn => cq_getI h.2 (dG_FI H.1.1.1 hn h.1 dCl_X11 (cx_lt rfl) rfl rfl rfl) q1454 dX11_go_211 (fun v22 h => ?_))
    refine cq_aload_n 0 dX11_go_214 rfl ?_
    refine cq_nd H.1.1.1 (fun hn => cq_getI h.2 (dG_FI H.1.1.1 hn h.1 dCl_X11 (cx_lt rfl) rfl rfl rfl) q1455 dX11_go_215 (fun v23 h => ?_))
    refine cq_isub dX11_go_218 ?_
    refine cq_iconst 4 dX11_go_219 cx_ic_4 ?_
    refine cq_icmp_ge 246 h dX11_go_220 rfl (fun h => ?_) (fun h => ?_)
    · exact rd_go_246_v H hX hr_196 M11 P12 L13 k18 n19 hk h
    · refine cq_aload_n 0 dX11_go_223 rfl ?_
      refine cq_bipush 10 dX11_go_224 cx_bp_10 ?_
      refine cq_aload_n 0 dX11_go_226 rfl ?_
      refine cq_nd H.1.1.1 (fun hn => cq_getI h.2 (dG_FI H.1.1.1 hn h.1 dCl_X11 (cx_lt rfl) rfl rfl rfl) q1456 dX11_go_227 (fun v24 h => ?_))
      refine cq_imul dX11_go_230 ?_
      refine cq_aload_n 0 dX11_go_231 rfl ?_
      refine cq_aload_n 0 dX11_go_232 rfl ?_
      refine cq_nd H.1.1.1 (fun hn => cq_getI h.2 (dG_FI H.1.1.1 hn h.1 dCl_X11 (cx_lt rfl) rfl rfl rfl) q1454 dX11_go_233 (fun v25 h => ?_))
      obtain ⟨hmr, h⟩ := h
      refine cd_cV [.int v25] [.int ((10 : Int32) * v24), .ref a0] (rd_byteAt_m H (N := N) (bc := bc - k18) (bs := bs - n19) M11 P12 L13 a0 v25 h) (dG_Rc H.1.1.1 hmr dCl_X11) dX11_go_236 gd_X11_38 hgd_X11_38 ⟨cx_le rfl, cx_le rfl⟩ (cd_bud hk) rfl (cx_le rfl) (fun M26 P27 L28 v29 r30 k31 n32 hk2 h => ?_)
      refine cd_addI (h rfl) (cd_bk hk hk2) (fun k33 n34 h hk => ?_)
      refine cq_iadd dX11_go_239 ?_
      refine cq_bipush 48 dX11_go_240 cx_bp_48 ?_
      refine cq_isub dX11_go_242 ?_
      refine cq_nd H.1.1.1 (fun hn => cq_putI h.2 (dG_FI H.1.1.1 hn h.1 dCl_X11 (cx_lt rfl) rfl rfl rfl) rfl rfl rfl q1456 dX11_go_243 (fun M35 h => ?_))
      exact rd_go_246_v H hX hr_196 M35 P27 L28 k33 n34 hk h
def rd_go_196 (N : dNt) (bc bs : Nat) (Q : cd_Qt) (a0 : Nat) : Nat → cx_M → dP → dL → Nat → Nat → Prop :=
  cx_fix (fun _ _ _ _ _ => False) (fun r_196 => rd_go_196b N bc bs Q a0 r_196)
theorem rd_go_196_v {l : Launch} {g : cx_G} {X : cx_X} {N : dNt} {bc bs : Nat} {Q : cd_Qt} {a0 : Nat} (H : dR l g N.2) (hX : X.2.2.2.2.2.2.1.name = "go") : ∀ (f : Nat) (M : cx_M) (P : dP) (L : dL) (k n : Nat), (k ≤ bc ∧ n ≤ bs) → rd_go_196 N bc bs Q a0 f M P L k n → cq_V l (dG g L P) X (esX11_go bc bs) cX11_go 196 [(0, .ref a0)] [] M k n (cd_fin g X (esX11_go bc bs) cd_rV Q) :=
  cx_fixI (fun (r : cx_M → dP → dL → Nat → Nat → Prop) => ∀ (M : cx_M) (P : dP) (L : dL) (k n : Nat), (k ≤ bc ∧ n ≤ bs) → r M P L k n → cq_V l (dG g L P) X (esX11_go bc bs) cX11_go 196 [(0, .ref a0)] [] M k n (cd_fin g X (esX11_go bc bs) cd_rV Q)) (fun _ _ _ _ _ _ h => by cases h) (fun r hr M P L k n hk h => rd_go_196b_v H hX hr M P L k n hk h)
def rd_go_330 (N : dNt) (bc bs : Nat) (Q : cd_Qt) (a0 : Nat) (M : cx_M) (P : dP) (L : dL) (k n : Nat) : Prop :=
  (a0, (0, 10, 0)) ∈ L ∧ cq_get M (dc a0) 2 fun v1 =>
  (a0, (0, 10, 0)) ∈ L ∧ cq_put M (dc a0) 2 (v1 + 1) fun M2 =>
  Q M2 P L 0 none 0 k n
set_option maxRecDepth 100000 in
theorem rd_go_330_v {l : Launch} {g : cx_G} {X : cx_X} {N : dNt} {bc bs : Nat} {Q : cd_Qt} {a0 : Nat} (H : dR l g N.2) (hX : X.2.2.2.2.2.2.1.name = "go") (M : cx_M) (P : dP) (L : dL) (k n : Nat) (hk : k ≤ bc ∧ n ≤ bs) (h : rd_go_330 N bc bs Q a0 M P L k n) : cq_V l (dG g L P) X (esX11_go bc bs) cX11_go 330 [(0, .ref a0)] [] M k n (cd_fin g X (esX11_go bc bs) cd_rV Q) := by
  unfold rd_go_330 at h
  refine cq_aload_n 0 dX11_go_330 rfl ?_
  refine cq_dup dX11_go_331 rfl ?_
  refine cq_nd H.1.1.1 (fun hn => cq_getI h.2 (dG_FI H.1.1.1 hn h.1 dCl_X11 (cx_lt rfl) rfl rfl rfl) q1454 dX11_go_332 (fun v1 h => ?_))
  refine cq_iconst 1 dX11_go_335 cx_ic_1 ?_
  refine cq_iadd dX11_go_336 ?_
  refine cq_nd H.1.1.1 (fun hn => cq_putI h.2 (dG_FI H.1.1.1 hn h.1 dCl_X11 (cx_lt rfl) rfl rfl rfl) rfl rfl rfl q1454 dX11_go_337 (fun M2 h => ?_))
  exact cd_vret hk h rfl dX11_go_340
def rd_go_308 (N : dNt) (bc bs : Nat) (Q : cd_Qt) (a0 : Nat) (M : cx_M) (P : dP) (L : dL) (k n : Nat) (x1 : Int32) (z1 : Nat) : Prop :=
  (a0, (0, 10, 0)) ∈ L ∧ cd_put P a0 6 (some z1) fun P1 =>
  (a0, (0, 10, 0)) ∈ L ∧ cd_let (P1 a0 6) fun r2 =>
  if r2 = (some ((N.2 9212))) then (
    jS_valueOf N.1 (bc - k) (bs - n) M P1 L (cx_char x1) (fun M3 P4 L5 v6 r7 e9 k8 n9 => e9 = 0 → cd_add k k8 n n9 fun k10 n11 =>
    (a0, (0, 10, 0)) ∈ L5 ∧ cd_put P4 a0 7 r7 fun P12 =>
    rd_go_330 N bc bs Q a0 M3 P12 L5 k10 n11))
  else (
    rd_go_330 N bc bs Q a0 M P1 L k n)
set_option maxRecDepth 100000 in
theorem rd_go_308_v {l : Launch} {g : cx_G} {X : cx_X} {N : dNt} {bc bs : Nat} {Q : cd_Qt} {a0 : Nat} (H : dR l g N.2) (hX : X.2.2.2.2.2.2.1.name = "go") (M : cx_M) (P : dP) (L : dL) (k n : Nat) (x1 : Int32) (z1 : Nat) (hk : k ≤ bc ∧ n ≤ bs) (h : rd_go_308 N bc bs Q a0 M P L k n x1 z1) : cq_V l (dG g L P) X (esX11_go bc bs) cX11_go 308 [(0, .ref a0), (1, .int x1)] [.ref z1, .ref a0] M k n (cd_fin g X (esX11_go bc bs) cd_rV Q) := by
  unfold rd_go_308 at h
  refine cq_nd H.1.1.1 (fun hn => cd_putR (v := (some z1)) H.1.1.1 hn h.1 h.2 dCl_X11 (cx_lt rfl) rfl rfl rfl cd_nfO rfl q1458 dX11_go_308 (fun P1 h => ?_))
  refine cq_aload_n 0 dX11_go_311 rfl ?_
  refine cq_getR (dG_FR (k := 6) H.1.1.1 h.1 dCl_X11 (cx_lt rfl) rfl rfl) q1458 dX11_go_312 ?_
  refine cd_letI h.2 (fun r2 h => ?_)
  refine cq_gets (dR_s2 H) q1434 dX11_go_315 ?_
  refine cd_acmp_ne (rx := r2) (ry := (some ((N.2 9212)))) 330 h dX11_go_318 rfl (fun h => ?_) (fun h => ?_)
  · refine cq_sub (lv' := [(0, .ref a0)]) [0] rfl ?_
    exact rd_go_330_v H hX M P1 L k n hk h
  · refine cq_aload_n 0 dX11_go_321 rfl ?_
    refine cq_iload_n 1 dX11_go_322 rfl ?_
    refine cq_i2c dX11_go_323 ?_
    refine cd_cS [.int (cx_char x1)] [.ref a0] (jS_valueOf_m H.1.1 (N := N.1) (bc := bc - k) (bs := bs - n) M P1 L (cx_char x1) h) dX11_go_324 gd_X11_100 hgd_X11_100 ⟨cx_le rfl, cx_le rfl⟩ (cd_bud hk) rfl (cx_le rfl) (fun M3 P4 L5 v6 r7 k8 n9 hk2 h => ?_)
    refine cd_addI (h rfl) (cd_bk hk hk2) (fun k10 n11 h hk => ?_)
    refine cq_nd H.1.1.1 (fun hn => cd_putR (v := r7) H.1.1.1 hn h.1 h.2 dCl_X11 (cx_lt rfl) rfl rfl rfl cd_nfO rfl q1459 dX11_go_327 (fun P12 h => ?_))
    refine cq_sub (lv' := [(0, .ref a0)]) [0] rfl ?_
    exact rd_go_330_v H hX M3 P12 L5 k10 n11 hk h
def rd_go_50 (N : dNt) (bc bs : Nat) (Q : cd_Qt) (a0 : Nat) (M : cx_M) (P : dP) (L : dL) (k n : Nat) : Prop :=
  (a0, (0, 10, 0)) ∈ L ∧ cq_get M (dc a0) 2 fun v1 =>
  (a0, (0, 10, 0)) ∈ L ∧ cq_put M (dc a0) 3 v1 fun M2 =>
  (a0, (0, 10, 0)) ∈ L ∧ cd_put P a0 7 (some ((N.2 (1100000 + 0)))) fun P3 =>
  (a0, (0, 10, 0)) ∈ L ∧ cq_put M2 (dc a0) 5 0 fun M4 =>
  (a0, (0, 10, 0)) ∈ L ∧ cq_get M4 (dc a0) 2 fun v5 =>
  (a0, (0, 10, 0)) ∈ L ∧
  rd_byteAt N (bc - k) (bs - n) M4 P3 L a0 v5 (fun M6 P7 L8 v9 r10 e9 k11 n12 => e9 = 0 → cd_add k k11 n n12 fun k13 n14 =>
  (a0, (0, 10, 0)) ∈ L8 ∧ cq_get M6 (dc a0) 2 fun v15 =>
  (a0, (0, 10, 0)) ∈ L8 ∧ cq_get M6 (dc a0) 1 fun v16 =>
  if v15 < v16 then (
    rd_isLetter N (bc - k13) (bs - n14) M6 P7 L8 v9 (fun M17 P18 L19 v20 r21 e9 k22 n23 => e9 = 0 → cd_add k13 k22 n14 n23 fun k24 n25 =>
    if v20 = 0 then (
      rd_isDigit N (bc - k24) (bs - n25) M17 P18 L19 v9 (fun M26 P27 L28 v29 r30 e9 k31 n32 => e9 = 0 → cd_add k24 k31 n25 n32 fun k33 n34 =>
      if v29 = 0 then (
        rd_isSign N (bc - k33) (bs - n34) M26 P27 L28 v9 (fun M35 P36 L37 v38 r39 e9 k40 n41 => e9 = 0 → cd_add k33 k40 n34 n41 fun k42 n43 =>
        if v38 = 0 then (
          rd_go_308 N bc bs Q a0 M35 P36 L37 k42 n43 v9 ((N.2 9213)))
        else (
          rd_go_308 N bc bs Q a0 M35 P36 L37 k42 n43 v9 ((N.2 9212)))))
      else (
        (a0, (0, 10, 0)) ∈ L28 ∧ cq_put M26 (dc a0) 4 0 fun M44 =>
        rd_go_196 N bc bs Q a0 N.1 M44 P27 L28 k33 n34)))
    else (
      cd_new bc bs k24 n25 4 (0, 18, 0) M17 P18 L19 fun a45 M46 P47 L48 k49 n50 =>
      jB_init_2 N.1 (bc - k49) (bs - n50) M46 P47 L48 a45 9 (fun M51 P52 L53 v54 r55 e9 k56 n57 => e9 = 0 → cd_add k49 k56 n50 n57 fun k58 n59 =>
      rd_go_116 N bc bs Q a0 N.1 M51 P52 L53 k58 n59 a45))))
  else (
    (a0, (0, 10, 0)) ∈ L8 ∧ cd_put P7 a0 6 (some ((N.2 9214))) fun P60 =>
    Q M6 P60 L8 0 none 0 k13 n14))
set_option maxRecDepth 100000 in
theorem rd_go_50_v {l : Launch} {g : cx_G} {X : cx_X} {N : dNt} {bc bs : Nat} {Q : cd_Qt} {a0 : Nat} (H : dR l g N.2) (hX : X.2.2.2.2.2.2.1.name = "go") (M : cx_M) (P : dP) (L : dL) (k n : Nat) (hk : k ≤ bc ∧ n ≤ bs) (h : rd_go_50 N bc bs Q a0 M P L k n) : cq_V l (dG g L P) X (esX11_go bc bs) cX11_go 50 [(0, .ref a0)] [] M k n (cd_fin g X (esX11_go bc bs) cd_rV Q) := by
  unfold rd_go_50 at h
  refine cq_aload_n 0 dX11_go_50 rfl ?_
  refine cq_aload_n 0 dX11_go_51 rfl ?_
  refine cq_nd H.1.1.1 (fun hn => cq_getI h.2 (dG_FI H.1.1.1 hn h.1 dCl_X11 (cx_lt rfl) rfl rfl rfl) q1454 dX11_go_52 (fun v1 h => ?_))
  refine cq_nd H.1.1.1 (fun hn => cq_putI h.2 (dG_FI H.1.1.1 hn h.1 dCl_X11 (cx_lt rfl) rfl rfl rfl) rfl rfl rfl q1455 dX11_go_55 (fun M2 h => ?_))
  refine cq_aload_n 0 dX11_go_58 rfl ?_
  refine cq_ldcS (dR_k9 H) dX11_go_59 ?_
  refine cq_nd H.1.1.1 (fun hn => cd_putR (v := (some ((N.2 (1100000 + 0))))) H.1.1.1 hn h.1 h.2 dCl_X11 (cx_lt rfl) rfl rfl rfl cd_nfO rfl q1459 dX11_go_61 (fun P3 h => ?_))
  refine cq_aload_n 0 dX11_go_64 rfl ?_
  refine cq_iconst 0 dX11_go_65 cx_ic_0 ?_
  refine cq_nd H.1.1.1 (fun hn => cq_putI h.2 (dG_FI H.1.1.1 hn h.1 dCl_X11 (cx_lt rfl) rfl rfl rfl) cx_z_0 cx_f_0 rfl q1457 dX11_go_66 (fun M4 h => ?_))
  refine cq_aload_n 0 dX11_go_69 rfl ?_
  refine cq_aload_n 0 dX11_go_70 rfl ?_
  refine cq_nd H.1.1.1 (fun hn => cq_getI h.2 (dG_FI H.1.1.1 hn h.1 dCl_X11 (cx_lt rfl) rfl rfl rfl) q1454 dX11_go_71 (fun v5 h => ?_))
  obtain ⟨hmr, h⟩ := h
  refine cd_cV [.int v5] [] (rd_byteAt_m H (N := N) (bc := bc - k) (bs := bs - n) M4 P3 L a0 v5 h) (dG_Rc H.1.1.1 hmr dCl_X11) dX11_go_74 gd_X11_38 hgd_X11_38 ⟨cx_le rfl, cx_le rfl⟩ (cd_bud hk) rfl (cx_le rfl) (fun M6 P7 L8 v9 r10 k11 n12 hk2 h => ?_)
  refine cd_addI (h rfl) (cd_bk hk hk2) (fun k13 n14 h hk => ?_)
  refine cq_istore_n [(1, .int v9), (0, .ref a0)] dX11_go_77 (cx_lt rfl) rfl ?_
  refine cq_aload_n 1 dX11_go_78 rfl ?_
  refine cq_nd H.1.1.1 (fun hn => cq_getI h.2 (dG_FI H.1.1.1 hn h.1 dCl_X11 (cx_lt rfl) rfl rfl rfl) q1454 dX11_go_79 (fun v15 h => ?_))
  refine cq_aload_n 1 dX11_go_82 rfl ?_
  refine cq_nd H.1.1.1 (fun hn => cq_getI h.2 (dG_FI H.1.1.1 hn h.1 dCl_X11 (cx_lt rfl) rfl rfl rfl) q1453 dX11_go_83 (fun v16 h => ?_))
  refine cq_icmp_lt 99 h dX11_go_86 rfl (fun h => ?_) (fun h => ?_)
  · refine cq_iload_n 0 dX11_go_99 rfl ?_
    refine cd_cS [.int v9] [] (rd_isLetter_m H (N := N) (bc := bc - k13) (bs := bs - n14) M6 P7 L8 v9 h) dX11_go_100 gd_X11_58 hgd_X11_58 ⟨cx_le rfl, cx_le rfl⟩ (cd_bud hk) rfl (cx_le rfl) (fun M17 P18 L19 v20 r21 k22 n23 hk2 h => ?_)
    refine cd_addI (h rfl) (cd_bk hk hk2) (fun k24 n25 h hk => ?_)
    refine cq_if_eq 184 h dX11_go_103 rfl (fun h => ?_) (fun h => ?_)
    · refine cq_iload_n 0 dX11_go_184 rfl ?_
      refine cd_cS [.int v9] [] (rd_isDigit_m H (N := N) (bc := bc - k24) (bs := bs - n25) M17 P18 L19 v9 h) dX11_go_185 gd_X11_82 hgd_X11_82 ⟨cx_le rfl, cx_le rfl⟩ (cd_bud hk) rfl (cx_le rfl) (fun M26 P27 L28 v29 r30 k31 n32 hk2 h => ?_)
      refine cd_addI (h rfl) (cd_bk hk hk2) (fun k33 n34 h hk => ?_)
      refine cq_if_eq 291 h dX11_go_188 rfl (fun h => ?_) (fun h => ?_)
      · refine cq_aload_n 1 dX11_go_291 rfl ?_
        refine cq_iload_n 0 dX11_go_292 rfl ?_
        refine cd_cS [.int v9] [.ref a0] (rd_isSign_m H (N := N) (bc := bc - k33) (bs := bs - n34) M26 P27 L28 v9 h) dX11_go_293 gd_X11_91 hgd_X11_91 ⟨cx_le rfl, cx_le rfl⟩ (cd_bud hk) rfl (cx_le rfl) (fun M35 P36 L37 v38 r39 k40 n41 hk2 h => ?_)
        refine cd_addI (h rfl) (cd_bk hk hk2) (fun k42 n43 h hk => ?_)
        refine cq_if_eq 305 h dX11_go_296 rfl (fun h => ?_) (fun h => ?_)
        · refine cq_gets (dR_s3 H) q1436 dX11_go_305 ?_
          refine cq_sub (lv' := [(0, .ref a0), (1, .int v9)]) [1, 0] rfl ?_
          exact rd_go_308_v H hX M35 P36 L37 k42 n43 v9 ((N.2 9213)) hk h
        · refine cq_gets (dR_s2 H) q1434 dX11_go_299 ?_
          refine cq_goto 308 dX11_go_302 rfl ?_
          refine cq_sub (lv' := [(0, .ref a0), (1, .int v9)]) [1, 0] rfl ?_
          exact rd_go_308_v H hX M35 P36 L37 k42 n43 v9 ((N.2 9212)) hk h
      · refine cq_aload_n 1 dX11_go_191 rfl ?_
        refine cq_iconst 0 dX11_go_192 cx_ic_0 ?_
        refine cq_nd H.1.1.1 (fun hn => cq_putI h.2 (dG_FI H.1.1.1 hn h.1 dCl_X11 (cx_lt rfl) rfl rfl rfl) rfl rfl rfl q1456 dX11_go_193 (fun M44 h => ?_))
        refine cq_sub (lv' := [(0, .ref a0)]) [1] rfl ?_
        exact rd_go_196_v H hX N.1 M44 P27 L28 k33 n34 hk h
    · refine cd_newO H.1.1.1 h ⟨rfl, rfl⟩ dCl_J8 dDf_J8 q1398 q244 q126 dX11_go_106 (fun a45 M46 P47 L48 k49 n50 h hk => ?_)
      refine cq_dup dX11_go_109 rfl ?_
      refine cq_bipush 9 dX11_go_110 cx_bp_9 ?_
      refine cd_cI [.int 9] [.ref a45] (jB_init_2_m H.1.1 (N := N.1) (bc := bc - k49) (bs := bs - n50) M46 P47 L48 a45 9 h) dX11_go_112 gd_X11_64 rfl q126 q1399 q1400 rfl hgd_X11_64 ⟨cx_le rfl, cx_le rfl⟩ (cd_bud hk) rfl (cx_le rfl) (fun M51 P52 L53 v54 r55 k56 n57 hk2 h => ?_)
      refine cd_addI (h rfl) (cd_bk hk hk2) (fun k58 n59 h hk => ?_)
      refine cq_astore_n [(2, .ref a45), (1, .int v9), (0, .ref a0)] dX11_go_115 (cx_lt rfl) rfl ?_
      refine cq_sub (lv' := [(0, .ref a0), (2, .ref a45)]) [2, 0] rfl ?_
      exact rd_go_116_v H hX N.1 M51 P52 L53 k58 n59 a45 hk h
  · refine cq_aload_n 1 dX11_go_89 rfl ?_
    refine cq_gets (dR_s4 H) q1393 dX11_go_90 ?_
    refine cq_nd H.1.1.1 (fun hn => cd_putR (v := (some ((N.2 9214)))) H.1.1.1 hn h.1 h.2 dCl_X11 (cx_lt rfl) rfl rfl rfl cd_nfO rfl q1458 dX11_go_93 (fun P60 h => ?_))
    refine cq_goto 340 dX11_go_96 rfl ?_
    exact cd_vret hk h rfl dX11_go_340
def rd_go_0b (N : dNt) (bc bs : Nat) (Q : cd_Qt) (a0 : Nat) (r_0 : cx_M → dP → dL → Nat → Nat → Prop) (M : cx_M) (P : dP) (L : dL) (k n : Nat) : Prop :=
  (a0, (0, 10, 0)) ∈ L ∧ cq_get M (dc a0) 2 fun v1 =>
  (a0, (0, 10, 0)) ∈ L ∧ cq_get M (dc a0) 1 fun v2 =>
  if v2 ≤ v1 then (
    rd_go_50 N bc bs Q a0 M P L k n)
  else (
    (a0, (0, 10, 0)) ∈ L ∧ cq_get M (dc a0) 2 fun v3 =>
    (a0, (0, 10, 0)) ∈ L ∧
    rd_byteAt N (bc - k) (bs - n) M P L a0 v3 (fun M4 P5 L6 v7 r8 e9 k9 n10 => e9 = 0 → cd_add k k9 n n10 fun k11 n12 =>
    if v7 = 32 then (
      rd_go_37 N bc bs Q a0 r_0 M4 P5 L6 k11 n12)
    else (
      (a0, (0, 10, 0)) ∈ L6 ∧ cq_get M4 (dc a0) 2 fun v13 =>
      (a0, (0, 10, 0)) ∈ L6 ∧
      rd_byteAt N (bc - k11) (bs - n12) M4 P5 L6 a0 v13 (fun M14 P15 L16 v17 r18 e9 k19 n20 => e9 = 0 → cd_add k11 k19 n12 n20 fun k21 n22 =>
      if v17 = 10 then (
        rd_go_37 N bc bs Q a0 r_0 M14 P15 L16 k21 n22)
      else (
        rd_go_50 N bc bs Q a0 M14 P15 L16 k21 n22)))))
set_option maxRecDepth 100000 in
theorem rd_go_0b_v {l : Launch} {g : cx_G} {X : cx_X} {N : dNt} {bc bs : Nat} {Q : cd_Qt} {a0 : Nat} {r_0 : cx_M → dP → dL → Nat → Nat → Prop} (H : dR l g N.2) (hX : X.2.2.2.2.2.2.1.name = "go") (hr_0 : ∀ (M : cx_M) (P : dP) (L : dL) (k n : Nat), (k ≤ bc ∧ n ≤ bs) → r_0 M P L k n → cq_V l (dG g L P) X (esX11_go bc bs) cX11_go 0 [(0, .ref a0)] [] M k n (cd_fin g X (esX11_go bc bs) cd_rV Q)) (M : cx_M) (P : dP) (L : dL) (k n : Nat) (hk : k ≤ bc ∧ n ≤ bs) (h : rd_go_0b N bc bs Q a0 r_0 M P L k n) : cq_V l (dG g L P) X (esX11_go bc bs) cX11_go 0 [(0, .ref a0)] [] M k n (cd_fin g X (esX11_go bc bs) cd_rV Q) := by
  unfold rd_go_0b at h
  refine cq_aload_n 0 dX11_go_0 rfl ?_
  refine cq_nd H.1.1.1 (fun hn => cq_getI h.2 (dG_FI H.1.1.1 hn h.1 dCl_X11 (cx_lt rfl) rfl rfl rfl) q1454 dX11_go_1 (fun v1 h => ?_))
  refine cq_aload_n 0 dX11_go_4 rfl ?_
  refine cq_nd H.1.1.1 (fun hn => cq_getI h.2 (dG_FI H.1.1.1 hn h.1 dCl_X11 (cx_lt rfl) rfl rfl rfl) q1453 dX11_go_5 (fun v2 h => ?_))
  refine cq_icmp_ge 50 h dX11_go_8 rfl (fun h => ?_) (fun h => ?_)
  · exact rd_go_50_v H hX M P L k n hk h
  · refine cq_aload_n 0 dX11_go_11 rfl ?_
    refine cq_aload_n 0 dX11_go_12 rfl ?_
    refine cq_nd H.1.1.1 (fun hn => cq_getI h.2 (dG_FI H.1.1.1 hn h.1 dCl_X11 (cx_lt rfl) rfl rfl rfl) q1454 dX11_go_13 (fun v3 h => ?_))
    obtain ⟨hmr, h⟩ := h
    refine cd_cV [.int v3] [] (rd_byteAt_m H (N := N) (bc := bc - k) (bs := bs - n) M P L a0 v3 h) (dG_Rc H.1.1.1 hmr dCl_X11) dX11_go_16 gd_X11_38 hgd_X11_38 ⟨cx_le rfl, cx_le rfl⟩ (cd_bud hk) rfl (cx_le rfl) (fun M4 P5 L6 v7 r8 k9 n10 hk2 h => ?_)
    refine cd_addI (h rfl) (cd_bk hk hk2) (fun k11 n12 h hk => ?_)
    refine cq_bipush 32 dX11_go_19 cx_bp_32 ?_
    refine cq_icmp_eq 37 h dX11_go_21 rfl (fun h => ?_) (fun h => ?_)
    · exact rd_go_37_v H hX hr_0 M4 P5 L6 k11 n12 hk h
    · refine cq_aload_n 0 dX11_go_24 rfl ?_
      refine cq_aload_n 0 dX11_go_25 rfl ?_
      refine cq_nd H.1.1.1 (fun hn => cq_getI h.2 (dG_FI H.1.1.1 hn h.1 dCl_X11 (cx_lt rfl) rfl rfl rfl) q1454 dX11_go_26 (fun v13 h => ?_))
      obtain ⟨hmr, h⟩ := h
      refine cd_cV [.int v13] [] (rd_byteAt_m H (N := N) (bc := bc - k11) (bs := bs - n12) M4 P5 L6 a0 v13 h) (dG_Rc H.1.1.1 hmr dCl_X11) dX11_go_29 gd_X11_38 hgd_X11_38 ⟨cx_le rfl, cx_le rfl⟩ (cd_bud hk) rfl (cx_le rfl) (fun M14 P15 L16 v17 r18 k19 n20 hk2 h => ?_)
      refine cd_addI (h rfl) (cd_bk hk hk2) (fun k21 n22 h hk => ?_)
      refine cq_bipush 10 dX11_go_32 cx_bp_10 ?_
      refine cq_icmp_ne 50 h dX11_go_34 rfl (fun h => ?_) (fun h => ?_)
      · exact rd_go_50_v H hX M14 P15 L16 k21 n22 hk h
      · exact rd_go_37_v H hX hr_0 M14 P15 L16 k21 n22 hk h
def rd_go_0 (N : dNt) (bc bs : Nat) (Q : cd_Qt) (a0 : Nat) : Nat → cx_M → dP → dL → Nat → Nat → Prop :=
  cx_fix (fun _ _ _ _ _ => False) (fun r_0 => rd_go_0b N bc bs Q a0 r_0)
theorem rd_go_0_v {l : Launch} {g : cx_G} {X : cx_X} {N : dNt} {bc bs : Nat} {Q : cd_Qt} {a0 : Nat} (H : dR l g N.2) (hX : X.2.2.2.2.2.2.1.name = "go") : ∀ (f : Nat) (M : cx_M) (P : dP) (L : dL) (k n : Nat), (k ≤ bc ∧ n ≤ bs) → rd_go_0 N bc bs Q a0 f M P L k n → cq_V l (dG g L P) X (esX11_go bc bs) cX11_go 0 [(0, .ref a0)] [] M k n (cd_fin g X (esX11_go bc bs) cd_rV Q) :=
  cx_fixI (fun (r : cx_M → dP → dL → Nat → Nat → Prop) => ∀ (M : cx_M) (P : dP) (L : dL) (k n : Nat), (k ≤ bc ∧ n ≤ bs) → r M P L k n → cq_V l (dG g L P) X (esX11_go bc bs) cX11_go 0 [(0, .ref a0)] [] M k n (cd_fin g X (esX11_go bc bs) cd_rV Q)) (fun _ _ _ _ _ _ h => by cases h) (fun r hr M P L k n hk h => rd_go_0b_v H hX hr M P L k n hk h)
def rd_go (N : dNt) (bc bs : Nat) (M : cx_M) (P : dP) (L : dL) (a0 : Nat) (Q : cd_Qt) : Prop := rd_go_0 N bc bs Q a0 N.1 M P L 0 0
set_option maxRecDepth 100000 in
theorem rd_go_m {l : Launch} {g : cx_G} {N : dNt} {bc bs : Nat} {Q : cd_Qt} (H : dR l g N.2) (M : cx_M) (P : dP) (L : dL) (a0 : Nat) (h : rd_go N bc bs M P L a0 Q) : cd_Met l g yX11_go cX11_go (esX11_go bc bs) cd_rV [.ref a0] M P L Q :=
  cd_met (by decide +kernel) rfl rfl (lv := [(0, .ref a0)]) rfl (cx_le rfl) (fun X hX => cq_sub (lv' := [(0, .ref a0)]) [0] rfl (rd_go_0_v H hX N.1 M P L 0 0 ⟨Nat.zero_le _, Nat.zero_le _⟩ h))

abbrev esX11_is (bc bs : Nat) : cx_S := (2, RX11, cx_rI, { frames := 2, cells := bc, slots := bs, locals := 44 }, some .boolean, false)
def rd_is_20 (N : dNt) (bc bs : Nat) (Q : cd_Qt) (a0 : Nat) (c1 : Nat) (M : cx_M) (P : dP) (L : dL) (k n : Nat) : Prop :=
  (a0, (0, 10, 0)) ∈ L ∧ cd_let (P a0 7) fun r1 =>
  cd_nn r1 fun a2 =>
  (a2, (0, 17, 0)) ∈ L ∧
  jS_equalsC N (bc - k) (bs - n) M P L a2 c1 (fun M3 P4 L5 v6 r7 e9 k8 n9 => e9 = 0 → cd_add k k8 n n9 fun k10 n11 =>
  if v6 = 0 then (
    Q M3 P4 L5 0 none 0 k10 n11)
  else (
    Q M3 P4 L5 1 none 0 k10 n11))
set_option maxRecDepth 100000 in
theorem rd_is_20_v {l : Launch} {g : cx_G} {X : cx_X} {N : dNt} {bc bs : Nat} {Q : cd_Qt} {a0 : Nat} {c1 : Nat} (H : dR l g N.2) (hX : X.2.2.2.2.2.2.1.name = "is") (hc1 : c1 < 26) (M : cx_M) (P : dP) (L : dL) (k n : Nat) (hk : k ≤ bc ∧ n ≤ bs) (h : rd_is_20 N bc bs Q a0 c1 M P L k n) : cq_V l (dG g L P) X (esX11_is bc bs) cX11_is 20 [(0, .ref a0), (1, .ref (N.2 (1100000 + c1)))] [] M k n (cd_fin g X (esX11_is bc bs) cd_rI Q) := by
  unfold rd_is_20 at h
  refine cq_aload_n 0 dX11_is_20 rfl ?_
  refine cq_getR (dG_FR (k := 7) H.1.1.1 h.1 dCl_X11 (cx_lt rfl) rfl rfl) q1459 dX11_is_21 ?_
  refine cd_letI h.2 (fun r1 h => ?_)
  refine cq_aload_n 1 dX11_is_24 rfl ?_
  obtain ⟨a2, e9, h⟩ := cd_nn_some h
  subst e9
  obtain ⟨hmr, h⟩ := h
  refine cd_cV [.ref (N.2 (1100000 + c1))] [] (jS_equalsC_m H (N := N) (bc := bc - k) (bs := bs - n) M P L a2 c1 hc1 h) (dG_Rc H.1.1.1 hmr dCl_J9) dX11_is_25 gd_X11_106C hgd_X11_106C ⟨cx_le rfl, cx_le rfl⟩ (cd_bud hk) rfl (cx_le rfl) (fun M3 P4 L5 v6 r7 k8 n9 hk2 h => ?_)
  refine cd_addI (h rfl) (cd_bk hk hk2) (fun k10 n11 h hk => ?_)
  refine cq_if_eq 35 h dX11_is_28 rfl (fun h => ?_) (fun h => ?_)
  · refine cq_iconst 0 dX11_is_35 cx_ic_0 ?_
    exact cd_zret hk h cx_z_0 rfl dX11_is_36
  · refine cq_iconst 1 dX11_is_31 cx_ic_1 ?_
    refine cq_goto 36 dX11_is_32 rfl ?_
    exact cd_zret hk h cx_z_1 rfl dX11_is_36
def rd_is_0 (N : dNt) (bc bs : Nat) (Q : cd_Qt) (a0 : Nat) (c1 : Nat) (M : cx_M) (P : dP) (L : dL) (k n : Nat) : Prop :=
  (a0, (0, 10, 0)) ∈ L ∧ cd_let (P a0 6) fun r1 =>
  if r1 = (some ((N.2 9210))) then (
    rd_is_20 N bc bs Q a0 c1 M P L k n)
  else (
    (a0, (0, 10, 0)) ∈ L ∧ cd_let (P a0 6) fun r2 =>
    if r2 = (some ((N.2 9212))) then (
      rd_is_20 N bc bs Q a0 c1 M P L k n)
    else (
      Q M P L 0 none 0 k n))
set_option maxRecDepth 100000 in
theorem rd_is_0_v {l : Launch} {g : cx_G} {X : cx_X} {N : dNt} {bc bs : Nat} {Q : cd_Qt} {a0 : Nat} {c1 : Nat} (H : dR l g N.2) (hX : X.2.2.2.2.2.2.1.name = "is") (hc1 : c1 < 26) (M : cx_M) (P : dP) (L : dL) (k n : Nat) (hk : k ≤ bc ∧ n ≤ bs) (h : rd_is_0 N bc bs Q a0 c1 M P L k n) : cq_V l (dG g L P) X (esX11_is bc bs) cX11_is 0 [(0, .ref a0), (1, .ref (N.2 (1100000 + c1)))] [] M k n (cd_fin g X (esX11_is bc bs) cd_rI Q) := by
  unfold rd_is_0 at h
  refine cq_aload_n 0 dX11_is_0 rfl ?_
  refine cq_getR (dG_FR (k := 6) H.1.1.1 h.1 dCl_X11 (cx_lt rfl) rfl rfl) q1458 dX11_is_1 ?_
  refine cd_letI h.2 (fun r1 h => ?_)
  refine cq_gets (dR_s0 H) q1424 dX11_is_4 ?_
  refine cd_acmp_eq (rx := r1) (ry := (some ((N.2 9210)))) 20 h dX11_is_7 rfl (fun h => ?_) (fun h => ?_)
  · exact rd_is_20_v H hX hc1 M P L k n hk h
  · refine cq_aload_n 0 dX11_is_10 rfl ?_
    refine cq_getR (dG_FR (k := 6) H.1.1.1 h.1 dCl_X11 (cx_lt rfl) rfl rfl) q1458 dX11_is_11 ?_
    refine cd_letI h.2 (fun r2 h => ?_)
    refine cq_gets (dR_s2 H) q1434 dX11_is_14 ?_
    refine cd_acmp_ne (rx := r2) (ry := (some ((N.2 9212)))) 35 h dX11_is_17 rfl (fun h => ?_) (fun h => ?_)
    · refine cq_iconst 0 dX11_is_35 cx_ic_0 ?_
      exact cd_zret hk h cx_z_0 rfl dX11_is_36
    · exact rd_is_20_v H hX hc1 M P L k n hk h
def rd_is (N : dNt) (bc bs : Nat) (M : cx_M) (P : dP) (L : dL) (a0 : Nat) (c1 : Nat) (Q : cd_Qt) : Prop := rd_is_0 N bc bs Q a0 c1 M P L 0 0
set_option maxRecDepth 100000 in
theorem rd_is_m {l : Launch} {g : cx_G} {N : dNt} {bc bs : Nat} {Q : cd_Qt} (H : dR l g N.2) (M : cx_M) (P : dP) (L : dL) (a0 : Nat) (c1 : Nat) (hc1 : c1 < 26) (h : rd_is N bc bs M P L a0 c1 Q) : cd_Met l g yX11_is cX11_is (esX11_is bc bs) cd_rI [.ref a0, .ref (N.2 (1100000 + c1))] M P L Q :=
  cd_met (by decide +kernel) rfl rfl (lv := [(0, .ref a0), (1, .ref (N.2 (1100000 + c1)))]) rfl (cx_le rfl) (fun X hX => cq_sub (lv' := [(0, .ref a0), (1, .ref (N.2 (1100000 + c1)))]) [0, 1] rfl (rd_is_0_v H hX hc1 M P L 0 0 ⟨Nat.zero_le _, Nat.zero_le _⟩ h))

abbrev esX11_need (bc bs : Nat) : cx_S := (2, RX11, cx_rI, { frames := 7, cells := bc, slots := bs, locals := 173 }, none, true)
def rd_need_0 (N : dNt) (bc bs : Nat) (Q : cd_Qt) (a0 : Nat) (c1 : Nat) (M : cx_M) (P : dP) (L : dL) (k n : Nat) : Prop :=
  (a0, (0, 10, 0)) ∈ L ∧
  rd_is N (bc - k) (bs - n) M P L a0 c1 (fun M1 P2 L3 v4 r5 e9 k6 n7 => e9 = 0 → cd_add k k6 n n7 fun k8 n9 =>
  (a0, (0, 10, 0)) ∈ L3 ∧
  rd_check N (bc - k8) (bs - n9) M1 P2 L3 a0 v4 1 (fun M10 P11 L12 v13 r14 e9 k15 n16 => (e9 ≠ 0 → Q M10 P11 L12 v13 none e9 (k8 + k15) (n9 + n16)) ∧ (e9 = 0 → cd_add k8 k15 n9 n16 fun k17 n18 =>
  (a0, (0, 10, 0)) ∈ L12 ∧
  rd_go N (bc - k17) (bs - n18) M10 P11 L12 a0 (fun M19 P20 L21 v22 r23 e9 k24 n25 => e9 = 0 → cd_add k17 k24 n18 n25 fun k26 n27 =>
  Q M19 P20 L21 0 none 0 k26 n27))))
set_option maxRecDepth 100000 in
theorem rd_need_0_v {l : Launch} {g : cx_G} {X : cx_X} {N : dNt} {bc bs : Nat} {Q : cd_Qt} {a0 : Nat} {c1 : Nat} (H : dR l g N.2) (hX : True) (hc1 : c1 < 26) (M : cx_M) (P : dP) (L : dL) (k n : Nat) (hk : k ≤ bc ∧ n ≤ bs) (h : rd_need_0 N bc bs Q a0 c1 M P L k n) : cq_V l (dG g L P) X (esX11_need bc bs) cX11_need 0 [(0, .ref a0), (1, .ref (N.2 (1100000 + c1)))] [] M k n (cd_finX g X (esX11_need bc bs) cd_rV Q) := by
  unfold rd_need_0 at h
  refine cq_aload_n 0 dX11_need_0 rfl ?_
  refine cq_aload_n 0 dX11_need_1 rfl ?_
  refine cq_aload_n 1 dX11_need_2 rfl ?_
  obtain ⟨hmr, h⟩ := h
  refine cd_cV [.ref (N.2 (1100000 + c1))] [.ref a0] (rd_is_m H (N := N) (bc := bc - k) (bs := bs - n) M P L a0 c1 hc1 h) (dG_Rc H.1.1.1 hmr dCl_X11) dX11_need_3 gd_X11_115 hgd_X11_115 ⟨cx_le rfl, cx_le rfl⟩ (cd_bud hk) rfl (cx_le rfl) (fun M1 P2 L3 v4 r5 k6 n7 hk2 h => ?_)
  refine cd_addI (h rfl) (cd_bk hk hk2) (fun k8 n9 h hk => ?_)
  refine cq_iconst 1 dX11_need_6 cx_ic_1 ?_
  obtain ⟨hmr, h⟩ := h
  refine cd_xV [.int v4, .int 1] [] (rd_check_m H.1.1.1 H.2.1 (N := N) (bc := bc - k8) (bs := bs - n9) M1 P2 L3 a0 v4 1 h) (dG_Rc H.1.1.1 hmr dCl_X11) dX11_need_7 gd_X11_119 hgd_X11_119 ⟨cx_le rfl, cx_le rfl⟩ (cd_bud hk) rfl (cx_le rfl) rfl (fun _ _ _ _ _ _ _ he h => h.1 he) (fun M10 P11 L12 v13 r14 k15 n16 hk2 h => ?_)
  refine cd_addI (h.2 rfl) (cd_bk hk hk2) (fun k17 n18 h hk => ?_)
  refine cq_aload_n 0 dX11_need_10 rfl ?_
  obtain ⟨hmr, h⟩ := h
  refine cd_cV [] [] (rd_go_m H (N := N) (bc := bc - k17) (bs := bs - n18) M10 P11 L12 a0 h) (dG_Rc H.1.1.1 hmr dCl_X11) dX11_need_11 gd_X11_32 hgd_X11_32 ⟨cx_le rfl, cx_le rfl⟩ (cd_bud hk) rfl (cx_le rfl) (fun M19 P20 L21 v22 r23 k24 n25 hk2 h => ?_)
  refine cd_addI (h rfl) (cd_bk hk hk2) (fun k26 n27 h hk => ?_)
  exact cd_toX (cd_vret hk h rfl dX11_need_14)
def rd_need (N : dNt) (bc bs : Nat) (M : cx_M) (P : dP) (L : dL) (a0 : Nat) (c1 : Nat) (Q : cd_Qt) : Prop := rd_need_0 N bc bs Q a0 c1 M P L 0 0
set_option maxRecDepth 100000 in
theorem rd_need_m {l : Launch} {g : cx_G} {N : dNt} {bc bs : Nat} {Q : cd_Qt} (H : dR l g N.2) (M : cx_M) (P : dP) (L : dL) (a0 : Nat) (c1 : Nat) (hc1 : c1 < 26) (h : rd_need N bc bs M P L a0 c1 Q) : cd_MetX l g yX11_need cX11_need (esX11_need bc bs) cd_rV [.ref a0, .ref (N.2 (1100000 + c1))] M P L Q :=
  cd_metX (by decide +kernel) rfl rfl (lv := [(0, .ref a0), (1, .ref (N.2 (1100000 + c1)))]) rfl (cx_le rfl) (fun X hX => cq_sub (lv' := [(0, .ref a0), (1, .ref (N.2 (1100000 + c1)))]) [0, 1] rfl (rd_need_0_v H hX hc1 M P L 0 0 ⟨Nat.zero_le _, Nat.zero_le _⟩ h))

abbrev esX11_number (bc bs : Nat) : cx_S := (4, RX11, cx_rI, { frames := 7, cells := bc, slots := bs, locals := 173 }, some .int, true)
def rd_number_49 (N : dNt) (bc bs : Nat) (Q : cd_Qt) (a0 : Nat) (M : cx_M) (P : dP) (L : dL) (k n : Nat) (z1 : Int32) : Prop :=
  (a0, (0, 10, 0)) ∈ L ∧
  rd_check N (bc - k) (bs - n) M P L a0 z1 2 (fun M1 P2 L3 v4 r5 e9 k6 n7 => (e9 ≠ 0 → Q M1 P2 L3 v4 none e9 (k + k6) (n + n7)) ∧ (e9 = 0 → cd_add k k6 n n7 fun k8 n9 =>
  (a0, (0, 10, 0)) ∈ L3 ∧ cq_get M1 (dc a0) 4 fun v10 =>
  (a0, (0, 10, 0)) ∈ L3 ∧
  rd_go N (bc - k8) (bs - n9) M1 P2 L3 a0 (fun M11 P12 L13 v14 r15 e9 k16 n17 => e9 = 0 → cd_add k8 k16 n9 n17 fun k18 n19 =>
  Q M11 P12 L13 v10 none 0 k18 n19)))
set_option maxRecDepth 100000 in
theorem rd_number_49_v {l : Launch} {g : cx_G} {X : cx_X} {N : dNt} {bc bs : Nat} {Q : cd_Qt} {a0 : Nat} (H : dR l g N.2) (hX : True) (M : cx_M) (P : dP) (L : dL) (k n : Nat) (z1 : Int32) (hk : k ≤ bc ∧ n ≤ bs) (h : rd_number_49 N bc bs Q a0 M P L k n z1) : cq_V l (dG g L P) X (esX11_number bc bs) cX11_number 49 [(0, .ref a0)] [.int z1, .ref a0] M k n (cd_finX g X (esX11_number bc bs) cd_rI Q) := by
  unfold rd_number_49 at h
  refine cq_iconst 2 dX11_number_49 cx_ic_2 ?_
  obtain ⟨hmr, h⟩ := h
  refine cd_xV [.int z1, .int 2] [] (rd_check_m H.1.1.1 H.2.1 (N := N) (bc := bc - k) (bs := bs - n) M P L a0 z1 2 h) (dG_Rc H.1.1.1 hmr dCl_X11) dX11_number_50 gd_X11_119 hgd_X11_119 ⟨cx_le rfl, cx_le rfl⟩ (cd_bud hk) rfl (cx_le rfl) rfl (fun _ _ _ _ _ _ _ he h => h.1 he) (fun M1 P2 L3 v4 r5 k6 n7 hk2 h => ?_)
  refine cd_addI (h.2 rfl) (cd_bk hk hk2) (fun k8 n9 h hk => ?_)
  refine cq_aload_n 0 dX11_number_53 rfl ?_
  refine cq_nd H.1.1.1 (fun hn => cq_getI h.2 (dG_FI H.1.1.1 hn h.1 dCl_X11 (cx_lt rfl) rfl rfl rfl) q1456 dX11_number_54 (fun v10 h => ?_))
  refine cq_istore_n [(3, .int v10), (0, .ref a0)] dX11_number_57 (cx_lt rfl) rfl ?_
  refine cq_aload_n 1 dX11_number_58 rfl ?_
  obtain ⟨hmr, h⟩ := h
  refine cd_cV [] [] (rd_go_m H (N := N) (bc := bc - k8) (bs := bs - n9) M1 P2 L3 a0 h) (dG_Rc H.1.1.1 hmr dCl_X11) dX11_number_59 gd_X11_32 hgd_X11_32 ⟨cx_le rfl, cx_le rfl⟩ (cd_bud hk) rfl (cx_le rfl) (fun M11 P12 L13 v14 r15 k16 n17 hk2 h => ?_)
  refine cd_addI (h rfl) (cd_bk hk hk2) (fun k18 n19 h hk => ?_)
  refine cq_iload_n 0 dX11_number_62 rfl ?_
  exact cd_toX (cd_iret hk h rfl dX11_number_63)
def rd_number_48 (N : dNt) (bc bs : Nat) (Q : cd_Qt) (a0 : Nat) (M : cx_M) (P : dP) (L : dL) (k n : Nat) : Prop :=
  rd_number_49 N bc bs Q a0 M P L k n 0
set_option maxRecDepth 100000 in
theorem rd_number_48_v {l : Launch} {g : cx_G} {X : cx_X} {N : dNt} {bc bs : Nat} {Q : cd_Qt} {a0 : Nat} (H : dR l g N.2) (hX : True) (M : cx_M) (P : dP) (L : dL) (k n : Nat) (hk : k ≤ bc ∧ n ≤ bs) (h : rd_number_48 N bc bs Q a0 M P L k n) : cq_V l (dG g L P) X (esX11_number bc bs) cX11_number 48 [(0, .ref a0)] [.ref a0] M k n (cd_finX g X (esX11_number bc bs) cd_rI Q) := by
  unfold rd_number_48 at h
  refine cq_iconst 0 dX11_number_48 cx_ic_0 ?_
  exact rd_number_49_v H hX M P L k n 0 hk h
def rd_number_16 (N : dNt) (bc bs : Nat) (Q : cd_Qt) (a0 : Nat) (M : cx_M) (P : dP) (L : dL) (k n : Nat) (x1 : Int32) (x2 : Int32) (z1 : Int32) : Prop :=
  (a0, (0, 10, 0)) ∈ L ∧
  rd_check N (bc - k) (bs - n) M P L a0 z1 1 (fun M1 P2 L3 v4 r5 e9 k6 n7 => (e9 ≠ 0 → Q M1 P2 L3 v4 none e9 (k + k6) (n + n7)) ∧ (e9 = 0 → cd_add k k6 n n7 fun k8 n9 =>
  (a0, (0, 10, 0)) ∈ L3 ∧ cq_get M1 (dc a0) 5 fun v10 =>
  if v10 = 0 then (
    (a0, (0, 10, 0)) ∈ L3 ∧ cq_get M1 (dc a0) 4 fun v11 =>
    if v11 < x1 then (
      rd_number_48 N bc bs Q a0 M1 P2 L3 k8 n9)
    else (
      (a0, (0, 10, 0)) ∈ L3 ∧ cq_get M1 (dc a0) 4 fun v12 =>
      if x2 < v12 then (
        rd_number_48 N bc bs Q a0 M1 P2 L3 k8 n9)
      else (
        rd_number_49 N bc bs Q a0 M1 P2 L3 k8 n9 1)))
  else (
    rd_number_48 N bc bs Q a0 M1 P2 L3 k8 n9)))
set_option maxRecDepth 100000 in
theorem rd_number_16_v {l : Launch} {g : cx_G} {X : cx_X} {N : dNt} {bc bs : Nat} {Q : cd_Qt} {a0 : Nat} (H : dR l g N.2) (hX : True) (M : cx_M) (P : dP) (L : dL) (k n : Nat) (x1 : Int32) (x2 : Int32) (z1 : Int32) (hk : k ≤ bc ∧ n ≤ bs) (h : rd_number_16 N bc bs Q a0 M P L k n x1 x2 z1) : cq_V l (dG g L P) X (esX11_number bc bs) cX11_number 16 [(0, .ref a0), (1, .int x1), (2, .int x2)] [.int z1, .ref a0] M k n (cd_finX g X (esX11_number bc bs) cd_rI Q) := by
  unfold rd_number_16 at h
  refine cq_iconst 1 dX11_number_16 cx_ic_1 ?_
  obtain ⟨hmr, h⟩ := h
  refine cd_xV [.int z1, .int 1] [] (rd_check_m H.1.1.1 H.2.1 (N := N) (bc := bc - k) (bs := bs - n) M P L a0 z1 1 h) (dG_Rc H.1.1.1 hmr dCl_X11) dX11_number_17 gd_X11_119 hgd_X11_119 ⟨cx_le rfl, cx_le rfl⟩ (cd_bud hk) rfl (cx_le rfl) rfl (fun _ _ _ _ _ _ _ he h => h.1 he) (fun M1 P2 L3 v4 r5 k6 n7 hk2 h => ?_)
  refine cd_addI (h.2 rfl) (cd_bk hk hk2) (fun k8 n9 h hk => ?_)
  refine cq_aload_n 0 dX11_number_20 rfl ?_
  refine cq_aload_n 0 dX11_number_21 rfl ?_
  refine cq_nd H.1.1.1 (fun hn => cq_getI h.2 (dG_FI H.1.1.1 hn h.1 dCl_X11 (cx_lt rfl) rfl rfl rfl) q1457 dX11_number_22 (fun v10 h => ?_))
  refine cq_if_ne 48 h dX11_number_25 rfl (fun h => ?_) (fun h => ?_)
  · refine cq_sub (lv' := [(0, .ref a0)]) [0] rfl ?_
    exact rd_number_48_v H hX M1 P2 L3 k8 n9 hk h
  · refine cq_aload_n 0 dX11_number_28 rfl ?_
    refine cq_nd H.1.1.1 (fun hn => cq_getI h.2 (dG_FI H.1.1.1 hn h.1 dCl_X11 (cx_lt rfl) rfl rfl rfl) q1456 dX11_number_29 (fun v11 h => ?_))
    refine cq_iload_n 1 dX11_number_32 rfl ?_
    refine cq_icmp_lt 48 h dX11_number_33 rfl (fun h => ?_) (fun h => ?_)
    · refine cq_sub (lv' := [(0, .ref a0)]) [0] rfl ?_
      exact rd_number_48_v H hX M1 P2 L3 k8 n9 hk h
    · refine cq_aload_n 0 dX11_number_36 rfl ?_
      refine cq_nd H.1.1.1 (fun hn => cq_getI h.2 (dG_FI H.1.1.1 hn h.1 dCl_X11 (cx_lt rfl) rfl rfl rfl) q1456 dX11_number_37 (fun v12 h => ?_))
      refine cq_iload_n 2 dX11_number_40 rfl ?_
      refine cq_icmp_gt 48 h dX11_number_41 rfl (fun h => ?_) (fun h => ?_)
      · refine cq_sub (lv' := [(0, .ref a0)]) [0] rfl ?_
        exact rd_number_48_v H hX M1 P2 L3 k8 n9 hk h
      · refine cq_iconst 1 dX11_number_44 cx_ic_1 ?_
        refine cq_goto 49 dX11_number_45 rfl ?_
        refine cq_sub (lv' := [(0, .ref a0)]) [0] rfl ?_
        exact rd_number_49_v H hX M1 P2 L3 k8 n9 1 hk h
def rd_number_0 (N : dNt) (bc bs : Nat) (Q : cd_Qt) (a0 : Nat) (M : cx_M) (P : dP) (L : dL) (k n : Nat) (x1 : Int32) (x2 : Int32) : Prop :=
  (a0, (0, 10, 0)) ∈ L ∧ cd_let (P a0 6) fun r1 =>
  if r1 = (some ((N.2 9211))) then (
    rd_number_16 N bc bs Q a0 M P L k n x1 x2 1)
  else (
    rd_number_16 N bc bs Q a0 M P L k n x1 x2 0)
set_option maxRecDepth 100000 in
theorem rd_number_0_v {l : Launch} {g : cx_G} {X : cx_X} {N : dNt} {bc bs : Nat} {Q : cd_Qt} {a0 : Nat} (H : dR l g N.2) (hX : True) (M : cx_M) (P : dP) (L : dL) (k n : Nat) (x1 : Int32) (x2 : Int32) (hk : k ≤ bc ∧ n ≤ bs) (h : rd_number_0 N bc bs Q a0 M P L k n x1 x2) : cq_V l (dG g L P) X (esX11_number bc bs) cX11_number 0 [(0, .ref a0), (1, .int x1), (2, .int x2)] [] M k n (cd_finX g X (esX11_number bc bs) cd_rI Q) := by
  unfold rd_number_0 at h
  refine cq_aload_n 0 dX11_number_0 rfl ?_
  refine cq_aload_n 0 dX11_number_1 rfl ?_
  refine cq_getR (dG_FR (k := 6) H.1.1.1 h.1 dCl_X11 (cx_lt rfl) rfl rfl) q1458 dX11_number_2 ?_
  refine cd_letI h.2 (fun r1 h => ?_)
  refine cq_gets (dR_s1 H) q1429 dX11_number_5 ?_
  refine cd_acmp_ne (rx := r1) (ry := (some ((N.2 9211)))) 15 h dX11_number_8 rfl (fun h => ?_) (fun h => ?_)
  · refine cq_iconst 0 dX11_number_15 cx_ic_0 ?_
    exact rd_number_16_v H hX M P L k n x1 x2 0 hk h
  · refine cq_iconst 1 dX11_number_11 cx_ic_1 ?_
    refine cq_goto 16 dX11_number_12 rfl ?_
    exact rd_number_16_v H hX M P L k n x1 x2 1 hk h
def rd_number (N : dNt) (bc bs : Nat) (M : cx_M) (P : dP) (L : dL) (a0 : Nat) (x1 : Int32) (x2 : Int32) (Q : cd_Qt) : Prop := rd_number_0 N bc bs Q a0 M P L 0 0 x1 x2
set_option maxRecDepth 100000 in
theorem rd_number_m {l : Launch} {g : cx_G} {N : dNt} {bc bs : Nat} {Q : cd_Qt} (H : dR l g N.2) (M : cx_M) (P : dP) (L : dL) (a0 : Nat) (x1 : Int32) (x2 : Int32) (h : rd_number N bc bs M P L a0 x1 x2 Q) : cd_MetX l g yX11_number cX11_number (esX11_number bc bs) cd_rI [.ref a0, .int x1, .int x2] M P L Q :=
  cd_metX (by decide +kernel) rfl rfl (lv := [(0, .ref a0), (1, .int x1), (2, .int x2)]) rfl (cx_le rfl) (fun X hX => cq_sub (lv' := [(0, .ref a0), (1, .int x1), (2, .int x2)]) [0, 1, 2] rfl (rd_number_0_v H hX M P L 0 0 x1 x2 ⟨Nat.zero_le _, Nat.zero_le _⟩ h))

abbrev esX11_once (bc bs : Nat) : cx_S := (2, RX11, cx_rI, { frames := 7, cells := bc, slots := bs, locals := 173 }, none, true)
def rd_once_17 (N : dNt) (bc bs : Nat) (Q : cd_Qt) (a0 : Nat) (M : cx_M) (P : dP) (L : dL) (k n : Nat) (x1 : Int32) (z1 : Int32) : Prop :=
  (a0, (0, 10, 0)) ∈ L ∧
  rd_check N (bc - k) (bs - n) M P L a0 z1 5 (fun M1 P2 L3 v4 r5 e9 k6 n7 => (e9 ≠ 0 → Q M1 P2 L3 v4 none e9 (k + k6) (n + n7)) ∧ (e9 = 0 → cd_add k k6 n n7 fun k8 n9 =>
  (a0, (0, 10, 0)) ∈ L3 ∧ cd_let (P2 a0 8) fun r10 =>
  cd_nn r10 fun a11 =>
  (a11, (0, 21, 0)) ∈ L3 ∧
  jBd_set_2D N.1 (bc - k8) (bs - n9) M1 P2 L3 a11 x1 (fun M12 P13 L14 v15 r16 e9 k17 n18 => e9 = 0 → cd_add k8 k17 n9 n18 fun k19 n20 =>
  (a0, (0, 10, 0)) ∈ L14 ∧
  rd_go N (bc - k19) (bs - n20) M12 P13 L14 a0 (fun M21 P22 L23 v24 r25 e9 k26 n27 => e9 = 0 → cd_add k19 k26 n20 n27 fun k28 n29 =>
  Q M21 P22 L23 0 none 0 k28 n29))))
set_option maxRecDepth 100000 in
theorem rd_once_17_v {l : Launch} {g : cx_G} {X : cx_X} {N : dNt} {bc bs : Nat} {Q : cd_Qt} {a0 : Nat} (H : dR l g N.2) (hX : True) (M : cx_M) (P : dP) (L : dL) (k n : Nat) (x1 : Int32) (z1 : Int32) (hk : k ≤ bc ∧ n ≤ bs) (h : rd_once_17 N bc bs Q a0 M P L k n x1 z1) : cq_V l (dG g L P) X (esX11_once bc bs) cX11_once 17 [(0, .ref a0), (1, .int x1)] [.int z1, .ref a0] M k n (cd_finX g X (esX11_once bc bs) cd_rV Q) := by
  unfold rd_once_17 at h
  refine cq_iconst 5 dX11_once_17 cx_ic_5 ?_
  obtain ⟨hmr, h⟩ := h
  refine cd_xV [.int z1, .int 5] [] (rd_check_m H.1.1.1 H.2.1 (N := N) (bc := bc - k) (bs := bs - n) M P L a0 z1 5 h) (dG_Rc H.1.1.1 hmr dCl_X11) dX11_once_18 gd_X11_119 hgd_X11_119 ⟨cx_le rfl, cx_le rfl⟩ (cd_bud hk) rfl (cx_le rfl) rfl (fun _ _ _ _ _ _ _ he h => h.1 he) (fun M1 P2 L3 v4 r5 k6 n7 hk2 h => ?_)
  refine cd_addI (h.2 rfl) (cd_bk hk hk2) (fun k8 n9 h hk => ?_)
  refine cq_aload_n 0 dX11_once_21 rfl ?_
  refine cq_getR (dG_FR (k := 8) H.1.1.1 h.1 dCl_X11 (cx_lt rfl) rfl rfl) q1460 dX11_once_22 ?_
  refine cd_letI h.2 (fun r10 h => ?_)
  refine cq_iload_n 1 dX11_once_25 rfl ?_
  obtain ⟨a11, e9, h⟩ := cd_nn_some h
  subst e9
  obtain ⟨hmr, h⟩ := h
  refine cd_cV [.int x1] [] (jBd_set_2D_m H.1.1 (N := N.1) (bc := bc - k8) (bs := bs - n9) M1 P2 L3 a11 x1 h) (dG_Rc H.1.1.1 hmr dCl_J19) dX11_once_26 gd_X11_126D hgd_X11_126D ⟨cx_le rfl, cx_le rfl⟩ (cd_bud hk) rfl (cx_le rfl) (fun M12 P13 L14 v15 r16 k17 n18 hk2 h => ?_)
  refine cd_addI (h rfl) (cd_bk hk hk2) (fun k19 n20 h hk => ?_)
  refine cq_aload_n 0 dX11_once_29 rfl ?_
  obtain ⟨hmr, h⟩ := h
  refine cd_cV [] [] (rd_go_m H (N := N) (bc := bc - k19) (bs := bs - n20) M12 P13 L14 a0 h) (dG_Rc H.1.1.1 hmr dCl_X11) dX11_once_30 gd_X11_32 hgd_X11_32 ⟨cx_le rfl, cx_le rfl⟩ (cd_bud hk) rfl (cx_le rfl) (fun M21 P22 L23 v24 r25 k26 n27 hk2 h => ?_)
  refine cd_addI (h rfl) (cd_bk hk hk2) (fun k28 n29 h hk => ?_)
  exact cd_toX (cd_vret hk h rfl dX11_once_33)
def rd_once_0 (N : dNt) (bc bs : Nat) (Q : cd_Qt) (a0 : Nat) (M : cx_M) (P : dP) (L : dL) (k n : Nat) (x1 : Int32) : Prop :=
  (a0, (0, 10, 0)) ∈ L ∧ cd_let (P a0 8) fun r1 =>
  cd_nn r1 fun a2 =>
  (a2, (0, 21, 0)) ∈ L ∧
  jBd_getD N.1 (bc - k) (bs - n) M P L a2 x1 (fun M3 P4 L5 v6 r7 e9 k8 n9 => e9 = 0 → cd_add k k8 n n9 fun k10 n11 =>
  if v6 = 0 then (
    rd_once_17 N bc bs Q a0 M3 P4 L5 k10 n11 x1 1)
  else (
    rd_once_17 N bc bs Q a0 M3 P4 L5 k10 n11 x1 0))
set_option maxRecDepth 100000 in
theorem rd_once_0_v {l : Launch} {g : cx_G} {X : cx_X} {N : dNt} {bc bs : Nat} {Q : cd_Qt} {a0 : Nat} (H : dR l g N.2) (hX : True) (M : cx_M) (P : dP) (L : dL) (k n : Nat) (x1 : Int32) (hk : k ≤ bc ∧ n ≤ bs) (h : rd_once_0 N bc bs Q a0 M P L k n x1) : cq_V l (dG g L P) X (esX11_once bc bs) cX11_once 0 [(0, .ref a0), (1, .int x1)] [] M k n (cd_finX g X (esX11_once bc bs) cd_rV Q) := by
  unfold rd_once_0 at h
  refine cq_aload_n 0 dX11_once_0 rfl ?_
  refine cq_aload_n 0 dX11_once_1 rfl ?_
  refine cq_getR (dG_FR (k := 8) H.1.1.1 h.1 dCl_X11 (cx_lt rfl) rfl rfl) q1460 dX11_once_2 ?_
  refine cd_letI h.2 (fun r1 h => ?_)
  refine cq_iload_n 1 dX11_once_5 rfl ?_
  obtain ⟨a2, e9, h⟩ := cd_nn_some h
  subst e9
  obtain ⟨hmr, h⟩ := h
  refine cd_cV [.int x1] [.ref a0] (jBd_getD_m H.1.1 (N := N.1) (bc := bc - k) (bs := bs - n) M P L a2 x1 h) (dG_Rc H.1.1.1 hmr dCl_J19) dX11_once_6 gd_X11_123D hgd_X11_123D ⟨cx_le rfl, cx_le rfl⟩ (cd_bud hk) rfl (cx_le rfl) (fun M3 P4 L5 v6 r7 k8 n9 hk2 h => ?_)
  refine cd_addI (h rfl) (cd_bk hk hk2) (fun k10 n11 h hk => ?_)
  refine cq_if_ne 16 h dX11_once_9 rfl (fun h => ?_) (fun h => ?_)
  · refine cq_iconst 0 dX11_once_16 cx_ic_0 ?_
    exact rd_once_17_v H hX M3 P4 L5 k10 n11 x1 0 hk h
  · refine cq_iconst 1 dX11_once_12 cx_ic_1 ?_
    refine cq_goto 17 dX11_once_13 rfl ?_
    exact rd_once_17_v H hX M3 P4 L5 k10 n11 x1 1 hk h
def rd_once (N : dNt) (bc bs : Nat) (M : cx_M) (P : dP) (L : dL) (a0 : Nat) (x1 : Int32) (Q : cd_Qt) : Prop := rd_once_0 N bc bs Q a0 M P L 0 0 x1
set_option maxRecDepth 100000 in
theorem rd_once_m {l : Launch} {g : cx_G} {N : dNt} {bc bs : Nat} {Q : cd_Qt} (H : dR l g N.2) (M : cx_M) (P : dP) (L : dL) (a0 : Nat) (x1 : Int32) (h : rd_once N bc bs M P L a0 x1 Q) : cd_MetX l g yX11_once cX11_once (esX11_once bc bs) cd_rV [.ref a0, .int x1] M P L Q :=
  cd_metX (by decide +kernel) rfl rfl (lv := [(0, .ref a0), (1, .int x1)]) rfl (cx_le rfl) (fun X hX => cq_sub (lv' := [(0, .ref a0), (1, .int x1)]) [0, 1] rfl (rd_once_0_v H hX M P L 0 0 x1 ⟨Nat.zero_le _, Nat.zero_le _⟩ h))

abbrev esX13_init (bc bs : Nat) : cx_S := (1, RX13, cx_rI, { frames := 1, cells := bc, slots := bs, locals := 20 }, none, false)
def rEx_init_0 (N : dNt) (bc bs : Nat) (Q : cd_Qt) (a0 : Nat) (M : cx_M) (P : dP) (L : dL) (k n : Nat) : Prop :=
  Q M P L 0 none 0 k n
set_option maxRecDepth 100000 in
theorem rEx_init_0_v {l : Launch} {g : cx_G} {X : cx_X} {N : dNt} {bc bs : Nat} {Q : cd_Qt} {a0 : Nat} (H : dR l g N.2) (hX : X.2.2.2.2.2.2.1.name = "<init>") (M : cx_M) (P : dP) (L : dL) (k n : Nat) (hk : k ≤ bc ∧ n ≤ bs) (h : rEx_init_0 N bc bs Q a0 M P L k n) : cq_V l (dG g L P) X (esX13_init bc bs) cX13_init 0 [(0, .ref a0)] [] M k n (cd_fin g X (esX13_init bc bs) cd_rV Q) := by
  unfold rEx_init_0 at h
  refine cq_aload_n 0 dX13_init_0 rfl ?_
  refine cd_oinit q1668 q176 q177 dX13_init_1 (cx_le rfl) (cx_le rfl) ?_
  exact cd_vret hk h rfl dX13_init_4
def rEx_init (N : dNt) (bc bs : Nat) (M : cx_M) (P : dP) (L : dL) (a0 : Nat) (Q : cd_Qt) : Prop := rEx_init_0 N bc bs Q a0 M P L 0 0
set_option maxRecDepth 100000 in
theorem rEx_init_m {l : Launch} {g : cx_G} {N : dNt} {bc bs : Nat} {Q : cd_Qt} (H : dR l g N.2) (M : cx_M) (P : dP) (L : dL) (a0 : Nat) (h : rEx_init N bc bs M P L a0 Q) : cd_Met l g yX13_init cX13_init (esX13_init bc bs) cd_rV [.ref a0] M P L Q :=
  cd_met (by decide +kernel) rfl rfl (lv := [(0, .ref a0)]) rfl (cx_le rfl) (fun X hX => cq_sub (lv' := [(0, .ref a0)]) [0] rfl (rEx_init_0_v H hX M P L 0 0 ⟨Nat.zero_le _, Nat.zero_le _⟩ h))

abbrev esX14_init (bc bs : Nat) : cx_S := (2, RX14, cx_rI, { frames := 2, cells := bc, slots := bs, locals := 40 }, none, false)
def rTo_init_0 (N : dNt) (bc bs : Nat) (Q : cd_Qt) (a0 : Nat) (M : cx_M) (P : dP) (L : dL) (k n : Nat) (x1 : Int32) : Prop :=
  rEx_init N (bc - k) (bs - n) M P L a0 (fun M1 P2 L3 v4 r5 e9 k6 n7 => e9 = 0 → cd_add k k6 n n7 fun k8 n9 =>
  (a0, (0, 13, 0)) ∈ L3 ∧ cd_putn P2 a0 0 x1 fun P10 =>
  Q M1 P10 L3 0 none 0 k8 n9)
set_option maxRecDepth 100000 in
theorem rTo_init_0_v {l : Launch} {g : cx_G} {X : cx_X} {N : dNt} {bc bs : Nat} {Q : cd_Qt} {a0 : Nat} (H : dR l g N.2) (hX : X.2.2.2.2.2.2.1.name = "<init>") (M : cx_M) (P : dP) (L : dL) (k n : Nat) (x1 : Int32) (hk : k ≤ bc ∧ n ≤ bs) (h : rTo_init_0 N bc bs Q a0 M P L k n x1) : cq_V l (dG g L P) X (esX14_init bc bs) cX14_init 0 [(0, .ref a0), (1, .int x1)] [] M k n (cd_fin g X (esX14_init bc bs) cd_rV Q) := by
  unfold rTo_init_0 at h
  refine cq_aload_n 0 dX14_init_0 rfl ?_
  refine cd_cIN [] [] (rEx_init_m H (N := N) (bc := bc - k) (bs := bs - n) M P L a0 h) dX14_init_1 gd_X14_1 rfl q152 q1665 q1666 rfl hgd_X14_1 ⟨cx_le rfl, cx_le rfl⟩ (cd_bud hk) rfl (cx_le rfl) (fun M1 P2 L3 v4 r5 k6 n7 hk2 h => ?_)
  refine cd_addI (h rfl) (cd_bk hk hk2) (fun k8 n9 h hk => ?_)
  refine cq_aload_n 0 dX14_init_4 rfl ?_
  refine cq_iload_n 1 dX14_init_5 rfl ?_
  refine cq_nd H.1.1.1 (fun hn => cd_putNF hX rfl H.1.1.1 hn h.1 h.2 dCl_X14 (cx_lt rfl) rfl rfl rfl ⟨rfl, rfl⟩ rfl q1669 dX14_init_6 (fun P10 h => ?_))
  exact cd_vret hk h rfl dX14_init_9
def rTo_init (N : dNt) (bc bs : Nat) (M : cx_M) (P : dP) (L : dL) (a0 : Nat) (x1 : Int32) (Q : cd_Qt) : Prop := rTo_init_0 N bc bs Q a0 M P L 0 0 x1
set_option maxRecDepth 100000 in
theorem rTo_init_m {l : Launch} {g : cx_G} {N : dNt} {bc bs : Nat} {Q : cd_Qt} (H : dR l g N.2) (M : cx_M) (P : dP) (L : dL) (a0 : Nat) (x1 : Int32) (h : rTo_init N bc bs M P L a0 x1 Q) : cd_Met l g yX14_init cX14_init (esX14_init bc bs) cd_rV [.ref a0, .int x1] M P L Q :=
  cd_met (by decide +kernel) rfl rfl (lv := [(0, .ref a0), (1, .int x1)]) rfl (cx_le rfl) (fun X hX => cq_sub (lv' := [(0, .ref a0), (1, .int x1)]) [0, 1] rfl (rTo_init_0_v H hX M P L 0 0 x1 ⟨Nat.zero_le _, Nat.zero_le _⟩ h))

abbrev esX15_init (bc bs : Nat) : cx_S := (2, RX15, cx_rI, { frames := 2, cells := bc, slots := bs, locals := 40 }, none, false)
def rSe_init_0 (N : dNt) (bc bs : Nat) (Q : cd_Qt) (a0 : Nat) (M : cx_M) (P : dP) (L : dL) (k n : Nat) (x1 : Option Nat) : Prop :=
  rEx_init N (bc - k) (bs - n) M P L a0 (fun M1 P2 L3 v4 r5 e9 k6 n7 => e9 = 0 → cd_add k k6 n n7 fun k8 n9 =>
  (a0, (0, 11, 0)) ∈ L3 ∧ cd_put P2 a0 0 x1 fun P10 =>
  Q M1 P10 L3 0 none 0 k8 n9)
set_option maxRecDepth 100000 in
theorem rSe_init_0_v {l : Launch} {g : cx_G} {X : cx_X} {N : dNt} {bc bs : Nat} {Q : cd_Qt} {a0 : Nat} (H : dR l g N.2) (hX : X.2.2.2.2.2.2.1.name = "<init>") (M : cx_M) (P : dP) (L : dL) (k n : Nat) (x1 : Option Nat) (hk : k ≤ bc ∧ n ≤ bs) (h : rSe_init_0 N bc bs Q a0 M P L k n x1) : cq_V l (dG g L P) X (esX15_init bc bs) cX15_init 0 [(0, .ref a0), (1, va_rf x1)] [] M k n (cd_fin g X (esX15_init bc bs) cd_rV Q) := by
  unfold rSe_init_0 at h
  refine cq_aload_n 0 dX15_init_0 rfl ?_
  refine cd_cIN [] [] (rEx_init_m H (N := N) (bc := bc - k) (bs := bs - n) M P L a0 h) dX15_init_1 gd_X15_1 rfl q152 q1695 q1666 rfl hgd_X15_1 ⟨cx_le rfl, cx_le rfl⟩ (cd_bud hk) rfl (cx_le rfl) (fun M1 P2 L3 v4 r5 k6 n7 hk2 h => ?_)
  refine cd_addI (h rfl) (cd_bk hk hk2) (fun k8 n9 h hk => ?_)
  refine cq_aload_n 0 dX15_init_4 rfl ?_
  refine cd_aload_n (v := x1) 1 dX15_init_5 rfl ?_
  refine cq_nd H.1.1.1 (fun hn => cd_putRF (v := x1) hX rfl H.1.1.1 hn h.1 h.2 dCl_X15 (cx_lt rfl) rfl rfl rfl cd_nfO rfl q1696 dX15_init_6 (fun P10 h => ?_))
  exact cd_vret hk h rfl dX15_init_9
def rSe_init (N : dNt) (bc bs : Nat) (M : cx_M) (P : dP) (L : dL) (a0 : Nat) (x1 : Option Nat) (Q : cd_Qt) : Prop := rSe_init_0 N bc bs Q a0 M P L 0 0 x1
set_option maxRecDepth 100000 in
theorem rSe_init_m {l : Launch} {g : cx_G} {N : dNt} {bc bs : Nat} {Q : cd_Qt} (H : dR l g N.2) (M : cx_M) (P : dP) (L : dL) (a0 : Nat) (x1 : Option Nat) (h : rSe_init N bc bs M P L a0 x1 Q) : cd_Met l g yX15_init cX15_init (esX15_init bc bs) cd_rV [.ref a0, va_rf x1] M P L Q :=
  cd_met (by decide +kernel) rfl rfl (lv := [(0, .ref a0), (1, va_rf x1)]) (by cases x1 <;> rfl) (by cases x1 <;> exact cx_le rfl) (fun X hX => cq_sub (lv' := [(0, .ref a0), (1, va_rf x1)]) [0, 1] rfl (rSe_init_0_v H hX M P L 0 0 x1 ⟨Nat.zero_le _, Nat.zero_le _⟩ h))

abbrev esX17_init (bc bs : Nat) : cx_S := (2, RX17, cx_rI, { frames := 2, cells := bc, slots := bs, locals := 40 }, none, false)
def rNo_init_0 (N : dNt) (bc bs : Nat) (Q : cd_Qt) (a0 : Nat) (M : cx_M) (P : dP) (L : dL) (k n : Nat) (x1 : Option Nat) : Prop :=
  rEx_init N (bc - k) (bs - n) M P L a0 (fun M1 P2 L3 v4 r5 e9 k6 n7 => e9 = 0 → cd_add k k6 n n7 fun k8 n9 =>
  (a0, (0, 9, 0)) ∈ L3 ∧ cd_put P2 a0 0 x1 fun P10 =>
  Q M1 P10 L3 0 none 0 k8 n9)
set_option maxRecDepth 100000 in
theorem rNo_init_0_v {l : Launch} {g : cx_G} {X : cx_X} {N : dNt} {bc bs : Nat} {Q : cd_Qt} {a0 : Nat} (H : dR l g N.2) (hX : X.2.2.2.2.2.2.1.name = "<init>") (M : cx_M) (P : dP) (L : dL) (k n : Nat) (x1 : Option Nat) (hk : k ≤ bc ∧ n ≤ bs) (h : rNo_init_0 N bc bs Q a0 M P L k n x1) : cq_V l (dG g L P) X (esX17_init bc bs) cX17_init 0 [(0, .ref a0), (1, va_rf x1)] [] M k n (cd_fin g X (esX17_init bc bs) cd_rV Q) := by
  unfold rNo_init_0 at h
  refine cq_aload_n 0 dX17_init_0 rfl ?_
  refine cd_cIN [] [] (rEx_init_m H (N := N) (bc := bc - k) (bs := bs - n) M P L a0 h) dX17_init_1 gd_X17_1 rfl q152 q1737 q1666 rfl hgd_X17_1 ⟨cx_le rfl, cx_le rfl⟩ (cd_bud hk) rfl (cx_le rfl) (fun M1 P2 L3 v4 r5 k6 n7 hk2 h => ?_)
  refine cd_addI (h rfl) (cd_bk hk hk2) (fun k8 n9 h hk => ?_)
  refine cq_aload_n 0 dX17_init_4 rfl ?_
  refine cd_aload_n (v := x1) 1 dX17_init_5 rfl ?_
  refine cq_nd H.1.1.1 (fun hn => cd_putRF (v := x1) hX rfl H.1.1.1 hn h.1 h.2 dCl_X17 (cx_lt rfl) rfl rfl rfl cd_nfO rfl q1738 dX17_init_6 (fun P10 h => ?_))
  exact cd_vret hk h rfl dX17_init_9
def rNo_init (N : dNt) (bc bs : Nat) (M : cx_M) (P : dP) (L : dL) (a0 : Nat) (x1 : Option Nat) (Q : cd_Qt) : Prop := rNo_init_0 N bc bs Q a0 M P L 0 0 x1
set_option maxRecDepth 100000 in
theorem rNo_init_m {l : Launch} {g : cx_G} {N : dNt} {bc bs : Nat} {Q : cd_Qt} (H : dR l g N.2) (M : cx_M) (P : dP) (L : dL) (a0 : Nat) (x1 : Option Nat) (h : rNo_init N bc bs M P L a0 x1 Q) : cd_Met l g yX17_init cX17_init (esX17_init bc bs) cd_rV [.ref a0, va_rf x1] M P L Q :=
  cd_met (by decide +kernel) rfl rfl (lv := [(0, .ref a0), (1, va_rf x1)]) (by cases x1 <;> rfl) (by cases x1 <;> exact cx_le rfl) (fun X hX => cq_sub (lv' := [(0, .ref a0), (1, va_rf x1)]) [0, 1] rfl (rNo_init_0_v H hX M P L 0 0 x1 ⟨Nat.zero_le _, Nat.zero_le _⟩ h))

abbrev esX16_init (bc bs : Nat) : cx_S := (4, RX16, cx_rI, { frames := 2, cells := bc, slots := bs, locals := 40 }, none, false)
def rBo_init_0 (N : dNt) (bc bs : Nat) (Q : cd_Qt) (a0 : Nat) (M : cx_M) (P : dP) (L : dL) (k n : Nat) (x1 : Int32) (x2 : Option Nat) (x3 : Option Nat) : Prop :=
  rEx_init N (bc - k) (bs - n) M P L a0 (fun M1 P2 L3 v4 r5 e9 k6 n7 => e9 = 0 → cd_add k k6 n n7 fun k8 n9 =>
  cq_cr x1 <|
  (a0, (0, 3, 0)) ∈ L3 ∧ cd_putn P2 a0 0 x1 fun P10 =>
  (a0, (0, 3, 0)) ∈ L3 ∧ cd_put P10 a0 1 x2 fun P11 =>
  (a0, (0, 3, 0)) ∈ L3 ∧ cd_put P11 a0 2 x3 fun P12 =>
  Q M1 P12 L3 0 none 0 k8 n9)
set_option maxRecDepth 100000 in
theorem rBo_init_0_v {l : Launch} {g : cx_G} {X : cx_X} {N : dNt} {bc bs : Nat} {Q : cd_Qt} {a0 : Nat} (H : dR l g N.2) (hX : X.2.2.2.2.2.2.1.name = "<init>") (M : cx_M) (P : dP) (L : dL) (k n : Nat) (x1 : Int32) (x2 : Option Nat) (x3 : Option Nat) (hk : k ≤ bc ∧ n ≤ bs) (h : rBo_init_0 N bc bs Q a0 M P L k n x1 x2 x3) : cq_V l (dG g L P) X (esX16_init bc bs) cX16_init 0 [(0, .ref a0), (1, .int x1), (2, va_rf x2), (3, va_rf x3)] [] M k n (cd_fin g X (esX16_init bc bs) cd_rV Q) := by
  unfold rBo_init_0 at h
  refine cq_aload_n 0 dX16_init_0 rfl ?_
  refine cd_cIN [] [] (rEx_init_m H (N := N) (bc := bc - k) (bs := bs - n) M P L a0 h) dX16_init_1 gd_X16_1 rfl q152 q1718 q1666 rfl hgd_X16_1 ⟨cx_le rfl, cx_le rfl⟩ (cd_bud hk) rfl (cx_le rfl) (fun M1 P2 L3 v4 r5 k6 n7 hk2 h => ?_)
  refine cd_addI (h rfl) (cd_bk hk hk2) (fun k8 n9 h hk => ?_)
  refine cq_aload_n 0 dX16_init_4 rfl ?_
  refine cq_iload_n 1 dX16_init_5 rfl ?_
  refine cd_crG h (fun hz h => ?_)
  refine cq_nd H.1.1.1 (fun hn => cd_putNF hX rfl H.1.1.1 hn h.1 h.2 dCl_X16 (cx_lt rfl) rfl rfl rfl hz rfl q1719 dX16_init_6 (fun P10 h => ?_))
  refine cq_aload_n 0 dX16_init_9 rfl ?_
  refine cd_aload_n (v := x2) 2 dX16_init_10 rfl ?_
  refine cq_nd H.1.1.1 (fun hn => cd_putRF (v := x2) hX rfl H.1.1.1 hn h.1 h.2 dCl_X16 (cx_lt rfl) rfl rfl rfl cd_nfO rfl q1720 dX16_init_11 (fun P11 h => ?_))
  refine cq_aload_n 0 dX16_init_14 rfl ?_
  refine cd_aload_n (v := x3) 3 dX16_init_15 rfl ?_
  refine cq_nd H.1.1.1 (fun hn => cd_putRF (v := x3) hX rfl H.1.1.1 hn h.1 h.2 dCl_X16 (cx_lt rfl) rfl rfl rfl cd_nfO rfl q1721 dX16_init_16 (fun P12 h => ?_))
  exact cd_vret hk h rfl dX16_init_19
def rBo_init (N : dNt) (bc bs : Nat) (M : cx_M) (P : dP) (L : dL) (a0 : Nat) (x1 : Int32) (x2 : Option Nat) (x3 : Option Nat) (Q : cd_Qt) : Prop := rBo_init_0 N bc bs Q a0 M P L 0 0 x1 x2 x3
set_option maxRecDepth 100000 in
theorem rBo_init_m {l : Launch} {g : cx_G} {N : dNt} {bc bs : Nat} {Q : cd_Qt} (H : dR l g N.2) (M : cx_M) (P : dP) (L : dL) (a0 : Nat) (x1 : Int32) (x2 : Option Nat) (x3 : Option Nat) (h : rBo_init N bc bs M P L a0 x1 x2 x3 Q) : cd_Met l g yX16_init cX16_init (esX16_init bc bs) cd_rV [.ref a0, .int x1, va_rf x2, va_rf x3] M P L Q :=
  cd_met (by decide +kernel) rfl rfl (lv := [(0, .ref a0), (1, .int x1), (2, va_rf x2), (3, va_rf x3)]) (by cases x2 <;> cases x3 <;> rfl) (by cases x2 <;> cases x3 <;> exact cx_le rfl) (fun X hX => cq_sub (lv' := [(0, .ref a0), (1, .int x1), (2, va_rf x2), (3, va_rf x3)]) [0, 1, 2, 3] rfl (rBo_init_0_v H hX M P L 0 0 x1 x2 x3 ⟨Nat.zero_le _, Nat.zero_le _⟩ h))

abbrev esX11_valueOf (bc bs : Nat) : cx_S := (4, RX11, cx_rI, { frames := 4, cells := bc, slots := bs, locals := 90 }, some (.object "CircuitCells$Value"), false)
def rd_valueOf_109 (N : dNt) (bc bs : Nat) (Q : cd_Qt) (a0 : Nat) (M : cx_M) (P : dP) (L : dL) (k n : Nat) (x3 : Int32) : Prop :=
  cq_sw x3 0 [
      (Q M P L 0 (some ((N.2 9200))) 0 k n),
      (Q M P L 0 (some ((N.2 9201))) 0 k n),
      (Q M P L 0 (some ((N.2 9202))) 0 k n),
      (Q M P L 0 (some ((N.2 9203))) 0 k n)
    ] (
      Q M P L 0 none 0 k n)
set_option maxRecDepth 100000 in
theorem rd_valueOf_109_v {l : Launch} {g : cx_G} {X : cx_X} {N : dNt} {bc bs : Nat} {Q : cd_Qt} {a0 : Nat} (H : dR l g N.2) (hX : X.2.2.2.2.2.2.1.name = "valueOf") (M : cx_M) (P : dP) (L : dL) (k n : Nat) (x3 : Int32) (hk : k ≤ bc ∧ n ≤ bs) (h : rd_valueOf_109 N bc bs Q a0 M P L k n x3) : cq_V l (dG g L P) X (esX11_valueOf bc bs) cX11_valueOf 109 [(3, .int x3)] [] M k n (cd_fin g X (esX11_valueOf bc bs) cd_rA Q) := by
  unfold rd_valueOf_109 at h
  refine cq_iload_n 0 dX11_valueOf_109 rfl ?_
  refine cq_table 164 [140, 146, 152, 158] 4 h dX11_valueOf_110 (by decide +kernel) rfl rfl rfl (by decide +kernel) (fun h => ?_) (cd_tabC ?_ (cd_tabC ?_ (cd_tabC ?_ (cd_tabC ?_ cd_tabN))))
  · refine cq_null dX11_valueOf_164 ?_
    exact cd_aret (v := none) hk h rfl (Or.inl ⟨_, rfl⟩) dX11_valueOf_165
  · intro h
    refine cq_at (pc2 := 140) rfl ?_
    refine cq_gets (dR_v0 H) q1686 dX11_valueOf_140 ?_
    refine cq_goto 165 dX11_valueOf_143 rfl ?_
    exact cd_aret (v := (some ((N.2 9200)))) hk h rfl (Or.inl ⟨_, rfl⟩) dX11_valueOf_165
  · intro h
    refine cq_at (pc2 := 146) rfl ?_
    refine cq_gets (dR_v1 H) q1687 dX11_valueOf_146 ?_
    refine cq_goto 165 dX11_valueOf_149 rfl ?_
    exact cd_aret (v := (some ((N.2 9201)))) hk h rfl (Or.inl ⟨_, rfl⟩) dX11_valueOf_165
  · intro h
    refine cq_at (pc2 := 152) rfl ?_
    refine cq_gets (dR_v2 H) q1688 dX11_valueOf_152 ?_
    refine cq_goto 165 dX11_valueOf_155 rfl ?_
    exact cd_aret (v := (some ((N.2 9202)))) hk h rfl (Or.inl ⟨_, rfl⟩) dX11_valueOf_165
  · intro h
    refine cq_at (pc2 := 158) rfl ?_
    refine cq_gets (dR_v3 H) q1689 dX11_valueOf_158 ?_
    refine cq_goto 165 dX11_valueOf_161 rfl ?_
    exact cd_aret (v := (some ((N.2 9203)))) hk h rfl (Or.inl ⟨_, rfl⟩) dX11_valueOf_165
def rd_valueOf_0 (N : dNt) (bc bs : Nat) (Q : cd_Qt) (a0 : Nat) (M : cx_M) (P : dP) (L : dL) (k n : Nat) (x1 : Option Nat) : Prop :=
  cd_nn x1 fun a1 =>
  (a1, (0, 17, 0)) ∈ L ∧
  jS_hashCode N.1 (bc - k) (bs - n) M P L a1 (fun M2 P3 L4 v5 r6 e9 k7 n8 => e9 = 0 → cd_add k k7 n n8 fun k9 n10 =>
  cd_lsw v5 [
      ((-1271344497), (a1, (0, 17, 0)) ∈ L4 ∧
      jS_equalsC N (bc - k9) (bs - n10) M2 P3 L4 a1 25 (fun M11 P12 L13 v14 r15 e9 k16 n17 => e9 = 0 → cd_add k9 k16 n10 n17 fun k18 n19 =>
      if v14 = 0 then (
        rd_valueOf_109 N bc bs Q a0 M11 P12 L13 k18 n19 (-1))
      else (
        rd_valueOf_109 N bc bs Q a0 M11 P12 L13 k18 n19 3))),
      ((-995865464), (a1, (0, 17, 0)) ∈ L4 ∧
      jS_equalsC N (bc - k9) (bs - n10) M2 P3 L4 a1 22 (fun M20 P21 L22 v23 r24 e9 k25 n26 => e9 = 0 → cd_add k9 k25 n10 n26 fun k27 n28 =>
      if v23 = 0 then (
        rd_valueOf_109 N bc bs Q a0 M20 P21 L22 k27 n28 (-1))
      else (
        rd_valueOf_109 N bc bs Q a0 M20 P21 L22 k27 n28 0))),
      (3314326, (a1, (0, 17, 0)) ∈ L4 ∧
      jS_equalsC N (bc - k9) (bs - n10) M2 P3 L4 a1 24 (fun M29 P30 L31 v32 r33 e9 k34 n35 => e9 = 0 → cd_add k9 k34 n10 n35 fun k36 n37 =>
      if v32 = 0 then (
        rd_valueOf_109 N bc bs Q a0 M29 P30 L31 k36 n37 (-1))
      else (
        rd_valueOf_109 N bc bs Q a0 M29 P30 L31 k36 n37 2))),
      (3560141, (a1, (0, 17, 0)) ∈ L4 ∧
      jS_equalsC N (bc - k9) (bs - n10) M2 P3 L4 a1 23 (fun M38 P39 L40 v41 r42 e9 k43 n44 => e9 = 0 → cd_add k9 k43 n10 n44 fun k45 n46 =>
      if v41 = 0 then (
        rd_valueOf_109 N bc bs Q a0 M38 P39 L40 k45 n46 (-1))
      else (
        rd_valueOf_109 N bc bs Q a0 M38 P39 L40 k45 n46 1)))
    ] (
      rd_valueOf_109 N bc bs Q a0 M2 P3 L4 k9 n10 (-1)))
set_option maxRecDepth 100000 in
theorem rd_valueOf_0_v {l : Launch} {g : cx_G} {X : cx_X} {N : dNt} {bc bs : Nat} {Q : cd_Qt} {a0 : Nat} (H : dR l g N.2) (hX : X.2.2.2.2.2.2.1.name = "valueOf") (M : cx_M) (P : dP) (L : dL) (k n : Nat) (x1 : Option Nat) (hk : k ≤ bc ∧ n ≤ bs) (h : rd_valueOf_0 N bc bs Q a0 M P L k n x1) : cq_V l (dG g L P) X (esX11_valueOf bc bs) cX11_valueOf 0 [(1, va_rf x1)] [] M k n (cd_fin g X (esX11_valueOf bc bs) cd_rA Q) := by
  unfold rd_valueOf_0 at h
  refine cd_aload_n (v := x1) 0 dX11_valueOf_0 rfl ?_
  refine cd_astore_n (v := x1) (fun v => [(2, v), (1, va_rf x1)]) dX11_valueOf_1 (cx_lt rfl) (fun v => (by cases x1 <;> rfl)) ?_
  refine cq_iconst (-1) dX11_valueOf_2 cx_ic_m1 ?_
  refine cq_istore_n [(3, .int (-1)), (2, va_rf x1), (1, va_rf x1)] dX11_valueOf_3 (cx_lt rfl) (by cases x1 <;> rfl) ?_
  refine cd_aload_n (v := x1) 1 dX11_valueOf_4 rfl ?_
  obtain ⟨a1, e9, h⟩ := cd_nn_some h
  subst e9
  obtain ⟨hmr, h⟩ := h
  refine cd_cV [] [] (jS_hashCode_m H.1.1 (N := N.1) (bc := bc - k) (bs := bs - n) M P L a1 h) (dG_Rc H.1.1.1 hmr dCl_J9) dX11_valueOf_5 gd_X11_142 hgd_X11_142 ⟨cx_le rfl, cx_le rfl⟩ (cd_bud hk) rfl (cx_le rfl) (fun M2 P3 L4 v5 r6 k7 n8 hk2 h => ?_)
  refine cd_addI (h rfl) (cd_bk hk hk2) (fun k9 n10 h hk => ?_)
  refine cd_lookup 109 [((-1271344497), 97), ((-995865464), 52), (3314326, 82), (3560141, 67)] h dX11_valueOf_8 rfl (by decide +kernel) (fun h => ?_) (cd_tabC ?_ (cd_tabC ?_ (cd_tabC ?_ (cd_tabC ?_ cd_tabN))))
  · refine cq_sub (lv' := [(3, .int (-1))]) [0] rfl ?_
    exact rd_valueOf_109_v H hX M2 P3 L4 k9 n10 (-1) hk h
  · intro h
    refine cq_at (pc2 := 97) rfl ?_
    refine cq_aload_n 1 dX11_valueOf_97 rfl ?_
    refine cd_ldcSw (dR_k273 H) dX11_valueOf_98 ?_
    obtain ⟨hmr, h⟩ := h
    refine cd_cV [.ref (N.2 (1100000 + 25))] [] (jS_equalsC_m H (N := N) (bc := bc - k9) (bs := bs - n10) M2 P3 L4 a1 25 (by decide) h) (dG_Rc H.1.1.1 hmr dCl_J9) dX11_valueOf_101 gd_X11_106C hgd_X11_106C ⟨cx_le rfl, cx_le rfl⟩ (cd_bud hk) rfl (cx_le rfl) (fun M11 P12 L13 v14 r15 k16 n17 hk2 h => ?_)
    refine cd_addI (h rfl) (cd_bk hk hk2) (fun k18 n19 h hk => ?_)
    refine cq_if_eq 109 h dX11_valueOf_104 rfl (fun h => ?_) (fun h => ?_)
    · refine cq_sub (lv' := [(3, .int (-1))]) [0] rfl ?_
      exact rd_valueOf_109_v H hX M11 P12 L13 k18 n19 (-1) hk h
    · refine cq_iconst 3 dX11_valueOf_107 cx_ic_3 ?_
      refine cq_istore_n [(3, .int 3), (2, .ref a1), (1, .ref a1)] dX11_valueOf_108 (cx_lt rfl) rfl ?_
      refine cq_sub (lv' := [(3, .int 3)]) [0] rfl ?_
      exact rd_valueOf_109_v H hX M11 P12 L13 k18 n19 3 hk h
  · intro h
    refine cq_at (pc2 := 52) rfl ?_
    refine cq_aload_n 1 dX11_valueOf_52 rfl ?_
    refine cd_ldcSw (dR_k267 H) dX11_valueOf_53 ?_
    obtain ⟨hmr, h⟩ := h
    refine cd_cV [.ref (N.2 (1100000 + 22))] [] (jS_equalsC_m H (N := N) (bc := bc - k9) (bs := bs - n10) M2 P3 L4 a1 22 (by decide) h) (dG_Rc H.1.1.1 hmr dCl_J9) dX11_valueOf_56 gd_X11_106C hgd_X11_106C ⟨cx_le rfl, cx_le rfl⟩ (cd_bud hk) rfl (cx_le rfl) (fun M20 P21 L22 v23 r24 k25 n26 hk2 h => ?_)
    refine cd_addI (h rfl) (cd_bk hk hk2) (fun k27 n28 h hk => ?_)
    refine cq_if_eq 109 h dX11_valueOf_59 rfl (fun h => ?_) (fun h => ?_)
    · refine cq_sub (lv' := [(3, .int (-1))]) [0] rfl ?_
      exact rd_valueOf_109_v H hX M20 P21 L22 k27 n28 (-1) hk h
    · refine cq_iconst 0 dX11_valueOf_62 cx_ic_0 ?_
      refine cq_istore_n [(3, .int 0), (2, .ref a1), (1, .ref a1)] dX11_valueOf_63 (cx_lt rfl) rfl ?_
      refine cq_goto 109 dX11_valueOf_64 rfl ?_
      refine cq_sub (lv' := [(3, .int 0)]) [0] rfl ?_
      exact rd_valueOf_109_v H hX M20 P21 L22 k27 n28 0 hk h
  · intro h
    refine cq_at (pc2 := 82) rfl ?_
    refine cq_aload_n 1 dX11_valueOf_82 rfl ?_
    refine cd_ldcSw (dR_k271 H) dX11_valueOf_83 ?_
    obtain ⟨hmr, h⟩ := h
    refine cd_cV [.ref (N.2 (1100000 + 24))] [] (jS_equalsC_m H (N := N) (bc := bc - k9) (bs := bs - n10) M2 P3 L4 a1 24 (by decide) h) (dG_Rc H.1.1.1 hmr dCl_J9) dX11_valueOf_86 gd_X11_106C hgd_X11_106C ⟨cx_le rfl, cx_le rfl⟩ (cd_bud hk) rfl (cx_le rfl) (fun M29 P30 L31 v32 r33 k34 n35 hk2 h => ?_)
    refine cd_addI (h rfl) (cd_bk hk hk2) (fun k36 n37 h hk => ?_)
    refine cq_if_eq 109 h dX11_valueOf_89 rfl (fun h => ?_) (fun h => ?_)
    · refine cq_sub (lv' := [(3, .int (-1))]) [0] rfl ?_
      exact rd_valueOf_109_v H hX M29 P30 L31 k36 n37 (-1) hk h
    · refine cq_iconst 2 dX11_valueOf_92 cx_ic_2 ?_
      refine cq_istore_n [(3, .int 2), (2, .ref a1), (1, .ref a1)] dX11_valueOf_93 (cx_lt rfl) rfl ?_
      refine cq_goto 109 dX11_valueOf_94 rfl ?_
      refine cq_sub (lv' := [(3, .int 2)]) [0] rfl ?_
      exact rd_valueOf_109_v H hX M29 P30 L31 k36 n37 2 hk h
  · intro h
    refine cq_at (pc2 := 67) rfl ?_
    refine cq_aload_n 1 dX11_valueOf_67 rfl ?_
    refine cd_ldcSw (dR_k269 H) dX11_valueOf_68 ?_
    obtain ⟨hmr, h⟩ := h
    refine cd_cV [.ref (N.2 (1100000 + 23))] [] (jS_equalsC_m H (N := N) (bc := bc - k9) (bs := bs - n10) M2 P3 L4 a1 23 (by decide) h) (dG_Rc H.1.1.1 hmr dCl_J9) dX11_valueOf_71 gd_X11_106C hgd_X11_106C ⟨cx_le rfl, cx_le rfl⟩ (cd_bud hk) rfl (cx_le rfl) (fun M38 P39 L40 v41 r42 k43 n44 hk2 h => ?_)
    refine cd_addI (h rfl) (cd_bk hk hk2) (fun k45 n46 h hk => ?_)
    refine cq_if_eq 109 h dX11_valueOf_74 rfl (fun h => ?_) (fun h => ?_)
    · refine cq_sub (lv' := [(3, .int (-1))]) [0] rfl ?_
      exact rd_valueOf_109_v H hX M38 P39 L40 k45 n46 (-1) hk h
    · refine cq_iconst 1 dX11_valueOf_77 cx_ic_1 ?_
      refine cq_istore_n [(3, .int 1), (2, .ref a1), (1, .ref a1)] dX11_valueOf_78 (cx_lt rfl) rfl ?_
      refine cq_goto 109 dX11_valueOf_79 rfl ?_
      refine cq_sub (lv' := [(3, .int 1)]) [0] rfl ?_
      exact rd_valueOf_109_v H hX M38 P39 L40 k45 n46 1 hk h
def rd_valueOf (N : dNt) (bc bs : Nat) (M : cx_M) (P : dP) (L : dL) (a0 : Nat) (x1 : Option Nat) (Q : cd_Qt) : Prop := rd_valueOf_0 N bc bs Q a0 M P L 0 0 x1
set_option maxRecDepth 100000 in
theorem rd_valueOf_m {l : Launch} {g : cx_G} {N : dNt} {bc bs : Nat} {Q : cd_Qt} (H : dR l g N.2) (M : cx_M) (P : dP) (L : dL) (a0 : Nat) (x1 : Option Nat) (h : rd_valueOf N bc bs M P L a0 x1 Q) : cd_Met l g yX11_valueOf cX11_valueOf (esX11_valueOf bc bs) cd_rA [.ref a0, va_rf x1] M P L Q :=
  cd_met (by decide +kernel) rfl rfl (lv := [(0, .ref a0), (1, va_rf x1)]) (by cases x1 <;> rfl) (by cases x1 <;> exact cx_le rfl) (fun X hX => cq_sub (lv' := [(1, va_rf x1)]) [1] rfl (rd_valueOf_0_v H hX M P L 0 0 x1 ⟨Nat.zero_le _, Nat.zero_le _⟩ h))

abbrev esX11_expr (d bc bs : Nat) : cx_S := (3, RX11, cx_rI, { frames := 40 * d, cells := bc, slots := bs, locals := 4000 * d }, some (.object "CircuitCells$Expr"), true)

abbrev esX11_part (d : Nat) (bc bs : Nat) : cx_S := (3, RX11, cx_rI, { frames := 40 * d + 8, cells := bc, slots := bs, locals := 4000 * d + 196 }, some (.object "CircuitCells$Expr"), true)
def rd_part_95 (N : dNt) (bc bs : Nat) (Q : cd_Qt) (rE : Nat → Nat → cx_M → dP → dL → Nat → Int32 → cd_Qt → Prop) (a0 : Nat) (M : cx_M) (P : dP) (L : dL) (k n : Nat) (x2 : Option Nat) (z1 : Int32) : Prop :=
  (a0, (0, 10, 0)) ∈ L ∧
  rd_check N (bc - k) (bs - n) M P L a0 z1 3 (fun M1 P2 L3 v4 r5 e9 k6 n7 => (e9 ≠ 0 → Q M1 P2 L3 v4 none e9 (k + k6) (n + n7)) ∧ (e9 = 0 → cd_add k k6 n n7 fun k8 n9 =>
  (a0, (0, 10, 0)) ∈ L3 ∧
  rd_go N (bc - k8) (bs - n9) M1 P2 L3 a0 (fun M10 P11 L12 v13 r14 e9 k15 n16 => e9 = 0 → cd_add k8 k15 n9 n16 fun k17 n18 =>
  cd_new bc bs k17 n18 1 (0, 11, 0) M10 P11 L12 fun a19 M20 P21 L22 k23 n24 =>
  rSe_init N (bc - k23) (bs - n24) M20 P21 L22 a19 x2 (fun M25 P26 L27 v28 r29 e9 k30 n31 => e9 = 0 → cd_add k23 k30 n24 n31 fun k32 n33 =>
  Q M25 P26 L27 0 (some a19) 0 k32 n33))))
set_option maxRecDepth 100000 in
theorem rd_part_95_v {l : Launch} {g : cx_G} {d : Nat} {X : cx_X} {N : dNt} {bc bs : Nat} {Q : cd_Qt} {rE : Nat → Nat → cx_M → dP → dL → Nat → Int32 → cd_Qt → Prop} {a0 : Nat} (H : dR l g N.2) (hX : True) (hrE : ∀ (bc bs : Nat) (M : cx_M) (P : dP) (L : dL) (a0 : Nat) (x1 : Int32) (Q : cd_Qt), rE bc bs M P L a0 x1 Q → cd_MetX l g yX11_expr cX11_expr (esX11_expr d bc bs) cd_rA [.ref a0, .int x1] M P L Q) (M : cx_M) (P : dP) (L : dL) (k n : Nat) (x2 : Option Nat) (z1 : Int32) (hk : k ≤ bc ∧ n ≤ bs) (h : rd_part_95 N bc bs Q rE a0 M P L k n x2 z1) : cq_V l (dG g L P) X (esX11_part d bc bs) cX11_part 95 [(0, .ref a0), (2, va_rf x2)] [.int z1, .ref a0] M k n (cd_finX g X (esX11_part d bc bs) cd_rA Q) := by
  unfold rd_part_95 at h
  refine cq_iconst 3 dX11_part_95 cx_ic_3 ?_
  obtain ⟨hmr, h⟩ := h
  refine cd_xV [.int z1, .int 3] [] (rd_check_m H.1.1.1 H.2.1 (N := N) (bc := bc - k) (bs := bs - n) M P L a0 z1 3 h) (dG_Rc H.1.1.1 hmr dCl_X11) dX11_part_96 gd_X11_119 hgd_X11_119 (by refine ⟨?_, ?_⟩ <;> (dsimp only [esX11_part, fsC]; omega)) (cd_bud hk) rfl (cx_le rfl) rfl (fun _ _ _ _ _ _ _ he h => h.1 he) (fun M1 P2 L3 v4 r5 k6 n7 hk2 h => ?_)
  refine cd_addI (h.2 rfl) (cd_bk hk hk2) (fun k8 n9 h hk => ?_)
  refine cq_aload_n 0 dX11_part_99 rfl ?_
  obtain ⟨hmr, h⟩ := h
  refine cd_cV [] [] (rd_go_m H (N := N) (bc := bc - k8) (bs := bs - n9) M1 P2 L3 a0 h) (dG_Rc H.1.1.1 hmr dCl_X11) dX11_part_100 gd_X11_32 hgd_X11_32 (by refine ⟨?_, ?_⟩ <;> (dsimp only [esX11_part, esX11_go]; omega)) (cd_bud hk) rfl (cx_le rfl) (fun M10 P11 L12 v13 r14 k15 n16 hk2 h => ?_)
  refine cd_addI (h rfl) (cd_bk hk hk2) (fun k17 n18 h hk => ?_)
  refine cd_newO H.1.1.1 h ⟨rfl, rfl⟩ dCl_X15 dDf_X15 q1690 q1691 q154 dX11_part_103 (fun a19 M20 P21 L22 k23 n24 h hk => ?_)
  refine cq_dup dX11_part_106 rfl ?_
  refine cd_aload_n (v := x2) 1 dX11_part_107 rfl ?_
  refine cd_cI [va_rf x2] [.ref a19] (rSe_init_m H (N := N) (bc := bc - k23) (bs := bs - n24) M20 P21 L22 a19 x2 h) dX11_part_108 gd_X11_264 rfl q154 q1692 q1693 rfl hgd_X11_264 (by refine ⟨?_, ?_⟩ <;> (dsimp only [esX11_part, esX15_init]; omega)) (cd_bud hk) rfl (cx_le rfl) (fun M25 P26 L27 v28 r29 k30 n31 hk2 h => ?_)
  refine cd_addI (h rfl) (cd_bk hk hk2) (fun k32 n33 h hk => ?_)
  exact cd_toX (cd_aret (v := (some a19)) hk h rfl (Or.inl ⟨_, rfl⟩) dX11_part_111)
def rd_part_72 (N : dNt) (bc bs : Nat) (Q : cd_Qt) (rE : Nat → Nat → cx_M → dP → dL → Nat → Int32 → cd_Qt → Prop) (a0 : Nat) (M : cx_M) (P : dP) (L : dL) (k n : Nat) (z1 : Int32) : Prop :=
  (a0, (0, 10, 0)) ∈ L ∧
  rd_check N (bc - k) (bs - n) M P L a0 z1 1 (fun M1 P2 L3 v4 r5 e9 k6 n7 => (e9 ≠ 0 → Q M1 P2 L3 v4 none e9 (k + k6) (n + n7)) ∧ (e9 = 0 → cd_add k k6 n n7 fun k8 n9 =>
  (a0, (0, 10, 0)) ∈ L3 ∧ cd_let (P2 a0 7) fun r10 =>
  (a0, (0, 10, 0)) ∈ L3 ∧
  rd_valueOf N (bc - k8) (bs - n9) M1 P2 L3 a0 r10 (fun M11 P12 L13 v14 r15 e9 k16 n17 => e9 = 0 → cd_add k8 k16 n9 n17 fun k18 n19 =>
  cd_if r15 (
    rd_part_95 N bc bs Q rE a0 M11 P12 L13 k18 n19 none 0)
  (fun a20 =>
    rd_part_95 N bc bs Q rE a0 M11 P12 L13 k18 n19 ((some a20)) 1))))
set_option maxRecDepth 100000 in
theorem rd_part_72_v {l : Launch} {g : cx_G} {d : Nat} {X : cx_X} {N : dNt} {bc bs : Nat} {Q : cd_Qt} {rE : Nat → Nat → cx_M → dP → dL → Nat → Int32 → cd_Qt → Prop} {a0 : Nat} (H : dR l g N.2) (hX : True) (hrE : ∀ (bc bs : Nat) (M : cx_M) (P : dP) (L : dL) (a0 : Nat) (x1 : Int32) (Q : cd_Qt), rE bc bs M P L a0 x1 Q → cd_MetX l g yX11_expr cX11_expr (esX11_expr d bc bs) cd_rA [.ref a0, .int x1] M P L Q) (M : cx_M) (P : dP) (L : dL) (k n : Nat) (z1 : Int32) (hk : k ≤ bc ∧ n ≤ bs) (h : rd_part_72 N bc bs Q rE a0 M P L k n z1) : cq_V l (dG g L P) X (esX11_part d bc bs) cX11_part 72 [(0, .ref a0)] [.int z1, .ref a0] M k n (cd_finX g X (esX11_part d bc bs) cd_rA Q) := by
  unfold rd_part_72 at h
  refine cq_iconst 1 dX11_part_72 cx_ic_1 ?_
  obtain ⟨hmr, h⟩ := h
  refine cd_xV [.int z1, .int 1] [] (rd_check_m H.1.1.1 H.2.1 (N := N) (bc := bc - k) (bs := bs - n) M P L a0 z1 1 h) (dG_Rc H.1.1.1 hmr dCl_X11) dX11_part_73 gd_X11_119 hgd_X11_119 (by refine ⟨?_, ?_⟩ <;> (dsimp only [esX11_part, fsC]; omega)) (cd_bud hk) rfl (cx_le rfl) rfl (fun _ _ _ _ _ _ _ he h => h.1 he) (fun M1 P2 L3 v4 r5 k6 n7 hk2 h => ?_)
  refine cd_addI (h.2 rfl) (cd_bk hk hk2) (fun k8 n9 h hk => ?_)
  refine cq_aload_n 0 dX11_part_76 rfl ?_
  refine cq_aload_n 0 dX11_part_77 rfl ?_
  refine cq_getR (dG_FR (k := 7) H.1.1.1 h.1 dCl_X11 (cx_lt rfl) rfl rfl) q1459 dX11_part_78 ?_
  refine cd_letI h.2 (fun r10 h => ?_)
  obtain ⟨hmr, h⟩ := h
  refine cd_cV [va_rf r10] [] (rd_valueOf_m H (N := N) (bc := bc - k8) (bs := bs - n9) M1 P2 L3 a0 r10 h) (dG_Rc H.1.1.1 hmr dCl_X11) dX11_part_81 gd_X11_259 hgd_X11_259 (by refine ⟨?_, ?_⟩ <;> (dsimp only [esX11_part, esX11_valueOf]; omega)) (cd_bud hk) rfl (cx_le rfl) (fun M11 P12 L13 v14 r15 k16 n17 hk2 h => ?_)
  refine cd_addI (h rfl) (cd_bk hk hk2) (fun k18 n19 h hk => ?_)
  refine cd_astore_n (v := r15) (fun v => [(2, v), (0, .ref a0)]) dX11_part_84 (cx_lt rfl) (fun v => rfl) ?_
  refine cq_aload_n 1 dX11_part_85 rfl ?_
  refine cd_aload_n (v := r15) 0 dX11_part_86 rfl ?_
  refine cd_ifnull 94 h dX11_part_87 rfl (fun e9 h => ?_) (fun a20 e9 h => ?_)
  · subst e9
    refine cq_iconst 0 dX11_part_94 cx_ic_0 ?_
    refine cq_sub (lv' := [(0, .ref a0), (2, va_rf none)]) [1, 0] rfl ?_
    exact rd_part_95_v H hX hrE M11 P12 L13 k18 n19 none 0 hk h
  · subst e9
    refine cq_iconst 1 dX11_part_90 cx_ic_1 ?_
    refine cq_goto 95 dX11_part_91 rfl ?_
    refine cq_sub (lv' := [(0, .ref a0), (2, va_rf (some a20))]) [1, 0] rfl ?_
    exact rd_part_95_v H hX hrE M11 P12 L13 k18 n19 ((some a20)) 1 hk h
def rd_part_0 (N : dNt) (bc bs : Nat) (Q : cd_Qt) (rE : Nat → Nat → cx_M → dP → dL → Nat → Int32 → cd_Qt → Prop) (a0 : Nat) (M : cx_M) (P : dP) (L : dL) (k n : Nat) (x1 : Int32) : Prop :=
  (a0, (0, 10, 0)) ∈ L ∧ cd_let (P a0 6) fun r1 =>
  if r1 = (some ((N.2 9211))) then (
    cd_new bc bs k n 1 (0, 13, 0) M P L fun a39 M40 P41 L42 k43 n44 =>
    (a0, (0, 10, 0)) ∈ L42 ∧
    rd_number N (bc - k43) (bs - n44) M40 P41 L42 a0 0 9999 (fun M45 P46 L47 v48 r49 e9 k50 n51 => (e9 ≠ 0 → Q M45 P46 L47 v48 none e9 (k43 + k50) (n44 + n51)) ∧ (e9 = 0 → cd_add k43 k50 n44 n51 fun k52 n53 =>
    rTo_init N (bc - k52) (bs - n53) M45 P46 L47 a39 v48 (fun M54 P55 L56 v57 r58 e9 k59 n60 => e9 = 0 → cd_add k52 k59 n53 n60 fun k61 n62 =>
    Q M54 P55 L56 0 (some a39) 0 k61 n62))))
  else (
    (a0, (0, 10, 0)) ∈ L ∧
    rd_is N (bc - k) (bs - n) M P L a0 12 (fun M2 P3 L4 v5 r6 e9 k7 n8 => e9 = 0 → cd_add k k7 n n8 fun k9 n10 =>
    if v5 = 0 then (
      (a0, (0, 10, 0)) ∈ L4 ∧ cd_let (P3 a0 6) fun r11 =>
      if r11 = (some ((N.2 9210))) then (
        rd_part_72 N bc bs Q rE a0 M2 P3 L4 k9 n10 1)
      else (
        rd_part_72 N bc bs Q rE a0 M2 P3 L4 k9 n10 0))
    else (
      (a0, (0, 10, 0)) ∈ L4 ∧
      rd_go N (bc - k9) (bs - n10) M2 P3 L4 a0 (fun M12 P13 L14 v15 r16 e9 k17 n18 => e9 = 0 → cd_add k9 k17 n10 n18 fun k19 n20 =>
      (a0, (0, 10, 0)) ∈ L14 ∧
      rE (bc - k19) (bs - n20) M12 P13 L14 a0 (x1 + 1) (fun M21 P22 L23 v24 r25 e9 k26 n27 => (e9 ≠ 0 → Q M21 P22 L23 v24 none e9 (k19 + k26) (n20 + n27)) ∧ (e9 = 0 → cd_add k19 k26 n20 n27 fun k28 n29 =>
      (a0, (0, 10, 0)) ∈ L23 ∧
      rd_need N (bc - k28) (bs - n29) M21 P22 L23 a0 21 (fun M30 P31 L32 v33 r34 e9 k35 n36 => (e9 ≠ 0 → Q M30 P31 L32 v33 none e9 (k28 + k35) (n29 + n36)) ∧ (e9 = 0 → cd_add k28 k35 n29 n36 fun k37 n38 =>
      Q M30 P31 L32 0 r25 0 k37 n38))))))))
set_option maxRecDepth 100000 in
theorem rd_part_0_v {l : Launch} {g : cx_G} {d : Nat} {X : cx_X} {N : dNt} {bc bs : Nat} {Q : cd_Qt} {rE : Nat → Nat → cx_M → dP → dL → Nat → Int32 → cd_Qt → Prop} {a0 : Nat} (H : dR l g N.2) (hX : True) (hrE : ∀ (bc bs : Nat) (M : cx_M) (P : dP) (L : dL) (a0 : Nat) (x1 : Int32) (Q : cd_Qt), rE bc bs M P L a0 x1 Q → cd_MetX l g yX11_expr cX11_expr (esX11_expr d bc bs) cd_rA [.ref a0, .int x1] M P L Q) (M : cx_M) (P : dP) (L : dL) (k n : Nat) (x1 : Int32) (hk : k ≤ bc ∧ n ≤ bs) (h : rd_part_0 N bc bs Q rE a0 M P L k n x1) : cq_V l (dG g L P) X (esX11_part d bc bs) cX11_part 0 [(0, .ref a0), (1, .int x1)] [] M k n (cd_finX g X (esX11_part d bc bs) cd_rA Q) := by
  unfold rd_part_0 at h
  refine cq_aload_n 0 dX11_part_0 rfl ?_
  refine cq_getR (dG_FR (k := 6) H.1.1.1 h.1 dCl_X11 (cx_lt rfl) rfl rfl) q1458 dX11_part_1 ?_
  refine cd_letI h.2 (fun r1 h => ?_)
  refine cq_gets (dR_s1 H) q1429 dX11_part_4 ?_
  refine cd_acmp_ne (rx := r1) (ry := (some ((N.2 9211)))) 26 h dX11_part_7 rfl (fun h => ?_) (fun h => ?_)
  · refine cq_aload_n 0 dX11_part_26 rfl ?_
    refine cq_ldcS (dR_k209 H) dX11_part_27 ?_
    obtain ⟨hmr, h⟩ := h
    refine cd_cV [.ref (N.2 (1100000 + 12))] [] (rd_is_m H (N := N) (bc := bc - k) (bs := bs - n) M P L a0 12 (by decide) h) (dG_Rc H.1.1.1 hmr dCl_X11) dX11_part_29 gd_X11_115 hgd_X11_115 (by refine ⟨?_, ?_⟩ <;> (dsimp only [esX11_part, esX11_is]; omega)) (cd_bud hk) rfl (cx_le rfl) (fun M2 P3 L4 v5 r6 k7 n8 hk2 h => ?_)
    refine cd_addI (h rfl) (cd_bk hk hk2) (fun k9 n10 h hk => ?_)
    refine cq_if_eq 56 h dX11_part_32 rfl (fun h => ?_) (fun h => ?_)
    · refine cq_aload_n 0 dX11_part_56 rfl ?_
      refine cq_aload_n 0 dX11_part_57 rfl ?_
      refine cq_getR (dG_FR (k := 6) H.1.1.1 h.1 dCl_X11 (cx_lt rfl) rfl rfl) q1458 dX11_part_58 ?_
      refine cd_letI h.2 (fun r11 h => ?_)
      refine cq_gets (dR_s0 H) q1424 dX11_part_61 ?_
      refine cd_acmp_ne (rx := r11) (ry := (some ((N.2 9210)))) 71 h dX11_part_64 rfl (fun h => ?_) (fun h => ?_)
      · refine cq_iconst 0 dX11_part_71 cx_ic_0 ?_
        refine cq_sub (lv' := [(0, .ref a0)]) [0] rfl ?_
        exact rd_part_72_v H hX hrE M2 P3 L4 k9 n10 0 hk h
      · refine cq_iconst 1 dX11_part_67 cx_ic_1 ?_
        refine cq_goto 72 dX11_part_68 rfl ?_
        refine cq_sub (lv' := [(0, .ref a0)]) [0] rfl ?_
        exact rd_part_72_v H hX hrE M2 P3 L4 k9 n10 1 hk h
    · refine cq_aload_n 0 dX11_part_35 rfl ?_
      obtain ⟨hmr, h⟩ := h
      refine cd_cV [] [] (rd_go_m H (N := N) (bc := bc - k9) (bs := bs - n10) M2 P3 L4 a0 h) (dG_Rc H.1.1.1 hmr dCl_X11) dX11_part_36 gd_X11_32 hgd_X11_32 (by refine ⟨?_, ?_⟩ <;> (dsimp only [esX11_part, esX11_go]; omega)) (cd_bud hk) rfl (cx_le rfl) (fun M12 P13 L14 v15 r16 k17 n18 hk2 h => ?_)
      refine cd_addI (h rfl) (cd_bk hk hk2) (fun k19 n20 h hk => ?_)
      refine cq_aload_n 0 dX11_part_39 rfl ?_
      refine cq_iload_n 1 dX11_part_40 rfl ?_
      refine cq_iconst 1 dX11_part_41 cx_ic_1 ?_
      refine cq_iadd dX11_part_42 ?_
      obtain ⟨hmr, h⟩ := h
      refine cd_xV [.int (x1 + 1)] [] (hrE (bc - k19) (bs - n20) M12 P13 L14 a0 (x1 + 1) _ h) (dG_Rc H.1.1.1 hmr dCl_X11) dX11_part_43 gd_X11_200 hgd_X11_200 (by refine ⟨?_, ?_⟩ <;> (dsimp only [esX11_part, esX11_expr]; omega)) (cd_bud hk) rfl (cx_le rfl) rfl (fun _ _ _ _ _ _ _ he h => h.1 he) (fun M21 P22 L23 v24 r25 k26 n27 hk2 h => ?_)
      refine cd_addI (h.2 rfl) (cd_bk hk hk2) (fun k28 n29 h hk => ?_)
      refine cd_astore_n (v := r25) (fun v => [(2, v), (0, .ref a0), (1, .int x1)]) dX11_part_46 (cx_lt rfl) (fun v => rfl) ?_
      refine cq_aload_n 1 dX11_part_47 rfl ?_
      refine cd_ldcSw (dR_k257 H) dX11_part_48 ?_
      obtain ⟨hmr, h⟩ := h
      refine cd_xV [.ref (N.2 (1100000 + 21))] [] (rd_need_m H (N := N) (bc := bc - k28) (bs := bs - n29) M21 P22 L23 a0 21 (by decide) h) (dG_Rc H.1.1.1 hmr dCl_X11) dX11_part_51 gd_X11_138 hgd_X11_138 (by refine ⟨?_, ?_⟩ <;> (dsimp only [esX11_part, esX11_need]; omega)) (cd_bud hk) rfl (cx_le rfl) rfl (fun _ _ _ _ _ _ _ he h => h.1 he) (fun M30 P31 L32 v33 r34 k35 n36 hk2 h => ?_)
      refine cd_addI (h.2 rfl) (cd_bk hk hk2) (fun k37 n38 h hk => ?_)
      refine cd_aload_n (v := r25) 0 dX11_part_54 rfl ?_
      exact cd_toX (cd_aret (v := r25) hk h rfl (Or.inl ⟨_, rfl⟩) dX11_part_55)
  · refine cd_newO H.1.1.1 h ⟨rfl, rfl⟩ dCl_X14 dDf_X14 q1660 q1661 q153 dX11_part_10 (fun a39 M40 P41 L42 k43 n44 h hk => ?_)
    refine cq_dup dX11_part_13 rfl ?_
    refine cq_aload_n 0 dX11_part_14 rfl ?_
    refine cq_iconst 0 dX11_part_15 cx_ic_0 ?_
    refine cq_sipush 9999 dX11_part_16 cx_sp_9999 ?_
    obtain ⟨hmr, h⟩ := h
    refine cd_xV [.int 0, .int 9999] [.ref a39, .ref a39] (rd_number_m H (N := N) (bc := bc - k43) (bs := bs - n44) M40 P41 L42 a0 0 9999 h) (dG_Rc H.1.1.1 hmr dCl_X11) dX11_part_19 gd_X11_164 hgd_X11_164 (by refine ⟨?_, ?_⟩ <;> (dsimp only [esX11_part, esX11_number]; omega)) (cd_bud hk) rfl (cx_le rfl) rfl (fun _ _ _ _ _ _ _ he h => h.1 he) (fun M45 P46 L47 v48 r49 k50 n51 hk2 h => ?_)
    refine cd_addI (h.2 rfl) (cd_bk hk hk2) (fun k52 n53 h hk => ?_)
    refine cd_cI [.int v48] [.ref a39] (rTo_init_m H (N := N) (bc := bc - k52) (bs := bs - n53) M45 P46 L47 a39 v48 h) dX11_part_22 gd_X11_256 rfl q153 q1662 q1663 rfl hgd_X11_256 (by refine ⟨?_, ?_⟩ <;> (dsimp only [esX11_part, esX14_init]; omega)) (cd_bud hk) rfl (cx_le rfl) (fun M54 P55 L56 v57 r58 k59 n60 hk2 h => ?_)
    refine cd_addI (h rfl) (cd_bk hk hk2) (fun k61 n62 h hk => ?_)
    exact cd_toX (cd_aret (v := (some a39)) hk h rfl (Or.inl ⟨_, rfl⟩) dX11_part_25)
def rd_part (N : dNt) (bc bs : Nat) (M : cx_M) (P : dP) (L : dL) (rE : Nat → Nat → cx_M → dP → dL → Nat → Int32 → cd_Qt → Prop) (a0 : Nat) (x1 : Int32) (Q : cd_Qt) : Prop := rd_part_0 N bc bs Q rE a0 M P L 0 0 x1
set_option maxRecDepth 100000 in
theorem rd_part_m {l : Launch} {g : cx_G} {d : Nat} {N : dNt} {bc bs : Nat} {Q : cd_Qt} (H : dR l g N.2) (M : cx_M) (P : dP) (L : dL) (rE : Nat → Nat → cx_M → dP → dL → Nat → Int32 → cd_Qt → Prop) (a0 : Nat) (x1 : Int32) (hrE : ∀ (bc bs : Nat) (M : cx_M) (P : dP) (L : dL) (a0 : Nat) (x1 : Int32) (Q : cd_Qt), rE bc bs M P L a0 x1 Q → cd_MetX l g yX11_expr cX11_expr (esX11_expr d bc bs) cd_rA [.ref a0, .int x1] M P L Q) (h : rd_part N bc bs M P L rE a0 x1 Q) : cd_MetX l g yX11_part cX11_part (esX11_part d bc bs) cd_rA [.ref a0, .int x1] M P L Q :=
  cd_metX (by decide +kernel) rfl rfl (lv := [(0, .ref a0), (1, .int x1)]) rfl (cx_le rfl) (fun X hX => cq_sub (lv' := [(0, .ref a0), (1, .int x1)]) [0, 1] rfl (rd_part_0_v H hX hrE M P L 0 0 x1 ⟨Nat.zero_le _, Nat.zero_le _⟩ h))

abbrev esX11_product (d : Nat) (bc bs : Nat) : cx_S := (4, RX11, cx_rI, { frames := 40 * d + 9, cells := bc, slots := bs, locals := 4000 * d + 218 }, some (.object "CircuitCells$Expr"), true)
def rd_product_24 (N : dNt) (bc bs : Nat) (Q : cd_Qt) (rE : Nat → Nat → cx_M → dP → dL → Nat → Int32 → cd_Qt → Prop) (a0 : Nat) (r_6 : cx_M → dP → dL → Nat → Nat → Int32 → Option Nat → Prop) (M : cx_M) (P : dP) (L : dL) (k n : Nat) (x1 : Int32) (x2 : Option Nat) : Prop :=
  (a0, (0, 10, 0)) ∈ L ∧ cd_let (P a0 7) fun r1 =>
  cd_nn r1 fun a2 =>
  (a2, (0, 17, 0)) ∈ L ∧
  jS_charAt N (bc - k) (bs - n) M P L a2 0 (fun M3 P4 L5 v6 r7 e9 k8 n9 => e9 = 0 → cd_add k k8 n n9 fun k10 n11 =>
  (a0, (0, 10, 0)) ∈ L5 ∧
  rd_go N (bc - k10) (bs - n11) M3 P4 L5 a0 (fun M12 P13 L14 v15 r16 e9 k17 n18 => e9 = 0 → cd_add k10 k17 n11 n18 fun k19 n20 =>
  cd_new bc bs k19 n20 3 (0, 3, 0) M12 P13 L14 fun a21 M22 P23 L24 k25 n26 =>
  (a0, (0, 10, 0)) ∈ L24 ∧
  rd_part N (bc - k25) (bs - n26) M22 P23 L24 rE a0 x1 (fun M27 P28 L29 v30 r31 e9 k32 n33 => (e9 ≠ 0 → Q M27 P28 L29 v30 none e9 (k25 + k32) (n26 + n33)) ∧ (e9 = 0 → cd_add k25 k32 n26 n33 fun k34 n35 =>
  rBo_init N (bc - k34) (bs - n35) M27 P28 L29 a21 v6 x2 r31 (fun M36 P37 L38 v39 r40 e9 k41 n42 => e9 = 0 → cd_add k34 k41 n35 n42 fun k43 n44 =>
  r_6 M36 P37 L38 k43 n44 x1 ((some a21)))))))
set_option maxRecDepth 100000 in
theorem rd_product_24_v {l : Launch} {g : cx_G} {d : Nat} {X : cx_X} {N : dNt} {bc bs : Nat} {Q : cd_Qt} {rE : Nat → Nat → cx_M → dP → dL → Nat → Int32 → cd_Qt → Prop} {a0 : Nat} {r_6 : cx_M → dP → dL → Nat → Nat → Int32 → Option Nat → Prop} (H : dR l g N.2) (hX : True) (hrE : ∀ (bc bs : Nat) (M : cx_M) (P : dP) (L : dL) (a0 : Nat) (x1 : Int32) (Q : cd_Qt), rE bc bs M P L a0 x1 Q → cd_MetX l g yX11_expr cX11_expr (esX11_expr d bc bs) cd_rA [.ref a0, .int x1] M P L Q) (hr_6 : ∀ (M : cx_M) (P : dP) (L : dL) (k n : Nat) (x1 : Int32) (x2 : Option Nat), (k ≤ bc ∧ n ≤ bs) → r_6 M P L k n x1 x2 → cq_V l (dG g L P) X (esX11_product d bc bs) cX11_product 6 [(0, .ref a0), (1, .int x1), (2, va_rf x2)] [] M k n (cd_finX g X (esX11_product d bc bs) cd_rA Q)) (M : cx_M) (P : dP) (L : dL) (k n : Nat) (x1 : Int32) (x2 : Option Nat) (hk : k ≤ bc ∧ n ≤ bs) (h : rd_product_24 N bc bs Q rE a0 r_6 M P L k n x1 x2) : cq_V l (dG g L P) X (esX11_product d bc bs) cX11_product 24 [(0, .ref a0), (1, .int x1), (2, va_rf x2)] [] M k n (cd_finX g X (esX11_product d bc bs) cd_rA Q) := by
  unfold rd_product_24 at h
  refine cq_aload_n 0 dX11_product_24 rfl ?_
  refine cq_getR (dG_FR (k := 7) H.1.1.1 h.1 dCl_X11 (cx_lt rfl) rfl rfl) q1459 dX11_product_25 ?_
  refine cd_letI h.2 (fun r1 h => ?_)
  refine cq_iconst 0 dX11_product_28 cx_ic_0 ?_
  obtain ⟨a2, e9, h⟩ := cd_nn_some h
  subst e9
  obtain ⟨hmr, h⟩ := h
  refine cd_cV [.int 0] [] (jS_charAt_m H (N := N) (bc := bc - k) (bs := bs - n) M P L a2 0 h) (dG_Rc H.1.1.1 hmr dCl_J9) dX11_product_29 gd_X11_233 hgd_X11_233 (by refine ⟨?_, ?_⟩ <;> (dsimp only [esX11_product, esJ9_charAt]; omega)) (cd_bud hk) rfl (cx_le rfl) (fun M3 P4 L5 v6 r7 k8 n9 hk2 h => ?_)
  refine cd_addI (h rfl) (cd_bk hk hk2) (fun k10 n11 h hk => ?_)
  refine cq_istore_n [(3, .int v6), (0, .ref a0), (1, .int x1), (2, va_rf x2)] dX11_product_32 (cx_lt rfl) (by cases x2 <;> rfl) ?_
  refine cq_aload_n 1 dX11_product_33 rfl ?_
  obtain ⟨hmr, h⟩ := h
  refine cd_cV [] [] (rd_go_m H (N := N) (bc := bc - k10) (bs := bs - n11) M3 P4 L5 a0 h) (dG_Rc H.1.1.1 hmr dCl_X11) dX11_product_34 gd_X11_32 hgd_X11_32 (by refine ⟨?_, ?_⟩ <;> (dsimp only [esX11_product, esX11_go]; omega)) (cd_bud hk) rfl (cx_le rfl) (fun M12 P13 L14 v15 r16 k17 n18 hk2 h => ?_)
  refine cd_addI (h rfl) (cd_bk hk hk2) (fun k19 n20 h hk => ?_)
  refine cd_newO H.1.1.1 h ⟨rfl, rfl⟩ dCl_X16 dDf_X16 q1713 q1714 q155 dX11_product_37 (fun a21 M22 P23 L24 k25 n26 h hk => ?_)
  refine cq_dup dX11_product_40 rfl ?_
  refine cq_iload_n 0 dX11_product_41 rfl ?_
  refine cd_aload_n (v := x2) 3 dX11_product_42 rfl ?_
  refine cq_aload_n 1 dX11_product_43 rfl ?_
  refine cq_iload_n 2 dX11_product_44 rfl ?_
  obtain ⟨hmr, h⟩ := h
  refine cd_xV [.int x1] [va_rf x2, .int v6, .ref a21, .ref a21] (rd_part_m H (N := N) (bc := bc - k25) (bs := bs - n26) M22 P23 L24 rE a0 x1 hrE h) (dG_Rc H.1.1.1 hmr dCl_X11) dX11_product_45 gd_X11_247 hgd_X11_247 (by refine ⟨?_, ?_⟩ <;> (dsimp only [esX11_product, esX11_part]; omega)) (cd_bud hk) rfl (by simp only [List.map, va_rf_cat, List.sum_cons, List.sum_nil]; exact cx_le rfl) rfl (fun _ _ _ _ _ _ _ he h => h.1 he) (fun M27 P28 L29 v30 r31 k32 n33 hk2 h => ?_)
  refine cd_addI (h.2 rfl) (cd_bk hk hk2) (fun k34 n35 h hk => ?_)
  refine cd_cI [.int v6, va_rf x2, va_rf r31] [.ref a21] (rBo_init_m H (N := N) (bc := bc - k34) (bs := bs - n35) M27 P28 L29 a21 v6 x2 r31 h) dX11_product_48 gd_X11_218 rfl q155 q1715 q1716 rfl hgd_X11_218 (by refine ⟨?_, ?_⟩ <;> (dsimp only [esX11_product, esX16_init]; omega)) (cd_bud hk) rfl (cx_le rfl) (fun M36 P37 L38 v39 r40 k41 n42 hk2 h => ?_)
  refine cd_addI (h rfl) (cd_bk hk hk2) (fun k43 n44 h hk => ?_)
  refine cq_astore_n [(2, .ref a21), (3, .int v6), (0, .ref a0), (1, .int x1)] dX11_product_51 (cx_lt rfl) rfl ?_
  refine cq_goto 6 dX11_product_52 rfl ?_
  refine cq_sub (lv' := [(0, .ref a0), (1, .int x1), (2, va_rf (some a21))]) [2, 3, 0] rfl ?_
  exact hr_6 M36 P37 L38 k43 n44 x1 ((some a21)) hk h
def rd_product_6b (N : dNt) (bc bs : Nat) (Q : cd_Qt) (rE : Nat → Nat → cx_M → dP → dL → Nat → Int32 → cd_Qt → Prop) (a0 : Nat) (r_6 : cx_M → dP → dL → Nat → Nat → Int32 → Option Nat → Prop) (M : cx_M) (P : dP) (L : dL) (k n : Nat) (x1 : Int32) (x2 : Option Nat) : Prop :=
  (a0, (0, 10, 0)) ∈ L ∧
  rd_is N (bc - k) (bs - n) M P L a0 19 (fun M1 P2 L3 v4 r5 e9 k6 n7 => e9 = 0 → cd_add k k6 n n7 fun k8 n9 =>
  if v4 = 0 then (
    (a0, (0, 10, 0)) ∈ L3 ∧
    rd_is N (bc - k8) (bs - n9) M1 P2 L3 a0 20 (fun M10 P11 L12 v13 r14 e9 k15 n16 => e9 = 0 → cd_add k8 k15 n9 n16 fun k17 n18 =>
    if v13 = 0 then (
      Q M10 P11 L12 0 x2 0 k17 n18)
    else (
      rd_product_24 N bc bs Q rE a0 r_6 M10 P11 L12 k17 n18 x1 x2)))
  else (
    rd_product_24 N bc bs Q rE a0 r_6 M1 P2 L3 k8 n9 x1 x2))
set_option maxRecDepth 100000 in
theorem rd_product_6b_v {l : Launch} {g : cx_G} {d : Nat} {X : cx_X} {N : dNt} {bc bs : Nat} {Q : cd_Qt} {rE : Nat → Nat → cx_M → dP → dL → Nat → Int32 → cd_Qt → Prop} {a0 : Nat} {r_6 : cx_M → dP → dL → Nat → Nat → Int32 → Option Nat → Prop} (H : dR l g N.2) (hX : True) (hrE : ∀ (bc bs : Nat) (M : cx_M) (P : dP) (L : dL) (a0 : Nat) (x1 : Int32) (Q : cd_Qt), rE bc bs M P L a0 x1 Q → cd_MetX l g yX11_expr cX11_expr (esX11_expr d bc bs) cd_rA [.ref a0, .int x1] M P L Q) (hr_6 : ∀ (M : cx_M) (P : dP) (L : dL) (k n : Nat) (x1 : Int32) (x2 : Option Nat), (k ≤ bc ∧ n ≤ bs) → r_6 M P L k n x1 x2 → cq_V l (dG g L P) X (esX11_product d bc bs) cX11_product 6 [(0, .ref a0), (1, .int x1), (2, va_rf x2)] [] M k n (cd_finX g X (esX11_product d bc bs) cd_rA Q)) (M : cx_M) (P : dP) (L : dL) (k n : Nat) (x1 : Int32) (x2 : Option Nat) (hk : k ≤ bc ∧ n ≤ bs) (h : rd_product_6b N bc bs Q rE a0 r_6 M P L k n x1 x2) : cq_V l (dG g L P) X (esX11_product d bc bs) cX11_product 6 [(0, .ref a0), (1, .int x1), (2, va_rf x2)] [] M k n (cd_finX g X (esX11_product d bc bs) cd_rA Q) := by
  unfold rd_product_6b at h
  refine cq_aload_n 0 dX11_product_6 rfl ?_
  refine cq_ldcS (dR_k250 H) dX11_product_7 ?_
  obtain ⟨hmr, h⟩ := h
  refine cd_cV [.ref (N.2 (1100000 + 19))] [] (rd_is_m H (N := N) (bc := bc - k) (bs := bs - n) M P L a0 19 (by decide) h) (dG_Rc H.1.1.1 hmr dCl_X11) dX11_product_9 gd_X11_115 hgd_X11_115 (by refine ⟨?_, ?_⟩ <;> (dsimp only [esX11_product, esX11_is]; omega)) (cd_bud hk) rfl (cx_le rfl) (fun M1 P2 L3 v4 r5 k6 n7 hk2 h => ?_)
  refine cd_addI (h rfl) (cd_bk hk hk2) (fun k8 n9 h hk => ?_)
  refine cq_if_ne 24 h dX11_product_12 rfl (fun h => ?_) (fun h => ?_)
  · exact rd_product_24_v H hX hrE hr_6 M1 P2 L3 k8 n9 x1 x2 hk h
  · refine cq_aload_n 0 dX11_product_15 rfl ?_
    refine cq_ldcS (dR_k252 H) dX11_product_16 ?_
    obtain ⟨hmr, h⟩ := h
    refine cd_cV [.ref (N.2 (1100000 + 20))] [] (rd_is_m H (N := N) (bc := bc - k8) (bs := bs - n9) M1 P2 L3 a0 20 (by decide) h) (dG_Rc H.1.1.1 hmr dCl_X11) dX11_product_18 gd_X11_115 hgd_X11_115 (by refine ⟨?_, ?_⟩ <;> (dsimp only [esX11_product, esX11_is]; omega)) (cd_bud hk) rfl (cx_le rfl) (fun M10 P11 L12 v13 r14 k15 n16 hk2 h => ?_)
    refine cd_addI (h rfl) (cd_bk hk hk2) (fun k17 n18 h hk => ?_)
    refine cq_if_eq 55 h dX11_product_21 rfl (fun h => ?_) (fun h => ?_)
    · refine cd_aload_n (v := x2) 2 dX11_product_55 rfl ?_
      exact cd_toX (cd_aret (v := x2) hk h rfl (Or.inl ⟨_, rfl⟩) dX11_product_56)
    · exact rd_product_24_v H hX hrE hr_6 M10 P11 L12 k17 n18 x1 x2 hk h
def rd_product_6 (N : dNt) (bc bs : Nat) (Q : cd_Qt) (rE : Nat → Nat → cx_M → dP → dL → Nat → Int32 → cd_Qt → Prop) (a0 : Nat) : Nat → cx_M → dP → dL → Nat → Nat → Int32 → Option Nat → Prop :=
  cx_fix (fun _ _ _ _ _ _ _ => False) (fun r_6 => rd_product_6b N bc bs Q rE a0 r_6)
theorem rd_product_6_v {l : Launch} {g : cx_G} {d : Nat} {X : cx_X} {N : dNt} {bc bs : Nat} {Q : cd_Qt} {rE : Nat → Nat → cx_M → dP → dL → Nat → Int32 → cd_Qt → Prop} {a0 : Nat} (H : dR l g N.2) (hX : True) (hrE : ∀ (bc bs : Nat) (M : cx_M) (P : dP) (L : dL) (a0 : Nat) (x1 : Int32) (Q : cd_Qt), rE bc bs M P L a0 x1 Q → cd_MetX l g yX11_expr cX11_expr (esX11_expr d bc bs) cd_rA [.ref a0, .int x1] M P L Q) : ∀ (f : Nat) (M : cx_M) (P : dP) (L : dL) (k n : Nat) (x1 : Int32) (x2 : Option Nat), (k ≤ bc ∧ n ≤ bs) → rd_product_6 N bc bs Q rE a0 f M P L k n x1 x2 → cq_V l (dG g L P) X (esX11_product d bc bs) cX11_product 6 [(0, .ref a0), (1, .int x1), (2, va_rf x2)] [] M k n (cd_finX g X (esX11_product d bc bs) cd_rA Q) :=
  cx_fixI (fun (r : cx_M → dP → dL → Nat → Nat → Int32 → Option Nat → Prop) => ∀ (M : cx_M) (P : dP) (L : dL) (k n : Nat) (x1 : Int32) (x2 : Option Nat), (k ≤ bc ∧ n ≤ bs) → r M P L k n x1 x2 → cq_V l (dG g L P) X (esX11_product d bc bs) cX11_product 6 [(0, .ref a0), (1, .int x1), (2, va_rf x2)] [] M k n (cd_finX g X (esX11_product d bc bs) cd_rA Q)) (fun _ _ _ _ _ _ _ _ h => by cases h) (fun r hr M P L k n x1 x2 hk h => rd_product_6b_v H hX hrE hr M P L k n x1 x2 hk h)
def rd_product_0 (N : dNt) (bc bs : Nat) (Q : cd_Qt) (rE : Nat → Nat → cx_M → dP → dL → Nat → Int32 → cd_Qt → Prop) (a0 : Nat) (M : cx_M) (P : dP) (L : dL) (k n : Nat) (x1 : Int32) : Prop :=
  (a0, (0, 10, 0)) ∈ L ∧
  rd_part N (bc - k) (bs - n) M P L rE a0 x1 (fun M1 P2 L3 v4 r5 e9 k6 n7 => (e9 ≠ 0 → Q M1 P2 L3 v4 none e9 (k + k6) (n + n7)) ∧ (e9 = 0 → cd_add k k6 n n7 fun k8 n9 =>
  rd_product_6 N bc bs Q rE a0 N.1 M1 P2 L3 k8 n9 x1 r5))
set_option maxRecDepth 100000 in
theorem rd_product_0_v {l : Launch} {g : cx_G} {d : Nat} {X : cx_X} {N : dNt} {bc bs : Nat} {Q : cd_Qt} {rE : Nat → Nat → cx_M → dP → dL → Nat → Int32 → cd_Qt → Prop} {a0 : Nat} (H : dR l g N.2) (hX : True) (hrE : ∀ (bc bs : Nat) (M : cx_M) (P : dP) (L : dL) (a0 : Nat) (x1 : Int32) (Q : cd_Qt), rE bc bs M P L a0 x1 Q → cd_MetX l g yX11_expr cX11_expr (esX11_expr d bc bs) cd_rA [.ref a0, .int x1] M P L Q) (M : cx_M) (P : dP) (L : dL) (k n : Nat) (x1 : Int32) (hk : k ≤ bc ∧ n ≤ bs) (h : rd_product_0 N bc bs Q rE a0 M P L k n x1) : cq_V l (dG g L P) X (esX11_product d bc bs) cX11_product 0 [(0, .ref a0), (1, .int x1)] [] M k n (cd_finX g X (esX11_product d bc bs) cd_rA Q) := by
  unfold rd_product_0 at h
  refine cq_aload_n 0 dX11_product_0 rfl ?_
  refine cq_iload_n 1 dX11_product_1 rfl ?_
  obtain ⟨hmr, h⟩ := h
  refine cd_xV [.int x1] [] (rd_part_m H (N := N) (bc := bc - k) (bs := bs - n) M P L rE a0 x1 hrE h) (dG_Rc H.1.1.1 hmr dCl_X11) dX11_product_2 gd_X11_247 hgd_X11_247 (by refine ⟨?_, ?_⟩ <;> (dsimp only [esX11_product, esX11_part]; omega)) (cd_bud hk) rfl (cx_le rfl) rfl (fun _ _ _ _ _ _ _ he h => h.1 he) (fun M1 P2 L3 v4 r5 k6 n7 hk2 h => ?_)
  refine cd_addI (h.2 rfl) (cd_bk hk hk2) (fun k8 n9 h hk => ?_)
  refine cd_astore_n (v := r5) (fun v => [(2, v), (0, .ref a0), (1, .int x1)]) dX11_product_5 (cx_lt rfl) (fun v => rfl) ?_
  refine cq_sub (lv' := [(0, .ref a0), (1, .int x1), (2, va_rf r5)]) [1, 2, 0] rfl ?_
  exact rd_product_6_v H hX hrE N.1 M1 P2 L3 k8 n9 x1 r5 hk h
def rd_product (N : dNt) (bc bs : Nat) (M : cx_M) (P : dP) (L : dL) (rE : Nat → Nat → cx_M → dP → dL → Nat → Int32 → cd_Qt → Prop) (a0 : Nat) (x1 : Int32) (Q : cd_Qt) : Prop := rd_product_0 N bc bs Q rE a0 M P L 0 0 x1
set_option maxRecDepth 100000 in
theorem rd_product_m {l : Launch} {g : cx_G} {d : Nat} {N : dNt} {bc bs : Nat} {Q : cd_Qt} (H : dR l g N.2) (M : cx_M) (P : dP) (L : dL) (rE : Nat → Nat → cx_M → dP → dL → Nat → Int32 → cd_Qt → Prop) (a0 : Nat) (x1 : Int32) (hrE : ∀ (bc bs : Nat) (M : cx_M) (P : dP) (L : dL) (a0 : Nat) (x1 : Int32) (Q : cd_Qt), rE bc bs M P L a0 x1 Q → cd_MetX l g yX11_expr cX11_expr (esX11_expr d bc bs) cd_rA [.ref a0, .int x1] M P L Q) (h : rd_product N bc bs M P L rE a0 x1 Q) : cd_MetX l g yX11_product cX11_product (esX11_product d bc bs) cd_rA [.ref a0, .int x1] M P L Q :=
  cd_metX (by decide +kernel) rfl rfl (lv := [(0, .ref a0), (1, .int x1)]) rfl (cx_le rfl) (fun X hX => cq_sub (lv' := [(0, .ref a0), (1, .int x1)]) [0, 1] rfl (rd_product_0_v H hX hrE M P L 0 0 x1 ⟨Nat.zero_le _, Nat.zero_le _⟩ h))

abbrev esX11_sum (d : Nat) (bc bs : Nat) : cx_S := (4, RX11, cx_rI, { frames := 40 * d + 10, cells := bc, slots := bs, locals := 4000 * d + 241 }, some (.object "CircuitCells$Expr"), true)
def rd_sum_24 (N : dNt) (bc bs : Nat) (Q : cd_Qt) (rE : Nat → Nat → cx_M → dP → dL → Nat → Int32 → cd_Qt → Prop) (a0 : Nat) (r_6 : cx_M → dP → dL → Nat → Nat → Int32 → Option Nat → Prop) (M : cx_M) (P : dP) (L : dL) (k n : Nat) (x1 : Int32) (x2 : Option Nat) : Prop :=
  (a0, (0, 10, 0)) ∈ L ∧ cd_let (P a0 7) fun r1 =>
  cd_nn r1 fun a2 =>
  (a2, (0, 17, 0)) ∈ L ∧
  jS_charAt N (bc - k) (bs - n) M P L a2 0 (fun M3 P4 L5 v6 r7 e9 k8 n9 => e9 = 0 → cd_add k k8 n n9 fun k10 n11 =>
  (a0, (0, 10, 0)) ∈ L5 ∧
  rd_go N (bc - k10) (bs - n11) M3 P4 L5 a0 (fun M12 P13 L14 v15 r16 e9 k17 n18 => e9 = 0 → cd_add k10 k17 n11 n18 fun k19 n20 =>
  cd_new bc bs k19 n20 3 (0, 3, 0) M12 P13 L14 fun a21 M22 P23 L24 k25 n26 =>
  (a0, (0, 10, 0)) ∈ L24 ∧
  rd_product N (bc - k25) (bs - n26) M22 P23 L24 rE a0 x1 (fun M27 P28 L29 v30 r31 e9 k32 n33 => (e9 ≠ 0 → Q M27 P28 L29 v30 none e9 (k25 + k32) (n26 + n33)) ∧ (e9 = 0 → cd_add k25 k32 n26 n33 fun k34 n35 =>
  rBo_init N (bc - k34) (bs - n35) M27 P28 L29 a21 v6 x2 r31 (fun M36 P37 L38 v39 r40 e9 k41 n42 => e9 = 0 → cd_add k34 k41 n35 n42 fun k43 n44 =>
  r_6 M36 P37 L38 k43 n44 x1 ((some a21)))))))
set_option maxRecDepth 100000 in
theorem rd_sum_24_v {l : Launch} {g : cx_G} {d : Nat} {X : cx_X} {N : dNt} {bc bs : Nat} {Q : cd_Qt} {rE : Nat → Nat → cx_M → dP → dL → Nat → Int32 → cd_Qt → Prop} {a0 : Nat} {r_6 : cx_M → dP → dL → Nat → Nat → Int32 → Option Nat → Prop} (H : dR l g N.2) (hX : True) (hrE : ∀ (bc bs : Nat) (M : cx_M) (P : dP) (L : dL) (a0 : Nat) (x1 : Int32) (Q : cd_Qt), rE bc bs M P L a0 x1 Q → cd_MetX l g yX11_expr cX11_expr (esX11_expr d bc bs) cd_rA [.ref a0, .int x1] M P L Q) (hr_6 : ∀ (M : cx_M) (P : dP) (L : dL) (k n : Nat) (x1 : Int32) (x2 : Option Nat), (k ≤ bc ∧ n ≤ bs) → r_6 M P L k n x1 x2 → cq_V l (dG g L P) X (esX11_sum d bc bs) cX11_sum 6 [(0, .ref a0), (1, .int x1), (2, va_rf x2)] [] M k n (cd_finX g X (esX11_sum d bc bs) cd_rA Q)) (M : cx_M) (P : dP) (L : dL) (k n : Nat) (x1 : Int32) (x2 : Option Nat) (hk : k ≤ bc ∧ n ≤ bs) (h : rd_sum_24 N bc bs Q rE a0 r_6 M P L k n x1 x2) : cq_V l (dG g L P) X (esX11_sum d bc bs) cX11_sum 24 [(0, .ref a0), (1, .int x1), (2, va_rf x2)] [] M k n (cd_finX g X (esX11_sum d bc bs) cd_rA Q) := by
  unfold rd_sum_24 at h
  refine cq_aload_n 0 dX11_sum_24 rfl ?_
  refine cq_getR (dG_FR (k := 7) H.1.1.1 h.1 dCl_X11 (cx_lt rfl) rfl rfl) q1459 dX11_sum_25 ?_
  refine cd_letI h.2 (fun r1 h => ?_)
  refine cq_iconst 0 dX11_sum_28 cx_ic_0 ?_
  obtain ⟨a2, e9, h⟩ := cd_nn_some h
  subst e9
  obtain ⟨hmr, h⟩ := h
  refine cd_cV [.int 0] [] (jS_charAt_m H (N := N) (bc := bc - k) (bs := bs - n) M P L a2 0 h) (dG_Rc H.1.1.1 hmr dCl_J9) dX11_sum_29 gd_X11_233 hgd_X11_233 (by refine ⟨?_, ?_⟩ <;> (dsimp only [esX11_sum, esJ9_charAt]; omega)) (cd_bud hk) rfl (cx_le rfl) (fun M3 P4 L5 v6 r7 k8 n9 hk2 h => ?_)
  refine cd_addI (h rfl) (cd_bk hk hk2) (fun k10 n11 h hk => ?_)
  refine cq_istore_n [(3, .int v6), (0, .ref a0), (1, .int x1), (2, va_rf x2)] dX11_sum_32 (cx_lt rfl) (by cases x2 <;> rfl) ?_
  refine cq_aload_n 1 dX11_sum_33 rfl ?_
  obtain ⟨hmr, h⟩ := h
  refine cd_cV [] [] (rd_go_m H (N := N) (bc := bc - k10) (bs := bs - n11) M3 P4 L5 a0 h) (dG_Rc H.1.1.1 hmr dCl_X11) dX11_sum_34 gd_X11_32 hgd_X11_32 (by refine ⟨?_, ?_⟩ <;> (dsimp only [esX11_sum, esX11_go]; omega)) (cd_bud hk) rfl (cx_le rfl) (fun M12 P13 L14 v15 r16 k17 n18 hk2 h => ?_)
  refine cd_addI (h rfl) (cd_bk hk hk2) (fun k19 n20 h hk => ?_)
  refine cd_newO H.1.1.1 h ⟨rfl, rfl⟩ dCl_X16 dDf_X16 q1713 q1714 q155 dX11_sum_37 (fun a21 M22 P23 L24 k25 n26 h hk => ?_)
  refine cq_dup dX11_sum_40 rfl ?_
  refine cq_iload_n 0 dX11_sum_41 rfl ?_
  refine cd_aload_n (v := x2) 3 dX11_sum_42 rfl ?_
  refine cq_aload_n 1 dX11_sum_43 rfl ?_
  refine cq_iload_n 2 dX11_sum_44 rfl ?_
  obtain ⟨hmr, h⟩ := h
  refine cd_xV [.int x1] [va_rf x2, .int v6, .ref a21, .ref a21] (rd_product_m H (N := N) (bc := bc - k25) (bs := bs - n26) M22 P23 L24 rE a0 x1 hrE h) (dG_Rc H.1.1.1 hmr dCl_X11) dX11_sum_45 gd_X11_242 hgd_X11_242 (by refine ⟨?_, ?_⟩ <;> (dsimp only [esX11_sum, esX11_product]; omega)) (cd_bud hk) rfl (by simp only [List.map, va_rf_cat, List.sum_cons, List.sum_nil]; exact cx_le rfl) rfl (fun _ _ _ _ _ _ _ he h => h.1 he) (fun M27 P28 L29 v30 r31 k32 n33 hk2 h => ?_)
  refine cd_addI (h.2 rfl) (cd_bk hk hk2) (fun k34 n35 h hk => ?_)
  refine cd_cI [.int v6, va_rf x2, va_rf r31] [.ref a21] (rBo_init_m H (N := N) (bc := bc - k34) (bs := bs - n35) M27 P28 L29 a21 v6 x2 r31 h) dX11_sum_48 gd_X11_218 rfl q155 q1715 q1716 rfl hgd_X11_218 (by refine ⟨?_, ?_⟩ <;> (dsimp only [esX11_sum, esX16_init]; omega)) (cd_bud hk) rfl (cx_le rfl) (fun M36 P37 L38 v39 r40 k41 n42 hk2 h => ?_)
  refine cd_addI (h rfl) (cd_bk hk hk2) (fun k43 n44 h hk => ?_)
  refine cq_astore_n [(2, .ref a21), (3, .int v6), (0, .ref a0), (1, .int x1)] dX11_sum_51 (cx_lt rfl) rfl ?_
  refine cq_goto 6 dX11_sum_52 rfl ?_
  refine cq_sub (lv' := [(0, .ref a0), (1, .int x1), (2, va_rf (some a21))]) [2, 3, 0] rfl ?_
  exact hr_6 M36 P37 L38 k43 n44 x1 ((some a21)) hk h
def rd_sum_6b (N : dNt) (bc bs : Nat) (Q : cd_Qt) (rE : Nat → Nat → cx_M → dP → dL → Nat → Int32 → cd_Qt → Prop) (a0 : Nat) (r_6 : cx_M → dP → dL → Nat → Nat → Int32 → Option Nat → Prop) (M : cx_M) (P : dP) (L : dL) (k n : Nat) (x1 : Int32) (x2 : Option Nat) : Prop :=
  (a0, (0, 10, 0)) ∈ L ∧
  rd_is N (bc - k) (bs - n) M P L a0 18 (fun M1 P2 L3 v4 r5 e9 k6 n7 => e9 = 0 → cd_add k k6 n n7 fun k8 n9 =>
  if v4 = 0 then (
    (a0, (0, 10, 0)) ∈ L3 ∧
    rd_is N (bc - k8) (bs - n9) M1 P2 L3 a0 11 (fun M10 P11 L12 v13 r14 e9 k15 n16 => e9 = 0 → cd_add k8 k15 n9 n16 fun k17 n18 =>
    if v13 = 0 then (
      Q M10 P11 L12 0 x2 0 k17 n18)
    else (
      rd_sum_24 N bc bs Q rE a0 r_6 M10 P11 L12 k17 n18 x1 x2)))
  else (
    rd_sum_24 N bc bs Q rE a0 r_6 M1 P2 L3 k8 n9 x1 x2))
set_option maxRecDepth 100000 in
theorem rd_sum_6b_v {l : Launch} {g : cx_G} {d : Nat} {X : cx_X} {N : dNt} {bc bs : Nat} {Q : cd_Qt} {rE : Nat → Nat → cx_M → dP → dL → Nat → Int32 → cd_Qt → Prop} {a0 : Nat} {r_6 : cx_M → dP → dL → Nat → Nat → Int32 → Option Nat → Prop} (H : dR l g N.2) (hX : True) (hrE : ∀ (bc bs : Nat) (M : cx_M) (P : dP) (L : dL) (a0 : Nat) (x1 : Int32) (Q : cd_Qt), rE bc bs M P L a0 x1 Q → cd_MetX l g yX11_expr cX11_expr (esX11_expr d bc bs) cd_rA [.ref a0, .int x1] M P L Q) (hr_6 : ∀ (M : cx_M) (P : dP) (L : dL) (k n : Nat) (x1 : Int32) (x2 : Option Nat), (k ≤ bc ∧ n ≤ bs) → r_6 M P L k n x1 x2 → cq_V l (dG g L P) X (esX11_sum d bc bs) cX11_sum 6 [(0, .ref a0), (1, .int x1), (2, va_rf x2)] [] M k n (cd_finX g X (esX11_sum d bc bs) cd_rA Q)) (M : cx_M) (P : dP) (L : dL) (k n : Nat) (x1 : Int32) (x2 : Option Nat) (hk : k ≤ bc ∧ n ≤ bs) (h : rd_sum_6b N bc bs Q rE a0 r_6 M P L k n x1 x2) : cq_V l (dG g L P) X (esX11_sum d bc bs) cX11_sum 6 [(0, .ref a0), (1, .int x1), (2, va_rf x2)] [] M k n (cd_finX g X (esX11_sum d bc bs) cd_rA Q) := by
  unfold rd_sum_6b at h
  refine cq_aload_n 0 dX11_sum_6 rfl ?_
  refine cq_ldcS (dR_k245 H) dX11_sum_7 ?_
  obtain ⟨hmr, h⟩ := h
  refine cd_cV [.ref (N.2 (1100000 + 18))] [] (rd_is_m H (N := N) (bc := bc - k) (bs := bs - n) M P L a0 18 (by decide) h) (dG_Rc H.1.1.1 hmr dCl_X11) dX11_sum_9 gd_X11_115 hgd_X11_115 (by refine ⟨?_, ?_⟩ <;> (dsimp only [esX11_sum, esX11_is]; omega)) (cd_bud hk) rfl (cx_le rfl) (fun M1 P2 L3 v4 r5 k6 n7 hk2 h => ?_)
  refine cd_addI (h rfl) (cd_bk hk hk2) (fun k8 n9 h hk => ?_)
  refine cq_if_ne 24 h dX11_sum_12 rfl (fun h => ?_) (fun h => ?_)
  · exact rd_sum_24_v H hX hrE hr_6 M1 P2 L3 k8 n9 x1 x2 hk h
  · refine cq_aload_n 0 dX11_sum_15 rfl ?_
    refine cq_ldcS (dR_k179 H) dX11_sum_16 ?_
    obtain ⟨hmr, h⟩ := h
    refine cd_cV [.ref (N.2 (1100000 + 11))] [] (rd_is_m H (N := N) (bc := bc - k8) (bs := bs - n9) M1 P2 L3 a0 11 (by decide) h) (dG_Rc H.1.1.1 hmr dCl_X11) dX11_sum_18 gd_X11_115 hgd_X11_115 (by refine ⟨?_, ?_⟩ <;> (dsimp only [esX11_sum, esX11_is]; omega)) (cd_bud hk) rfl (cx_le rfl) (fun M10 P11 L12 v13 r14 k15 n16 hk2 h => ?_)
    refine cd_addI (h rfl) (cd_bk hk hk2) (fun k17 n18 h hk => ?_)
    refine cq_if_eq 55 h dX11_sum_21 rfl (fun h => ?_) (fun h => ?_)
    · refine cd_aload_n (v := x2) 2 dX11_sum_55 rfl ?_
      exact cd_toX (cd_aret (v := x2) hk h rfl (Or.inl ⟨_, rfl⟩) dX11_sum_56)
    · exact rd_sum_24_v H hX hrE hr_6 M10 P11 L12 k17 n18 x1 x2 hk h
def rd_sum_6 (N : dNt) (bc bs : Nat) (Q : cd_Qt) (rE : Nat → Nat → cx_M → dP → dL → Nat → Int32 → cd_Qt → Prop) (a0 : Nat) : Nat → cx_M → dP → dL → Nat → Nat → Int32 → Option Nat → Prop :=
  cx_fix (fun _ _ _ _ _ _ _ => False) (fun r_6 => rd_sum_6b N bc bs Q rE a0 r_6)
theorem rd_sum_6_v {l : Launch} {g : cx_G} {d : Nat} {X : cx_X} {N : dNt} {bc bs : Nat} {Q : cd_Qt} {rE : Nat → Nat → cx_M → dP → dL → Nat → Int32 → cd_Qt → Prop} {a0 : Nat} (H : dR l g N.2) (hX : True) (hrE : ∀ (bc bs : Nat) (M : cx_M) (P : dP) (L : dL) (a0 : Nat) (x1 : Int32) (Q : cd_Qt), rE bc bs M P L a0 x1 Q → cd_MetX l g yX11_expr cX11_expr (esX11_expr d bc bs) cd_rA [.ref a0, .int x1] M P L Q) : ∀ (f : Nat) (M : cx_M) (P : dP) (L : dL) (k n : Nat) (x1 : Int32) (x2 : Option Nat), (k ≤ bc ∧ n ≤ bs) → rd_sum_6 N bc bs Q rE a0 f M P L k n x1 x2 → cq_V l (dG g L P) X (esX11_sum d bc bs) cX11_sum 6 [(0, .ref a0), (1, .int x1), (2, va_rf x2)] [] M k n (cd_finX g X (esX11_sum d bc bs) cd_rA Q) :=
  cx_fixI (fun (r : cx_M → dP → dL → Nat → Nat → Int32 → Option Nat → Prop) => ∀ (M : cx_M) (P : dP) (L : dL) (k n : Nat) (x1 : Int32) (x2 : Option Nat), (k ≤ bc ∧ n ≤ bs) → r M P L k n x1 x2 → cq_V l (dG g L P) X (esX11_sum d bc bs) cX11_sum 6 [(0, .ref a0), (1, .int x1), (2, va_rf x2)] [] M k n (cd_finX g X (esX11_sum d bc bs) cd_rA Q)) (fun _ _ _ _ _ _ _ _ h => by cases h) (fun r hr M P L k n x1 x2 hk h => rd_sum_6b_v H hX hrE hr M P L k n x1 x2 hk h)
def rd_sum_0 (N : dNt) (bc bs : Nat) (Q : cd_Qt) (rE : Nat → Nat → cx_M → dP → dL → Nat → Int32 → cd_Qt → Prop) (a0 : Nat) (M : cx_M) (P : dP) (L : dL) (k n : Nat) (x1 : Int32) : Prop :=
  (a0, (0, 10, 0)) ∈ L ∧
  rd_product N (bc - k) (bs - n) M P L rE a0 x1 (fun M1 P2 L3 v4 r5 e9 k6 n7 => (e9 ≠ 0 → Q M1 P2 L3 v4 none e9 (k + k6) (n + n7)) ∧ (e9 = 0 → cd_add k k6 n n7 fun k8 n9 =>
  rd_sum_6 N bc bs Q rE a0 N.1 M1 P2 L3 k8 n9 x1 r5))
set_option maxRecDepth 100000 in
theorem rd_sum_0_v {l : Launch} {g : cx_G} {d : Nat} {X : cx_X} {N : dNt} {bc bs : Nat} {Q : cd_Qt} {rE : Nat → Nat → cx_M → dP → dL → Nat → Int32 → cd_Qt → Prop} {a0 : Nat} (H : dR l g N.2) (hX : True) (hrE : ∀ (bc bs : Nat) (M : cx_M) (P : dP) (L : dL) (a0 : Nat) (x1 : Int32) (Q : cd_Qt), rE bc bs M P L a0 x1 Q → cd_MetX l g yX11_expr cX11_expr (esX11_expr d bc bs) cd_rA [.ref a0, .int x1] M P L Q) (M : cx_M) (P : dP) (L : dL) (k n : Nat) (x1 : Int32) (hk : k ≤ bc ∧ n ≤ bs) (h : rd_sum_0 N bc bs Q rE a0 M P L k n x1) : cq_V l (dG g L P) X (esX11_sum d bc bs) cX11_sum 0 [(0, .ref a0), (1, .int x1)] [] M k n (cd_finX g X (esX11_sum d bc bs) cd_rA Q) := by
  unfold rd_sum_0 at h
  refine cq_aload_n 0 dX11_sum_0 rfl ?_
  refine cq_iload_n 1 dX11_sum_1 rfl ?_
  obtain ⟨hmr, h⟩ := h
  refine cd_xV [.int x1] [] (rd_product_m H (N := N) (bc := bc - k) (bs := bs - n) M P L rE a0 x1 hrE h) (dG_Rc H.1.1.1 hmr dCl_X11) dX11_sum_2 gd_X11_242 hgd_X11_242 (by refine ⟨?_, ?_⟩ <;> (dsimp only [esX11_sum, esX11_product]; omega)) (cd_bud hk) rfl (cx_le rfl) rfl (fun _ _ _ _ _ _ _ he h => h.1 he) (fun M1 P2 L3 v4 r5 k6 n7 hk2 h => ?_)
  refine cd_addI (h.2 rfl) (cd_bk hk hk2) (fun k8 n9 h hk => ?_)
  refine cd_astore_n (v := r5) (fun v => [(2, v), (0, .ref a0), (1, .int x1)]) dX11_sum_5 (cx_lt rfl) (fun v => rfl) ?_
  refine cq_sub (lv' := [(0, .ref a0), (1, .int x1), (2, va_rf r5)]) [1, 2, 0] rfl ?_
  exact rd_sum_6_v H hX hrE N.1 M1 P2 L3 k8 n9 x1 r5 hk h
def rd_sum (N : dNt) (bc bs : Nat) (M : cx_M) (P : dP) (L : dL) (rE : Nat → Nat → cx_M → dP → dL → Nat → Int32 → cd_Qt → Prop) (a0 : Nat) (x1 : Int32) (Q : cd_Qt) : Prop := rd_sum_0 N bc bs Q rE a0 M P L 0 0 x1
set_option maxRecDepth 100000 in
theorem rd_sum_m {l : Launch} {g : cx_G} {d : Nat} {N : dNt} {bc bs : Nat} {Q : cd_Qt} (H : dR l g N.2) (M : cx_M) (P : dP) (L : dL) (rE : Nat → Nat → cx_M → dP → dL → Nat → Int32 → cd_Qt → Prop) (a0 : Nat) (x1 : Int32) (hrE : ∀ (bc bs : Nat) (M : cx_M) (P : dP) (L : dL) (a0 : Nat) (x1 : Int32) (Q : cd_Qt), rE bc bs M P L a0 x1 Q → cd_MetX l g yX11_expr cX11_expr (esX11_expr d bc bs) cd_rA [.ref a0, .int x1] M P L Q) (h : rd_sum N bc bs M P L rE a0 x1 Q) : cd_MetX l g yX11_sum cX11_sum (esX11_sum d bc bs) cd_rA [.ref a0, .int x1] M P L Q :=
  cd_metX (by decide +kernel) rfl rfl (lv := [(0, .ref a0), (1, .int x1)]) rfl (cx_le rfl) (fun X hX => cq_sub (lv' := [(0, .ref a0), (1, .int x1)]) [0, 1] rfl (rd_sum_0_v H hX hrE M P L 0 0 x1 ⟨Nat.zero_le _, Nat.zero_le _⟩ h))

abbrev esX11_not (d : Nat) (bc bs : Nat) : cx_S := (5, RX11, cx_rI, { frames := 40 * d + 11, cells := bc, slots := bs, locals := 4000 * d + 264 }, some (.object "CircuitCells$Expr"), true)
def rd_not_23 (N : dNt) (bc bs : Nat) (Q : cd_Qt) (rE : Nat → Nat → cx_M → dP → dL → Nat → Int32 → cd_Qt → Prop) (a0 : Nat) (r_2 : cx_M → dP → dL → Nat → Nat → Int32 → Int32 → Prop) (M : cx_M) (P : dP) (L : dL) (k n : Nat) (x1 : Int32) (x2 : Int32) (z1 : Int32) : Prop :=
  (a0, (0, 10, 0)) ∈ L ∧
  rd_check N (bc - k) (bs - n) M P L a0 z1 2 (fun M1 P2 L3 v4 r5 e9 k6 n7 => (e9 ≠ 0 → Q M1 P2 L3 v4 none e9 (k + k6) (n + n7)) ∧ (e9 = 0 → cd_add k k6 n n7 fun k8 n9 =>
  (a0, (0, 10, 0)) ∈ L3 ∧
  rd_go N (bc - k8) (bs - n9) M1 P2 L3 a0 (fun M10 P11 L12 v13 r14 e9 k15 n16 => e9 = 0 → cd_add k8 k15 n9 n16 fun k17 n18 =>
  cq_let (x2 + 1) fun v19 =>
  r_2 M10 P11 L12 k17 n18 x1 v19)))
set_option maxRecDepth 100000 in
theorem rd_not_23_v {l : Launch} {g : cx_G} {d : Nat} {X : cx_X} {N : dNt} {bc bs : Nat} {Q : cd_Qt} {rE : Nat → Nat → cx_M → dP → dL → Nat → Int32 → cd_Qt → Prop} {a0 : Nat} {r_2 : cx_M → dP → dL → Nat → Nat → Int32 → Int32 → Prop} (H : dR l g N.2) (hX : True) (hrE : ∀ (bc bs : Nat) (M : cx_M) (P : dP) (L : dL) (a0 : Nat) (x1 : Int32) (Q : cd_Qt), rE bc bs M P L a0 x1 Q → cd_MetX l g yX11_expr cX11_expr (esX11_expr d bc bs) cd_rA [.ref a0, .int x1] M P L Q) (hr_2 : ∀ (M : cx_M) (P : dP) (L : dL) (k n : Nat) (x1 : Int32) (x2 : Int32), (k ≤ bc ∧ n ≤ bs) → r_2 M P L k n x1 x2 → cq_V l (dG g L P) X (esX11_not d bc bs) cX11_not 2 [(0, .ref a0), (1, .int x1), (2, .int x2)] [] M k n (cd_finX g X (esX11_not d bc bs) cd_rA Q)) (M : cx_M) (P : dP) (L : dL) (k n : Nat) (x1 : Int32) (x2 : Int32) (z1 : Int32) (hk : k ≤ bc ∧ n ≤ bs) (h : rd_not_23 N bc bs Q rE a0 r_2 M P L k n x1 x2 z1) : cq_V l (dG g L P) X (esX11_not d bc bs) cX11_not 23 [(0, .ref a0), (1, .int x1), (2, .int x2)] [.int z1, .ref a0] M k n (cd_finX g X (esX11_not d bc bs) cd_rA Q) := by
  unfold rd_not_23 at h
  refine cq_iconst 2 dX11_not_23 cx_ic_2 ?_
  obtain ⟨hmr, h⟩ := h
  refine cd_xV [.int z1, .int 2] [] (rd_check_m H.1.1.1 H.2.1 (N := N) (bc := bc - k) (bs := bs - n) M P L a0 z1 2 h) (dG_Rc H.1.1.1 hmr dCl_X11) dX11_not_24 gd_X11_119 hgd_X11_119 (by refine ⟨?_, ?_⟩ <;> (dsimp only [esX11_not, fsC]; omega)) (cd_bud hk) rfl (cx_le rfl) rfl (fun _ _ _ _ _ _ _ he h => h.1 he) (fun M1 P2 L3 v4 r5 k6 n7 hk2 h => ?_)
  refine cd_addI (h.2 rfl) (cd_bk hk hk2) (fun k8 n9 h hk => ?_)
  refine cq_aload_n 0 dX11_not_27 rfl ?_
  obtain ⟨hmr, h⟩ := h
  refine cd_cV [] [] (rd_go_m H (N := N) (bc := bc - k8) (bs := bs - n9) M1 P2 L3 a0 h) (dG_Rc H.1.1.1 hmr dCl_X11) dX11_not_28 gd_X11_32 hgd_X11_32 (by refine ⟨?_, ?_⟩ <;> (dsimp only [esX11_not, esX11_go]; omega)) (cd_bud hk) rfl (cx_le rfl) (fun M10 P11 L12 v13 r14 k15 n16 hk2 h => ?_)
  refine cd_addI (h rfl) (cd_bk hk hk2) (fun k17 n18 h hk => ?_)
  refine cq_iinc 2 1 (fun v19 => [(2, .int v19), (0, .ref a0), (1, .int x1)]) h dX11_not_31 rfl cx_ic_1 (cx_lt rfl) (fun _ => rfl) (fun v19 h => ?_)
  refine cq_goto 2 dX11_not_34 rfl ?_
  refine cq_sub (lv' := [(0, .ref a0), (1, .int x1), (2, .int v19)]) [1, 2, 0] rfl ?_
  exact hr_2 M10 P11 L12 k17 n18 x1 v19 hk h
def rd_not_91b (N : dNt) (bc bs : Nat) (Q : cd_Qt) (rE : Nat → Nat → cx_M → dP → dL → Nat → Int32 → cd_Qt → Prop) (a0 : Nat) (r_91 : cx_M → dP → dL → Nat → Nat → Int32 → Option Nat → Prop) (M : cx_M) (P : dP) (L : dL) (k n : Nat) (x2 : Int32) (x3 : Option Nat) : Prop :=
  if x2 ≤ 0 then (
    Q M P L 0 x3 0 k n)
  else (
    cd_new bc bs k n 1 (0, 9, 0) M P L fun a1 M2 P3 L4 k5 n6 =>
    rNo_init N (bc - k5) (bs - n6) M2 P3 L4 a1 x3 (fun M7 P8 L9 v10 r11 e9 k12 n13 => e9 = 0 → cd_add k5 k12 n6 n13 fun k14 n15 =>
    cq_let (x2 - 1) fun v16 =>
    r_91 M7 P8 L9 k14 n15 v16 ((some a1))))
set_option maxRecDepth 100000 in
theorem rd_not_91b_v {l : Launch} {g : cx_G} {d : Nat} {X : cx_X} {N : dNt} {bc bs : Nat} {Q : cd_Qt} {rE : Nat → Nat → cx_M → dP → dL → Nat → Int32 → cd_Qt → Prop} {a0 : Nat} {r_91 : cx_M → dP → dL → Nat → Nat → Int32 → Option Nat → Prop} (H : dR l g N.2) (hX : True) (hrE : ∀ (bc bs : Nat) (M : cx_M) (P : dP) (L : dL) (a0 : Nat) (x1 : Int32) (Q : cd_Qt), rE bc bs M P L a0 x1 Q → cd_MetX l g yX11_expr cX11_expr (esX11_expr d bc bs) cd_rA [.ref a0, .int x1] M P L Q) (hr_91 : ∀ (M : cx_M) (P : dP) (L : dL) (k n : Nat) (x2 : Int32) (x3 : Option Nat), (k ≤ bc ∧ n ≤ bs) → r_91 M P L k n x2 x3 → cq_V l (dG g L P) X (esX11_not d bc bs) cX11_not 91 [(2, .int x2), (3, va_rf x3)] [] M k n (cd_finX g X (esX11_not d bc bs) cd_rA Q)) (M : cx_M) (P : dP) (L : dL) (k n : Nat) (x2 : Int32) (x3 : Option Nat) (hk : k ≤ bc ∧ n ≤ bs) (h : rd_not_91b N bc bs Q rE a0 r_91 M P L k n x2 x3) : cq_V l (dG g L P) X (esX11_not d bc bs) cX11_not 91 [(2, .int x2), (3, va_rf x3)] [] M k n (cd_finX g X (esX11_not d bc bs) cd_rA Q) := by
  unfold rd_not_91b at h
  refine cq_iload_n 0 dX11_not_91 rfl ?_
  refine cq_if_le 110 h dX11_not_92 rfl (fun h => ?_) (fun h => ?_)
  · refine cd_aload_n (v := x3) 1 dX11_not_110 rfl ?_
    exact cd_toX (cd_aret (v := x3) hk h rfl (Or.inl ⟨_, rfl⟩) dX11_not_111)
  · refine cd_newO H.1.1.1 h ⟨rfl, rfl⟩ dCl_X17 dDf_X17 q1732 q1733 q156 dX11_not_95 (fun a1 M2 P3 L4 k5 n6 h hk => ?_)
    refine cq_dup dX11_not_98 rfl ?_
    refine cd_aload_n (v := x3) 1 dX11_not_99 rfl ?_
    refine cd_cI [va_rf x3] [.ref a1] (rNo_init_m H (N := N) (bc := bc - k5) (bs := bs - n6) M2 P3 L4 a1 x3 h) dX11_not_100 gd_X11_239 rfl q156 q1734 q1735 rfl hgd_X11_239 (by refine ⟨?_, ?_⟩ <;> (dsimp only [esX11_not, esX17_init]; omega)) (cd_bud hk) rfl (cx_le rfl) (fun M7 P8 L9 v10 r11 k12 n13 hk2 h => ?_)
    refine cd_addI (h rfl) (cd_bk hk hk2) (fun k14 n15 h hk => ?_)
    refine cq_astore_n [(3, .ref a1), (2, .int x2)] dX11_not_103 (cx_lt rfl) rfl ?_
    refine cq_iincM 1 1 (fun v16 => [(2, .int v16), (3, .ref a1)]) h dX11_not_104 rfl cx_ic_m1 (cx_lt rfl) (fun _ => rfl) (fun v16 h => ?_)
    refine cq_goto 91 dX11_not_107 rfl ?_
    exact hr_91 M7 P8 L9 k14 n15 v16 ((some a1)) hk h
def rd_not_91 (N : dNt) (bc bs : Nat) (Q : cd_Qt) (rE : Nat → Nat → cx_M → dP → dL → Nat → Int32 → cd_Qt → Prop) (a0 : Nat) : Nat → cx_M → dP → dL → Nat → Nat → Int32 → Option Nat → Prop :=
  cx_fix (fun _ _ _ _ _ _ _ => False) (fun r_91 => rd_not_91b N bc bs Q rE a0 r_91)
theorem rd_not_91_v {l : Launch} {g : cx_G} {d : Nat} {X : cx_X} {N : dNt} {bc bs : Nat} {Q : cd_Qt} {rE : Nat → Nat → cx_M → dP → dL → Nat → Int32 → cd_Qt → Prop} {a0 : Nat} (H : dR l g N.2) (hX : True) (hrE : ∀ (bc bs : Nat) (M : cx_M) (P : dP) (L : dL) (a0 : Nat) (x1 : Int32) (Q : cd_Qt), rE bc bs M P L a0 x1 Q → cd_MetX l g yX11_expr cX11_expr (esX11_expr d bc bs) cd_rA [.ref a0, .int x1] M P L Q) : ∀ (f : Nat) (M : cx_M) (P : dP) (L : dL) (k n : Nat) (x2 : Int32) (x3 : Option Nat), (k ≤ bc ∧ n ≤ bs) → rd_not_91 N bc bs Q rE a0 f M P L k n x2 x3 → cq_V l (dG g L P) X (esX11_not d bc bs) cX11_not 91 [(2, .int x2), (3, va_rf x3)] [] M k n (cd_finX g X (esX11_not d bc bs) cd_rA Q) :=
  cx_fixI (fun (r : cx_M → dP → dL → Nat → Nat → Int32 → Option Nat → Prop) => ∀ (M : cx_M) (P : dP) (L : dL) (k n : Nat) (x2 : Int32) (x3 : Option Nat), (k ≤ bc ∧ n ≤ bs) → r M P L k n x2 x3 → cq_V l (dG g L P) X (esX11_not d bc bs) cX11_not 91 [(2, .int x2), (3, va_rf x3)] [] M k n (cd_finX g X (esX11_not d bc bs) cd_rA Q)) (fun _ _ _ _ _ _ _ _ h => by cases h) (fun r hr M P L k n x2 x3 hk h => rd_not_91b_v H hX hrE hr M P L k n x2 x3 hk h)
def rd_not_61 (N : dNt) (bc bs : Nat) (Q : cd_Qt) (rE : Nat → Nat → cx_M → dP → dL → Nat → Int32 → cd_Qt → Prop) (a0 : Nat) (M : cx_M) (P : dP) (L : dL) (k n : Nat) (x1 : Int32) (x2 : Int32) (x3 : Option Nat) : Prop :=
  (a0, (0, 10, 0)) ∈ L ∧ cd_let (P a0 7) fun r1 =>
  cd_nn r1 fun a2 =>
  (a2, (0, 17, 0)) ∈ L ∧
  jS_charAt N (bc - k) (bs - n) M P L a2 0 (fun M3 P4 L5 v6 r7 e9 k8 n9 => e9 = 0 → cd_add k k8 n n9 fun k10 n11 =>
  (a0, (0, 10, 0)) ∈ L5 ∧
  rd_go N (bc - k10) (bs - n11) M3 P4 L5 a0 (fun M12 P13 L14 v15 r16 e9 k17 n18 => e9 = 0 → cd_add k10 k17 n11 n18 fun k19 n20 =>
  cd_new bc bs k19 n20 3 (0, 3, 0) M12 P13 L14 fun a21 M22 P23 L24 k25 n26 =>
  (a0, (0, 10, 0)) ∈ L24 ∧
  rd_sum N (bc - k25) (bs - n26) M22 P23 L24 rE a0 x1 (fun M27 P28 L29 v30 r31 e9 k32 n33 => (e9 ≠ 0 → Q M27 P28 L29 v30 none e9 (k25 + k32) (n26 + n33)) ∧ (e9 = 0 → cd_add k25 k32 n26 n33 fun k34 n35 =>
  rBo_init N (bc - k34) (bs - n35) M27 P28 L29 a21 v6 x3 r31 (fun M36 P37 L38 v39 r40 e9 k41 n42 => e9 = 0 → cd_add k34 k41 n35 n42 fun k43 n44 =>
  rd_not_91 N bc bs Q rE a0 N.1 M36 P37 L38 k43 n44 x2 ((some a21)))))))
set_option maxRecDepth 100000 in
theorem rd_not_61_v {l : Launch} {g : cx_G} {d : Nat} {X : cx_X} {N : dNt} {bc bs : Nat} {Q : cd_Qt} {rE : Nat → Nat → cx_M → dP → dL → Nat → Int32 → cd_Qt → Prop} {a0 : Nat} (H : dR l g N.2) (hX : True) (hrE : ∀ (bc bs : Nat) (M : cx_M) (P : dP) (L : dL) (a0 : Nat) (x1 : Int32) (Q : cd_Qt), rE bc bs M P L a0 x1 Q → cd_MetX l g yX11_expr cX11_expr (esX11_expr d bc bs) cd_rA [.ref a0, .int x1] M P L Q) (M : cx_M) (P : dP) (L : dL) (k n : Nat) (x1 : Int32) (x2 : Int32) (x3 : Option Nat) (hk : k ≤ bc ∧ n ≤ bs) (h : rd_not_61 N bc bs Q rE a0 M P L k n x1 x2 x3) : cq_V l (dG g L P) X (esX11_not d bc bs) cX11_not 61 [(0, .ref a0), (1, .int x1), (2, .int x2), (3, va_rf x3)] [] M k n (cd_finX g X (esX11_not d bc bs) cd_rA Q) := by
  unfold rd_not_61 at h
  refine cq_aload_n 0 dX11_not_61 rfl ?_
  refine cq_getR (dG_FR (k := 7) H.1.1.1 h.1 dCl_X11 (cx_lt rfl) rfl rfl) q1459 dX11_not_62 ?_
  refine cd_letI h.2 (fun r1 h => ?_)
  refine cq_iconst 0 dX11_not_65 cx_ic_0 ?_
  obtain ⟨a2, e9, h⟩ := cd_nn_some h
  subst e9
  obtain ⟨hmr, h⟩ := h
  refine cd_cV [.int 0] [] (jS_charAt_m H (N := N) (bc := bc - k) (bs := bs - n) M P L a2 0 h) (dG_Rc H.1.1.1 hmr dCl_J9) dX11_not_66 gd_X11_233 hgd_X11_233 (by refine ⟨?_, ?_⟩ <;> (dsimp only [esX11_not, esJ9_charAt]; omega)) (cd_bud hk) rfl (cx_le rfl) (fun M3 P4 L5 v6 r7 k8 n9 hk2 h => ?_)
  refine cd_addI (h rfl) (cd_bk hk hk2) (fun k10 n11 h hk => ?_)
  refine cq_istore [(4, .int v6), (0, .ref a0), (1, .int x1), (2, .int x2), (3, va_rf x3)] dX11_not_69 (cx_lt rfl) (by cases x3 <;> rfl) ?_
  refine cq_aload_n 1 dX11_not_71 rfl ?_
  obtain ⟨hmr, h⟩ := h
  refine cd_cV [] [] (rd_go_m H (N := N) (bc := bc - k10) (bs := bs - n11) M3 P4 L5 a0 h) (dG_Rc H.1.1.1 hmr dCl_X11) dX11_not_72 gd_X11_32 hgd_X11_32 (by refine ⟨?_, ?_⟩ <;> (dsimp only [esX11_not, esX11_go]; omega)) (cd_bud hk) rfl (cx_le rfl) (fun M12 P13 L14 v15 r16 k17 n18 hk2 h => ?_)
  refine cd_addI (h rfl) (cd_bk hk hk2) (fun k19 n20 h hk => ?_)
  refine cd_newO H.1.1.1 h ⟨rfl, rfl⟩ dCl_X16 dDf_X16 q1713 q1714 q155 dX11_not_75 (fun a21 M22 P23 L24 k25 n26 h hk => ?_)
  refine cq_dup dX11_not_78 rfl ?_
  refine cq_iload 0 dX11_not_79 rfl ?_
  refine cd_aload_n (v := x3) 4 dX11_not_81 rfl ?_
  refine cq_aload_n 1 dX11_not_82 rfl ?_
  refine cq_iload_n 2 dX11_not_83 rfl ?_
  obtain ⟨hmr, h⟩ := h
  refine cd_xV [.int x1] [va_rf x3, .int v6, .ref a21, .ref a21] (rd_sum_m H (N := N) (bc := bc - k25) (bs := bs - n26) M22 P23 L24 rE a0 x1 hrE h) (dG_Rc H.1.1.1 hmr dCl_X11) dX11_not_84 gd_X11_226 hgd_X11_226 (by refine ⟨?_, ?_⟩ <;> (dsimp only [esX11_not, esX11_sum]; omega)) (cd_bud hk) rfl (by simp only [List.map, va_rf_cat, List.sum_cons, List.sum_nil]; exact cx_le rfl) rfl (fun _ _ _ _ _ _ _ he h => h.1 he) (fun M27 P28 L29 v30 r31 k32 n33 hk2 h => ?_)
  refine cd_addI (h.2 rfl) (cd_bk hk hk2) (fun k34 n35 h hk => ?_)
  refine cd_cI [.int v6, va_rf x3, va_rf r31] [.ref a21] (rBo_init_m H (N := N) (bc := bc - k34) (bs := bs - n35) M27 P28 L29 a21 v6 x3 r31 h) dX11_not_87 gd_X11_218 rfl q155 q1715 q1716 rfl hgd_X11_218 (by refine ⟨?_, ?_⟩ <;> (dsimp only [esX11_not, esX16_init]; omega)) (cd_bud hk) rfl (cx_le rfl) (fun M36 P37 L38 v39 r40 k41 n42 hk2 h => ?_)
  refine cd_addI (h rfl) (cd_bk hk hk2) (fun k43 n44 h hk => ?_)
  refine cq_astore_n [(3, .ref a21), (4, .int v6), (0, .ref a0), (1, .int x1), (2, .int x2)] dX11_not_90 (cx_lt rfl) rfl ?_
  refine cq_sub (lv' := [(2, .int x2), (3, va_rf (some a21))]) [4, 0] rfl ?_
  exact rd_not_91_v H hX hrE N.1 M36 P37 L38 k43 n44 x2 ((some a21)) hk h
def rd_not_2b (N : dNt) (bc bs : Nat) (Q : cd_Qt) (rE : Nat → Nat → cx_M → dP → dL → Nat → Int32 → cd_Qt → Prop) (a0 : Nat) (r_2 : cx_M → dP → dL → Nat → Nat → Int32 → Int32 → Prop) (M : cx_M) (P : dP) (L : dL) (k n : Nat) (x1 : Int32) (x2 : Int32) : Prop :=
  (a0, (0, 10, 0)) ∈ L ∧
  rd_is N (bc - k) (bs - n) M P L a0 15 (fun M1 P2 L3 v4 r5 e9 k6 n7 => e9 = 0 → cd_add k k6 n n7 fun k8 n9 =>
  if v4 = 0 then (
    (a0, (0, 10, 0)) ∈ L3 ∧
    rd_sum N (bc - k8) (bs - n9) M1 P2 L3 rE a0 x1 (fun M10 P11 L12 v13 r14 e9 k15 n16 => (e9 ≠ 0 → Q M10 P11 L12 v13 none e9 (k8 + k15) (n9 + n16)) ∧ (e9 = 0 → cd_add k8 k15 n9 n16 fun k17 n18 =>
    (a0, (0, 10, 0)) ∈ L12 ∧
    rd_is N (bc - k17) (bs - n18) M10 P11 L12 a0 16 (fun M19 P20 L21 v22 r23 e9 k24 n25 => e9 = 0 → cd_add k17 k24 n18 n25 fun k26 n27 =>
    if v22 = 0 then (
      (a0, (0, 10, 0)) ∈ L21 ∧
      rd_is N (bc - k26) (bs - n27) M19 P20 L21 a0 17 (fun M28 P29 L30 v31 r32 e9 k33 n34 => e9 = 0 → cd_add k26 k33 n27 n34 fun k35 n36 =>
      if v31 = 0 then (
        rd_not_91 N bc bs Q rE a0 N.1 M28 P29 L30 k35 n36 x2 r14)
      else (
        rd_not_61 N bc bs Q rE a0 M28 P29 L30 k35 n36 x1 x2 r14)))
    else (
      rd_not_61 N bc bs Q rE a0 M19 P20 L21 k26 n27 x1 x2 r14)))))
  else (
    if 6 ≤ x2 then (
      rd_not_23 N bc bs Q rE a0 r_2 M1 P2 L3 k8 n9 x1 x2 0)
    else (
      rd_not_23 N bc bs Q rE a0 r_2 M1 P2 L3 k8 n9 x1 x2 1)))
set_option maxRecDepth 100000 in
theorem rd_not_2b_v {l : Launch} {g : cx_G} {d : Nat} {X : cx_X} {N : dNt} {bc bs : Nat} {Q : cd_Qt} {rE : Nat → Nat → cx_M → dP → dL → Nat → Int32 → cd_Qt → Prop} {a0 : Nat} {r_2 : cx_M → dP → dL → Nat → Nat → Int32 → Int32 → Prop} (H : dR l g N.2) (hX : True) (hrE : ∀ (bc bs : Nat) (M : cx_M) (P : dP) (L : dL) (a0 : Nat) (x1 : Int32) (Q : cd_Qt), rE bc bs M P L a0 x1 Q → cd_MetX l g yX11_expr cX11_expr (esX11_expr d bc bs) cd_rA [.ref a0, .int x1] M P L Q) (hr_2 : ∀ (M : cx_M) (P : dP) (L : dL) (k n : Nat) (x1 : Int32) (x2 : Int32), (k ≤ bc ∧ n ≤ bs) → r_2 M P L k n x1 x2 → cq_V l (dG g L P) X (esX11_not d bc bs) cX11_not 2 [(0, .ref a0), (1, .int x1), (2, .int x2)] [] M k n (cd_finX g X (esX11_not d bc bs) cd_rA Q)) (M : cx_M) (P : dP) (L : dL) (k n : Nat) (x1 : Int32) (x2 : Int32) (hk : k ≤ bc ∧ n ≤ bs) (h : rd_not_2b N bc bs Q rE a0 r_2 M P L k n x1 x2) : cq_V l (dG g L P) X (esX11_not d bc bs) cX11_not 2 [(0, .ref a0), (1, .int x1), (2, .int x2)] [] M k n (cd_finX g X (esX11_not d bc bs) cd_rA Q) := by
  unfold rd_not_2b at h
  refine cq_aload_n 0 dX11_not_2 rfl ?_
  refine cq_ldcS (dR_k225 H) dX11_not_3 ?_
  obtain ⟨hmr, h⟩ := h
  refine cd_cV [.ref (N.2 (1100000 + 15))] [] (rd_is_m H (N := N) (bc := bc - k) (bs := bs - n) M P L a0 15 (by decide) h) (dG_Rc H.1.1.1 hmr dCl_X11) dX11_not_5 gd_X11_115 hgd_X11_115 (by refine ⟨?_, ?_⟩ <;> (dsimp only [esX11_not, esX11_is]; omega)) (cd_bud hk) rfl (cx_le rfl) (fun M1 P2 L3 v4 r5 k6 n7 hk2 h => ?_)
  refine cd_addI (h rfl) (cd_bk hk hk2) (fun k8 n9 h hk => ?_)
  refine cq_if_eq 37 h dX11_not_8 rfl (fun h => ?_) (fun h => ?_)
  · refine cq_aload_n 0 dX11_not_37 rfl ?_
    refine cq_iload_n 1 dX11_not_38 rfl ?_
    obtain ⟨hmr, h⟩ := h
    refine cd_xV [.int x1] [] (rd_sum_m H (N := N) (bc := bc - k8) (bs := bs - n9) M1 P2 L3 rE a0 x1 hrE h) (dG_Rc H.1.1.1 hmr dCl_X11) dX11_not_39 gd_X11_226 hgd_X11_226 (by refine ⟨?_, ?_⟩ <;> (dsimp only [esX11_not, esX11_sum]; omega)) (cd_bud hk) rfl (cx_le rfl) rfl (fun _ _ _ _ _ _ _ he h => h.1 he) (fun M10 P11 L12 v13 r14 k15 n16 hk2 h => ?_)
    refine cd_addI (h.2 rfl) (cd_bk hk hk2) (fun k17 n18 h hk => ?_)
    refine cd_astore_n (v := r14) (fun v => [(3, v), (0, .ref a0), (1, .int x1), (2, .int x2)]) dX11_not_42 (cx_lt rfl) (fun v => rfl) ?_
    refine cq_aload_n 1 dX11_not_43 rfl ?_
    refine cq_ldcS (dR_k229 H) dX11_not_44 ?_
    obtain ⟨hmr, h⟩ := h
    refine cd_cV [.ref (N.2 (1100000 + 16))] [] (rd_is_m H (N := N) (bc := bc - k17) (bs := bs - n18) M10 P11 L12 a0 16 (by decide) h) (dG_Rc H.1.1.1 hmr dCl_X11) dX11_not_46 gd_X11_115 hgd_X11_115 (by refine ⟨?_, ?_⟩ <;> (dsimp only [esX11_not, esX11_is]; omega)) (cd_bud hk) rfl (cx_le rfl) (fun M19 P20 L21 v22 r23 k24 n25 hk2 h => ?_)
    refine cd_addI (h rfl) (cd_bk hk hk2) (fun k26 n27 h hk => ?_)
    refine cq_if_ne 61 h dX11_not_49 rfl (fun h => ?_) (fun h => ?_)
    · refine cq_sub (lv' := [(0, .ref a0), (1, .int x1), (2, .int x2), (3, va_rf r14)]) [1, 2, 3, 0] rfl ?_
      exact rd_not_61_v H hX hrE M19 P20 L21 k26 n27 x1 x2 r14 hk h
    · refine cq_aload_n 1 dX11_not_52 rfl ?_
      refine cq_ldcS (dR_k231 H) dX11_not_53 ?_
      obtain ⟨hmr, h⟩ := h
      refine cd_cV [.ref (N.2 (1100000 + 17))] [] (rd_is_m H (N := N) (bc := bc - k26) (bs := bs - n27) M19 P20 L21 a0 17 (by decide) h) (dG_Rc H.1.1.1 hmr dCl_X11) dX11_not_55 gd_X11_115 hgd_X11_115 (by refine ⟨?_, ?_⟩ <;> (dsimp only [esX11_not, esX11_is]; omega)) (cd_bud hk) rfl (cx_le rfl) (fun M28 P29 L30 v31 r32 k33 n34 hk2 h => ?_)
      refine cd_addI (h rfl) (cd_bk hk hk2) (fun k35 n36 h hk => ?_)
      refine cq_if_eq 91 h dX11_not_58 rfl (fun h => ?_) (fun h => ?_)
      · refine cq_sub (lv' := [(2, .int x2), (3, va_rf r14)]) [3, 0] rfl ?_
        exact rd_not_91_v H hX hrE N.1 M28 P29 L30 k35 n36 x2 r14 hk h
      · refine cq_sub (lv' := [(0, .ref a0), (1, .int x1), (2, .int x2), (3, va_rf r14)]) [1, 2, 3, 0] rfl ?_
        exact rd_not_61_v H hX hrE M28 P29 L30 k35 n36 x1 x2 r14 hk h
  · refine cq_aload_n 0 dX11_not_11 rfl ?_
    refine cq_iload_n 2 dX11_not_12 rfl ?_
    refine cq_bipush 6 dX11_not_13 cx_bp_6 ?_
    refine cq_icmp_ge 22 h dX11_not_15 rfl (fun h => ?_) (fun h => ?_)
    · refine cq_iconst 0 dX11_not_22 cx_ic_0 ?_
      exact rd_not_23_v H hX hrE hr_2 M1 P2 L3 k8 n9 x1 x2 0 hk h
    · refine cq_iconst 1 dX11_not_18 cx_ic_1 ?_
      refine cq_goto 23 dX11_not_19 rfl ?_
      exact rd_not_23_v H hX hrE hr_2 M1 P2 L3 k8 n9 x1 x2 1 hk h
def rd_not_2 (N : dNt) (bc bs : Nat) (Q : cd_Qt) (rE : Nat → Nat → cx_M → dP → dL → Nat → Int32 → cd_Qt → Prop) (a0 : Nat) : Nat → cx_M → dP → dL → Nat → Nat → Int32 → Int32 → Prop :=
  cx_fix (fun _ _ _ _ _ _ _ => False) (fun r_2 => rd_not_2b N bc bs Q rE a0 r_2)
theorem rd_not_2_v {l : Launch} {g : cx_G} {d : Nat} {X : cx_X} {N : dNt} {bc bs : Nat} {Q : cd_Qt} {rE : Nat → Nat → cx_M → dP → dL → Nat → Int32 → cd_Qt → Prop} {a0 : Nat} (H : dR l g N.2) (hX : True) (hrE : ∀ (bc bs : Nat) (M : cx_M) (P : dP) (L : dL) (a0 : Nat) (x1 : Int32) (Q : cd_Qt), rE bc bs M P L a0 x1 Q → cd_MetX l g yX11_expr cX11_expr (esX11_expr d bc bs) cd_rA [.ref a0, .int x1] M P L Q) : ∀ (f : Nat) (M : cx_M) (P : dP) (L : dL) (k n : Nat) (x1 : Int32) (x2 : Int32), (k ≤ bc ∧ n ≤ bs) → rd_not_2 N bc bs Q rE a0 f M P L k n x1 x2 → cq_V l (dG g L P) X (esX11_not d bc bs) cX11_not 2 [(0, .ref a0), (1, .int x1), (2, .int x2)] [] M k n (cd_finX g X (esX11_not d bc bs) cd_rA Q) :=
  cx_fixI (fun (r : cx_M → dP → dL → Nat → Nat → Int32 → Int32 → Prop) => ∀ (M : cx_M) (P : dP) (L : dL) (k n : Nat) (x1 : Int32) (x2 : Int32), (k ≤ bc ∧ n ≤ bs) → r M P L k n x1 x2 → cq_V l (dG g L P) X (esX11_not d bc bs) cX11_not 2 [(0, .ref a0), (1, .int x1), (2, .int x2)] [] M k n (cd_finX g X (esX11_not d bc bs) cd_rA Q)) (fun _ _ _ _ _ _ _ _ h => by cases h) (fun r hr M P L k n x1 x2 hk h => rd_not_2b_v H hX hrE hr M P L k n x1 x2 hk h)
def rd_not_0 (N : dNt) (bc bs : Nat) (Q : cd_Qt) (rE : Nat → Nat → cx_M → dP → dL → Nat → Int32 → cd_Qt → Prop) (a0 : Nat) (M : cx_M) (P : dP) (L : dL) (k n : Nat) (x1 : Int32) : Prop :=
  rd_not_2 N bc bs Q rE a0 N.1 M P L k n x1 0
set_option maxRecDepth 100000 in
theorem rd_not_0_v {l : Launch} {g : cx_G} {d : Nat} {X : cx_X} {N : dNt} {bc bs : Nat} {Q : cd_Qt} {rE : Nat → Nat → cx_M → dP → dL → Nat → Int32 → cd_Qt → Prop} {a0 : Nat} (H : dR l g N.2) (hX : True) (hrE : ∀ (bc bs : Nat) (M : cx_M) (P : dP) (L : dL) (a0 : Nat) (x1 : Int32) (Q : cd_Qt), rE bc bs M P L a0 x1 Q → cd_MetX l g yX11_expr cX11_expr (esX11_expr d bc bs) cd_rA [.ref a0, .int x1] M P L Q) (M : cx_M) (P : dP) (L : dL) (k n : Nat) (x1 : Int32) (hk : k ≤ bc ∧ n ≤ bs) (h : rd_not_0 N bc bs Q rE a0 M P L k n x1) : cq_V l (dG g L P) X (esX11_not d bc bs) cX11_not 0 [(0, .ref a0), (1, .int x1)] [] M k n (cd_finX g X (esX11_not d bc bs) cd_rA Q) := by
  unfold rd_not_0 at h
  refine cq_iconst 0 dX11_not_0 cx_ic_0 ?_
  refine cq_istore_n [(2, .int 0), (0, .ref a0), (1, .int x1)] dX11_not_1 (cx_lt rfl) rfl ?_
  refine cq_sub (lv' := [(0, .ref a0), (1, .int x1), (2, .int 0)]) [1, 2, 0] rfl ?_
  exact rd_not_2_v H hX hrE N.1 M P L k n x1 0 hk h
def rd_not (N : dNt) (bc bs : Nat) (M : cx_M) (P : dP) (L : dL) (rE : Nat → Nat → cx_M → dP → dL → Nat → Int32 → cd_Qt → Prop) (a0 : Nat) (x1 : Int32) (Q : cd_Qt) : Prop := rd_not_0 N bc bs Q rE a0 M P L 0 0 x1
set_option maxRecDepth 100000 in
theorem rd_not_m {l : Launch} {g : cx_G} {d : Nat} {N : dNt} {bc bs : Nat} {Q : cd_Qt} (H : dR l g N.2) (M : cx_M) (P : dP) (L : dL) (rE : Nat → Nat → cx_M → dP → dL → Nat → Int32 → cd_Qt → Prop) (a0 : Nat) (x1 : Int32) (hrE : ∀ (bc bs : Nat) (M : cx_M) (P : dP) (L : dL) (a0 : Nat) (x1 : Int32) (Q : cd_Qt), rE bc bs M P L a0 x1 Q → cd_MetX l g yX11_expr cX11_expr (esX11_expr d bc bs) cd_rA [.ref a0, .int x1] M P L Q) (h : rd_not N bc bs M P L rE a0 x1 Q) : cd_MetX l g yX11_not cX11_not (esX11_not d bc bs) cd_rA [.ref a0, .int x1] M P L Q :=
  cd_metX (by decide +kernel) rfl rfl (lv := [(0, .ref a0), (1, .int x1)]) rfl (cx_le rfl) (fun X hX => cq_sub (lv' := [(0, .ref a0), (1, .int x1)]) [0, 1] rfl (rd_not_0_v H hX hrE M P L 0 0 x1 ⟨Nat.zero_le _, Nat.zero_le _⟩ h))

abbrev esX11_and (d : Nat) (bc bs : Nat) : cx_S := (3, RX11, cx_rI, { frames := 40 * d + 12, cells := bc, slots := bs, locals := 4000 * d + 288 }, some (.object "CircuitCells$Expr"), true)
def rd_and_6b (N : dNt) (bc bs : Nat) (Q : cd_Qt) (rE : Nat → Nat → cx_M → dP → dL → Nat → Int32 → cd_Qt → Prop) (a0 : Nat) (r_6 : cx_M → dP → dL → Nat → Nat → Int32 → Option Nat → Prop) (M : cx_M) (P : dP) (L : dL) (k n : Nat) (x1 : Int32) (x2 : Option Nat) : Prop :=
  (a0, (0, 10, 0)) ∈ L ∧
  rd_is N (bc - k) (bs - n) M P L a0 14 (fun M1 P2 L3 v4 r5 e9 k6 n7 => e9 = 0 → cd_add k k6 n n7 fun k8 n9 =>
  if v4 = 0 then (
    Q M1 P2 L3 0 x2 0 k8 n9)
  else (
    (a0, (0, 10, 0)) ∈ L3 ∧
    rd_go N (bc - k8) (bs - n9) M1 P2 L3 a0 (fun M10 P11 L12 v13 r14 e9 k15 n16 => e9 = 0 → cd_add k8 k15 n9 n16 fun k17 n18 =>
    cd_new bc bs k17 n18 3 (0, 3, 0) M10 P11 L12 fun a19 M20 P21 L22 k23 n24 =>
    (a0, (0, 10, 0)) ∈ L22 ∧
    rd_not N (bc - k23) (bs - n24) M20 P21 L22 rE a0 x1 (fun M25 P26 L27 v28 r29 e9 k30 n31 => (e9 ≠ 0 → Q M25 P26 L27 v28 none e9 (k23 + k30) (n24 + n31)) ∧ (e9 = 0 → cd_add k23 k30 n24 n31 fun k32 n33 =>
    rBo_init N (bc - k32) (bs - n33) M25 P26 L27 a19 38 x2 r29 (fun M34 P35 L36 v37 r38 e9 k39 n40 => e9 = 0 → cd_add k32 k39 n33 n40 fun k41 n42 =>
    r_6 M34 P35 L36 k41 n42 x1 ((some a19))))))))
set_option maxRecDepth 100000 in
theorem rd_and_6b_v {l : Launch} {g : cx_G} {d : Nat} {X : cx_X} {N : dNt} {bc bs : Nat} {Q : cd_Qt} {rE : Nat → Nat → cx_M → dP → dL → Nat → Int32 → cd_Qt → Prop} {a0 : Nat} {r_6 : cx_M → dP → dL → Nat → Nat → Int32 → Option Nat → Prop} (H : dR l g N.2) (hX : True) (hrE : ∀ (bc bs : Nat) (M : cx_M) (P : dP) (L : dL) (a0 : Nat) (x1 : Int32) (Q : cd_Qt), rE bc bs M P L a0 x1 Q → cd_MetX l g yX11_expr cX11_expr (esX11_expr d bc bs) cd_rA [.ref a0, .int x1] M P L Q) (hr_6 : ∀ (M : cx_M) (P : dP) (L : dL) (k n : Nat) (x1 : Int32) (x2 : Option Nat), (k ≤ bc ∧ n ≤ bs) → r_6 M P L k n x1 x2 → cq_V l (dG g L P) X (esX11_and d bc bs) cX11_and 6 [(0, .ref a0), (1, .int x1), (2, va_rf x2)] [] M k n (cd_finX g X (esX11_and d bc bs) cd_rA Q)) (M : cx_M) (P : dP) (L : dL) (k n : Nat) (x1 : Int32) (x2 : Option Nat) (hk : k ≤ bc ∧ n ≤ bs) (h : rd_and_6b N bc bs Q rE a0 r_6 M P L k n x1 x2) : cq_V l (dG g L P) X (esX11_and d bc bs) cX11_and 6 [(0, .ref a0), (1, .int x1), (2, va_rf x2)] [] M k n (cd_finX g X (esX11_and d bc bs) cd_rA Q) := by
  unfold rd_and_6b at h
  refine cq_aload_n 0 dX11_and_6 rfl ?_
  refine cq_ldcS (dR_k224 H) dX11_and_7 ?_
  obtain ⟨hmr, h⟩ := h
  refine cd_cV [.ref (N.2 (1100000 + 14))] [] (rd_is_m H (N := N) (bc := bc - k) (bs := bs - n) M P L a0 14 (by decide) h) (dG_Rc H.1.1.1 hmr dCl_X11) dX11_and_9 gd_X11_115 hgd_X11_115 (by refine ⟨?_, ?_⟩ <;> (dsimp only [esX11_and, esX11_is]; omega)) (cd_bud hk) rfl (cx_le rfl) (fun M1 P2 L3 v4 r5 k6 n7 hk2 h => ?_)
  refine cd_addI (h rfl) (cd_bk hk hk2) (fun k8 n9 h hk => ?_)
  refine cq_if_eq 38 h dX11_and_12 rfl (fun h => ?_) (fun h => ?_)
  · refine cd_aload_n (v := x2) 2 dX11_and_38 rfl ?_
    exact cd_toX (cd_aret (v := x2) hk h rfl (Or.inl ⟨_, rfl⟩) dX11_and_39)
  · refine cq_aload_n 0 dX11_and_15 rfl ?_
    obtain ⟨hmr, h⟩ := h
    refine cd_cV [] [] (rd_go_m H (N := N) (bc := bc - k8) (bs := bs - n9) M1 P2 L3 a0 h) (dG_Rc H.1.1.1 hmr dCl_X11) dX11_and_16 gd_X11_32 hgd_X11_32 (by refine ⟨?_, ?_⟩ <;> (dsimp only [esX11_and, esX11_go]; omega)) (cd_bud hk) rfl (cx_le rfl) (fun M10 P11 L12 v13 r14 k15 n16 hk2 h => ?_)
    refine cd_addI (h rfl) (cd_bk hk hk2) (fun k17 n18 h hk => ?_)
    refine cd_newO H.1.1.1 h ⟨rfl, rfl⟩ dCl_X16 dDf_X16 q1713 q1714 q155 dX11_and_19 (fun a19 M20 P21 L22 k23 n24 h hk => ?_)
    refine cq_dup dX11_and_22 rfl ?_
    refine cq_bipush 38 dX11_and_23 cx_bp_38 ?_
    refine cd_aload_n (v := x2) 2 dX11_and_25 rfl ?_
    refine cq_aload_n 0 dX11_and_26 rfl ?_
    refine cq_iload_n 1 dX11_and_27 rfl ?_
    obtain ⟨hmr, h⟩ := h
    refine cd_xV [.int x1] [va_rf x2, .int 38, .ref a19, .ref a19] (rd_not_m H (N := N) (bc := bc - k23) (bs := bs - n24) M20 P21 L22 rE a0 x1 hrE h) (dG_Rc H.1.1.1 hmr dCl_X11) dX11_and_28 gd_X11_221 hgd_X11_221 (by refine ⟨?_, ?_⟩ <;> (dsimp only [esX11_and, esX11_not]; omega)) (cd_bud hk) rfl (by simp only [List.map, va_rf_cat, List.sum_cons, List.sum_nil]; exact cx_le rfl) rfl (fun _ _ _ _ _ _ _ he h => h.1 he) (fun M25 P26 L27 v28 r29 k30 n31 hk2 h => ?_)
    refine cd_addI (h.2 rfl) (cd_bk hk hk2) (fun k32 n33 h hk => ?_)
    refine cd_cI [.int 38, va_rf x2, va_rf r29] [.ref a19] (rBo_init_m H (N := N) (bc := bc - k32) (bs := bs - n33) M25 P26 L27 a19 38 x2 r29 h) dX11_and_31 gd_X11_218 rfl q155 q1715 q1716 rfl hgd_X11_218 (by refine ⟨?_, ?_⟩ <;> (dsimp only [esX11_and, esX16_init]; omega)) (cd_bud hk) rfl (cx_le rfl) (fun M34 P35 L36 v37 r38 k39 n40 hk2 h => ?_)
    refine cd_addI (h rfl) (cd_bk hk hk2) (fun k41 n42 h hk => ?_)
    refine cq_astore_n [(2, .ref a19), (0, .ref a0), (1, .int x1)] dX11_and_34 (cx_lt rfl) rfl ?_
    refine cq_goto 6 dX11_and_35 rfl ?_
    refine cq_sub (lv' := [(0, .ref a0), (1, .int x1), (2, va_rf (some a19))]) [1, 2, 0] rfl ?_
    exact hr_6 M34 P35 L36 k41 n42 x1 ((some a19)) hk h
def rd_and_6 (N : dNt) (bc bs : Nat) (Q : cd_Qt) (rE : Nat → Nat → cx_M → dP → dL → Nat → Int32 → cd_Qt → Prop) (a0 : Nat) : Nat → cx_M → dP → dL → Nat → Nat → Int32 → Option Nat → Prop :=
  cx_fix (fun _ _ _ _ _ _ _ => False) (fun r_6 => rd_and_6b N bc bs Q rE a0 r_6)
theorem rd_and_6_v {l : Launch} {g : cx_G} {d : Nat} {X : cx_X} {N : dNt} {bc bs : Nat} {Q : cd_Qt} {rE : Nat → Nat → cx_M → dP → dL → Nat → Int32 → cd_Qt → Prop} {a0 : Nat} (H : dR l g N.2) (hX : True) (hrE : ∀ (bc bs : Nat) (M : cx_M) (P : dP) (L : dL) (a0 : Nat) (x1 : Int32) (Q : cd_Qt), rE bc bs M P L a0 x1 Q → cd_MetX l g yX11_expr cX11_expr (esX11_expr d bc bs) cd_rA [.ref a0, .int x1] M P L Q) : ∀ (f : Nat) (M : cx_M) (P : dP) (L : dL) (k n : Nat) (x1 : Int32) (x2 : Option Nat), (k ≤ bc ∧ n ≤ bs) → rd_and_6 N bc bs Q rE a0 f M P L k n x1 x2 → cq_V l (dG g L P) X (esX11_and d bc bs) cX11_and 6 [(0, .ref a0), (1, .int x1), (2, va_rf x2)] [] M k n (cd_finX g X (esX11_and d bc bs) cd_rA Q) :=
  cx_fixI (fun (r : cx_M → dP → dL → Nat → Nat → Int32 → Option Nat → Prop) => ∀ (M : cx_M) (P : dP) (L : dL) (k n : Nat) (x1 : Int32) (x2 : Option Nat), (k ≤ bc ∧ n ≤ bs) → r M P L k n x1 x2 → cq_V l (dG g L P) X (esX11_and d bc bs) cX11_and 6 [(0, .ref a0), (1, .int x1), (2, va_rf x2)] [] M k n (cd_finX g X (esX11_and d bc bs) cd_rA Q)) (fun _ _ _ _ _ _ _ _ h => by cases h) (fun r hr M P L k n x1 x2 hk h => rd_and_6b_v H hX hrE hr M P L k n x1 x2 hk h)
def rd_and_0 (N : dNt) (bc bs : Nat) (Q : cd_Qt) (rE : Nat → Nat → cx_M → dP → dL → Nat → Int32 → cd_Qt → Prop) (a0 : Nat) (M : cx_M) (P : dP) (L : dL) (k n : Nat) (x1 : Int32) : Prop :=
  (a0, (0, 10, 0)) ∈ L ∧
  rd_not N (bc - k) (bs - n) M P L rE a0 x1 (fun M1 P2 L3 v4 r5 e9 k6 n7 => (e9 ≠ 0 → Q M1 P2 L3 v4 none e9 (k + k6) (n + n7)) ∧ (e9 = 0 → cd_add k k6 n n7 fun k8 n9 =>
  rd_and_6 N bc bs Q rE a0 N.1 M1 P2 L3 k8 n9 x1 r5))
set_option maxRecDepth 100000 in
theorem rd_and_0_v {l : Launch} {g : cx_G} {d : Nat} {X : cx_X} {N : dNt} {bc bs : Nat} {Q : cd_Qt} {rE : Nat → Nat → cx_M → dP → dL → Nat → Int32 → cd_Qt → Prop} {a0 : Nat} (H : dR l g N.2) (hX : True) (hrE : ∀ (bc bs : Nat) (M : cx_M) (P : dP) (L : dL) (a0 : Nat) (x1 : Int32) (Q : cd_Qt), rE bc bs M P L a0 x1 Q → cd_MetX l g yX11_expr cX11_expr (esX11_expr d bc bs) cd_rA [.ref a0, .int x1] M P L Q) (M : cx_M) (P : dP) (L : dL) (k n : Nat) (x1 : Int32) (hk : k ≤ bc ∧ n ≤ bs) (h : rd_and_0 N bc bs Q rE a0 M P L k n x1) : cq_V l (dG g L P) X (esX11_and d bc bs) cX11_and 0 [(0, .ref a0), (1, .int x1)] [] M k n (cd_finX g X (esX11_and d bc bs) cd_rA Q) := by
  unfold rd_and_0 at h
  refine cq_aload_n 0 dX11_and_0 rfl ?_
  refine cq_iload_n 1 dX11_and_1 rfl ?_
  obtain ⟨hmr, h⟩ := h
  refine cd_xV [.int x1] [] (rd_not_m H (N := N) (bc := bc - k) (bs := bs - n) M P L rE a0 x1 hrE h) (dG_Rc H.1.1.1 hmr dCl_X11) dX11_and_2 gd_X11_221 hgd_X11_221 (by refine ⟨?_, ?_⟩ <;> (dsimp only [esX11_and, esX11_not]; omega)) (cd_bud hk) rfl (cx_le rfl) rfl (fun _ _ _ _ _ _ _ he h => h.1 he) (fun M1 P2 L3 v4 r5 k6 n7 hk2 h => ?_)
  refine cd_addI (h.2 rfl) (cd_bk hk hk2) (fun k8 n9 h hk => ?_)
  refine cd_astore_n (v := r5) (fun v => [(2, v), (0, .ref a0), (1, .int x1)]) dX11_and_5 (cx_lt rfl) (fun v => rfl) ?_
  refine cq_sub (lv' := [(0, .ref a0), (1, .int x1), (2, va_rf r5)]) [1, 2, 0] rfl ?_
  exact rd_and_6_v H hX hrE N.1 M1 P2 L3 k8 n9 x1 r5 hk h
def rd_and (N : dNt) (bc bs : Nat) (M : cx_M) (P : dP) (L : dL) (rE : Nat → Nat → cx_M → dP → dL → Nat → Int32 → cd_Qt → Prop) (a0 : Nat) (x1 : Int32) (Q : cd_Qt) : Prop := rd_and_0 N bc bs Q rE a0 M P L 0 0 x1
set_option maxRecDepth 100000 in
theorem rd_and_m {l : Launch} {g : cx_G} {d : Nat} {N : dNt} {bc bs : Nat} {Q : cd_Qt} (H : dR l g N.2) (M : cx_M) (P : dP) (L : dL) (rE : Nat → Nat → cx_M → dP → dL → Nat → Int32 → cd_Qt → Prop) (a0 : Nat) (x1 : Int32) (hrE : ∀ (bc bs : Nat) (M : cx_M) (P : dP) (L : dL) (a0 : Nat) (x1 : Int32) (Q : cd_Qt), rE bc bs M P L a0 x1 Q → cd_MetX l g yX11_expr cX11_expr (esX11_expr d bc bs) cd_rA [.ref a0, .int x1] M P L Q) (h : rd_and N bc bs M P L rE a0 x1 Q) : cd_MetX l g yX11_and cX11_and (esX11_and d bc bs) cd_rA [.ref a0, .int x1] M P L Q :=
  cd_metX (by decide +kernel) rfl rfl (lv := [(0, .ref a0), (1, .int x1)]) rfl (cx_le rfl) (fun X hX => cq_sub (lv' := [(0, .ref a0), (1, .int x1)]) [0, 1] rfl (rd_and_0_v H hX hrE M P L 0 0 x1 ⟨Nat.zero_le _, Nat.zero_le _⟩ h))

def rd_exprB_51b (N : dNt) (bc bs : Nat) (Q : cd_Qt) (rE : Nat → Nat → cx_M → dP → dL → Nat → Int32 → cd_Qt → Prop) (a0 : Nat) (r_51 : cx_M → dP → dL → Nat → Nat → Int32 → Option Nat → Prop) (M : cx_M) (P : dP) (L : dL) (k n : Nat) (x1 : Int32) (x2 : Option Nat) : Prop :=
  (a0, (0, 10, 0)) ∈ L ∧
  rd_is N (bc - k) (bs - n) M P L a0 13 (fun M1 P2 L3 v4 r5 e9 k6 n7 => e9 = 0 → cd_add k k6 n n7 fun k8 n9 =>
  if v4 = 0 then (
    Q M1 P2 L3 0 x2 0 k8 n9)
  else (
    (a0, (0, 10, 0)) ∈ L3 ∧
    rd_go N (bc - k8) (bs - n9) M1 P2 L3 a0 (fun M10 P11 L12 v13 r14 e9 k15 n16 => e9 = 0 → cd_add k8 k15 n9 n16 fun k17 n18 =>
    cd_new bc bs k17 n18 3 (0, 3, 0) M10 P11 L12 fun a19 M20 P21 L22 k23 n24 =>
    (a0, (0, 10, 0)) ∈ L22 ∧
    rd_and N (bc - k23) (bs - n24) M20 P21 L22 rE a0 x1 (fun M25 P26 L27 v28 r29 e9 k30 n31 => (e9 ≠ 0 → Q M25 P26 L27 v28 none e9 (k23 + k30) (n24 + n31)) ∧ (e9 = 0 → cd_add k23 k30 n24 n31 fun k32 n33 =>
    rBo_init N (bc - k32) (bs - n33) M25 P26 L27 a19 124 x2 r29 (fun M34 P35 L36 v37 r38 e9 k39 n40 => e9 = 0 → cd_add k32 k39 n33 n40 fun k41 n42 =>
    r_51 M34 P35 L36 k41 n42 x1 ((some a19))))))))
set_option maxRecDepth 100000 in
theorem rd_exprB_51b_v {l : Launch} {g : cx_G} {d : Nat} {X : cx_X} {N : dNt} {bc bs : Nat} {Q : cd_Qt} {rE : Nat → Nat → cx_M → dP → dL → Nat → Int32 → cd_Qt → Prop} {a0 : Nat} {r_51 : cx_M → dP → dL → Nat → Nat → Int32 → Option Nat → Prop} (H : dR l g N.2) (hX : True) (hrE : ∀ (bc bs : Nat) (M : cx_M) (P : dP) (L : dL) (a0 : Nat) (x1 : Int32) (Q : cd_Qt), rE bc bs M P L a0 x1 Q → cd_MetX l g yX11_expr cX11_expr (esX11_expr d bc bs) cd_rA [.ref a0, .int x1] M P L Q) (hr_51 : ∀ (M : cx_M) (P : dP) (L : dL) (k n : Nat) (x1 : Int32) (x2 : Option Nat), (k ≤ bc ∧ n ≤ bs) → r_51 M P L k n x1 x2 → cq_V l (dG g L P) X (esX11_expr (d + 1) bc bs) cX11_expr 51 [(0, .ref a0), (1, .int x1), (2, va_rf x2)] [] M k n (cd_finX g X (esX11_expr (d + 1) bc bs) cd_rA Q)) (M : cx_M) (P : dP) (L : dL) (k n : Nat) (x1 : Int32) (x2 : Option Nat) (hk : k ≤ bc ∧ n ≤ bs) (h : rd_exprB_51b N bc bs Q rE a0 r_51 M P L k n x1 x2) : cq_V l (dG g L P) X (esX11_expr (d + 1) bc bs) cX11_expr 51 [(0, .ref a0), (1, .int x1), (2, va_rf x2)] [] M k n (cd_finX g X (esX11_expr (d + 1) bc bs) cd_rA Q) := by
  unfold rd_exprB_51b at h
  refine cq_aload_n 0 dX11_expr_51 rfl ?_
  refine cq_ldcS (dR_k214 H) dX11_expr_52 ?_
  obtain ⟨hmr, h⟩ := h
  refine cd_cV [.ref (N.2 (1100000 + 13))] [] (rd_is_m H (N := N) (bc := bc - k) (bs := bs - n) M P L a0 13 (by decide) h) (dG_Rc H.1.1.1 hmr dCl_X11) dX11_expr_54 gd_X11_115 hgd_X11_115 (by refine ⟨?_, ?_⟩ <;> (dsimp only [esX11_expr, esX11_is]; omega)) (cd_bud hk) rfl (cx_le rfl) (fun M1 P2 L3 v4 r5 k6 n7 hk2 h => ?_)
  refine cd_addI (h rfl) (cd_bk hk hk2) (fun k8 n9 h hk => ?_)
  refine cq_if_eq 83 h dX11_expr_57 rfl (fun h => ?_) (fun h => ?_)
  · refine cd_aload_n (v := x2) 2 dX11_expr_83 rfl ?_
    exact cd_toX (cd_aret (v := x2) hk h rfl (Or.inl ⟨_, rfl⟩) dX11_expr_84)
  · refine cq_aload_n 0 dX11_expr_60 rfl ?_
    obtain ⟨hmr, h⟩ := h
    refine cd_cV [] [] (rd_go_m H (N := N) (bc := bc - k8) (bs := bs - n9) M1 P2 L3 a0 h) (dG_Rc H.1.1.1 hmr dCl_X11) dX11_expr_61 gd_X11_32 hgd_X11_32 (by refine ⟨?_, ?_⟩ <;> (dsimp only [esX11_expr, esX11_go]; omega)) (cd_bud hk) rfl (cx_le rfl) (fun M10 P11 L12 v13 r14 k15 n16 hk2 h => ?_)
    refine cd_addI (h rfl) (cd_bk hk hk2) (fun k17 n18 h hk => ?_)
    refine cd_newO H.1.1.1 h ⟨rfl, rfl⟩ dCl_X16 dDf_X16 q1713 q1714 q155 dX11_expr_64 (fun a19 M20 P21 L22 k23 n24 h hk => ?_)
    refine cq_dup dX11_expr_67 rfl ?_
    refine cq_bipush 124 dX11_expr_68 cx_bp_124 ?_
    refine cd_aload_n (v := x2) 2 dX11_expr_70 rfl ?_
    refine cq_aload_n 0 dX11_expr_71 rfl ?_
    refine cq_iload_n 1 dX11_expr_72 rfl ?_
    obtain ⟨hmr, h⟩ := h
    refine cd_xV [.int x1] [va_rf x2, .int 124, .ref a19, .ref a19] (rd_and_m H (N := N) (bc := bc - k23) (bs := bs - n24) M20 P21 L22 rE a0 x1 hrE h) (dG_Rc H.1.1.1 hmr dCl_X11) dX11_expr_73 gd_X11_211 hgd_X11_211 (by refine ⟨?_, ?_⟩ <;> (dsimp only [esX11_expr, esX11_and]; omega)) (cd_bud hk) rfl (by simp only [List.map, va_rf_cat, List.sum_cons, List.sum_nil]; exact cx_le rfl) rfl (fun _ _ _ _ _ _ _ he h => h.1 he) (fun M25 P26 L27 v28 r29 k30 n31 hk2 h => ?_)
    refine cd_addI (h.2 rfl) (cd_bk hk hk2) (fun k32 n33 h hk => ?_)
    refine cd_cI [.int 124, va_rf x2, va_rf r29] [.ref a19] (rBo_init_m H (N := N) (bc := bc - k32) (bs := bs - n33) M25 P26 L27 a19 124 x2 r29 h) dX11_expr_76 gd_X11_218 rfl q155 q1715 q1716 rfl hgd_X11_218 (by refine ⟨?_, ?_⟩ <;> (dsimp only [esX11_expr, esX16_init]; omega)) (cd_bud hk) rfl (cx_le rfl) (fun M34 P35 L36 v37 r38 k39 n40 hk2 h => ?_)
    refine cd_addI (h rfl) (cd_bk hk hk2) (fun k41 n42 h hk => ?_)
    refine cq_astore_n [(2, .ref a19), (0, .ref a0), (1, .int x1)] dX11_expr_79 (cx_lt rfl) rfl ?_
    refine cq_goto 51 dX11_expr_80 rfl ?_
    refine cq_sub (lv' := [(0, .ref a0), (1, .int x1), (2, va_rf (some a19))]) [1, 2, 0] rfl ?_
    exact hr_51 M34 P35 L36 k41 n42 x1 ((some a19)) hk h
def rd_exprB_51 (N : dNt) (bc bs : Nat) (Q : cd_Qt) (rE : Nat → Nat → cx_M → dP → dL → Nat → Int32 → cd_Qt → Prop) (a0 : Nat) : Nat → cx_M → dP → dL → Nat → Nat → Int32 → Option Nat → Prop :=
  cx_fix (fun _ _ _ _ _ _ _ => False) (fun r_51 => rd_exprB_51b N bc bs Q rE a0 r_51)
theorem rd_exprB_51_v {l : Launch} {g : cx_G} {d : Nat} {X : cx_X} {N : dNt} {bc bs : Nat} {Q : cd_Qt} {rE : Nat → Nat → cx_M → dP → dL → Nat → Int32 → cd_Qt → Prop} {a0 : Nat} (H : dR l g N.2) (hX : True) (hrE : ∀ (bc bs : Nat) (M : cx_M) (P : dP) (L : dL) (a0 : Nat) (x1 : Int32) (Q : cd_Qt), rE bc bs M P L a0 x1 Q → cd_MetX l g yX11_expr cX11_expr (esX11_expr d bc bs) cd_rA [.ref a0, .int x1] M P L Q) : ∀ (f : Nat) (M : cx_M) (P : dP) (L : dL) (k n : Nat) (x1 : Int32) (x2 : Option Nat), (k ≤ bc ∧ n ≤ bs) → rd_exprB_51 N bc bs Q rE a0 f M P L k n x1 x2 → cq_V l (dG g L P) X (esX11_expr (d + 1) bc bs) cX11_expr 51 [(0, .ref a0), (1, .int x1), (2, va_rf x2)] [] M k n (cd_finX g X (esX11_expr (d + 1) bc bs) cd_rA Q) :=
  cx_fixI (fun (r : cx_M → dP → dL → Nat → Nat → Int32 → Option Nat → Prop) => ∀ (M : cx_M) (P : dP) (L : dL) (k n : Nat) (x1 : Int32) (x2 : Option Nat), (k ≤ bc ∧ n ≤ bs) → r M P L k n x1 x2 → cq_V l (dG g L P) X (esX11_expr (d + 1) bc bs) cX11_expr 51 [(0, .ref a0), (1, .int x1), (2, va_rf x2)] [] M k n (cd_finX g X (esX11_expr (d + 1) bc bs) cd_rA Q)) (fun _ _ _ _ _ _ _ _ h => by cases h) (fun r hr M P L k n x1 x2 hk h => rd_exprB_51b_v H hX hrE hr M P L k n x1 x2 hk h)
def rd_exprB_45 (N : dNt) (bc bs : Nat) (Q : cd_Qt) (rE : Nat → Nat → cx_M → dP → dL → Nat → Int32 → cd_Qt → Prop) (a0 : Nat) (M : cx_M) (P : dP) (L : dL) (k n : Nat) (x1 : Int32) : Prop :=
  (a0, (0, 10, 0)) ∈ L ∧
  rd_and N (bc - k) (bs - n) M P L rE a0 x1 (fun M1 P2 L3 v4 r5 e9 k6 n7 => (e9 ≠ 0 → Q M1 P2 L3 v4 none e9 (k + k6) (n + n7)) ∧ (e9 = 0 → cd_add k k6 n n7 fun k8 n9 =>
  rd_exprB_51 N bc bs Q rE a0 N.1 M1 P2 L3 k8 n9 x1 r5))
set_option maxRecDepth 100000 in
theorem rd_exprB_45_v {l : Launch} {g : cx_G} {d : Nat} {X : cx_X} {N : dNt} {bc bs : Nat} {Q : cd_Qt} {rE : Nat → Nat → cx_M → dP → dL → Nat → Int32 → cd_Qt → Prop} {a0 : Nat} (H : dR l g N.2) (hX : True) (hrE : ∀ (bc bs : Nat) (M : cx_M) (P : dP) (L : dL) (a0 : Nat) (x1 : Int32) (Q : cd_Qt), rE bc bs M P L a0 x1 Q → cd_MetX l g yX11_expr cX11_expr (esX11_expr d bc bs) cd_rA [.ref a0, .int x1] M P L Q) (M : cx_M) (P : dP) (L : dL) (k n : Nat) (x1 : Int32) (hk : k ≤ bc ∧ n ≤ bs) (h : rd_exprB_45 N bc bs Q rE a0 M P L k n x1) : cq_V l (dG g L P) X (esX11_expr (d + 1) bc bs) cX11_expr 45 [(0, .ref a0), (1, .int x1)] [] M k n (cd_finX g X (esX11_expr (d + 1) bc bs) cd_rA Q) := by
  unfold rd_exprB_45 at h
  refine cq_aload_n 0 dX11_expr_45 rfl ?_
  refine cq_iload_n 1 dX11_expr_46 rfl ?_
  obtain ⟨hmr, h⟩ := h
  refine cd_xV [.int x1] [] (rd_and_m H (N := N) (bc := bc - k) (bs := bs - n) M P L rE a0 x1 hrE h) (dG_Rc H.1.1.1 hmr dCl_X11) dX11_expr_47 gd_X11_211 hgd_X11_211 (by refine ⟨?_, ?_⟩ <;> (dsimp only [esX11_expr, esX11_and]; omega)) (cd_bud hk) rfl (cx_le rfl) rfl (fun _ _ _ _ _ _ _ he h => h.1 he) (fun M1 P2 L3 v4 r5 k6 n7 hk2 h => ?_)
  refine cd_addI (h.2 rfl) (cd_bk hk hk2) (fun k8 n9 h hk => ?_)
  refine cd_astore_n (v := r5) (fun v => [(2, v), (0, .ref a0), (1, .int x1)]) dX11_expr_50 (cx_lt rfl) (fun v => rfl) ?_
  refine cq_sub (lv' := [(0, .ref a0), (1, .int x1), (2, va_rf r5)]) [1, 2, 0] rfl ?_
  exact rd_exprB_51_v H hX hrE N.1 M1 P2 L3 k8 n9 x1 r5 hk h
def rd_exprB_41 (N : dNt) (bc bs : Nat) (Q : cd_Qt) (rE : Nat → Nat → cx_M → dP → dL → Nat → Int32 → cd_Qt → Prop) (a0 : Nat) (M : cx_M) (P : dP) (L : dL) (k n : Nat) (x1 : Int32) (z1 : Int32) : Prop :=
  (a0, (0, 10, 0)) ∈ L ∧
  rd_check N (bc - k) (bs - n) M P L a0 z1 2 (fun M1 P2 L3 v4 r5 e9 k6 n7 => (e9 ≠ 0 → Q M1 P2 L3 v4 none e9 (k + k6) (n + n7)) ∧ (e9 = 0 → cd_add k k6 n n7 fun k8 n9 =>
  rd_exprB_45 N bc bs Q rE a0 M1 P2 L3 k8 n9 x1))
set_option maxRecDepth 100000 in
theorem rd_exprB_41_v {l : Launch} {g : cx_G} {d : Nat} {X : cx_X} {N : dNt} {bc bs : Nat} {Q : cd_Qt} {rE : Nat → Nat → cx_M → dP → dL → Nat → Int32 → cd_Qt → Prop} {a0 : Nat} (H : dR l g N.2) (hX : True) (hrE : ∀ (bc bs : Nat) (M : cx_M) (P : dP) (L : dL) (a0 : Nat) (x1 : Int32) (Q : cd_Qt), rE bc bs M P L a0 x1 Q → cd_MetX l g yX11_expr cX11_expr (esX11_expr d bc bs) cd_rA [.ref a0, .int x1] M P L Q) (M : cx_M) (P : dP) (L : dL) (k n : Nat) (x1 : Int32) (z1 : Int32) (hk : k ≤ bc ∧ n ≤ bs) (h : rd_exprB_41 N bc bs Q rE a0 M P L k n x1 z1) : cq_V l (dG g L P) X (esX11_expr (d + 1) bc bs) cX11_expr 41 [(0, .ref a0), (1, .int x1)] [.int z1, .ref a0] M k n (cd_finX g X (esX11_expr (d + 1) bc bs) cd_rA Q) := by
  unfold rd_exprB_41 at h
  refine cq_iconst 2 dX11_expr_41 cx_ic_2 ?_
  obtain ⟨hmr, h⟩ := h
  refine cd_xV [.int z1, .int 2] [] (rd_check_m H.1.1.1 H.2.1 (N := N) (bc := bc - k) (bs := bs - n) M P L a0 z1 2 h) (dG_Rc H.1.1.1 hmr dCl_X11) dX11_expr_42 gd_X11_119 hgd_X11_119 (by refine ⟨?_, ?_⟩ <;> (dsimp only [esX11_expr, fsC]; omega)) (cd_bud hk) rfl (cx_le rfl) rfl (fun _ _ _ _ _ _ _ he h => h.1 he) (fun M1 P2 L3 v4 r5 k6 n7 hk2 h => ?_)
  refine cd_addI (h.2 rfl) (cd_bk hk hk2) (fun k8 n9 h hk => ?_)
  exact rd_exprB_45_v H hX hrE M1 P2 L3 k8 n9 x1 hk h
def rd_exprB_40 (N : dNt) (bc bs : Nat) (Q : cd_Qt) (rE : Nat → Nat → cx_M → dP → dL → Nat → Int32 → cd_Qt → Prop) (a0 : Nat) (M : cx_M) (P : dP) (L : dL) (k n : Nat) (x1 : Int32) : Prop :=
  rd_exprB_41 N bc bs Q rE a0 M P L k n x1 0
set_option maxRecDepth 100000 in
theorem rd_exprB_40_v {l : Launch} {g : cx_G} {d : Nat} {X : cx_X} {N : dNt} {bc bs : Nat} {Q : cd_Qt} {rE : Nat → Nat → cx_M → dP → dL → Nat → Int32 → cd_Qt → Prop} {a0 : Nat} (H : dR l g N.2) (hX : True) (hrE : ∀ (bc bs : Nat) (M : cx_M) (P : dP) (L : dL) (a0 : Nat) (x1 : Int32) (Q : cd_Qt), rE bc bs M P L a0 x1 Q → cd_MetX l g yX11_expr cX11_expr (esX11_expr d bc bs) cd_rA [.ref a0, .int x1] M P L Q) (M : cx_M) (P : dP) (L : dL) (k n : Nat) (x1 : Int32) (hk : k ≤ bc ∧ n ≤ bs) (h : rd_exprB_40 N bc bs Q rE a0 M P L k n x1) : cq_V l (dG g L P) X (esX11_expr (d + 1) bc bs) cX11_expr 40 [(0, .ref a0), (1, .int x1)] [.ref a0] M k n (cd_finX g X (esX11_expr (d + 1) bc bs) cd_rA Q) := by
  unfold rd_exprB_40 at h
  refine cq_iconst 0 dX11_expr_40 cx_ic_0 ?_
  exact rd_exprB_41_v H hX hrE M P L k n x1 0 hk h
def rd_exprB_0 (N : dNt) (bc bs : Nat) (Q : cd_Qt) (rE : Nat → Nat → cx_M → dP → dL → Nat → Int32 → cd_Qt → Prop) (a0 : Nat) (M : cx_M) (P : dP) (L : dL) (k n : Nat) (x1 : Int32) : Prop :=
  if x1 < 6 then (
    rd_exprB_45 N bc bs Q rE a0 M P L k n x1)
  else (
    (a0, (0, 10, 0)) ∈ L ∧ cd_let (P a0 6) fun r1 =>
    if r1 = (some ((N.2 9211))) then (
      rd_exprB_40 N bc bs Q rE a0 M P L k n x1)
    else (
      (a0, (0, 10, 0)) ∈ L ∧ cd_let (P a0 6) fun r2 =>
      if r2 = (some ((N.2 9210))) then (
        rd_exprB_40 N bc bs Q rE a0 M P L k n x1)
      else (
        (a0, (0, 10, 0)) ∈ L ∧
        rd_is N (bc - k) (bs - n) M P L a0 12 (fun M3 P4 L5 v6 r7 e9 k8 n9 => e9 = 0 → cd_add k k8 n n9 fun k10 n11 =>
        if v6 = 0 then (
          rd_exprB_41 N bc bs Q rE a0 M3 P4 L5 k10 n11 x1 1)
        else (
          rd_exprB_40 N bc bs Q rE a0 M3 P4 L5 k10 n11 x1)))))
set_option maxRecDepth 100000 in
theorem rd_exprB_0_v {l : Launch} {g : cx_G} {d : Nat} {X : cx_X} {N : dNt} {bc bs : Nat} {Q : cd_Qt} {rE : Nat → Nat → cx_M → dP → dL → Nat → Int32 → cd_Qt → Prop} {a0 : Nat} (H : dR l g N.2) (hX : True) (hrE : ∀ (bc bs : Nat) (M : cx_M) (P : dP) (L : dL) (a0 : Nat) (x1 : Int32) (Q : cd_Qt), rE bc bs M P L a0 x1 Q → cd_MetX l g yX11_expr cX11_expr (esX11_expr d bc bs) cd_rA [.ref a0, .int x1] M P L Q) (M : cx_M) (P : dP) (L : dL) (k n : Nat) (x1 : Int32) (hk : k ≤ bc ∧ n ≤ bs) (h : rd_exprB_0 N bc bs Q rE a0 M P L k n x1) : cq_V l (dG g L P) X (esX11_expr (d + 1) bc bs) cX11_expr 0 [(0, .ref a0), (1, .int x1)] [] M k n (cd_finX g X (esX11_expr (d + 1) bc bs) cd_rA Q) := by
  unfold rd_exprB_0 at h
  refine cq_iload_n 1 dX11_expr_0 rfl ?_
  refine cq_bipush 6 dX11_expr_1 cx_bp_6 ?_
  refine cq_icmp_lt 45 h dX11_expr_3 rfl (fun h => ?_) (fun h => ?_)
  · exact rd_exprB_45_v H hX hrE M P L k n x1 hk h
  · refine cq_aload_n 0 dX11_expr_6 rfl ?_
    refine cq_aload_n 0 dX11_expr_7 rfl ?_
    refine cq_getR (dG_FR (k := 6) H.1.1.1 h.1 dCl_X11 (cx_lt rfl) rfl rfl) q1458 dX11_expr_8 ?_
    refine cd_letI h.2 (fun r1 h => ?_)
    refine cq_gets (dR_s1 H) q1429 dX11_expr_11 ?_
    refine cd_acmp_eq (rx := r1) (ry := (some ((N.2 9211)))) 40 h dX11_expr_14 rfl (fun h => ?_) (fun h => ?_)
    · exact rd_exprB_40_v H hX hrE M P L k n x1 hk h
    · refine cq_aload_n 0 dX11_expr_17 rfl ?_
      refine cq_getR (dG_FR (k := 6) H.1.1.1 h.1 dCl_X11 (cx_lt rfl) rfl rfl) q1458 dX11_expr_18 ?_
      refine cd_letI h.2 (fun r2 h => ?_)
      refine cq_gets (dR_s0 H) q1424 dX11_expr_21 ?_
      refine cd_acmp_eq (rx := r2) (ry := (some ((N.2 9210)))) 40 h dX11_expr_24 rfl (fun h => ?_) (fun h => ?_)
      · exact rd_exprB_40_v H hX hrE M P L k n x1 hk h
      · refine cq_aload_n 0 dX11_expr_27 rfl ?_
        refine cq_ldcS (dR_k209 H) dX11_expr_28 ?_
        obtain ⟨hmr, h⟩ := h
        refine cd_cV [.ref (N.2 (1100000 + 12))] [.ref a0] (rd_is_m H (N := N) (bc := bc - k) (bs := bs - n) M P L a0 12 (by decide) h) (dG_Rc H.1.1.1 hmr dCl_X11) dX11_expr_30 gd_X11_115 hgd_X11_115 (by refine ⟨?_, ?_⟩ <;> (dsimp only [esX11_expr, esX11_is]; omega)) (cd_bud hk) rfl (cx_le rfl) (fun M3 P4 L5 v6 r7 k8 n9 hk2 h => ?_)
        refine cd_addI (h rfl) (cd_bk hk hk2) (fun k10 n11 h hk => ?_)
        refine cq_if_ne 40 h dX11_expr_33 rfl (fun h => ?_) (fun h => ?_)
        · exact rd_exprB_40_v H hX hrE M3 P4 L5 k10 n11 x1 hk h
        · refine cq_iconst 1 dX11_expr_36 cx_ic_1 ?_
          refine cq_goto 41 dX11_expr_37 rfl ?_
          exact rd_exprB_41_v H hX hrE M3 P4 L5 k10 n11 x1 1 hk h
def rd_exprB (N : dNt) (bc bs : Nat) (M : cx_M) (P : dP) (L : dL) (rE : Nat → Nat → cx_M → dP → dL → Nat → Int32 → cd_Qt → Prop) (a0 : Nat) (x1 : Int32) (Q : cd_Qt) : Prop := rd_exprB_0 N bc bs Q rE a0 M P L 0 0 x1
set_option maxRecDepth 100000 in
theorem rd_exprB_m {l : Launch} {g : cx_G} {d : Nat} {N : dNt} {bc bs : Nat} {Q : cd_Qt} (H : dR l g N.2) (M : cx_M) (P : dP) (L : dL) (rE : Nat → Nat → cx_M → dP → dL → Nat → Int32 → cd_Qt → Prop) (a0 : Nat) (x1 : Int32) (hrE : ∀ (bc bs : Nat) (M : cx_M) (P : dP) (L : dL) (a0 : Nat) (x1 : Int32) (Q : cd_Qt), rE bc bs M P L a0 x1 Q → cd_MetX l g yX11_expr cX11_expr (esX11_expr d bc bs) cd_rA [.ref a0, .int x1] M P L Q) (h : rd_exprB N bc bs M P L rE a0 x1 Q) : cd_MetX l g yX11_expr cX11_expr (esX11_expr (d + 1) bc bs) cd_rA [.ref a0, .int x1] M P L Q :=
  cd_metX (by decide +kernel) rfl rfl (lv := [(0, .ref a0), (1, .int x1)]) rfl (cx_le rfl) (fun X hX => cq_sub (lv' := [(0, .ref a0), (1, .int x1)]) [0, 1] rfl (rd_exprB_0_v H hX hrE M P L 0 0 x1 ⟨Nat.zero_le _, Nat.zero_le _⟩ h))

def rd_exprN (N : dNt) : Nat → Nat → Nat → cx_M → dP → dL → Nat → Int32 → cd_Qt → Prop := cx_fix (fun _ _ _ _ _ _ _ _ => False) (fun rE bc bs M P L a0 x1 Q => rd_exprB N bc bs M P L rE a0 x1 Q)
def rd_expr (N : dNt) (bc bs : Nat) (M : cx_M) (P : dP) (L : dL) (a0 : Nat) (x1 : Int32) (Q : cd_Qt) : Prop := rd_exprN N 8 bc bs M P L a0 x1 Q
theorem rd_expr_n {l : Launch} {g : cx_G} {N : dNt} (H : dR l g N.2) : ∀ (n : Nat) (bc bs : Nat) (M : cx_M) (P : dP) (L : dL) (a0 : Nat) (x1 : Int32) (Q : cd_Qt), rd_exprN N n bc bs M P L a0 x1 Q → cd_MetX l g yX11_expr cX11_expr (esX11_expr n bc bs) cd_rA [.ref a0, .int x1] M P L Q
  | 0 => fun _ _ _ _ _ _ _ _ h => by cases h
  | n + 1 => fun bc bs M P L a0 x1 Q h => rd_exprB_m (d := n) H (N := N) (bc := bc) (bs := bs) M P L _ a0 x1 (rd_expr_n H n) h
theorem rd_expr_m {l : Launch} {g : cx_G} {N : dNt} {bc bs : Nat} {Q : cd_Qt} (H : dR l g N.2) (M : cx_M) (P : dP) (L : dL) (a0 : Nat) (x1 : Int32) (h : rd_expr N bc bs M P L a0 x1 Q) : cd_MetX l g yX11_expr cX11_expr (esX11_expr 8 bc bs) cd_rA [.ref a0, .int x1] M P L Q := rd_expr_n H 8 bc bs M P L a0 x1 Q h

abbrev esX3_init (bc bs : Nat) : cx_S := (1, RX3, cx_rI, { frames := 2, cells := bc, slots := bs, locals := 35 }, none, false)
def rVw_init_0 (N : dNt) (bc bs : Nat) (Q : cd_Qt) (a0 : Nat) (M : cx_M) (P : dP) (L : dL) (k n : Nat) : Prop :=
  k + 1 ≤ bc ∧ n + 4 ≤ bs ∧
  cd_newa bc bs ((k + 1)) ((n + 4)) 4 (fun z => (1, 0, z)) M P L fun a1 M2 P3 L4 k5 n6 =>
  (a0, (0, 14, 0)) ∈ L4 ∧ cd_put P3 a0 0 (some a1) fun P7 =>
  Q M2 P7 L4 0 none 0 k5 n6
set_option maxRecDepth 100000 in
theorem rVw_init_0_v {l : Launch} {g : cx_G} {X : cx_X} {N : dNt} {bc bs : Nat} {Q : cd_Qt} {a0 : Nat} (H : dR l g N.2) (hX : X.2.2.2.2.2.2.1.name = "<init>") (M : cx_M) (P : dP) (L : dL) (k n : Nat) (hk : k ≤ bc ∧ n ≤ bs) (h : rVw_init_0 N bc bs Q a0 M P L k n) : cq_V l (dG g L P) X (esX3_init bc bs) cX3_init 0 [(0, .ref a0)] [] M k n (cd_fin g X (esX3_init bc bs) cd_rV Q) := by
  unfold rVw_init_0 at h
  refine cq_aload_n 0 dX3_init_0 rfl ?_
  refine cd_oinit q540 q176 q177 dX3_init_1 (cx_le rfl) (cx_le rfl) ?_
  refine cq_aload_n 0 dX3_init_4 rfl ?_
  obtain ⟨hk1, hk2, h⟩ := h
  refine cd_values H.2.2.2.2.2.2.2 ⟨hk1, hk2⟩ gd_X3_7 dX3_init_5 dX3_init_8 ⟨cx_le rfl, cx_le rfl⟩ (cx_le rfl) ?_
  replace hk := And.intro hk1 hk2
  refine cd_newI (atype := .int) (ty := .int) H.1.1.1 h ⟨rfl, rfl⟩ q557 rfl rfl (fun _ _ => rfl) (by decide) dX3_init_9 (fun a1 M2 P3 L4 k5 n6 h hk => ?_)
  refine cq_nd H.1.1.1 (fun hn => cd_putRF (v := (some a1)) hX rfl H.1.1.1 hn h.1 h.2 dCl_X3 (cx_lt rfl) rfl rfl rfl cd_nfA rfl q552 dX3_init_11 (fun P7 h => ?_))
  exact cd_vret hk h rfl dX3_init_14
def rVw_init (N : dNt) (bc bs : Nat) (M : cx_M) (P : dP) (L : dL) (a0 : Nat) (Q : cd_Qt) : Prop := rVw_init_0 N bc bs Q a0 M P L 0 0
set_option maxRecDepth 100000 in
theorem rVw_init_m {l : Launch} {g : cx_G} {N : dNt} {bc bs : Nat} {Q : cd_Qt} (H : dR l g N.2) (M : cx_M) (P : dP) (L : dL) (a0 : Nat) (h : rVw_init N bc bs M P L a0 Q) : cd_Met l g yX3_init cX3_init (esX3_init bc bs) cd_rV [.ref a0] M P L Q :=
  cd_met (by decide +kernel) rfl rfl (lv := [(0, .ref a0)]) rfl (cx_le rfl) (fun X hX => cq_sub (lv' := [(0, .ref a0)]) [0] rfl (rVw_init_0_v H hX M P L 0 0 ⟨Nat.zero_le _, Nat.zero_le _⟩ h))

abbrev esX2_init (bc bs : Nat) : cx_S := (1, RX2, cx_rI, { frames := 4, cells := bc, slots := bs, locals := 81 }, none, false)
def rLn_init_0 (N : dNt) (bc bs : Nat) (Q : cd_Qt) (a0 : Nat) (M : cx_M) (P : dP) (L : dL) (k n : Nat) : Prop :=
  (a0, (0, 7, 0)) ∈ L ∧ cq_put M (dc a0) 0 4 fun M1 =>
  (a0, (0, 7, 0)) ∈ L ∧ cq_put M1 (dc a0) 1 12 fun M2 =>
  (a0, (0, 7, 0)) ∈ L ∧ cq_put M2 (dc a0) 2 4 fun M3 =>
  (a0, (0, 7, 0)) ∈ L ∧ cq_put M3 (dc a0) 3 1 fun M4 =>
  (a0, (0, 7, 0)) ∈ L ∧ cq_put M4 (dc a0) 4 8 fun M5 =>
  (a0, (0, 7, 0)) ∈ L ∧ cq_put M5 (dc a0) 6 1 fun M6 =>
  cd_new bc bs k n 3 (0, 20, 0) M6 P L fun a7 M8 P9 L10 k11 n12 =>
  jAl_init N (bc - k11) (bs - n12) M8 P9 L10 a7 1 (fun M13 P14 L15 v16 r17 e9 k18 n19 => e9 = 0 → cd_add k11 k18 n12 n19 fun k20 n21 =>
  (a0, (0, 7, 0)) ∈ L15 ∧ cd_put P14 a0 7 (some a7) fun P22 =>
  cd_new bc bs k20 n21 1 (0, 14, 0) M13 P22 L15 fun a23 M24 P25 L26 k27 n28 =>
  rVw_init N (bc - k27) (bs - n28) M24 P25 L26 a23 (fun M29 P30 L31 v32 r33 e9 k34 n35 => e9 = 0 → cd_add k27 k34 n28 n35 fun k36 n37 =>
  (a0, (0, 7, 0)) ∈ L31 ∧ cd_put P30 a0 10 (some a23) fun P38 =>
  Q M29 P38 L31 0 none 0 k36 n37))
set_option maxRecDepth 100000 in
theorem rLn_init_0_v {l : Launch} {g : cx_G} {X : cx_X} {N : dNt} {bc bs : Nat} {Q : cd_Qt} {a0 : Nat} (H : dR l g N.2) (hX : X.2.2.2.2.2.2.1.name = "<init>") (M : cx_M) (P : dP) (L : dL) (k n : Nat) (hk : k ≤ bc ∧ n ≤ bs) (h : rLn_init_0 N bc bs Q a0 M P L k n) : cq_V l (dG g L P) X (esX2_init bc bs) cX2_init 0 [(0, .ref a0)] [] M k n (cd_fin g X (esX2_init bc bs) cd_rV Q) := by
  unfold rLn_init_0 at h
  refine cq_aload_n 0 dX2_init_0 rfl ?_
  refine cd_oinit q183 q176 q177 dX2_init_1 (cx_le rfl) (cx_le rfl) ?_
  refine cq_aload_n 0 dX2_init_4 rfl ?_
  refine cq_iconst 4 dX2_init_5 cx_ic_4 ?_
  refine cq_nd H.1.1.1 (fun hn => cq_putI h.2 (dG_FI H.1.1.1 hn h.1 dCl_X2 (cx_lt rfl) rfl rfl rfl) rfl rfl rfl q558 dX2_init_6 (fun M1 h => ?_))
  refine cq_aload_n 0 dX2_init_9 rfl ?_
  refine cq_bipush 12 dX2_init_10 cx_bp_12 ?_
  refine cq_nd H.1.1.1 (fun hn => cq_putI h.2 (dG_FI H.1.1.1 hn h.1 dCl_X2 (cx_lt rfl) rfl rfl rfl) rfl rfl rfl q562 dX2_init_12 (fun M2 h => ?_))
  refine cq_aload_n 0 dX2_init_15 rfl ?_
  refine cq_iconst 4 dX2_init_16 cx_ic_4 ?_
  refine cq_nd H.1.1.1 (fun hn => cq_putI h.2 (dG_FI H.1.1.1 hn h.1 dCl_X2 (cx_lt rfl) rfl rfl rfl) rfl rfl rfl q565 dX2_init_17 (fun M3 h => ?_))
  refine cq_aload_n 0 dX2_init_20 rfl ?_
  refine cq_iconst 1 dX2_init_21 cx_ic_1 ?_
  refine cq_nd H.1.1.1 (fun hn => cq_putI h.2 (dG_FI H.1.1.1 hn h.1 dCl_X2 (cx_lt rfl) rfl rfl rfl) rfl rfl rfl q568 dX2_init_22 (fun M4 h => ?_))
  refine cq_aload_n 0 dX2_init_25 rfl ?_
  refine cq_bipush 8 dX2_init_26 cx_bp_8 ?_
  refine cq_nd H.1.1.1 (fun hn => cq_putI h.2 (dG_FI H.1.1.1 hn h.1 dCl_X2 (cx_lt rfl) rfl rfl rfl) rfl rfl rfl q571 dX2_init_28 (fun M5 h => ?_))
  refine cq_aload_n 0 dX2_init_31 rfl ?_
  refine cq_iconst 1 dX2_init_32 cx_ic_1 ?_
  refine cq_nd H.1.1.1 (fun hn => cq_putI h.2 (dG_FI H.1.1.1 hn h.1 dCl_X2 (cx_lt rfl) rfl rfl rfl) rfl rfl rfl q577 dX2_init_33 (fun M6 h => ?_))
  refine cq_aload_n 0 dX2_init_36 rfl ?_
  refine cd_newO H.1.1.1 h ⟨rfl, rfl⟩ dCl_J2 dDf_J2 q184 q185 q120 dX2_init_37 (fun a7 M8 P9 L10 k11 n12 h hk => ?_)
  refine cq_dup dX2_init_40 rfl ?_
  refine cq_iconst 1 dX2_init_41 cx_ic_1 ?_
  refine cd_cI [.int 1] [.ref a7, .ref a0] (jAl_init_m H.1 (N := N) (bc := bc - k11) (bs := bs - n12) M8 P9 L10 a7 1 h) dX2_init_42 gd_X2_32 rfl q120 q186 q187 rfl hgd_X2_32 ⟨cx_le rfl, cx_le rfl⟩ (cd_bud hk) rfl (cx_le rfl) (fun M13 P14 L15 v16 r17 k18 n19 hk2 h => ?_)
  refine cd_addI (h rfl) (cd_bk hk hk2) (fun k20 n21 h hk => ?_)
  refine cq_nd H.1.1.1 (fun hn => cd_putRF (v := (some a7)) hX rfl H.1.1.1 hn h.1 h.2 dCl_X2 (cx_lt rfl) rfl rfl rfl cd_nfO rfl q580 dX2_init_45 (fun P22 h => ?_))
  refine cq_aload_n 0 dX2_init_48 rfl ?_
  refine cd_newO H.1.1.1 h ⟨rfl, rfl⟩ dCl_X3 dDf_X3 q535 q536 q137 dX2_init_49 (fun a23 M24 P25 L26 k27 n28 h hk => ?_)
  refine cq_dup dX2_init_52 rfl ?_
  refine cd_cIN [] [.ref a23, .ref a0] (rVw_init_m H (N := N) (bc := bc - k27) (bs := bs - n28) M24 P25 L26 a23 h) dX2_init_53 gd_X2_41 rfl q137 q537 q538 rfl hgd_X2_41 ⟨cx_le rfl, cx_le rfl⟩ (cd_bud hk) rfl (cx_le rfl) (fun M29 P30 L31 v32 r33 k34 n35 hk2 h => ?_)
  refine cd_addI (h rfl) (cd_bk hk hk2) (fun k36 n37 h hk => ?_)
  refine cq_nd H.1.1.1 (fun hn => cd_putRF (v := (some a23)) hX rfl H.1.1.1 hn h.1 h.2 dCl_X2 (cx_lt rfl) rfl rfl rfl cd_nfO rfl q587 dX2_init_56 (fun P38 h => ?_))
  exact cd_vret hk h rfl dX2_init_59
def rLn_init (N : dNt) (bc bs : Nat) (M : cx_M) (P : dP) (L : dL) (a0 : Nat) (Q : cd_Qt) : Prop := rLn_init_0 N bc bs Q a0 M P L 0 0
set_option maxRecDepth 100000 in
theorem rLn_init_m {l : Launch} {g : cx_G} {N : dNt} {bc bs : Nat} {Q : cd_Qt} (H : dR l g N.2) (M : cx_M) (P : dP) (L : dL) (a0 : Nat) (h : rLn_init N bc bs M P L a0 Q) : cd_Met l g yX2_init cX2_init (esX2_init bc bs) cd_rV [.ref a0] M P L Q :=
  cd_met (by decide +kernel) rfl rfl (lv := [(0, .ref a0)]) rfl (cx_le rfl) (fun X hX => cq_sub (lv' := [(0, .ref a0)]) [0] rfl (rLn_init_0_v H hX M P L 0 0 ⟨Nat.zero_le _, Nat.zero_le _⟩ h))

abbrev esX11_clause (bc bs : Nat) : cx_S := (5, RX11, cx_rI, { frames := 321, cells := bc, slots := bs, locals := 32022 }, none, true)
def rd_clause_397 (N : dNt) (bc bs : Nat) (Q : cd_Qt) (a0 : Nat) (a1 : Nat) (M : cx_M) (P : dP) (L : dL) (k n : Nat) (x4 : Int32) : Prop :=
  (a0, (0, 10, 0)) ∈ L ∧
  rd_number N (bc - k) (bs - n) M P L a0 0 99 (fun M1 P2 L3 v4 r5 e9 k6 n7 => (e9 ≠ 0 → Q M1 P2 L3 v4 none e9 (k + k6) (n + n7)) ∧ (e9 = 0 → cd_add k k6 n n7 fun k8 n9 =>
  if x4 = 0 then (
    (a1, (0, 7, 0)) ∈ L3 ∧ cq_put M1 (dc a1) 5 (v4 * 1) fun M10 =>
    Q M10 P2 L3 0 none 0 k8 n9)
  else (
    (a1, (0, 7, 0)) ∈ L3 ∧ cq_put M1 (dc a1) 5 (v4 * (-1)) fun M11 =>
    Q M11 P2 L3 0 none 0 k8 n9)))
set_option maxRecDepth 100000 in
theorem rd_clause_397_v {l : Launch} {g : cx_G} {X : cx_X} {N : dNt} {bc bs : Nat} {Q : cd_Qt} {a0 : Nat} {a1 : Nat} (H : dR l g N.2) (hX : True) (M : cx_M) (P : dP) (L : dL) (k n : Nat) (x4 : Int32) (hk : k ≤ bc ∧ n ≤ bs) (h : rd_clause_397 N bc bs Q a0 a1 M P L k n x4) : cq_V l (dG g L P) X (esX11_clause bc bs) cX11_clause 397 [(0, .ref a0), (1, .ref a1), (4, .int x4)] [] M k n (cd_finX g X (esX11_clause bc bs) cd_rV Q) := by
  unfold rd_clause_397 at h
  refine cq_aload_n 1 dX11_clause_397 rfl ?_
  refine cq_aload_n 0 dX11_clause_398 rfl ?_
  refine cq_iconst 0 dX11_clause_399 cx_ic_0 ?_
  refine cq_bipush 99 dX11_clause_400 cx_bp_99 ?_
  obtain ⟨hmr, h⟩ := h
  refine cd_xV [.int 0, .int 99] [.ref a1] (rd_number_m H (N := N) (bc := bc - k) (bs := bs - n) M P L a0 0 99 h) (dG_Rc H.1.1.1 hmr dCl_X11) dX11_clause_402 gd_X11_164 hgd_X11_164 ⟨cx_le rfl, cx_le rfl⟩ (cd_bud hk) rfl (cx_le rfl) rfl (fun _ _ _ _ _ _ _ he h => h.1 he) (fun M1 P2 L3 v4 r5 k6 n7 hk2 h => ?_)
  refine cd_addI (h.2 rfl) (cd_bk hk hk2) (fun k8 n9 h hk => ?_)
  refine cq_iload 2 dX11_clause_405 rfl ?_
  refine cq_if_eq 414 h dX11_clause_407 rfl (fun h => ?_) (fun h => ?_)
  · refine cq_iconst 1 dX11_clause_414 cx_ic_1 ?_
    refine cq_imul dX11_clause_415 ?_
    refine cq_nd H.1.1.1 (fun hn => cq_putIN h.2 (dG_FI H.1.1.1 hn h.1 dCl_X2 (cx_lt rfl) rfl rfl rfl) rfl rfl rfl q576 dX11_clause_416 (fun M10 h => ?_))
    refine cq_goto 553 dX11_clause_419 rfl ?_
    exact cd_toX (cd_vret hk h rfl dX11_clause_553)
  · refine cq_iconst (-1) dX11_clause_410 cx_ic_m1 ?_
    refine cq_goto 415 dX11_clause_411 rfl ?_
    refine cq_imul dX11_clause_415 ?_
    refine cq_nd H.1.1.1 (fun hn => cq_putIN h.2 (dG_FI H.1.1.1 hn h.1 dCl_X2 (cx_lt rfl) rfl rfl rfl) rfl rfl rfl q576 dX11_clause_416 (fun M11 h => ?_))
    refine cq_goto 553 dX11_clause_419 rfl ?_
    exact cd_toX (cd_vret hk h rfl dX11_clause_553)
def rd_clause_475 (N : dNt) (bc bs : Nat) (Q : cd_Qt) (a0 : Nat) (a1 : Nat) (r_447 : cx_M → dP → dL → Nat → Nat → Prop) (M : cx_M) (P : dP) (L : dL) (k n : Nat) (z1 : Int32) : Prop :=
  (a0, (0, 10, 0)) ∈ L ∧
  rd_check N (bc - k) (bs - n) M P L a0 z1 2 (fun M1 P2 L3 v4 r5 e9 k6 n7 => (e9 ≠ 0 → Q M1 P2 L3 v4 none e9 (k + k6) (n + n7)) ∧ (e9 = 0 → cd_add k k6 n n7 fun k8 n9 =>
  (a1, (0, 7, 0)) ∈ L3 ∧ cd_let (P2 a1 7) fun r10 =>
  (a0, (0, 10, 0)) ∈ L3 ∧
  rd_number N (bc - k8) (bs - n9) M1 P2 L3 a0 0 255 (fun M11 P12 L13 v14 r15 e9 k16 n17 => (e9 ≠ 0 → Q M11 P12 L13 v14 none e9 (k8 + k16) (n9 + n17)) ∧ (e9 = 0 → cd_add k8 k16 n9 n17 fun k18 n19 =>
  jI_valueOf N (bc - k18) (bs - n19) M11 P12 L13 v14 (fun M20 P21 L22 v23 r24 e9 k25 n26 => e9 = 0 → cd_add k18 k25 n19 n26 fun k27 n28 =>
  cd_nn r10 fun a29 =>
  (a29, (0, 20, 0)) ∈ L22 ∧
  jAl_add N (bc - k27) (bs - n28) M20 P21 L22 a29 r24 (fun M30 P31 L32 v33 r34 e9 k35 n36 => e9 = 0 → cd_add k27 k35 n28 n36 fun k37 n38 =>
  (a0, (0, 10, 0)) ∈ L32 ∧ cd_let (P31 a0 6) fun r39 =>
  if r39 = (some ((N.2 9211))) then (
    r_447 M30 P31 L32 k37 n38)
  else (
    Q M30 P31 L32 0 none 0 k37 n38)))))))
set_option maxRecDepth 100000 in
theorem rd_clause_475_v {l : Launch} {g : cx_G} {X : cx_X} {N : dNt} {bc bs : Nat} {Q : cd_Qt} {a0 : Nat} {a1 : Nat} {r_447 : cx_M → dP → dL → Nat → Nat → Prop} (H : dR l g N.2) (hX : True) (hr_447 : ∀ (M : cx_M) (P : dP) (L : dL) (k n : Nat), (k ≤ bc ∧ n ≤ bs) → r_447 M P L k n → cq_V l (dG g L P) X (esX11_clause bc bs) cX11_clause 447 [(0, .ref a0), (1, .ref a1)] [] M k n (cd_finX g X (esX11_clause bc bs) cd_rV Q)) (M : cx_M) (P : dP) (L : dL) (k n : Nat) (z1 : Int32) (hk : k ≤ bc ∧ n ≤ bs) (h : rd_clause_475 N bc bs Q a0 a1 r_447 M P L k n z1) : cq_V l (dG g L P) X (esX11_clause bc bs) cX11_clause 475 [(0, .ref a0), (1, .ref a1)] [.int z1, .ref a0] M k n (cd_finX g X (esX11_clause bc bs) cd_rV Q) := by
  unfold rd_clause_475 at h
  refine cq_iconst 2 dX11_clause_475 cx_ic_2 ?_
  obtain ⟨hmr, h⟩ := h
  refine cd_xV [.int z1, .int 2] [] (rd_check_m H.1.1.1 H.2.1 (N := N) (bc := bc - k) (bs := bs - n) M P L a0 z1 2 h) (dG_Rc H.1.1.1 hmr dCl_X11) dX11_clause_476 gd_X11_119 hgd_X11_119 ⟨cx_le rfl, cx_le rfl⟩ (cd_bud hk) rfl (cx_le rfl) rfl (fun _ _ _ _ _ _ _ he h => h.1 he) (fun M1 P2 L3 v4 r5 k6 n7 hk2 h => ?_)
  refine cd_addI (h.2 rfl) (cd_bk hk hk2) (fun k8 n9 h hk => ?_)
  refine cq_aload_n 1 dX11_clause_479 rfl ?_
  refine cq_getRN (dG_FR (k := 7) H.1.1.1 h.1 dCl_X2 (cx_lt rfl) rfl rfl) q582 dX11_clause_480 ?_
  refine cd_letI h.2 (fun r10 h => ?_)
  refine cq_aload_n 0 dX11_clause_483 rfl ?_
  refine cq_iconst 0 dX11_clause_484 cx_ic_0 ?_
  refine cq_sipush 255 dX11_clause_485 cx_sp_255 ?_
  obtain ⟨hmr, h⟩ := h
  refine cd_xV [.int 0, .int 255] [va_rf r10] (rd_number_m H (N := N) (bc := bc - k8) (bs := bs - n9) M1 P2 L3 a0 0 255 h) (dG_Rc H.1.1.1 hmr dCl_X11) dX11_clause_488 gd_X11_164 hgd_X11_164 ⟨cx_le rfl, cx_le rfl⟩ (cd_bud hk) rfl (by simp only [List.map, va_rf_cat, List.sum_cons, List.sum_nil]; exact cx_le rfl) rfl (fun _ _ _ _ _ _ _ he h => h.1 he) (fun M11 P12 L13 v14 r15 k16 n17 hk2 h => ?_)
  refine cd_addI (h.2 rfl) (cd_bk hk hk2) (fun k18 n19 h hk => ?_)
  refine cd_cS [.int v14] [va_rf r10] (jI_valueOf_m H.1 (N := N) (bc := bc - k18) (bs := bs - n19) M11 P12 L13 v14 h) dX11_clause_491 gd_X11_192 hgd_X11_192 ⟨cx_le rfl, cx_le rfl⟩ (cd_bud hk) rfl (by simp only [List.map, va_rf_cat, List.sum_cons, List.sum_nil]; exact cx_le rfl) (fun M20 P21 L22 v23 r24 k25 n26 hk2 h => ?_)
  refine cd_addI (h rfl) (cd_bk hk hk2) (fun k27 n28 h hk => ?_)
  obtain ⟨a29, e9, h⟩ := cd_nn_some h
  subst e9
  obtain ⟨hmr, h⟩ := h
  refine cd_cV [va_rf r24] [] (jAl_add_m H.1 (N := N) (bc := bc - k27) (bs := bs - n28) M20 P21 L22 a29 r24 h) (dG_Rc H.1.1.1 hmr dCl_J2) dX11_clause_494 gd_X11_197 hgd_X11_197 ⟨cx_le rfl, cx_le rfl⟩ (cd_bud hk) rfl (cx_le rfl) (fun M30 P31 L32 v33 r34 k35 n36 hk2 h => ?_)
  refine cd_addI (h rfl) (cd_bk hk hk2) (fun k37 n38 h hk => ?_)
  refine cq_pop dX11_clause_497 rfl ?_
  refine cq_aload_n 0 dX11_clause_498 rfl ?_
  refine cq_getR (dG_FR (k := 6) H.1.1.1 h.1 dCl_X11 (cx_lt rfl) rfl rfl) q1458 dX11_clause_499 ?_
  refine cd_letI h.2 (fun r39 h => ?_)
  refine cq_gets (dR_s1 H) q1429 dX11_clause_502 ?_
  refine cd_acmp_eq (rx := r39) (ry := (some ((N.2 9211)))) 447 h dX11_clause_505 rfl (fun h => ?_) (fun h => ?_)
  · exact hr_447 M30 P31 L32 k37 n38 hk h
  · refine cq_goto 553 dX11_clause_508 rfl ?_
    exact cd_toX (cd_vret hk h rfl dX11_clause_553)
def rd_clause_470 (N : dNt) (bc bs : Nat) (Q : cd_Qt) (a0 : Nat) (a1 : Nat) (r_447 : cx_M → dP → dL → Nat → Nat → Prop) (M : cx_M) (P : dP) (L : dL) (k n : Nat) : Prop :=
  rd_clause_475 N bc bs Q a0 a1 r_447 M P L k n 1
set_option maxRecDepth 100000 in
theorem rd_clause_470_v {l : Launch} {g : cx_G} {X : cx_X} {N : dNt} {bc bs : Nat} {Q : cd_Qt} {a0 : Nat} {a1 : Nat} {r_447 : cx_M → dP → dL → Nat → Nat → Prop} (H : dR l g N.2) (hX : True) (hr_447 : ∀ (M : cx_M) (P : dP) (L : dL) (k n : Nat), (k ≤ bc ∧ n ≤ bs) → r_447 M P L k n → cq_V l (dG g L P) X (esX11_clause bc bs) cX11_clause 447 [(0, .ref a0), (1, .ref a1)] [] M k n (cd_finX g X (esX11_clause bc bs) cd_rV Q)) (M : cx_M) (P : dP) (L : dL) (k n : Nat) (hk : k ≤ bc ∧ n ≤ bs) (h : rd_clause_470 N bc bs Q a0 a1 r_447 M P L k n) : cq_V l (dG g L P) X (esX11_clause bc bs) cX11_clause 470 [(0, .ref a0), (1, .ref a1)] [.ref a0] M k n (cd_finX g X (esX11_clause bc bs) cd_rV Q) := by
  unfold rd_clause_470 at h
  refine cq_iconst 1 dX11_clause_470 cx_ic_1 ?_
  refine cq_goto 475 dX11_clause_471 rfl ?_
  exact rd_clause_475_v H hX hr_447 M P L k n 1 hk h
def rd_clause_447b (N : dNt) (bc bs : Nat) (Q : cd_Qt) (a0 : Nat) (a1 : Nat) (r_447 : cx_M → dP → dL → Nat → Nat → Prop) (M : cx_M) (P : dP) (L : dL) (k n : Nat) : Prop :=
  (a0, (0, 10, 0)) ∈ L ∧ cd_let (P a0 6) fun r1 =>
  if r1 = (some ((N.2 9211))) then (
    (a1, (0, 7, 0)) ∈ L ∧ cd_let (P a1 7) fun r2 =>
    cd_nn r2 fun a3 =>
    (a3, (0, 20, 0)) ∈ L ∧
    jAl_size N (bc - k) (bs - n) M P L a3 (fun M4 P5 L6 v7 r8 e9 k9 n10 => e9 = 0 → cd_add k k9 n n10 fun k11 n12 =>
    if 16 ≤ v7 then (
      rd_clause_475 N bc bs Q a0 a1 r_447 M4 P5 L6 k11 n12 0)
    else (
      rd_clause_470 N bc bs Q a0 a1 r_447 M4 P5 L6 k11 n12)))
  else (
    rd_clause_470 N bc bs Q a0 a1 r_447 M P L k n)
set_option maxRecDepth 100000 in
theorem rd_clause_447b_v {l : Launch} {g : cx_G} {X : cx_X} {N : dNt} {bc bs : Nat} {Q : cd_Qt} {a0 : Nat} {a1 : Nat} {r_447 : cx_M → dP → dL → Nat → Nat → Prop} (H : dR l g N.2) (hX : True) (hr_447 : ∀ (M : cx_M) (P : dP) (L : dL) (k n : Nat), (k ≤ bc ∧ n ≤ bs) → r_447 M P L k n → cq_V l (dG g L P) X (esX11_clause bc bs) cX11_clause 447 [(0, .ref a0), (1, .ref a1)] [] M k n (cd_finX g X (esX11_clause bc bs) cd_rV Q)) (M : cx_M) (P : dP) (L : dL) (k n : Nat) (hk : k ≤ bc ∧ n ≤ bs) (h : rd_clause_447b N bc bs Q a0 a1 r_447 M P L k n) : cq_V l (dG g L P) X (esX11_clause bc bs) cX11_clause 447 [(0, .ref a0), (1, .ref a1)] [] M k n (cd_finX g X (esX11_clause bc bs) cd_rV Q) := by
  unfold rd_clause_447b at h
  refine cq_aload_n 0 dX11_clause_447 rfl ?_
  refine cq_aload_n 0 dX11_clause_448 rfl ?_
  refine cq_getR (dG_FR (k := 6) H.1.1.1 h.1 dCl_X11 (cx_lt rfl) rfl rfl) q1458 dX11_clause_449 ?_
  refine cd_letI h.2 (fun r1 h => ?_)
  refine cq_gets (dR_s1 H) q1429 dX11_clause_452 ?_
  refine cd_acmp_ne (rx := r1) (ry := (some ((N.2 9211)))) 470 h dX11_clause_455 rfl (fun h => ?_) (fun h => ?_)
  · exact rd_clause_470_v H hX hr_447 M P L k n hk h
  · refine cq_aload_n 1 dX11_clause_458 rfl ?_
    refine cq_getRN (dG_FR (k := 7) H.1.1.1 h.1 dCl_X2 (cx_lt rfl) rfl rfl) q582 dX11_clause_459 ?_
    refine cd_letI h.2 (fun r2 h => ?_)
    obtain ⟨a3, e9, h⟩ := cd_nn_some h
    subst e9
    obtain ⟨hmr, h⟩ := h
    refine cd_cV [] [.ref a0] (jAl_size_m H.1 (N := N) (bc := bc - k) (bs := bs - n) M P L a3 h) (dG_Rc H.1.1.1 hmr dCl_J2) dX11_clause_462 gd_X11_188 hgd_X11_188 ⟨cx_le rfl, cx_le rfl⟩ (cd_bud hk) rfl (cx_le rfl) (fun M4 P5 L6 v7 r8 k9 n10 hk2 h => ?_)
    refine cd_addI (h rfl) (cd_bk hk hk2) (fun k11 n12 h hk => ?_)
    refine cq_bipush 16 dX11_clause_465 cx_bp_16 ?_
    refine cq_icmp_ge 474 h dX11_clause_467 rfl (fun h => ?_) (fun h => ?_)
    · refine cq_iconst 0 dX11_clause_474 cx_ic_0 ?_
      exact rd_clause_475_v H hX hr_447 M4 P5 L6 k11 n12 0 hk h
    · exact rd_clause_470_v H hX hr_447 M4 P5 L6 k11 n12 hk h
def rd_clause_447 (N : dNt) (bc bs : Nat) (Q : cd_Qt) (a0 : Nat) (a1 : Nat) : Nat → cx_M → dP → dL → Nat → Nat → Prop :=
  cx_fix (fun _ _ _ _ _ => False) (fun r_447 => rd_clause_447b N bc bs Q a0 a1 r_447)
theorem rd_clause_447_v {l : Launch} {g : cx_G} {X : cx_X} {N : dNt} {bc bs : Nat} {Q : cd_Qt} {a0 : Nat} {a1 : Nat} (H : dR l g N.2) (hX : True) : ∀ (f : Nat) (M : cx_M) (P : dP) (L : dL) (k n : Nat), (k ≤ bc ∧ n ≤ bs) → rd_clause_447 N bc bs Q a0 a1 f M P L k n → cq_V l (dG g L P) X (esX11_clause bc bs) cX11_clause 447 [(0, .ref a0), (1, .ref a1)] [] M k n (cd_finX g X (esX11_clause bc bs) cd_rV Q) :=
  cx_fixI (fun (r : cx_M → dP → dL → Nat → Nat → Prop) => ∀ (M : cx_M) (P : dP) (L : dL) (k n : Nat), (k ≤ bc ∧ n ≤ bs) → r M P L k n → cq_V l (dG g L P) X (esX11_clause bc bs) cX11_clause 447 [(0, .ref a0), (1, .ref a1)] [] M k n (cd_finX g X (esX11_clause bc bs) cd_rV Q)) (fun _ _ _ _ _ _ h => by cases h) (fun r hr M P L k n hk h => rd_clause_447b_v H hX hr M P L k n hk h)
def rd_clause_238 (N : dNt) (bc bs : Nat) (Q : cd_Qt) (a0 : Nat) (a1 : Nat) (M : cx_M) (P : dP) (L : dL) (k n : Nat) (x3 : Int32) : Prop :=
  cq_sw x3 0 [
      ((a0, (0, 10, 0)) ∈ L ∧
      rd_once N (bc - k) (bs - n) M P L a0 0 (fun M10 P11 L12 v13 r14 e9 k15 n16 => (e9 ≠ 0 → Q M10 P11 L12 v13 none e9 (k + k15) (n + n16)) ∧ (e9 = 0 → cd_add k k15 n n16 fun k17 n18 =>
      (a0, (0, 10, 0)) ∈ L12 ∧
      rd_number N (bc - k17) (bs - n18) M10 P11 L12 a0 1 8 (fun M19 P20 L21 v22 r23 e9 k24 n25 => (e9 ≠ 0 → Q M19 P20 L21 v22 none e9 (k17 + k24) (n18 + n25)) ∧ (e9 = 0 → cd_add k17 k24 n18 n25 fun k26 n27 =>
      (a1, (0, 7, 0)) ∈ L21 ∧ cq_put M19 (dc a1) 0 v22 fun M28 =>
      Q M28 P20 L21 0 none 0 k26 n27))))),
      ((a0, (0, 10, 0)) ∈ L ∧
      rd_once N (bc - k) (bs - n) M P L a0 1 (fun M29 P30 L31 v32 r33 e9 k34 n35 => (e9 ≠ 0 → Q M29 P30 L31 v32 none e9 (k + k34) (n + n35)) ∧ (e9 = 0 → cd_add k k34 n n35 fun k36 n37 =>
      (a0, (0, 10, 0)) ∈ L31 ∧
      rd_number N (bc - k36) (bs - n37) M29 P30 L31 a0 1 64 (fun M38 P39 L40 v41 r42 e9 k43 n44 => (e9 ≠ 0 → Q M38 P39 L40 v41 none e9 (k36 + k43) (n37 + n44)) ∧ (e9 = 0 → cd_add k36 k43 n37 n44 fun k45 n46 =>
      (a1, (0, 7, 0)) ∈ L40 ∧ cq_put M38 (dc a1) 1 v41 fun M47 =>
      Q M47 P39 L40 0 none 0 k45 n46))))),
      ((a0, (0, 10, 0)) ∈ L ∧
      rd_once N (bc - k) (bs - n) M P L a0 2 (fun M48 P49 L50 v51 r52 e9 k53 n54 => (e9 ≠ 0 → Q M48 P49 L50 v51 none e9 (k + k53) (n + n54)) ∧ (e9 = 0 → cd_add k k53 n n54 fun k55 n56 =>
      (a0, (0, 10, 0)) ∈ L50 ∧
      rd_number N (bc - k55) (bs - n56) M48 P49 L50 a0 0 9 (fun M57 P58 L59 v60 r61 e9 k62 n63 => (e9 ≠ 0 → Q M57 P58 L59 v60 none e9 (k55 + k62) (n56 + n63)) ∧ (e9 = 0 → cd_add k55 k62 n56 n63 fun k64 n65 =>
      (a1, (0, 7, 0)) ∈ L59 ∧ cq_put M57 (dc a1) 2 v60 fun M66 =>
      (a0, (0, 10, 0)) ∈ L59 ∧
      rd_number N (bc - k64) (bs - n65) M66 P58 L59 a0 0 9 (fun M67 P68 L69 v70 r71 e9 k72 n73 => (e9 ≠ 0 → Q M67 P68 L69 v70 none e9 (k64 + k72) (n65 + n73)) ∧ (e9 = 0 → cd_add k64 k72 n65 n73 fun k74 n75 =>
      (a1, (0, 7, 0)) ∈ L69 ∧ cq_put M67 (dc a1) 3 v70 fun M76 =>
      Q M76 P68 L69 0 none 0 k74 n75))))))),
      ((a0, (0, 10, 0)) ∈ L ∧
      rd_once N (bc - k) (bs - n) M P L a0 3 (fun M77 P78 L79 v80 r81 e9 k82 n83 => (e9 ≠ 0 → Q M77 P78 L79 v80 none e9 (k + k82) (n + n83)) ∧ (e9 = 0 → cd_add k k82 n n83 fun k84 n85 =>
      (a0, (0, 10, 0)) ∈ L79 ∧
      rd_number N (bc - k84) (bs - n85) M77 P78 L79 a0 1 16 (fun M86 P87 L88 v89 r90 e9 k91 n92 => (e9 ≠ 0 → Q M86 P87 L88 v89 none e9 (k84 + k91) (n85 + n92)) ∧ (e9 = 0 → cd_add k84 k91 n85 n92 fun k93 n94 =>
      (a1, (0, 7, 0)) ∈ L88 ∧ cq_put M86 (dc a1) 4 v89 fun M95 =>
      Q M95 P87 L88 0 none 0 k93 n94))))),
      ((a0, (0, 10, 0)) ∈ L ∧
      rd_once N (bc - k) (bs - n) M P L a0 4 (fun M96 P97 L98 v99 r100 e9 k101 n102 => (e9 ≠ 0 → Q M96 P97 L98 v99 none e9 (k + k101) (n + n102)) ∧ (e9 = 0 → cd_add k k101 n n102 fun k103 n104 =>
      (a0, (0, 10, 0)) ∈ L98 ∧
      rd_is N (bc - k103) (bs - n104) M96 P97 L98 a0 11 (fun M105 P106 L107 v108 r109 e9 k110 n111 => e9 = 0 → cd_add k103 k110 n104 n111 fun k112 n113 =>
      if v108 = 0 then (
        rd_clause_397 N bc bs Q a0 a1 M105 P106 L107 k112 n113 v108)
      else (
        (a0, (0, 10, 0)) ∈ L107 ∧
        rd_go N (bc - k112) (bs - n113) M105 P106 L107 a0 (fun M114 P115 L116 v117 r118 e9 k119 n120 => e9 = 0 → cd_add k112 k119 n113 n120 fun k121 n122 =>
        rd_clause_397 N bc bs Q a0 a1 M114 P115 L116 k121 n122 v108)))))),
      ((a0, (0, 10, 0)) ∈ L ∧
      rd_once N (bc - k) (bs - n) M P L a0 5 (fun M123 P124 L125 v126 r127 e9 k128 n129 => (e9 ≠ 0 → Q M123 P124 L125 v126 none e9 (k + k128) (n + n129)) ∧ (e9 = 0 → cd_add k k128 n n129 fun k130 n131 =>
      (a0, (0, 10, 0)) ∈ L125 ∧
      rd_number N (bc - k130) (bs - n131) M123 P124 L125 a0 1 8 (fun M132 P133 L134 v135 r136 e9 k137 n138 => (e9 ≠ 0 → Q M132 P133 L134 v135 none e9 (k130 + k137) (n131 + n138)) ∧ (e9 = 0 → cd_add k130 k137 n131 n138 fun k139 n140 =>
      (a1, (0, 7, 0)) ∈ L134 ∧ cq_put M132 (dc a1) 6 v135 fun M141 =>
      Q M141 P133 L134 0 none 0 k139 n140))))),
      ((a0, (0, 10, 0)) ∈ L ∧
      rd_once N (bc - k) (bs - n) M P L a0 6 (fun M142 P143 L144 v145 r146 e9 k147 n148 => (e9 ≠ 0 → Q M142 P143 L144 v145 none e9 (k + k147) (n + n148)) ∧ (e9 = 0 → cd_add k k147 n n148 fun k149 n150 =>
      rd_clause_447 N bc bs Q a0 a1 N.1 M142 P143 L144 k149 n150))),
      ((a0, (0, 10, 0)) ∈ L ∧
      rd_once N (bc - k) (bs - n) M P L a0 7 (fun M151 P152 L153 v154 r155 e9 k156 n157 => (e9 ≠ 0 → Q M151 P152 L153 v154 none e9 (k + k156) (n + n157)) ∧ (e9 = 0 → cd_add k k156 n n157 fun k158 n159 =>
      (a0, (0, 10, 0)) ∈ L153 ∧
      rd_expr N (bc - k158) (bs - n159) M151 P152 L153 a0 0 (fun M160 P161 L162 v163 r164 e9 k165 n166 => (e9 ≠ 0 → Q M160 P161 L162 v163 none e9 (k158 + k165) (n159 + n166)) ∧ (e9 = 0 → cd_add k158 k165 n159 n166 fun k167 n168 =>
      (a1, (0, 7, 0)) ∈ L162 ∧ cd_put P161 a1 8 r164 fun P169 =>
      Q M160 P169 L162 0 none 0 k167 n168))))),
      ((a0, (0, 10, 0)) ∈ L ∧
      rd_once N (bc - k) (bs - n) M P L a0 8 (fun M170 P171 L172 v173 r174 e9 k175 n176 => (e9 ≠ 0 → Q M170 P171 L172 v173 none e9 (k + k175) (n + n176)) ∧ (e9 = 0 → cd_add k k175 n n176 fun k177 n178 =>
      (a0, (0, 10, 0)) ∈ L172 ∧
      rd_expr N (bc - k177) (bs - n178) M170 P171 L172 a0 0 (fun M179 P180 L181 v182 r183 e9 k184 n185 => (e9 ≠ 0 → Q M179 P180 L181 v182 none e9 (k177 + k184) (n178 + n185)) ∧ (e9 = 0 → cd_add k177 k184 n178 n185 fun k186 n187 =>
      (a1, (0, 7, 0)) ∈ L181 ∧ cd_put P180 a1 9 r183 fun P188 =>
      Q M179 P188 L181 0 none 0 k186 n187)))))
    ] (
      (a0, (0, 10, 0)) ∈ L ∧
      rd_check N (bc - k) (bs - n) M P L a0 0 1 (fun M1 P2 L3 v4 r5 e9 k6 n7 => (e9 ≠ 0 → Q M1 P2 L3 v4 none e9 (k + k6) (n + n7)) ∧ (e9 = 0 → cd_add k k6 n n7 fun k8 n9 =>
      Q M1 P2 L3 0 none 0 k8 n9)))
set_option maxRecDepth 100000 in
theorem rd_clause_238_v {l : Launch} {g : cx_G} {X : cx_X} {N : dNt} {bc bs : Nat} {Q : cd_Qt} {a0 : Nat} {a1 : Nat} (H : dR l g N.2) (hX : True) (M : cx_M) (P : dP) (L : dL) (k n : Nat) (x3 : Int32) (hk : k ≤ bc ∧ n ≤ bs) (h : rd_clause_238 N bc bs Q a0 a1 M P L k n x3) : cq_V l (dG g L P) X (esX11_clause bc bs) cX11_clause 238 [(0, .ref a0), (1, .ref a1), (3, .int x3)] [] M k n (cd_finX g X (esX11_clause bc bs) cd_rV Q) := by
  unfold rd_clause_238 at h
  refine cq_iload_n 2 dX11_clause_238 rfl ?_
  refine cq_table 547 [288, 307, 326, 356, 375, 422, 441, 511, 529] 9 h dX11_clause_239 (by decide +kernel) rfl rfl rfl (by decide +kernel) (fun h => ?_) (cd_tabC ?_ (cd_tabC ?_ (cd_tabC ?_ (cd_tabC ?_ (cd_tabC ?_ (cd_tabC ?_ (cd_tabC ?_ (cd_tabC ?_ (cd_tabC ?_ cd_tabN)))))))))
  · refine cq_aload_n 0 dX11_clause_547 rfl ?_
    refine cq_iconst 0 dX11_clause_548 cx_ic_0 ?_
    refine cq_iconst 1 dX11_clause_549 cx_ic_1 ?_
    obtain ⟨hmr, h⟩ := h
    refine cd_xV [.int 0, .int 1] [] (rd_check_m H.1.1.1 H.2.1 (N := N) (bc := bc - k) (bs := bs - n) M P L a0 0 1 h) (dG_Rc H.1.1.1 hmr dCl_X11) dX11_clause_550 gd_X11_119 hgd_X11_119 ⟨cx_le rfl, cx_le rfl⟩ (cd_bud hk) rfl (cx_le rfl) rfl (fun _ _ _ _ _ _ _ he h => h.1 he) (fun M1 P2 L3 v4 r5 k6 n7 hk2 h => ?_)
    refine cd_addI (h.2 rfl) (cd_bk hk hk2) (fun k8 n9 h hk => ?_)
    exact cd_toX (cd_vret hk h rfl dX11_clause_553)
  · intro h
    refine cq_at (pc2 := 288) rfl ?_
    refine cq_aload_n 0 dX11_clause_288 rfl ?_
    refine cq_iconst 0 dX11_clause_289 cx_ic_0 ?_
    obtain ⟨hmr, h⟩ := h
    refine cd_xV [.int 0] [] (rd_once_m H (N := N) (bc := bc - k) (bs := bs - n) M P L a0 0 h) (dG_Rc H.1.1.1 hmr dCl_X11) dX11_clause_290 gd_X11_161 hgd_X11_161 ⟨cx_le rfl, cx_le rfl⟩ (cd_bud hk) rfl (cx_le rfl) rfl (fun _ _ _ _ _ _ _ he h => h.1 he) (fun M10 P11 L12 v13 r14 k15 n16 hk2 h => ?_)
    refine cd_addI (h.2 rfl) (cd_bk hk hk2) (fun k17 n18 h hk => ?_)
    refine cq_aload_n 1 dX11_clause_293 rfl ?_
    refine cq_aload_n 0 dX11_clause_294 rfl ?_
    refine cq_iconst 1 dX11_clause_295 cx_ic_1 ?_
    refine cq_bipush 8 dX11_clause_296 cx_bp_8 ?_
    obtain ⟨hmr, h⟩ := h
    refine cd_xV [.int 1, .int 8] [.ref a1] (rd_number_m H (N := N) (bc := bc - k17) (bs := bs - n18) M10 P11 L12 a0 1 8 h) (dG_Rc H.1.1.1 hmr dCl_X11) dX11_clause_298 gd_X11_164 hgd_X11_164 ⟨cx_le rfl, cx_le rfl⟩ (cd_bud hk) rfl (cx_le rfl) rfl (fun _ _ _ _ _ _ _ he h => h.1 he) (fun M19 P20 L21 v22 r23 k24 n25 hk2 h => ?_)
    refine cd_addI (h.2 rfl) (cd_bk hk hk2) (fun k26 n27 h hk => ?_)
    refine cq_nd H.1.1.1 (fun hn => cq_putIN h.2 (dG_FI H.1.1.1 hn h.1 dCl_X2 (cx_lt rfl) rfl rfl rfl) rfl rfl rfl q561 dX11_clause_301 (fun M28 h => ?_))
    refine cq_goto 553 dX11_clause_304 rfl ?_
    exact cd_toX (cd_vret hk h rfl dX11_clause_553)
  · intro h
    refine cq_at (pc2 := 307) rfl ?_
    refine cq_aload_n 0 dX11_clause_307 rfl ?_
    refine cq_iconst 1 dX11_clause_308 cx_ic_1 ?_
    obtain ⟨hmr, h⟩ := h
    refine cd_xV [.int 1] [] (rd_once_m H (N := N) (bc := bc - k) (bs := bs - n) M P L a0 1 h) (dG_Rc H.1.1.1 hmr dCl_X11) dX11_clause_309 gd_X11_161 hgd_X11_161 ⟨cx_le rfl, cx_le rfl⟩ (cd_bud hk) rfl (cx_le rfl) rfl (fun _ _ _ _ _ _ _ he h => h.1 he) (fun M29 P30 L31 v32 r33 k34 n35 hk2 h => ?_)
    refine cd_addI (h.2 rfl) (cd_bk hk hk2) (fun k36 n37 h hk => ?_)
    refine cq_aload_n 1 dX11_clause_312 rfl ?_
    refine cq_aload_n 0 dX11_clause_313 rfl ?_
    refine cq_iconst 1 dX11_clause_314 cx_ic_1 ?_
    refine cq_bipush 64 dX11_clause_315 cx_bp_64 ?_
    obtain ⟨hmr, h⟩ := h
    refine cd_xV [.int 1, .int 64] [.ref a1] (rd_number_m H (N := N) (bc := bc - k36) (bs := bs - n37) M29 P30 L31 a0 1 64 h) (dG_Rc H.1.1.1 hmr dCl_X11) dX11_clause_317 gd_X11_164 hgd_X11_164 ⟨cx_le rfl, cx_le rfl⟩ (cd_bud hk) rfl (cx_le rfl) rfl (fun _ _ _ _ _ _ _ he h => h.1 he) (fun M38 P39 L40 v41 r42 k43 n44 hk2 h => ?_)
    refine cd_addI (h.2 rfl) (cd_bk hk hk2) (fun k45 n46 h hk => ?_)
    refine cq_nd H.1.1.1 (fun hn => cq_putIN h.2 (dG_FI H.1.1.1 hn h.1 dCl_X2 (cx_lt rfl) rfl rfl rfl) rfl rfl rfl q564 dX11_clause_320 (fun M47 h => ?_))
    refine cq_goto 553 dX11_clause_323 rfl ?_
    exact cd_toX (cd_vret hk h rfl dX11_clause_553)
  · intro h
    refine cq_at (pc2 := 326) rfl ?_
    refine cq_aload_n 0 dX11_clause_326 rfl ?_
    refine cq_iconst 2 dX11_clause_327 cx_ic_2 ?_
    obtain ⟨hmr, h⟩ := h
    refine cd_xV [.int 2] [] (rd_once_m H (N := N) (bc := bc - k) (bs := bs - n) M P L a0 2 h) (dG_Rc H.1.1.1 hmr dCl_X11) dX11_clause_328 gd_X11_161 hgd_X11_161 ⟨cx_le rfl, cx_le rfl⟩ (cd_bud hk) rfl (cx_le rfl) rfl (fun _ _ _ _ _ _ _ he h => h.1 he) (fun M48 P49 L50 v51 r52 k53 n54 hk2 h => ?_)
    refine cd_addI (h.2 rfl) (cd_bk hk hk2) (fun k55 n56 h hk => ?_)
    refine cq_aload_n 1 dX11_clause_331 rfl ?_
    refine cq_aload_n 0 dX11_clause_332 rfl ?_
    refine cq_iconst 0 dX11_clause_333 cx_ic_0 ?_
    refine cq_bipush 9 dX11_clause_334 cx_bp_9 ?_
    obtain ⟨hmr, h⟩ := h
    refine cd_xV [.int 0, .int 9] [.ref a1] (rd_number_m H (N := N) (bc := bc - k55) (bs := bs - n56) M48 P49 L50 a0 0 9 h) (dG_Rc H.1.1.1 hmr dCl_X11) dX11_clause_336 gd_X11_164 hgd_X11_164 ⟨cx_le rfl, cx_le rfl⟩ (cd_bud hk) rfl (cx_le rfl) rfl (fun _ _ _ _ _ _ _ he h => h.1 he) (fun M57 P58 L59 v60 r61 k62 n63 hk2 h => ?_)
    refine cd_addI (h.2 rfl) (cd_bk hk hk2) (fun k64 n65 h hk => ?_)
    refine cq_nd H.1.1.1 (fun hn => cq_putIN h.2 (dG_FI H.1.1.1 hn h.1 dCl_X2 (cx_lt rfl) rfl rfl rfl) rfl rfl rfl q567 dX11_clause_339 (fun M66 h => ?_))
    refine cq_aload_n 1 dX11_clause_342 rfl ?_
    refine cq_aload_n 0 dX11_clause_343 rfl ?_
    refine cq_iconst 0 dX11_clause_344 cx_ic_0 ?_
    refine cq_bipush 9 dX11_clause_345 cx_bp_9 ?_
    obtain ⟨hmr, h⟩ := h
    refine cd_xV [.int 0, .int 9] [.ref a1] (rd_number_m H (N := N) (bc := bc - k64) (bs := bs - n65) M66 P58 L59 a0 0 9 h) (dG_Rc H.1.1.1 hmr dCl_X11) dX11_clause_347 gd_X11_164 hgd_X11_164 ⟨cx_le rfl, cx_le rfl⟩ (cd_bud hk) rfl (cx_le rfl) rfl (fun _ _ _ _ _ _ _ he h => h.1 he) (fun M67 P68 L69 v70 r71 k72 n73 hk2 h => ?_)
    refine cd_addI (h.2 rfl) (cd_bk hk hk2) (fun k74 n75 h hk => ?_)
    refine cq_nd H.1.1.1 (fun hn => cq_putIN h.2 (dG_FI H.1.1.1 hn h.1 dCl_X2 (cx_lt rfl) rfl rfl rfl) rfl rfl rfl q570 dX11_clause_350 (fun M76 h => ?_))
    refine cq_goto 553 dX11_clause_353 rfl ?_
    exact cd_toX (cd_vret hk h rfl dX11_clause_553)
  · intro h
    refine cq_at (pc2 := 356) rfl ?_
    refine cq_aload_n 0 dX11_clause_356 rfl ?_
    refine cq_iconst 3 dX11_clause_357 cx_ic_3 ?_
    obtain ⟨hmr, h⟩ := h
    refine cd_xV [.int 3] [] (rd_once_m H (N := N) (bc := bc - k) (bs := bs - n) M P L a0 3 h) (dG_Rc H.1.1.1 hmr dCl_X11) dX11_clause_358 gd_X11_161 hgd_X11_161 ⟨cx_le rfl, cx_le rfl⟩ (cd_bud hk) rfl (cx_le rfl) rfl (fun _ _ _ _ _ _ _ he h => h.1 he) (fun M77 P78 L79 v80 r81 k82 n83 hk2 h => ?_)
    refine cd_addI (h.2 rfl) (cd_bk hk hk2) (fun k84 n85 h hk => ?_)
    refine cq_aload_n 1 dX11_clause_361 rfl ?_
    refine cq_aload_n 0 dX11_clause_362 rfl ?_
    refine cq_iconst 1 dX11_clause_363 cx_ic_1 ?_
    refine cq_bipush 16 dX11_clause_364 cx_bp_16 ?_
    obtain ⟨hmr, h⟩ := h
    refine cd_xV [.int 1, .int 16] [.ref a1] (rd_number_m H (N := N) (bc := bc - k84) (bs := bs - n85) M77 P78 L79 a0 1 16 h) (dG_Rc H.1.1.1 hmr dCl_X11) dX11_clause_366 gd_X11_164 hgd_X11_164 ⟨cx_le rfl, cx_le rfl⟩ (cd_bud hk) rfl (cx_le rfl) rfl (fun _ _ _ _ _ _ _ he h => h.1 he) (fun M86 P87 L88 v89 r90 k91 n92 hk2 h => ?_)
    refine cd_addI (h.2 rfl) (cd_bk hk hk2) (fun k93 n94 h hk => ?_)
    refine cq_nd H.1.1.1 (fun hn => cq_putIN h.2 (dG_FI H.1.1.1 hn h.1 dCl_X2 (cx_lt rfl) rfl rfl rfl) rfl rfl rfl q573 dX11_clause_369 (fun M95 h => ?_))
    refine cq_goto 553 dX11_clause_372 rfl ?_
    exact cd_toX (cd_vret hk h rfl dX11_clause_553)
  · intro h
    refine cq_at (pc2 := 375) rfl ?_
    refine cq_aload_n 0 dX11_clause_375 rfl ?_
    refine cq_iconst 4 dX11_clause_376 cx_ic_4 ?_
    obtain ⟨hmr, h⟩ := h
    refine cd_xV [.int 4] [] (rd_once_m H (N := N) (bc := bc - k) (bs := bs - n) M P L a0 4 h) (dG_Rc H.1.1.1 hmr dCl_X11) dX11_clause_377 gd_X11_161 hgd_X11_161 ⟨cx_le rfl, cx_le rfl⟩ (cd_bud hk) rfl (cx_le rfl) rfl (fun _ _ _ _ _ _ _ he h => h.1 he) (fun M96 P97 L98 v99 r100 k101 n102 hk2 h => ?_)
    refine cd_addI (h.2 rfl) (cd_bk hk hk2) (fun k103 n104 h hk => ?_)
    refine cq_aload_n 0 dX11_clause_380 rfl ?_
    refine cq_ldcS (dR_k179 H) dX11_clause_381 ?_
    obtain ⟨hmr, h⟩ := h
    refine cd_cV [.ref (N.2 (1100000 + 11))] [] (rd_is_m H (N := N) (bc := bc - k103) (bs := bs - n104) M96 P97 L98 a0 11 (by decide) h) (dG_Rc H.1.1.1 hmr dCl_X11) dX11_clause_383 gd_X11_115 hgd_X11_115 ⟨cx_le rfl, cx_le rfl⟩ (cd_bud hk) rfl (cx_le rfl) (fun M105 P106 L107 v108 r109 k110 n111 hk2 h => ?_)
    refine cd_addI (h rfl) (cd_bk hk hk2) (fun k112 n113 h hk => ?_)
    refine cq_istore [(4, .int v108), (0, .ref a0), (1, .ref a1), (3, .int x3)] dX11_clause_386 (cx_lt rfl) rfl ?_
    refine cq_iload 0 dX11_clause_388 rfl ?_
    refine cq_if_eq 397 h dX11_clause_390 rfl (fun h => ?_) (fun h => ?_)
    · refine cq_sub (lv' := [(0, .ref a0), (1, .ref a1), (4, .int v108)]) [1, 2, 0] rfl ?_
      exact rd_clause_397_v H hX M105 P106 L107 k112 n113 v108 hk h
    · refine cq_aload_n 1 dX11_clause_393 rfl ?_
      obtain ⟨hmr, h⟩ := h
      refine cd_cV [] [] (rd_go_m H (N := N) (bc := bc - k112) (bs := bs - n113) M105 P106 L107 a0 h) (dG_Rc H.1.1.1 hmr dCl_X11) dX11_clause_394 gd_X11_32 hgd_X11_32 ⟨cx_le rfl, cx_le rfl⟩ (cd_bud hk) rfl (cx_le rfl) (fun M114 P115 L116 v117 r118 k119 n120 hk2 h => ?_)
      refine cd_addI (h rfl) (cd_bk hk hk2) (fun k121 n122 h hk => ?_)
      refine cq_sub (lv' := [(0, .ref a0), (1, .ref a1), (4, .int v108)]) [1, 2, 0] rfl ?_
      exact rd_clause_397_v H hX M114 P115 L116 k121 n122 v108 hk h
  · intro h
    refine cq_at (pc2 := 422) rfl ?_
    refine cq_aload_n 0 dX11_clause_422 rfl ?_
    refine cq_iconst 5 dX11_clause_423 cx_ic_5 ?_
    obtain ⟨hmr, h⟩ := h
    refine cd_xV [.int 5] [] (rd_once_m H (N := N) (bc := bc - k) (bs := bs - n) M P L a0 5 h) (dG_Rc H.1.1.1 hmr dCl_X11) dX11_clause_424 gd_X11_161 hgd_X11_161 ⟨cx_le rfl, cx_le rfl⟩ (cd_bud hk) rfl (cx_le rfl) rfl (fun _ _ _ _ _ _ _ he h => h.1 he) (fun M123 P124 L125 v126 r127 k128 n129 hk2 h => ?_)
    refine cd_addI (h.2 rfl) (cd_bk hk hk2) (fun k130 n131 h hk => ?_)
    refine cq_aload_n 1 dX11_clause_427 rfl ?_
    refine cq_aload_n 0 dX11_clause_428 rfl ?_
    refine cq_iconst 1 dX11_clause_429 cx_ic_1 ?_
    refine cq_bipush 8 dX11_clause_430 cx_bp_8 ?_
    obtain ⟨hmr, h⟩ := h
    refine cd_xV [.int 1, .int 8] [.ref a1] (rd_number_m H (N := N) (bc := bc - k130) (bs := bs - n131) M123 P124 L125 a0 1 8 h) (dG_Rc H.1.1.1 hmr dCl_X11) dX11_clause_432 gd_X11_164 hgd_X11_164 ⟨cx_le rfl, cx_le rfl⟩ (cd_bud hk) rfl (cx_le rfl) rfl (fun _ _ _ _ _ _ _ he h => h.1 he) (fun M132 P133 L134 v135 r136 k137 n138 hk2 h => ?_)
    refine cd_addI (h.2 rfl) (cd_bk hk hk2) (fun k139 n140 h hk => ?_)
    refine cq_nd H.1.1.1 (fun hn => cq_putIN h.2 (dG_FI H.1.1.1 hn h.1 dCl_X2 (cx_lt rfl) rfl rfl rfl) rfl rfl rfl q579 dX11_clause_435 (fun M141 h => ?_))
    refine cq_goto 553 dX11_clause_438 rfl ?_
    exact cd_toX (cd_vret hk h rfl dX11_clause_553)
  · intro h
    refine cq_at (pc2 := 441) rfl ?_
    refine cq_aload_n 0 dX11_clause_441 rfl ?_
    refine cq_bipush 6 dX11_clause_442 cx_bp_6 ?_
    obtain ⟨hmr, h⟩ := h
    refine cd_xV [.int 6] [] (rd_once_m H (N := N) (bc := bc - k) (bs := bs - n) M P L a0 6 h) (dG_Rc H.1.1.1 hmr dCl_X11) dX11_clause_444 gd_X11_161 hgd_X11_161 ⟨cx_le rfl, cx_le rfl⟩ (cd_bud hk) rfl (cx_le rfl) rfl (fun _ _ _ _ _ _ _ he h => h.1 he) (fun M142 P143 L144 v145 r146 k147 n148 hk2 h => ?_)
    refine cd_addI (h.2 rfl) (cd_bk hk hk2) (fun k149 n150 h hk => ?_)
    refine cq_sub (lv' := [(0, .ref a0), (1, .ref a1)]) [0, 1] rfl ?_
    exact rd_clause_447_v H hX N.1 M142 P143 L144 k149 n150 hk h
  · intro h
    refine cq_at (pc2 := 511) rfl ?_
    refine cq_aload_n 0 dX11_clause_511 rfl ?_
    refine cq_bipush 7 dX11_clause_512 cx_bp_7 ?_
    obtain ⟨hmr, h⟩ := h
    refine cd_xV [.int 7] [] (rd_once_m H (N := N) (bc := bc - k) (bs := bs - n) M P L a0 7 h) (dG_Rc H.1.1.1 hmr dCl_X11) dX11_clause_514 gd_X11_161 hgd_X11_161 ⟨cx_le rfl, cx_le rfl⟩ (cd_bud hk) rfl (cx_le rfl) rfl (fun _ _ _ _ _ _ _ he h => h.1 he) (fun M151 P152 L153 v154 r155 k156 n157 hk2 h => ?_)
    refine cd_addI (h.2 rfl) (cd_bk hk hk2) (fun k158 n159 h hk => ?_)
    refine cq_aload_n 1 dX11_clause_517 rfl ?_
    refine cq_aload_n 0 dX11_clause_518 rfl ?_
    refine cq_iconst 0 dX11_clause_519 cx_ic_0 ?_
    obtain ⟨hmr, h⟩ := h
    refine cd_xV [.int 0] [.ref a1] (rd_expr_m H (N := N) (bc := bc - k158) (bs := bs - n159) M151 P152 L153 a0 0 h) (dG_Rc H.1.1.1 hmr dCl_X11) dX11_clause_520 gd_X11_200 hgd_X11_200 ⟨cx_le rfl, cx_le rfl⟩ (cd_bud hk) rfl (cx_le rfl) rfl (fun _ _ _ _ _ _ _ he h => h.1 he) (fun M160 P161 L162 v163 r164 k165 n166 hk2 h => ?_)
    refine cd_addI (h.2 rfl) (cd_bk hk hk2) (fun k167 n168 h hk => ?_)
    refine cq_nd H.1.1.1 (fun hn => cd_putRN (v := r164) H.1.1.1 hn h.1 h.2 dCl_X2 (cx_lt rfl) rfl rfl rfl cd_nfO rfl q584 dX11_clause_523 (fun P169 h => ?_))
    refine cq_goto 553 dX11_clause_526 rfl ?_
    exact cd_toX (cd_vret hk h rfl dX11_clause_553)
  · intro h
    refine cq_at (pc2 := 529) rfl ?_
    refine cq_aload_n 0 dX11_clause_529 rfl ?_
    refine cq_bipush 8 dX11_clause_530 cx_bp_8 ?_
    obtain ⟨hmr, h⟩ := h
    refine cd_xV [.int 8] [] (rd_once_m H (N := N) (bc := bc - k) (bs := bs - n) M P L a0 8 h) (dG_Rc H.1.1.1 hmr dCl_X11) dX11_clause_532 gd_X11_161 hgd_X11_161 ⟨cx_le rfl, cx_le rfl⟩ (cd_bud hk) rfl (cx_le rfl) rfl (fun _ _ _ _ _ _ _ he h => h.1 he) (fun M170 P171 L172 v173 r174 k175 n176 hk2 h => ?_)
    refine cd_addI (h.2 rfl) (cd_bk hk hk2) (fun k177 n178 h hk => ?_)
    refine cq_aload_n 1 dX11_clause_535 rfl ?_
    refine cq_aload_n 0 dX11_clause_536 rfl ?_
    refine cq_iconst 0 dX11_clause_537 cx_ic_0 ?_
    obtain ⟨hmr, h⟩ := h
    refine cd_xV [.int 0] [.ref a1] (rd_expr_m H (N := N) (bc := bc - k177) (bs := bs - n178) M170 P171 L172 a0 0 h) (dG_Rc H.1.1.1 hmr dCl_X11) dX11_clause_538 gd_X11_200 hgd_X11_200 ⟨cx_le rfl, cx_le rfl⟩ (cd_bud hk) rfl (cx_le rfl) rfl (fun _ _ _ _ _ _ _ he h => h.1 he) (fun M179 P180 L181 v182 r183 k184 n185 hk2 h => ?_)
    refine cd_addI (h.2 rfl) (cd_bk hk hk2) (fun k186 n187 h hk => ?_)
    refine cq_nd H.1.1.1 (fun hn => cd_putRN (v := r183) H.1.1.1 hn h.1 h.2 dCl_X2 (cx_lt rfl) rfl rfl rfl cd_nfO rfl q586 dX11_clause_541 (fun P188 h => ?_))
    refine cq_goto 553 dX11_clause_544 rfl ?_
    exact cd_toX (cd_vret hk h rfl dX11_clause_553)
def rd_clause_16 (N : dNt) (bc bs : Nat) (Q : cd_Qt) (a0 : Nat) (a1 : Nat) (M : cx_M) (P : dP) (L : dL) (k n : Nat) (z1 : Int32) : Prop :=
  (a0, (0, 10, 0)) ∈ L ∧
  rd_check N (bc - k) (bs - n) M P L a0 z1 1 (fun M1 P2 L3 v4 r5 e9 k6 n7 => (e9 ≠ 0 → Q M1 P2 L3 v4 none e9 (k + k6) (n + n7)) ∧ (e9 = 0 → cd_add k k6 n n7 fun k8 n9 =>
  (a0, (0, 10, 0)) ∈ L3 ∧ cd_let (P2 a0 7) fun r10 =>
  cd_nn r10 fun a11 =>
  (a11, (0, 17, 0)) ∈ L3 ∧
  jS_hashCode N.1 (bc - k8) (bs - n9) M1 P2 L3 a11 (fun M12 P13 L14 v15 r16 e9 k17 n18 => e9 = 0 → cd_add k8 k17 n9 n18 fun k19 n20 =>
  cd_lsw v15 [
      ((-1019779949), (a11, (0, 17, 0)) ∈ L14 ∧
      jS_equalsC N (bc - k19) (bs - n20) M12 P13 L14 a11 6 (fun M21 P22 L23 v24 r25 e9 k26 n27 => e9 = 0 → cd_add k19 k26 n20 n27 fun k28 n29 =>
      if v24 = 0 then (
        rd_clause_238 N bc bs Q a0 a1 M21 P22 L23 k28 n29 (-1))
      else (
        rd_clause_238 N bc bs Q a0 a1 M21 P22 L23 k28 n29 4))),
      ((-880905839), (a11, (0, 17, 0)) ∈ L14 ∧
      jS_equalsC N (bc - k19) (bs - n20) M12 P13 L14 a11 3 (fun M30 P31 L32 v33 r34 e9 k35 n36 => e9 = 0 → cd_add k19 k35 n20 n36 fun k37 n38 =>
      if v33 = 0 then (
        rd_clause_238 N bc bs Q a0 a1 M30 P31 L32 k37 n38 (-1))
      else (
        rd_clause_238 N bc bs Q a0 a1 M30 P31 L32 k37 n38 1))),
      (3165055, (a11, (0, 17, 0)) ∈ L14 ∧
      jS_equalsC N (bc - k19) (bs - n20) M12 P13 L14 a11 4 (fun M39 P40 L41 v42 r43 e9 k44 n45 => e9 = 0 → cd_add k19 k44 n20 n45 fun k46 n47 =>
      if v42 = 0 then (
        rd_clause_238 N bc bs Q a0 a1 M39 P40 L41 k46 n47 (-1))
      else (
        rd_clause_238 N bc bs Q a0 a1 M39 P40 L41 k46 n47 2))),
      (3327780, (a11, (0, 17, 0)) ∈ L14 ∧
      jS_equalsC N (bc - k19) (bs - n20) M12 P13 L14 a11 10 (fun M48 P49 L50 v51 r52 e9 k53 n54 => e9 = 0 → cd_add k19 k53 n20 n54 fun k55 n56 =>
      if v51 = 0 then (
        rd_clause_238 N bc bs Q a0 a1 M48 P49 L50 k55 n56 (-1))
      else (
        rd_clause_238 N bc bs Q a0 a1 M48 P49 L50 k55 n56 8))),
      (3530753, (a11, (0, 17, 0)) ∈ L14 ∧
      jS_equalsC N (bc - k19) (bs - n20) M12 P13 L14 a11 2 (fun M57 P58 L59 v60 r61 e9 k62 n63 => e9 = 0 → cd_add k19 k62 n20 n63 fun k64 n65 =>
      if v60 = 0 then (
        rd_clause_238 N bc bs Q a0 a1 M57 P58 L59 k64 n65 (-1))
      else (
        rd_clause_238 N bc bs Q a0 a1 M57 P58 L59 k64 n65 0))),
      (3655434, (a11, (0, 17, 0)) ∈ L14 ∧
      jS_equalsC N (bc - k19) (bs - n20) M12 P13 L14 a11 8 (fun M66 P67 L68 v69 r70 e9 k71 n72 => e9 = 0 → cd_add k19 k71 n20 n72 fun k73 n74 =>
      if v69 = 0 then (
        rd_clause_238 N bc bs Q a0 a1 M66 P67 L68 k73 n74 (-1))
      else (
        rd_clause_238 N bc bs Q a0 a1 M66 P67 L68 k73 n74 6))),
      (95467907, (a11, (0, 17, 0)) ∈ L14 ∧
      jS_equalsC N (bc - k19) (bs - n20) M12 P13 L14 a11 9 (fun M75 P76 L77 v78 r79 e9 k80 n81 => e9 = 0 → cd_add k19 k80 n20 n81 fun k82 n83 =>
      if v78 = 0 then (
        rd_clause_238 N bc bs Q a0 a1 M75 P76 L77 k82 n83 (-1))
      else (
        rd_clause_238 N bc bs Q a0 a1 M75 P76 L77 k82 n83 7))),
      (96891675, (a11, (0, 17, 0)) ∈ L14 ∧
      jS_equalsC N (bc - k19) (bs - n20) M12 P13 L14 a11 5 (fun M84 P85 L86 v87 r88 e9 k89 n90 => e9 = 0 → cd_add k19 k89 n20 n90 fun k91 n92 =>
      if v87 = 0 then (
        rd_clause_238 N bc bs Q a0 a1 M84 P85 L86 k91 n92 (-1))
      else (
        rd_clause_238 N bc bs Q a0 a1 M84 P85 L86 k91 n92 3))),
      (97692013, (a11, (0, 17, 0)) ∈ L14 ∧
      jS_equalsC N (bc - k19) (bs - n20) M12 P13 L14 a11 7 (fun M93 P94 L95 v96 r97 e9 k98 n99 => e9 = 0 → cd_add k19 k98 n20 n99 fun k100 n101 =>
      if v96 = 0 then (
        rd_clause_238 N bc bs Q a0 a1 M93 P94 L95 k100 n101 (-1))
      else (
        rd_clause_238 N bc bs Q a0 a1 M93 P94 L95 k100 n101 5)))
    ] (
      rd_clause_238 N bc bs Q a0 a1 M12 P13 L14 k19 n20 (-1)))))
set_option maxRecDepth 100000 in
theorem rd_clause_16_v {l : Launch} {g : cx_G} {X : cx_X} {N : dNt} {bc bs : Nat} {Q : cd_Qt} {a0 : Nat} {a1 : Nat} (H : dR l g N.2) (hX : True) (M : cx_M) (P : dP) (L : dL) (k n : Nat) (z1 : Int32) (hk : k ≤ bc ∧ n ≤ bs) (h : rd_clause_16 N bc bs Q a0 a1 M P L k n z1) : cq_V l (dG g L P) X (esX11_clause bc bs) cX11_clause 16 [(0, .ref a0), (1, .ref a1)] [.int z1, .ref a0] M k n (cd_finX g X (esX11_clause bc bs) cd_rV Q) := by
  unfold rd_clause_16 at h
  refine cq_iconst 1 dX11_clause_16 cx_ic_1 ?_
  obtain ⟨hmr, h⟩ := h
  refine cd_xV [.int z1, .int 1] [] (rd_check_m H.1.1.1 H.2.1 (N := N) (bc := bc - k) (bs := bs - n) M P L a0 z1 1 h) (dG_Rc H.1.1.1 hmr dCl_X11) dX11_clause_17 gd_X11_119 hgd_X11_119 ⟨cx_le rfl, cx_le rfl⟩ (cd_bud hk) rfl (cx_le rfl) rfl (fun _ _ _ _ _ _ _ he h => h.1 he) (fun M1 P2 L3 v4 r5 k6 n7 hk2 h => ?_)
  refine cd_addI (h.2 rfl) (cd_bk hk hk2) (fun k8 n9 h hk => ?_)
  refine cq_aload_n 0 dX11_clause_20 rfl ?_
  refine cq_getR (dG_FR (k := 7) H.1.1.1 h.1 dCl_X11 (cx_lt rfl) rfl rfl) q1459 dX11_clause_21 ?_
  refine cd_letI h.2 (fun r10 h => ?_)
  refine cd_astore_n (v := r10) (fun v => [(2, v), (0, .ref a0), (1, .ref a1)]) dX11_clause_24 (cx_lt rfl) (fun v => rfl) ?_
  refine cq_iconst (-1) dX11_clause_25 cx_ic_m1 ?_
  refine cq_istore_n [(3, .int (-1)), (2, va_rf r10), (0, .ref a0), (1, .ref a1)] dX11_clause_26 (cx_lt rfl) (by cases r10 <;> rfl) ?_
  refine cd_aload_n (v := r10) 1 dX11_clause_27 rfl ?_
  obtain ⟨a11, e9, h⟩ := cd_nn_some h
  subst e9
  obtain ⟨hmr, h⟩ := h
  refine cd_cV [] [] (jS_hashCode_m H.1.1 (N := N.1) (bc := bc - k8) (bs := bs - n9) M1 P2 L3 a11 h) (dG_Rc H.1.1.1 hmr dCl_J9) dX11_clause_28 gd_X11_142 hgd_X11_142 ⟨cx_le rfl, cx_le rfl⟩ (cd_bud hk) rfl (cx_le rfl) (fun M12 P13 L14 v15 r16 k17 n18 hk2 h => ?_)
  refine cd_addI (h rfl) (cd_bk hk hk2) (fun k19 n20 h hk => ?_)
  refine cd_lookup 238 [((-1019779949), 168), ((-880905839), 126), (3165055, 140), (3327780, 226), (3530753, 112), (3655434, 196), (95467907, 211), (96891675, 154), (97692013, 182)] h dX11_clause_31 rfl (by decide +kernel) (fun h => ?_) (cd_tabC ?_ (cd_tabC ?_ (cd_tabC ?_ (cd_tabC ?_ (cd_tabC ?_ (cd_tabC ?_ (cd_tabC ?_ (cd_tabC ?_ (cd_tabC ?_ cd_tabN)))))))))
  · refine cq_sub (lv' := [(0, .ref a0), (1, .ref a1), (3, .int (-1))]) [2, 3, 0] rfl ?_
    exact rd_clause_238_v H hX M12 P13 L14 k19 n20 (-1) hk h
  · intro h
    refine cq_at (pc2 := 168) rfl ?_
    refine cq_aload_n 1 dX11_clause_168 rfl ?_
    refine cq_ldcS (dR_k152 H) dX11_clause_169 ?_
    obtain ⟨hmr, h⟩ := h
    refine cd_cV [.ref (N.2 (1100000 + 6))] [] (jS_equalsC_m H (N := N) (bc := bc - k19) (bs := bs - n20) M12 P13 L14 a11 6 (by decide) h) (dG_Rc H.1.1.1 hmr dCl_J9) dX11_clause_171 gd_X11_106C hgd_X11_106C ⟨cx_le rfl, cx_le rfl⟩ (cd_bud hk) rfl (cx_le rfl) (fun M21 P22 L23 v24 r25 k26 n27 hk2 h => ?_)
    refine cd_addI (h rfl) (cd_bk hk hk2) (fun k28 n29 h hk => ?_)
    refine cq_if_eq 238 h dX11_clause_174 rfl (fun h => ?_) (fun h => ?_)
    · refine cq_sub (lv' := [(0, .ref a0), (1, .ref a1), (3, .int (-1))]) [2, 3, 0] rfl ?_
      exact rd_clause_238_v H hX M21 P22 L23 k28 n29 (-1) hk h
    · refine cq_iconst 4 dX11_clause_177 cx_ic_4 ?_
      refine cq_istore_n [(3, .int 4), (2, .ref a11), (0, .ref a0), (1, .ref a1)] dX11_clause_178 (cx_lt rfl) rfl ?_
      refine cq_goto 238 dX11_clause_179 rfl ?_
      refine cq_sub (lv' := [(0, .ref a0), (1, .ref a1), (3, .int 4)]) [2, 3, 0] rfl ?_
      exact rd_clause_238_v H hX M21 P22 L23 k28 n29 4 hk h
  · intro h
    refine cq_at (pc2 := 126) rfl ?_
    refine cq_aload_n 1 dX11_clause_126 rfl ?_
    refine cq_ldcS (dR_k146 H) dX11_clause_127 ?_
    obtain ⟨hmr, h⟩ := h
    refine cd_cV [.ref (N.2 (1100000 + 3))] [] (jS_equalsC_m H (N := N) (bc := bc - k19) (bs := bs - n20) M12 P13 L14 a11 3 (by decide) h) (dG_Rc H.1.1.1 hmr dCl_J9) dX11_clause_129 gd_X11_106C hgd_X11_106C ⟨cx_le rfl, cx_le rfl⟩ (cd_bud hk) rfl (cx_le rfl) (fun M30 P31 L32 v33 r34 k35 n36 hk2 h => ?_)
    refine cd_addI (h rfl) (cd_bk hk hk2) (fun k37 n38 h hk => ?_)
    refine cq_if_eq 238 h dX11_clause_132 rfl (fun h => ?_) (fun h => ?_)
    · refine cq_sub (lv' := [(0, .ref a0), (1, .ref a1), (3, .int (-1))]) [2, 3, 0] rfl ?_
      exact rd_clause_238_v H hX M30 P31 L32 k37 n38 (-1) hk h
    · refine cq_iconst 1 dX11_clause_135 cx_ic_1 ?_
      refine cq_istore_n [(3, .int 1), (2, .ref a11), (0, .ref a0), (1, .ref a1)] dX11_clause_136 (cx_lt rfl) rfl ?_
      refine cq_goto 238 dX11_clause_137 rfl ?_
      refine cq_sub (lv' := [(0, .ref a0), (1, .ref a1), (3, .int 1)]) [2, 3, 0] rfl ?_
      exact rd_clause_238_v H hX M30 P31 L32 k37 n38 1 hk h
  · intro h
    refine cq_at (pc2 := 140) rfl ?_
    refine cq_aload_n 1 dX11_clause_140 rfl ?_
    refine cq_ldcS (dR_k148 H) dX11_clause_141 ?_
    obtain ⟨hmr, h⟩ := h
    refine cd_cV [.ref (N.2 (1100000 + 4))] [] (jS_equalsC_m H (N := N) (bc := bc - k19) (bs := bs - n20) M12 P13 L14 a11 4 (by decide) h) (dG_Rc H.1.1.1 hmr dCl_J9) dX11_clause_143 gd_X11_106C hgd_X11_106C ⟨cx_le rfl, cx_le rfl⟩ (cd_bud hk) rfl (cx_le rfl) (fun M39 P40 L41 v42 r43 k44 n45 hk2 h => ?_)
    refine cd_addI (h rfl) (cd_bk hk hk2) (fun k46 n47 h hk => ?_)
    refine cq_if_eq 238 h dX11_clause_146 rfl (fun h => ?_) (fun h => ?_)
    · refine cq_sub (lv' := [(0, .ref a0), (1, .ref a1), (3, .int (-1))]) [2, 3, 0] rfl ?_
      exact rd_clause_238_v H hX M39 P40 L41 k46 n47 (-1) hk h
    · refine cq_iconst 2 dX11_clause_149 cx_ic_2 ?_
      refine cq_istore_n [(3, .int 2), (2, .ref a11), (0, .ref a0), (1, .ref a1)] dX11_clause_150 (cx_lt rfl) rfl ?_
      refine cq_goto 238 dX11_clause_151 rfl ?_
      refine cq_sub (lv' := [(0, .ref a0), (1, .ref a1), (3, .int 2)]) [2, 3, 0] rfl ?_
      exact rd_clause_238_v H hX M39 P40 L41 k46 n47 2 hk h
  · intro h
    refine cq_at (pc2 := 226) rfl ?_
    refine cq_aload_n 1 dX11_clause_226 rfl ?_
    refine cq_ldcS (dR_k159 H) dX11_clause_227 ?_
    obtain ⟨hmr, h⟩ := h
    refine cd_cV [.ref (N.2 (1100000 + 10))] [] (jS_equalsC_m H (N := N) (bc := bc - k19) (bs := bs - n20) M12 P13 L14 a11 10 (by decide) h) (dG_Rc H.1.1.1 hmr dCl_J9) dX11_clause_229 gd_X11_106C hgd_X11_106C ⟨cx_le rfl, cx_le rfl⟩ (cd_bud hk) rfl (cx_le rfl) (fun M48 P49 L50 v51 r52 k53 n54 hk2 h => ?_)
    refine cd_addI (h rfl) (cd_bk hk hk2) (fun k55 n56 h hk => ?_)
    refine cq_if_eq 238 h dX11_clause_232 rfl (fun h => ?_) (fun h => ?_)
    · refine cq_sub (lv' := [(0, .ref a0), (1, .ref a1), (3, .int (-1))]) [2, 3, 0] rfl ?_
      exact rd_clause_238_v H hX M48 P49 L50 k55 n56 (-1) hk h
    · refine cq_bipush 8 dX11_clause_235 cx_bp_8 ?_
      refine cq_istore_n [(3, .int 8), (2, .ref a11), (0, .ref a0), (1, .ref a1)] dX11_clause_237 (cx_lt rfl) rfl ?_
      refine cq_sub (lv' := [(0, .ref a0), (1, .ref a1), (3, .int 8)]) [2, 3, 0] rfl ?_
      exact rd_clause_238_v H hX M48 P49 L50 k55 n56 8 hk h
  · intro h
    refine cq_at (pc2 := 112) rfl ?_
    refine cq_aload_n 1 dX11_clause_112 rfl ?_
    refine cq_ldcS (dR_k145 H) dX11_clause_113 ?_
    obtain ⟨hmr, h⟩ := h
    refine cd_cV [.ref (N.2 (1100000 + 2))] [] (jS_equalsC_m H (N := N) (bc := bc - k19) (bs := bs - n20) M12 P13 L14 a11 2 (by decide) h) (dG_Rc H.1.1.1 hmr dCl_J9) dX11_clause_115 gd_X11_106C hgd_X11_106C ⟨cx_le rfl, cx_le rfl⟩ (cd_bud hk) rfl (cx_le rfl) (fun M57 P58 L59 v60 r61 k62 n63 hk2 h => ?_)
    refine cd_addI (h rfl) (cd_bk hk hk2) (fun k64 n65 h hk => ?_)
    refine cq_if_eq 238 h dX11_clause_118 rfl (fun h => ?_) (fun h => ?_)
    · refine cq_sub (lv' := [(0, .ref a0), (1, .ref a1), (3, .int (-1))]) [2, 3, 0] rfl ?_
      exact rd_clause_238_v H hX M57 P58 L59 k64 n65 (-1) hk h
    · refine cq_iconst 0 dX11_clause_121 cx_ic_0 ?_
      refine cq_istore_n [(3, .int 0), (2, .ref a11), (0, .ref a0), (1, .ref a1)] dX11_clause_122 (cx_lt rfl) rfl ?_
      refine cq_goto 238 dX11_clause_123 rfl ?_
      refine cq_sub (lv' := [(0, .ref a0), (1, .ref a1), (3, .int 0)]) [2, 3, 0] rfl ?_
      exact rd_clause_238_v H hX M57 P58 L59 k64 n65 0 hk h
  · intro h
    refine cq_at (pc2 := 196) rfl ?_
    refine cq_aload_n 1 dX11_clause_196 rfl ?_
    refine cq_ldcS (dR_k156 H) dX11_clause_197 ?_
    obtain ⟨hmr, h⟩ := h
    refine cd_cV [.ref (N.2 (1100000 + 8))] [] (jS_equalsC_m H (N := N) (bc := bc - k19) (bs := bs - n20) M12 P13 L14 a11 8 (by decide) h) (dG_Rc H.1.1.1 hmr dCl_J9) dX11_clause_199 gd_X11_106C hgd_X11_106C ⟨cx_le rfl, cx_le rfl⟩ (cd_bud hk) rfl (cx_le rfl) (fun M66 P67 L68 v69 r70 k71 n72 hk2 h => ?_)
    refine cd_addI (h rfl) (cd_bk hk hk2) (fun k73 n74 h hk => ?_)
    refine cq_if_eq 238 h dX11_clause_202 rfl (fun h => ?_) (fun h => ?_)
    · refine cq_sub (lv' := [(0, .ref a0), (1, .ref a1), (3, .int (-1))]) [2, 3, 0] rfl ?_
      exact rd_clause_238_v H hX M66 P67 L68 k73 n74 (-1) hk h
    · refine cq_bipush 6 dX11_clause_205 cx_bp_6 ?_
      refine cq_istore_n [(3, .int 6), (2, .ref a11), (0, .ref a0), (1, .ref a1)] dX11_clause_207 (cx_lt rfl) rfl ?_
      refine cq_goto 238 dX11_clause_208 rfl ?_
      refine cq_sub (lv' := [(0, .ref a0), (1, .ref a1), (3, .int 6)]) [2, 3, 0] rfl ?_
      exact rd_clause_238_v H hX M66 P67 L68 k73 n74 6 hk h
  · intro h
    refine cq_at (pc2 := 211) rfl ?_
    refine cq_aload_n 1 dX11_clause_211 rfl ?_
    refine cq_ldcS (dR_k157 H) dX11_clause_212 ?_
    obtain ⟨hmr, h⟩ := h
    refine cd_cV [.ref (N.2 (1100000 + 9))] [] (jS_equalsC_m H (N := N) (bc := bc - k19) (bs := bs - n20) M12 P13 L14 a11 9 (by decide) h) (dG_Rc H.1.1.1 hmr dCl_J9) dX11_clause_214 gd_X11_106C hgd_X11_106C ⟨cx_le rfl, cx_le rfl⟩ (cd_bud hk) rfl (cx_le rfl) (fun M75 P76 L77 v78 r79 k80 n81 hk2 h => ?_)
    refine cd_addI (h rfl) (cd_bk hk hk2) (fun k82 n83 h hk => ?_)
    refine cq_if_eq 238 h dX11_clause_217 rfl (fun h => ?_) (fun h => ?_)
    · refine cq_sub (lv' := [(0, .ref a0), (1, .ref a1), (3, .int (-1))]) [2, 3, 0] rfl ?_
      exact rd_clause_238_v H hX M75 P76 L77 k82 n83 (-1) hk h
    · refine cq_bipush 7 dX11_clause_220 cx_bp_7 ?_
      refine cq_istore_n [(3, .int 7), (2, .ref a11), (0, .ref a0), (1, .ref a1)] dX11_clause_222 (cx_lt rfl) rfl ?_
      refine cq_goto 238 dX11_clause_223 rfl ?_
      refine cq_sub (lv' := [(0, .ref a0), (1, .ref a1), (3, .int 7)]) [2, 3, 0] rfl ?_
      exact rd_clause_238_v H hX M75 P76 L77 k82 n83 7 hk h
  · intro h
    refine cq_at (pc2 := 154) rfl ?_
    refine cq_aload_n 1 dX11_clause_154 rfl ?_
    refine cq_ldcS (dR_k150 H) dX11_clause_155 ?_
    obtain ⟨hmr, h⟩ := h
    refine cd_cV [.ref (N.2 (1100000 + 5))] [] (jS_equalsC_m H (N := N) (bc := bc - k19) (bs := bs - n20) M12 P13 L14 a11 5 (by decide) h) (dG_Rc H.1.1.1 hmr dCl_J9) dX11_clause_157 gd_X11_106C hgd_X11_106C ⟨cx_le rfl, cx_le rfl⟩ (cd_bud hk) rfl (cx_le rfl) (fun M84 P85 L86 v87 r88 k89 n90 hk2 h => ?_)
    refine cd_addI (h rfl) (cd_bk hk hk2) (fun k91 n92 h hk => ?_)
    refine cq_if_eq 238 h dX11_clause_160 rfl (fun h => ?_) (fun h => ?_)
    · refine cq_sub (lv' := [(0, .ref a0), (1, .ref a1), (3, .int (-1))]) [2, 3, 0] rfl ?_
      exact rd_clause_238_v H hX M84 P85 L86 k91 n92 (-1) hk h
    · refine cq_iconst 3 dX11_clause_163 cx_ic_3 ?_
      refine cq_istore_n [(3, .int 3), (2, .ref a11), (0, .ref a0), (1, .ref a1)] dX11_clause_164 (cx_lt rfl) rfl ?_
      refine cq_goto 238 dX11_clause_165 rfl ?_
      refine cq_sub (lv' := [(0, .ref a0), (1, .ref a1), (3, .int 3)]) [2, 3, 0] rfl ?_
      exact rd_clause_238_v H hX M84 P85 L86 k91 n92 3 hk h
  · intro h
    refine cq_at (pc2 := 182) rfl ?_
    refine cq_aload_n 1 dX11_clause_182 rfl ?_
    refine cq_ldcS (dR_k154 H) dX11_clause_183 ?_
    obtain ⟨hmr, h⟩ := h
    refine cd_cV [.ref (N.2 (1100000 + 7))] [] (jS_equalsC_m H (N := N) (bc := bc - k19) (bs := bs - n20) M12 P13 L14 a11 7 (by decide) h) (dG_Rc H.1.1.1 hmr dCl_J9) dX11_clause_185 gd_X11_106C hgd_X11_106C ⟨cx_le rfl, cx_le rfl⟩ (cd_bud hk) rfl (cx_le rfl) (fun M93 P94 L95 v96 r97 k98 n99 hk2 h => ?_)
    refine cd_addI (h rfl) (cd_bk hk hk2) (fun k100 n101 h hk => ?_)
    refine cq_if_eq 238 h dX11_clause_188 rfl (fun h => ?_) (fun h => ?_)
    · refine cq_sub (lv' := [(0, .ref a0), (1, .ref a1), (3, .int (-1))]) [2, 3, 0] rfl ?_
      exact rd_clause_238_v H hX M93 P94 L95 k100 n101 (-1) hk h
    · refine cq_iconst 5 dX11_clause_191 cx_ic_5 ?_
      refine cq_istore_n [(3, .int 5), (2, .ref a11), (0, .ref a0), (1, .ref a1)] dX11_clause_192 (cx_lt rfl) rfl ?_
      refine cq_goto 238 dX11_clause_193 rfl ?_
      refine cq_sub (lv' := [(0, .ref a0), (1, .ref a1), (3, .int 5)]) [2, 3, 0] rfl ?_
      exact rd_clause_238_v H hX M93 P94 L95 k100 n101 5 hk h
def rd_clause_0 (N : dNt) (bc bs : Nat) (Q : cd_Qt) (a0 : Nat) (a1 : Nat) (M : cx_M) (P : dP) (L : dL) (k n : Nat) : Prop :=
  (a0, (0, 10, 0)) ∈ L ∧ cd_let (P a0 6) fun r1 =>
  if r1 = (some ((N.2 9210))) then (
    rd_clause_16 N bc bs Q a0 a1 M P L k n 1)
  else (
    rd_clause_16 N bc bs Q a0 a1 M P L k n 0)
set_option maxRecDepth 100000 in
theorem rd_clause_0_v {l : Launch} {g : cx_G} {X : cx_X} {N : dNt} {bc bs : Nat} {Q : cd_Qt} {a0 : Nat} {a1 : Nat} (H : dR l g N.2) (hX : True) (M : cx_M) (P : dP) (L : dL) (k n : Nat) (hk : k ≤ bc ∧ n ≤ bs) (h : rd_clause_0 N bc bs Q a0 a1 M P L k n) : cq_V l (dG g L P) X (esX11_clause bc bs) cX11_clause 0 [(0, .ref a0), (1, .ref a1)] [] M k n (cd_finX g X (esX11_clause bc bs) cd_rV Q) := by
  unfold rd_clause_0 at h
  refine cq_aload_n 0 dX11_clause_0 rfl ?_
  refine cq_aload_n 0 dX11_clause_1 rfl ?_
  refine cq_getR (dG_FR (k := 6) H.1.1.1 h.1 dCl_X11 (cx_lt rfl) rfl rfl) q1458 dX11_clause_2 ?_
  refine cd_letI h.2 (fun r1 h => ?_)
  refine cq_gets (dR_s0 H) q1424 dX11_clause_5 ?_
  refine cd_acmp_ne (rx := r1) (ry := (some ((N.2 9210)))) 15 h dX11_clause_8 rfl (fun h => ?_) (fun h => ?_)
  · refine cq_iconst 0 dX11_clause_15 cx_ic_0 ?_
    exact rd_clause_16_v H hX M P L k n 0 hk h
  · refine cq_iconst 1 dX11_clause_11 cx_ic_1 ?_
    refine cq_goto 16 dX11_clause_12 rfl ?_
    exact rd_clause_16_v H hX M P L k n 1 hk h
def rd_clause (N : dNt) (bc bs : Nat) (M : cx_M) (P : dP) (L : dL) (a0 : Nat) (a1 : Nat) (Q : cd_Qt) : Prop := rd_clause_0 N bc bs Q a0 a1 M P L 0 0
set_option maxRecDepth 100000 in
theorem rd_clause_m {l : Launch} {g : cx_G} {N : dNt} {bc bs : Nat} {Q : cd_Qt} (H : dR l g N.2) (M : cx_M) (P : dP) (L : dL) (a0 : Nat) (a1 : Nat) (h : rd_clause N bc bs M P L a0 a1 Q) : cd_MetX l g yX11_clause cX11_clause (esX11_clause bc bs) cd_rV [.ref a0, .ref a1] M P L Q :=
  cd_metX (by decide +kernel) rfl rfl (lv := [(0, .ref a0), (1, .ref a1)]) rfl (cx_le rfl) (fun X hX => cq_sub (lv' := [(0, .ref a0), (1, .ref a1)]) [0, 1] rfl (rd_clause_0_v H hX M P L 0 0 ⟨Nat.zero_le _, Nat.zero_le _⟩ h))

abbrev esX11_whole (bc bs : Nat) : cx_S := (2, RX11, cx_rI, { frames := 322, cells := bc, slots := bs, locals := 32046 }, some (.object "CircuitCells$Line"), true)
def rd_whole_8b (N : dNt) (bc bs : Nat) (Q : cd_Qt) (a0 : Nat) (r_8 : cx_M → dP → dL → Nat → Nat → Nat → Prop) (M : cx_M) (P : dP) (L : dL) (k n : Nat) (x1 : Nat) : Prop :=
  (a0, (0, 10, 0)) ∈ L ∧ cd_let (P a0 6) fun r1 =>
  if r1 = (some ((N.2 9214))) then (
    Q M P L 0 (some x1) 0 k n)
  else (
    (a0, (0, 10, 0)) ∈ L ∧
    rd_clause N (bc - k) (bs - n) M P L a0 x1 (fun M2 P3 L4 v5 r6 e9 k7 n8 => (e9 ≠ 0 → Q M2 P3 L4 v5 none e9 (k + k7) (n + n8)) ∧ (e9 = 0 → cd_add k k7 n n8 fun k9 n10 =>
    (a0, (0, 10, 0)) ∈ L4 ∧
    rd_need N (bc - k9) (bs - n10) M2 P3 L4 a0 1 (fun M11 P12 L13 v14 r15 e9 k16 n17 => (e9 ≠ 0 → Q M11 P12 L13 v14 none e9 (k9 + k16) (n10 + n17)) ∧ (e9 = 0 → cd_add k9 k16 n10 n17 fun k18 n19 =>
    r_8 M11 P12 L13 k18 n19 x1)))))
set_option maxRecDepth 100000 in
theorem rd_whole_8b_v {l : Launch} {g : cx_G} {X : cx_X} {N : dNt} {bc bs : Nat} {Q : cd_Qt} {a0 : Nat} {r_8 : cx_M → dP → dL → Nat → Nat → Nat → Prop} (H : dR l g N.2) (hX : True) (hr_8 : ∀ (M : cx_M) (P : dP) (L : dL) (k n : Nat) (x1 : Nat), (k ≤ bc ∧ n ≤ bs) → r_8 M P L k n x1 → cq_V l (dG g L P) X (esX11_whole bc bs) cX11_whole 8 [(0, .ref a0), (1, .ref x1)] [] M k n (cd_finX g X (esX11_whole bc bs) cd_rA Q)) (M : cx_M) (P : dP) (L : dL) (k n : Nat) (x1 : Nat) (hk : k ≤ bc ∧ n ≤ bs) (h : rd_whole_8b N bc bs Q a0 r_8 M P L k n x1) : cq_V l (dG g L P) X (esX11_whole bc bs) cX11_whole 8 [(0, .ref a0), (1, .ref x1)] [] M k n (cd_finX g X (esX11_whole bc bs) cd_rA Q) := by
  unfold rd_whole_8b at h
  refine cq_aload_n 0 dX11_whole_8 rfl ?_
  refine cq_getR (dG_FR (k := 6) H.1.1.1 h.1 dCl_X11 (cx_lt rfl) rfl rfl) q1458 dX11_whole_9 ?_
  refine cd_letI h.2 (fun r1 h => ?_)
  refine cq_gets (dR_s4 H) q1393 dX11_whole_12 ?_
  refine cd_acmp_eq (rx := r1) (ry := (some ((N.2 9214)))) 32 h dX11_whole_15 rfl (fun h => ?_) (fun h => ?_)
  · refine cq_aload_n 1 dX11_whole_32 rfl ?_
    exact cd_toX (cd_aret (v := (some x1)) hk h rfl (Or.inl ⟨_, rfl⟩) dX11_whole_33)
  · refine cq_aload_n 0 dX11_whole_18 rfl ?_
    refine cq_aload_n 1 dX11_whole_19 rfl ?_
    obtain ⟨hmr, h⟩ := h
    refine cd_xV [.ref x1] [] (rd_clause_m H (N := N) (bc := bc - k) (bs := bs - n) M P L a0 x1 h) (dG_Rc H.1.1.1 hmr dCl_X11) dX11_whole_20 gd_X11_132 hgd_X11_132 ⟨cx_le rfl, cx_le rfl⟩ (cd_bud hk) rfl (cx_le rfl) rfl (fun _ _ _ _ _ _ _ he h => h.1 he) (fun M2 P3 L4 v5 r6 k7 n8 hk2 h => ?_)
    refine cd_addI (h.2 rfl) (cd_bk hk hk2) (fun k9 n10 h hk => ?_)
    refine cq_aload_n 0 dX11_whole_23 rfl ?_
    refine cq_ldcS (dR_k136 H) dX11_whole_24 ?_
    obtain ⟨hmr, h⟩ := h
    refine cd_xV [.ref (N.2 (1100000 + 1))] [] (rd_need_m H (N := N) (bc := bc - k9) (bs := bs - n10) M2 P3 L4 a0 1 (by decide) h) (dG_Rc H.1.1.1 hmr dCl_X11) dX11_whole_26 gd_X11_138 hgd_X11_138 ⟨cx_le rfl, cx_le rfl⟩ (cd_bud hk) rfl (cx_le rfl) rfl (fun _ _ _ _ _ _ _ he h => h.1 he) (fun M11 P12 L13 v14 r15 k16 n17 hk2 h => ?_)
    refine cd_addI (h.2 rfl) (cd_bk hk hk2) (fun k18 n19 h hk => ?_)
    refine cq_goto 8 dX11_whole_29 rfl ?_
    exact hr_8 M11 P12 L13 k18 n19 x1 hk h
def rd_whole_8 (N : dNt) (bc bs : Nat) (Q : cd_Qt) (a0 : Nat) : Nat → cx_M → dP → dL → Nat → Nat → Nat → Prop :=
  cx_fix (fun _ _ _ _ _ _ => False) (fun r_8 => rd_whole_8b N bc bs Q a0 r_8)
theorem rd_whole_8_v {l : Launch} {g : cx_G} {X : cx_X} {N : dNt} {bc bs : Nat} {Q : cd_Qt} {a0 : Nat} (H : dR l g N.2) (hX : True) : ∀ (f : Nat) (M : cx_M) (P : dP) (L : dL) (k n : Nat) (x1 : Nat), (k ≤ bc ∧ n ≤ bs) → rd_whole_8 N bc bs Q a0 f M P L k n x1 → cq_V l (dG g L P) X (esX11_whole bc bs) cX11_whole 8 [(0, .ref a0), (1, .ref x1)] [] M k n (cd_finX g X (esX11_whole bc bs) cd_rA Q) :=
  cx_fixI (fun (r : cx_M → dP → dL → Nat → Nat → Nat → Prop) => ∀ (M : cx_M) (P : dP) (L : dL) (k n : Nat) (x1 : Nat), (k ≤ bc ∧ n ≤ bs) → r M P L k n x1 → cq_V l (dG g L P) X (esX11_whole bc bs) cX11_whole 8 [(0, .ref a0), (1, .ref x1)] [] M k n (cd_finX g X (esX11_whole bc bs) cd_rA Q)) (fun _ _ _ _ _ _ _ h => by cases h) (fun r hr M P L k n x1 hk h => rd_whole_8b_v H hX hr M P L k n x1 hk h)
def rd_whole_0 (N : dNt) (bc bs : Nat) (Q : cd_Qt) (a0 : Nat) (M : cx_M) (P : dP) (L : dL) (k n : Nat) : Prop :=
  cd_new bc bs k n 11 (0, 7, 0) M P L fun a1 M2 P3 L4 k5 n6 =>
  rLn_init N (bc - k5) (bs - n6) M2 P3 L4 a1 (fun M7 P8 L9 v10 r11 e9 k12 n13 => e9 = 0 → cd_add k5 k12 n6 n13 fun k14 n15 =>
  rd_whole_8 N bc bs Q a0 N.1 M7 P8 L9 k14 n15 a1)
set_option maxRecDepth 100000 in
theorem rd_whole_0_v {l : Launch} {g : cx_G} {X : cx_X} {N : dNt} {bc bs : Nat} {Q : cd_Qt} {a0 : Nat} (H : dR l g N.2) (hX : True) (M : cx_M) (P : dP) (L : dL) (k n : Nat) (hk : k ≤ bc ∧ n ≤ bs) (h : rd_whole_0 N bc bs Q a0 M P L k n) : cq_V l (dG g L P) X (esX11_whole bc bs) cX11_whole 0 [(0, .ref a0)] [] M k n (cd_finX g X (esX11_whole bc bs) cd_rA Q) := by
  unfold rd_whole_0 at h
  refine cd_newO H.1.1.1 h ⟨rfl, rfl⟩ dCl_X2 dDf_X2 q1484 q179 q117 dX11_whole_0 (fun a1 M2 P3 L4 k5 n6 h hk => ?_)
  refine cq_dup dX11_whole_3 rfl ?_
  refine cd_cIN [] [.ref a1] (rLn_init_m H (N := N) (bc := bc - k5) (bs := bs - n6) M2 P3 L4 a1 h) dX11_whole_4 gd_X11_131 rfl q117 q1485 q181 rfl hgd_X11_131 ⟨cx_le rfl, cx_le rfl⟩ (cd_bud hk) rfl (cx_le rfl) (fun M7 P8 L9 v10 r11 k12 n13 hk2 h => ?_)
  refine cd_addI (h rfl) (cd_bk hk hk2) (fun k14 n15 h hk => ?_)
  refine cq_astore_n [(1, .ref a1), (0, .ref a0)] dX11_whole_7 (cx_lt rfl) rfl ?_
  refine cq_sub (lv' := [(0, .ref a0), (1, .ref a1)]) [1, 0] rfl ?_
  exact rd_whole_8_v H hX N.1 M7 P8 L9 k14 n15 a1 hk h
def rd_whole (N : dNt) (bc bs : Nat) (M : cx_M) (P : dP) (L : dL) (a0 : Nat) (Q : cd_Qt) : Prop := rd_whole_0 N bc bs Q a0 M P L 0 0
set_option maxRecDepth 100000 in
theorem rd_whole_m {l : Launch} {g : cx_G} {N : dNt} {bc bs : Nat} {Q : cd_Qt} (H : dR l g N.2) (M : cx_M) (P : dP) (L : dL) (a0 : Nat) (h : rd_whole N bc bs M P L a0 Q) : cd_MetX l g yX11_whole cX11_whole (esX11_whole bc bs) cd_rA [.ref a0] M P L Q :=
  cd_metX (by decide +kernel) rfl rfl (lv := [(0, .ref a0)]) rfl (cx_le rfl) (fun X hX => cq_sub (lv' := [(0, .ref a0)]) [0] rfl (rd_whole_0_v H hX M P L 0 0 ⟨Nat.zero_le _, Nat.zero_le _⟩ h))

abbrev esX11_init (bc bs : Nat) : cx_S := (3, RX11, cx_rI, { frames := 7, cells := bc, slots := bs, locals := 173 }, none, false)
def rd_init_0 (N : dNt) (bc bs : Nat) (Q : cd_Qt) (a0 : Nat) (M : cx_M) (P : dP) (L : dL) (k n : Nat) (x2 : Int32) : Prop :=
  (a0, (0, 10, 0)) ∈ L ∧ cd_put P a0 7 (some ((N.2 (1100000 + 0)))) fun P1 =>
  cd_new bc bs k n 3 (0, 21, 0) M P1 L fun a2 M3 P4 L5 k6 n7 =>
  jBd_init_2D N.1 (bc - k6) (bs - n7) M3 P4 L5 a2 (fun M8 P9 L10 v11 r12 e9 k13 n14 => e9 = 0 → cd_add k6 k13 n7 n14 fun k15 n16 =>
  (a0, (0, 10, 0)) ∈ L10 ∧ cd_put P9 a0 8 (some a2) fun P17 =>
  (a0, (0, 10, 0)) ∈ L10 ∧ cd_put P17 a0 0 (some ((N.2 509))) fun P18 =>
  (a0, (0, 10, 0)) ∈ L10 ∧ cq_put M8 (dc a0) 1 x2 fun M19 =>
  (a0, (0, 10, 0)) ∈ L10 ∧
  rd_go N (bc - k15) (bs - n16) M19 P18 L10 a0 (fun M20 P21 L22 v23 r24 e9 k25 n26 => e9 = 0 → cd_add k15 k25 n16 n26 fun k27 n28 =>
  Q M20 P21 L22 0 none 0 k27 n28))
set_option maxRecDepth 100000 in
theorem rd_init_0_v {l : Launch} {g : cx_G} {X : cx_X} {N : dNt} {bc bs : Nat} {Q : cd_Qt} {a0 : Nat} (H : dR l g N.2) (hX : X.2.2.2.2.2.2.1.name = "<init>") (M : cx_M) (P : dP) (L : dL) (k n : Nat) (x2 : Int32) (hk : k ≤ bc ∧ n ≤ bs) (h : rd_init_0 N bc bs Q a0 M P L k n x2) : cq_V l (dG g L P) X (esX11_init bc bs) cX11_init 0 [(0, .ref a0), (1, .ref (N.2 509)), (2, .int x2)] [] M k n (cd_fin g X (esX11_init bc bs) cd_rV Q) := by
  unfold rd_init_0 at h
  refine cq_aload_n 0 dX11_init_0 rfl ?_
  refine cd_oinit q1379 q176 q177 dX11_init_1 (cx_le rfl) (cx_le rfl) ?_
  refine cq_aload_n 0 dX11_init_4 rfl ?_
  refine cq_ldcS (dR_k9 H) dX11_init_5 ?_
  refine cq_nd H.1.1.1 (fun hn => cd_putR (v := (some ((N.2 (1100000 + 0))))) H.1.1.1 hn h.1 h.2 dCl_X11 (cx_lt rfl) rfl rfl rfl cd_nfO rfl q1459 dX11_init_7 (fun P1 h => ?_))
  refine cq_aload_n 0 dX11_init_10 rfl ?_
  refine cd_newO H.1.1.1 h ⟨rfl, rfl⟩ dCl_J19 dDf_J19 q1381 q625 q142 dX11_init_11 (fun a2 M3 P4 L5 k6 n7 h hk => ?_)
  refine cq_dup dX11_init_14 rfl ?_
  refine cd_cI [] [.ref a2, .ref a0] (jBd_init_2D_m H.1.1 (N := N.1) (bc := bc - k6) (bs := bs - n7) M3 P4 L5 a2 h) dX11_init_15 gd_X11_19D rfl q142 q1382 q1383 rfl hgd_X11_19D ⟨cx_le rfl, cx_le rfl⟩ (cd_bud hk) rfl (cx_le rfl) (fun M8 P9 L10 v11 r12 k13 n14 hk2 h => ?_)
  refine cd_addI (h rfl) (cd_bk hk hk2) (fun k15 n16 h hk => ?_)
  refine cq_nd H.1.1.1 (fun hn => cd_putRF (v := (some a2)) hX rfl H.1.1.1 hn h.1 h.2 dCl_X11 (cx_lt rfl) rfl rfl rfl cd_nfO rfl q1460 dX11_init_18 (fun P17 h => ?_))
  refine cq_aload_n 0 dX11_init_21 rfl ?_
  refine cq_aload_n 1 dX11_init_22 rfl ?_
  refine cq_nd H.1.1.1 (fun hn => cd_putRF (v := (some ((N.2 509)))) hX rfl H.1.1.1 hn h.1 h.2 dCl_X11 (cx_lt rfl) rfl rfl rfl cd_nfA rfl q1452 dX11_init_23 (fun P18 h => ?_))
  refine cq_aload_n 0 dX11_init_26 rfl ?_
  refine cq_iload_n 2 dX11_init_27 rfl ?_
  refine cq_nd H.1.1.1 (fun hn => cd_putIF hX rfl h.2 (dG_FI H.1.1.1 hn h.1 dCl_X11 (cx_lt rfl) rfl rfl rfl) rfl rfl rfl q1453 dX11_init_28 (fun M19 h => ?_))
  refine cq_aload_n 0 dX11_init_31 rfl ?_
  obtain ⟨hmr, h⟩ := h
  refine cd_cV [] [] (rd_go_m H (N := N) (bc := bc - k15) (bs := bs - n16) M19 P18 L10 a0 h) (dG_Rc H.1.1.1 hmr dCl_X11) dX11_init_32 gd_X11_32 hgd_X11_32 ⟨cx_le rfl, cx_le rfl⟩ (cd_bud hk) rfl (cx_le rfl) (fun M20 P21 L22 v23 r24 k25 n26 hk2 h => ?_)
  refine cd_addI (h rfl) (cd_bk hk hk2) (fun k27 n28 h hk => ?_)
  exact cd_vret hk h rfl dX11_init_35
def rd_init (N : dNt) (bc bs : Nat) (M : cx_M) (P : dP) (L : dL) (a0 : Nat) (x2 : Int32) (Q : cd_Qt) : Prop := rd_init_0 N bc bs Q a0 M P L 0 0 x2
set_option maxRecDepth 100000 in
theorem rd_init_m {l : Launch} {g : cx_G} {N : dNt} {bc bs : Nat} {Q : cd_Qt} (H : dR l g N.2) (M : cx_M) (P : dP) (L : dL) (a0 : Nat) (x2 : Int32) (h : rd_init N bc bs M P L a0 x2 Q) : cd_Met l g yX11_init cX11_init (esX11_init bc bs) cd_rV [.ref a0, .ref (N.2 509), .int x2] M P L Q :=
  cd_met (by decide +kernel) rfl rfl (lv := [(0, .ref a0), (1, .ref (N.2 509)), (2, .int x2)]) rfl (cx_le rfl) (fun X hX => cq_sub (lv' := [(0, .ref a0), (1, .ref (N.2 509)), (2, .int x2)]) [0, 1, 2] rfl (rd_init_0_v H hX M P L 0 0 x2 ⟨Nat.zero_le _, Nat.zero_le _⟩ h))
