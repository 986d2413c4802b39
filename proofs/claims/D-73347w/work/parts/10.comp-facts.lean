theorem cx_nI_2 : Int32.ofNat 2 = 2 := by decide +kernel
theorem cx_ic_m8 : Int32.ofInt (-8) = (-8) := by decide +kernel
theorem cx_sp_512 : (Int16.ofInt 512).toInt32 = 512 := by decide +kernel
theorem cx_sp_256 : (Int16.ofInt 256).toInt32 = 256 := by decide +kernel
theorem cx_ne_256 : ¬ (256 : Int32) = 0 := by decide +kernel
theorem cx_ic_m64 : Int32.ofInt (-64) = (-64) := by decide +kernel
theorem cx_sp_999 : (Int16.ofInt 999).toInt32 = 999 := by decide +kernel
theorem cx_bp_63 : (Int8.ofInt 63).toInt32 = 63 := by decide +kernel
theorem cx_bp_50 : (Int8.ofInt 50).toInt32 = 50 := by decide +kernel
/-! THE CLASS'S WORLDS: cells: a State instance from its base on, the line 8000.., its view's row 8011, its words 8001 (how many: 8002), the course 9000.. -/
/-- fuel; what the line's two rules tell of a view; what is looked at, waited for, by numbers -/
abbrev cx_N : Type := Nat × (Nat → (Nat → Int32) → Int32) × (Nat → Nat → cx_M → Option cx_R) × (Nat → Nat → cx_M → Int32 → Option cx_R)
/-! the facts -/
def jBs_H (g : cx_G) (adr : Nat → Nat) (b : Nat) : Prop :=
  cx_Rc g (adr b) RJ19 ∧
  cx_FR g 0 (adr b) ("java/util/BitSet", "words", "[J", false) (.ref (adr (b + 1))) ∧
  cx_LI g (b + 1) 2 (adr (b + 1)) ∧
  cx_FI g b 1 (adr b) ("java/util/BitSet", "wordsInUse", "I", false) .int ∧
  cx_FI g b 2 (adr b) ("java/util/BitSet", "sizeIsSticky", "Z", false) .boolean
theorem jBs_rc {g : cx_G} {adr : Nat → Nat} {b : Nat} (H : jBs_H g adr b) : cx_Rc g (adr b) RJ19 := H.1
theorem jBs_R0 {g : cx_G} {adr : Nat → Nat} {b : Nat} (H : jBs_H g adr b) : cx_FR g 0 (adr b) ("java/util/BitSet", "words", "[J", false) (.ref (adr (b + 1))) := H.2.1
theorem jBs_L0 {g : cx_G} {adr : Nat → Nat} {b : Nat} (H : jBs_H g adr b) : cx_LI g (b + 1) 2 (adr (b + 1)) := H.2.2.1
theorem jBs_F1 {g : cx_G} {adr : Nat → Nat} {b : Nat} (H : jBs_H g adr b) : cx_FI g b 1 (adr b) ("java/util/BitSet", "wordsInUse", "I", false) .int := H.2.2.2.1
theorem jBs_F2 {g : cx_G} {adr : Nat → Nat} {b : Nat} (H : jBs_H g adr b) : cx_FI g b 2 (adr b) ("java/util/BitSet", "sizeIsSticky", "Z", false) .boolean := H.2.2.2.2
def cSt_H (g : cx_G) (adr : Nat → Nat) (b : Nat) : Prop :=
  cx_Rc g (adr b) RX6 ∧
  cx_FI g b 0 (adr b) ("CircuitCells$State", "time", "I", false) .int ∧
  cx_FI g b 1 (adr b) ("CircuitCells$State", "made", "I", false) .int ∧
  cx_FI g b 2 (adr b) ("CircuitCells$State", "sent", "I", false) .int ∧
  cx_FI g b 3 (adr b) ("CircuitCells$State", "lost", "I", false) .int ∧
  cx_FI g b 4 (adr b) ("CircuitCells$State", "late", "I", false) .int ∧
  cx_FI g b 5 (adr b) ("CircuitCells$State", "beyond", "I", false) .int ∧
  cx_FI g b 6 (adr b) ("CircuitCells$State", "played", "I", false) .int ∧
  cx_FI g b 7 (adr b) ("CircuitCells$State", "filled", "I", false) .int ∧
  cx_FI g b 8 (adr b) ("CircuitCells$State", "phase", "I", false) .int ∧
  cx_FI g b 9 (adr b) ("CircuitCells$State", "farPhase", "I", false) .int ∧
  cx_FI g b 10 (adr b) ("CircuitCells$State", "nearPhase", "I", false) .int ∧
  cx_FI g b 11 (adr b) ("CircuitCells$State", "integral", "I", false) .int ∧
  cx_FI g b 12 (adr b) ("CircuitCells$State", "control", "I", false) .int ∧
  cx_FI g b 13 (adr b) ("CircuitCells$State", "error", "I", false) .int ∧
  cx_FI g b 14 (adr b) ("CircuitCells$State", "place", "I", false) .int ∧
  cx_FI g b 15 (adr b) ("CircuitCells$State", "firstPlace", "I", false) .int ∧
  cx_FI g b 16 (adr b) ("CircuitCells$State", "firstPacket", "I", false) .int ∧
  cx_FI g b 17 (adr b) ("CircuitCells$State", "highest", "I", false) .int ∧
  cx_FI g b 18 (adr b) ("CircuitCells$State", "stamp", "I", false) .int ∧
  cx_FI g b 19 (adr b) ("CircuitCells$State", "age", "I", false) .int ∧
  cx_FI g b 20 (adr b) ("CircuitCells$State", "spread", "I", false) .int ∧
  cx_FI g b 21 (adr b) ("CircuitCells$State", "row", "I", false) .int ∧
  cx_FI g b 22 (adr b) ("CircuitCells$State", "resets", "I", false) .int ∧
  cx_FI g b 23 (adr b) ("CircuitCells$State", "wrong", "I", false) .int ∧
  cx_FI g b 24 (adr b) ("CircuitCells$State", "samples", "I", false) .int ∧
  cx_FI g b 25 (adr b) ("CircuitCells$State", "lastDelay", "I", false) .int ∧
  cx_FI g b 26 (adr b) ("CircuitCells$State", "losses", "I", false) .int ∧
  cx_FI g b 27 (adr b) ("CircuitCells$State", "stall", "I", false) .int ∧
  cx_FI g b 28 (adr b) ("CircuitCells$State", "offset", "I", false) .int ∧
  cx_FI g b 29 (adr b) ("CircuitCells$State", "fill", "I", false) .int ∧
  cx_FI g b 30 (adr b) ("CircuitCells$State", "target", "I", false) .int ∧
  cx_FI g b 31 (adr b) ("CircuitCells$State", "gainP", "I", false) .int ∧
  cx_FI g b 32 (adr b) ("CircuitCells$State", "gainI", "I", false) .int ∧
  cx_FI g b 33 (adr b) ("CircuitCells$State", "flying", "I", false) .int ∧
  cx_FR g 34 (adr b) ("CircuitCells$State", "packet", "[I", true) (.ref (adr (b + 35))) ∧
  cx_AI g (b + 35) 40 (adr (b + 35)) 0 .int ∧
  cx_FR g 35 (adr b) ("CircuitCells$State", "due", "[I", true) (.ref (adr (b + 36))) ∧
  cx_AI g (b + 36) 40 (adr (b + 36)) 0 .int ∧
  cx_FR g 36 (adr b) ("CircuitCells$State", "stamped", "[I", true) (.ref (adr (b + 37))) ∧
  cx_AI g (b + 37) 40 (adr (b + 37)) 0 .int ∧
  cx_FR g 37 (adr b) ("CircuitCells$State", "spot", "[I", true) (.ref (adr (b + 38))) ∧
  cx_AI g (b + 38) 64 (adr (b + 38)) 0 .int ∧
  cx_FR g 38 (adr b) ("CircuitCells$State", "lies", "[I", true) (.ref (adr (b + 39))) ∧
  cx_AI g (b + 39) 64 (adr (b + 39)) 0 .int ∧
  cx_FR g 39 (adr b) ("CircuitCells$State", "octet", "[I", true) (.ref (adr (b + 40))) ∧
  cx_AI g (b + 40) 128 (adr (b + 40)) 0 .int ∧
  cx_FR g 40 (adr b) ("CircuitCells$State", "sample", "[I", true) (.ref (adr (b + 41))) ∧
  cx_AI g (b + 41) 128 (adr (b + 41)) 0 .int ∧
  cx_FR g 41 (adr b) ("CircuitCells$State", "lacking", "Ljava/util/BitSet;", true) (.ref (adr (b + 42))) ∧
  jBs_H g adr (b + 42) ∧
  cx_FI g b 42 (adr b) ("CircuitCells$State", "hasDropped", "Z", false) .boolean ∧
  cx_FI g b 43 (adr b) ("CircuitCells$State", "stormy", "I", false) .int ∧
  cx_FI g b 44 (adr b) ("CircuitCells$State", "storm", "I", false) .int ∧
  cx_FO g b 45 (adr b) ("CircuitCells$State", "course", "LCircuitCells$Course;", false) (adr 9000) ∧
  b ∈ cSt_all
theorem cSt_rc {g : cx_G} {adr : Nat → Nat} {b : Nat} (H : cSt_H g adr b) : cx_Rc g (adr b) RX6 := H.1
theorem cSt_F0 {g : cx_G} {adr : Nat → Nat} {b : Nat} (H : cSt_H g adr b) : cx_FI g b 0 (adr b) ("CircuitCells$State", "time", "I", false) .int := H.2.1
theorem cSt_F1 {g : cx_G} {adr : Nat → Nat} {b : Nat} (H : cSt_H g adr b) : cx_FI g b 1 (adr b) ("CircuitCells$State", "made", "I", false) .int := H.2.2.1
theorem cSt_F2 {g : cx_G} {adr : Nat → Nat} {b : Nat} (H : cSt_H g adr b) : cx_FI g b 2 (adr b) ("CircuitCells$State", "sent", "I", false) .int := H.2.2.2.1
theorem cSt_F3 {g : cx_G} {adr : Nat → Nat} {b : Nat} (H : cSt_H g adr b) : cx_FI g b 3 (adr b) ("CircuitCells$State", "lost", "I", false) .int := H.2.2.2.2.1
theorem cSt_F4 {g : cx_G} {adr : Nat → Nat} {b : Nat} (H : cSt_H g adr b) : cx_FI g b 4 (adr b) ("CircuitCells$State", "late", "I", false) .int := H.2.2.2.2.2.1
theorem cSt_F5 {g : cx_G} {adr : Nat → Nat} {b : Nat} (H : cSt_H g adr b) : cx_FI g b 5 (adr b) ("CircuitCells$State", "beyond", "I", false) .int := H.2.2.2.2.2.2.1
theorem cSt_F6 {g : cx_G} {adr : Nat → Nat} {b : Nat} (H : cSt_H g adr b) : cx_FI g b 6 (adr b) ("CircuitCells$State", "played", "I", false) .int := H.2.2.2.2.2.2.2.1
theorem cSt_F7 {g : cx_G} {adr : Nat → Nat} {b : Nat} (H : cSt_H g adr b) : cx_FI g b 7 (adr b) ("CircuitCells$State", "filled", "I", false) .int := H.2.2.2.2.2.2.2.2.1
theorem cSt_F8 {g : cx_G} {adr : Nat → Nat} {b : Nat} (H : cSt_H g adr b) : cx_FI g b 8 (adr b) ("CircuitCells$State", "phase", "I", false) .int := H.2.2.2.2.2.2.2.2.2.1
theorem cSt_F9 {g : cx_G} {adr : Nat → Nat} {b : Nat} (H : cSt_H g adr b) : cx_FI g b 9 (adr b) ("CircuitCells$State", "farPhase", "I", false) .int := H.2.2.2.2.2.2.2.2.2.2.1
theorem cSt_F10 {g : cx_G} {adr : Nat → Nat} {b : Nat} (H : cSt_H g adr b) : cx_FI g b 10 (adr b) ("CircuitCells$State", "nearPhase", "I", false) .int := H.2.2.2.2.2.2.2.2.2.2.2.1
theorem cSt_F11 {g : cx_G} {adr : Nat → Nat} {b : Nat} (H : cSt_H g adr b) : cx_FI g b 11 (adr b) ("CircuitCells$State", "integral", "I", false) .int := H.2.2.2.2.2.2.2.2.2.2.2.2.1
theorem cSt_F12 {g : cx_G} {adr : Nat → Nat} {b : Nat} (H : cSt_H g adr b) : cx_FI g b 12 (adr b) ("CircuitCells$State", "control", "I", false) .int := H.2.2.2.2.2.2.2.2.2.2.2.2.2.1
theorem cSt_F13 {g : cx_G} {adr : Nat → Nat} {b : Nat} (H : cSt_H g adr b) : cx_FI g b 13 (adr b) ("CircuitCells$State", "error", "I", false) .int := H.2.2.2.2.2.2.2.2.2.2.2.2.2.2.1
theorem cSt_F14 {g : cx_G} {adr : Nat → Nat} {b : Nat} (H : cSt_H g adr b) : cx_FI g b 14 (adr b) ("CircuitCells$State", "place", "I", false) .int := H.2.2.2.2.2.2.2.2.2.2.2.2.2.2.2.1
theorem cSt_F15 {g : cx_G} {adr : Nat → Nat} {b : Nat} (H : cSt_H g adr b) : cx_FI g b 15 (adr b) ("CircuitCells$State", "firstPlace", "I", false) .int := H.2.2.2.2.2.2.2.2.2.2.2.2.2.2.2.2.1
theorem cSt_F16 {g : cx_G} {adr : Nat → Nat} {b : Nat} (H : cSt_H g adr b) : cx_FI g b 16 (adr b) ("CircuitCells$State", "firstPacket", "I", false) .int := H.2.2.2.2.2.2.2.2.2.2.2.2.2.2.2.2.2.1
theorem cSt_F17 {g : cx_G} {adr : Nat → Nat} {b : Nat} (H : cSt_H g adr b) : cx_FI g b 17 (adr b) ("CircuitCells$State", "highest", "I", false) .int := H.2.2.2.2.2.2.2.2.2.2.2.2.2.2.2.2.2.2.1
theorem cSt_F18 {g : cx_G} {adr : Nat → Nat} {b : Nat} (H : cSt_H g adr b) : cx_FI g b 18 (adr b) ("CircuitCells$State", "stamp", "I", false) .int := H.2.2.2.2.2.2.2.2.2.2.2.2.2.2.2.2.2.2.2.1
theorem cSt_F19 {g : cx_G} {adr : Nat → Nat} {b : Nat} (H : cSt_H g adr b) : cx_FI g b 19 (adr b) ("CircuitCells$State", "age", "I", false) .int := H.2.2.2.2.2.2.2.2.2.2.2.2.2.2.2.2.2.2.2.2.1
theorem cSt_F20 {g : cx_G} {adr : Nat → Nat} {b : Nat} (H : cSt_H g adr b) : cx_FI g b 20 (adr b) ("CircuitCells$State", "spread", "I", false) .int := H.2.2.2.2.2.2.2.2.2.2.2.2.2.2.2.2.2.2.2.2.2.1
theorem cSt_F21 {g : cx_G} {adr : Nat → Nat} {b : Nat} (H : cSt_H g adr b) : cx_FI g b 21 (adr b) ("CircuitCells$State", "row", "I", false) .int := H.2.2.2.2.2.2.2.2.2.2.2.2.2.2.2.2.2.2.2.2.2.2.1
theorem cSt_F22 {g : cx_G} {adr : Nat → Nat} {b : Nat} (H : cSt_H g adr b) : cx_FI g b 22 (adr b) ("CircuitCells$State", "resets", "I", false) .int := H.2.2.2.2.2.2.2.2.2.2.2.2.2.2.2.2.2.2.2.2.2.2.2.1
theorem cSt_F23 {g : cx_G} {adr : Nat → Nat} {b : Nat} (H : cSt_H g adr b) : cx_FI g b 23 (adr b) ("CircuitCells$State", "wrong", "I", false) .int := H.2.2.2.2.2.2.2.2.2.2.2.2.2.2.2.2.2.2.2.2.2.2.2.2.1
theorem cSt_F24 {g : cx_G} {adr : Nat → Nat} {b : Nat} (H : cSt_H g adr b) : cx_FI g b 24 (adr b) ("CircuitCells$State", "samples", "I", false) .int := H.2.2.2.2.2.2.2.2.2.2.2.2.2.2.2.2.2.2.2.2.2.2.2.2.2.1
theorem cSt_F25 {g : cx_G} {adr : Nat → Nat} {b : Nat} (H : cSt_H g adr b) : cx_FI g b 25 (adr b) ("CircuitCells$State", "lastDelay", "I", false) .int := H.2.2.2.2.2.2.2.2.2.2.2.2.2.2.2.2.2.2.2.2.2.2.2.2.2.2.1
theorem cSt_F26 {g : cx_G} {adr : Nat → Nat} {b : Nat} (H : cSt_H g adr b) : cx_FI g b 26 (adr b) ("CircuitCells$State", "losses", "I", false) .int := H.2.2.2.2.2.2.2.2.2.2.2.2.2.2.2.2.2.2.2.2.2.2.2.2.2.2.2.1
theorem cSt_F27 {g : cx_G} {adr : Nat → Nat} {b : Nat} (H : cSt_H g adr b) : cx_FI g b 27 (adr b) ("CircuitCells$State", "stall", "I", false) .int := H.2.2.2.2.2.2.2.2.2.2.2.2.2.2.2.2.2.2.2.2.2.2.2.2.2.2.2.2.1
theorem cSt_F28 {g : cx_G} {adr : Nat → Nat} {b : Nat} (H : cSt_H g adr b) : cx_FI g b 28 (adr b) ("CircuitCells$State", "offset", "I", false) .int := H.2.2.2.2.2.2.2.2.2.2.2.2.2.2.2.2.2.2.2.2.2.2.2.2.2.2.2.2.2.1
theorem cSt_F29 {g : cx_G} {adr : Nat → Nat} {b : Nat} (H : cSt_H g adr b) : cx_FI g b 29 (adr b) ("CircuitCells$State", "fill", "I", false) .int := H.2.2.2.2.2.2.2.2.2.2.2.2.2.2.2.2.2.2.2.2.2.2.2.2.2.2.2.2.2.2.1
theorem cSt_F30 {g : cx_G} {adr : Nat → Nat} {b : Nat} (H : cSt_H g adr b) : cx_FI g b 30 (adr b) ("CircuitCells$State", "target", "I", false) .int := H.2.2.2.2.2.2.2.2.2.2.2.2.2.2.2.2.2.2.2.2.2.2.2.2.2.2.2.2.2.2.2.1
theorem cSt_F31 {g : cx_G} {adr : Nat → Nat} {b : Nat} (H : cSt_H g adr b) : cx_FI g b 31 (adr b) ("CircuitCells$State", "gainP", "I", false) .int := H.2.2.2.2.2.2.2.2.2.2.2.2.2.2.2.2.2.2.2.2.2.2.2.2.2.2.2.2.2.2.2.2.1
theorem cSt_F32 {g : cx_G} {adr : Nat → Nat} {b : Nat} (H : cSt_H g adr b) : cx_FI g b 32 (adr b) ("CircuitCells$State", "gainI", "I", false) .int := H.2.2.2.2.2.2.2.2.2.2.2.2.2.2.2.2.2.2.2.2.2.2.2.2.2.2.2.2.2.2.2.2.2.1
theorem cSt_F33 {g : cx_G} {adr : Nat → Nat} {b : Nat} (H : cSt_H g adr b) : cx_FI g b 33 (adr b) ("CircuitCells$State", "flying", "I", false) .int := H.2.2.2.2.2.2.2.2.2.2.2.2.2.2.2.2.2.2.2.2.2.2.2.2.2.2.2.2.2.2.2.2.2.2.1
theorem cSt_R34 {g : cx_G} {adr : Nat → Nat} {b : Nat} (H : cSt_H g adr b) : cx_FR g 34 (adr b) ("CircuitCells$State", "packet", "[I", true) (.ref (adr (b + 35))) := H.2.2.2.2.2.2.2.2.2.2.2.2.2.2.2.2.2.2.2.2.2.2.2.2.2.2.2.2.2.2.2.2.2.2.2.1
theorem cSt_A34 {g : cx_G} {adr : Nat → Nat} {b : Nat} (H : cSt_H g adr b) : cx_AI g (b + 35) 40 (adr (b + 35)) 0 .int := H.2.2.2.2.2.2.2.2.2.2.2.2.2.2.2.2.2.2.2.2.2.2.2.2.2.2.2.2.2.2.2.2.2.2.2.2.1
theorem cSt_R35 {g : cx_G} {adr : Nat → Nat} {b : Nat} (H : cSt_H g adr b) : cx_FR g 35 (adr b) ("CircuitCells$State", "due", "[I", true) (.ref (adr (b + 36))) := H.2.2.2.2.2.2.2.2.2.2.2.2.2.2.2.2.2.2.2.2.2.2.2.2.2.2.2.2.2.2.2.2.2.2.2.2.2.1
theorem cSt_A35 {g : cx_G} {adr : Nat → Nat} {b : Nat} (H : cSt_H g adr b) : cx_AI g (b + 36) 40 (adr (b + 36)) 0 .int := H.2.2.2.2.2.2.2.2.2.2.2.2.2.2.2.2.2.2.2.2.2.2.2.2.2.2.2.2.2.2.2.2.2.2.2.2.2.2.1
theorem cSt_R36 {g : cx_G} {adr : Nat → Nat} {b : Nat} (H : cSt_H g adr b) : cx_FR g 36 (adr b) ("CircuitCells$State", "stamped", "[I", true) (.ref (adr (b + 37))) := H.2.2.2.2.2.2.2.2.2.2.2.2.2.2.2.2.2.2.2.2.2.2.2.2.2.2.2.2.2.2.2.2.2.2.2.2.2.2.2.1
theorem cSt_A36 {g : cx_G} {adr : Nat → Nat} {b : Nat} (H : cSt_H g adr b) : cx_AI g (b + 37) 40 (adr (b + 37)) 0 .int := H.2.2.2.2.2.2.2.2.2.2.2.2.2.2.2.2.2.2.2.2.2.2.2.2.2.2.2.2.2.2.2.2.2.2.2.2.2.2.2.2.1
theorem cSt_R37 {g : cx_G} {adr : Nat → Nat} {b : Nat} (H : cSt_H g adr b) : cx_FR g 37 (adr b) ("CircuitCells$State", "spot", "[I", true) (.ref (adr (b + 38))) := H.2.2.2.2.2.2.2.2.2.2.2.2.2.2.2.2.2.2.2.2.2.2.2.2.2.2.2.2.2.2.2.2.2.2.2.2.2.2.2.2.2.1
theorem cSt_A37 {g : cx_G} {adr : Nat → Nat} {b : Nat} (H : cSt_H g adr b) : cx_AI g (b + 38) 64 (adr (b + 38)) 0 .int := H.2.2.2.2.2.2.2.2.2.2.2.2.2.2.2.2.2.2.2.2.2.2.2.2.2.2.2.2.2.2.2.2.2.2.2.2.2.2.2.2.2.2.1
theorem cSt_R38 {g : cx_G} {adr : Nat → Nat} {b : Nat} (H : cSt_H g adr b) : cx_FR g 38 (adr b) ("CircuitCells$State", "lies", "[I", true) (.ref (adr (b + 39))) := H.2.2.2.2.2.2.2.2.2.2.2.2.2.2.2.2.2.2.2.2.2.2.2.2.2.2.2.2.2.2.2.2.2.2.2.2.2.2.2.2.2.2.2.1
theorem cSt_A38 {g : cx_G} {adr : Nat → Nat} {b : Nat} (H : cSt_H g adr b) : cx_AI g (b + 39) 64 (adr (b + 39)) 0 .int := H.2.2.2.2.2.2.2.2.2.2.2.2.2.2.2.2.2.2.2.2.2.2.2.2.2.2.2.2.2.2.2.2.2.2.2.2.2.2.2.2.2.2.2.2.1
theorem cSt_R39 {g : cx_G} {adr : Nat → Nat} {b : Nat} (H : cSt_H g adr b) : cx_FR g 39 (adr b) ("CircuitCells$State", "octet", "[I", true) (.ref (adr (b + 40))) := H.2.2.2.2.2.2.2.2.2.2.2.2.2.2.2.2.2.2.2.2.2.2.2.2.2.2.2.2.2.2.2.2.2.2.2.2.2.2.2.2.2.2.2.2.2.1
theorem cSt_A39 {g : cx_G} {adr : Nat → Nat} {b : Nat} (H : cSt_H g adr b) : cx_AI g (b + 40) 128 (adr (b + 40)) 0 .int := H.2.2.2.2.2.2.2.2.2.2.2.2.2.2.2.2.2.2.2.2.2.2.2.2.2.2.2.2.2.2.2.2.2.2.2.2.2.2.2.2.2.2.2.2.2.2.1
theorem cSt_R40 {g : cx_G} {adr : Nat → Nat} {b : Nat} (H : cSt_H g adr b) : cx_FR g 40 (adr b) ("CircuitCells$State", "sample", "[I", true) (.ref (adr (b + 41))) := H.2.2.2.2.2.2.2.2.2.2.2.2.2.2.2.2.2.2.2.2.2.2.2.2.2.2.2.2.2.2.2.2.2.2.2.2.2.2.2.2.2.2.2.2.2.2.2.1
theorem cSt_A40 {g : cx_G} {adr : Nat → Nat} {b : Nat} (H : cSt_H g adr b) : cx_AI g (b + 41) 128 (adr (b + 41)) 0 .int := H.2.2.2.2.2.2.2.2.2.2.2.2.2.2.2.2.2.2.2.2.2.2.2.2.2.2.2.2.2.2.2.2.2.2.2.2.2.2.2.2.2.2.2.2.2.2.2.2.1
theorem cSt_R41 {g : cx_G} {adr : Nat → Nat} {b : Nat} (H : cSt_H g adr b) : cx_FR g 41 (adr b) ("CircuitCells$State", "lacking", "Ljava/util/BitSet;", true) (.ref (adr (b + 42))) := H.2.2.2.2.2.2.2.2.2.2.2.2.2.2.2.2.2.2.2.2.2.2.2.2.2.2.2.2.2.2.2.2.2.2.2.2.2.2.2.2.2.2.2.2.2.2.2.2.2.1
theorem cSt_B41 {g : cx_G} {adr : Nat → Nat} {b : Nat} (H : cSt_H g adr b) : jBs_H g adr (b + 42) := H.2.2.2.2.2.2.2.2.2.2.2.2.2.2.2.2.2.2.2.2.2.2.2.2.2.2.2.2.2.2.2.2.2.2.2.2.2.2.2.2.2.2.2.2.2.2.2.2.2.2.1
theorem cSt_F42 {g : cx_G} {adr : Nat → Nat} {b : Nat} (H : cSt_H g adr b) : cx_FI g b 42 (adr b) ("CircuitCells$State", "hasDropped", "Z", false) .boolean := H.2.2.2.2.2.2.2.2.2.2.2.2.2.2.2.2.2.2.2.2.2.2.2.2.2.2.2.2.2.2.2.2.2.2.2.2.2.2.2.2.2.2.2.2.2.2.2.2.2.2.2.1
theorem cSt_F43 {g : cx_G} {adr : Nat → Nat} {b : Nat} (H : cSt_H g adr b) : cx_FI g b 43 (adr b) ("CircuitCells$State", "stormy", "I", false) .int := H.2.2.2.2.2.2.2.2.2.2.2.2.2.2.2.2.2.2.2.2.2.2.2.2.2.2.2.2.2.2.2.2.2.2.2.2.2.2.2.2.2.2.2.2.2.2.2.2.2.2.2.2.1
theorem cSt_F44 {g : cx_G} {adr : Nat → Nat} {b : Nat} (H : cSt_H g adr b) : cx_FI g b 44 (adr b) ("CircuitCells$State", "storm", "I", false) .int := H.2.2.2.2.2.2.2.2.2.2.2.2.2.2.2.2.2.2.2.2.2.2.2.2.2.2.2.2.2.2.2.2.2.2.2.2.2.2.2.2.2.2.2.2.2.2.2.2.2.2.2.2.2.1
theorem cSt_O45 {g : cx_G} {adr : Nat → Nat} {b : Nat} (H : cSt_H g adr b) : cx_FO g b 45 (adr b) ("CircuitCells$State", "course", "LCircuitCells$Course;", false) (adr 9000) := H.2.2.2.2.2.2.2.2.2.2.2.2.2.2.2.2.2.2.2.2.2.2.2.2.2.2.2.2.2.2.2.2.2.2.2.2.2.2.2.2.2.2.2.2.2.2.2.2.2.2.2.2.2.2.1
theorem cSt_b {g : cx_G} {adr : Nat → Nat} {b : Nat} (H : cSt_H g adr b) : b ∈ cSt_all := H.2.2.2.2.2.2.2.2.2.2.2.2.2.2.2.2.2.2.2.2.2.2.2.2.2.2.2.2.2.2.2.2.2.2.2.2.2.2.2.2.2.2.2.2.2.2.2.2.2.2.2.2.2.2.2
def cLn_H (g : cx_G) (adr : Nat → Nat) : Prop :=
  cx_Rc g (adr 8000) RX2 ∧
  cx_FI g 8000 0 (adr 8000) ("CircuitCells$Line", "size", "I", false) .int ∧
  cx_FI g 8000 1 (adr 8000) ("CircuitCells$Line", "target", "I", false) .int ∧
  cx_FI g 8000 2 (adr 8000) ("CircuitCells$Line", "gainP", "I", false) .int ∧
  cx_FI g 8000 3 (adr 8000) ("CircuitCells$Line", "gainI", "I", false) .int ∧
  cx_FI g 8000 4 (adr 8000) ("CircuitCells$Line", "every", "I", false) .int ∧
  cx_FI g 8000 5 (adr 8000) ("CircuitCells$Line", "offset", "I", false) .int ∧
  cx_FI g 8000 6 (adr 8000) ("CircuitCells$Line", "frame", "I", false) .int ∧
  cx_FR g 7 (adr 8000) ("CircuitCells$Line", "word", "Ljava/util/ArrayList;", true) (.ref (adr 8001)) ∧
  cx_FO g 8000 8 (adr 8000) ("CircuitCells$Line", "delay", "LCircuitCells$Expr;", false) (adr 8020) ∧
  cx_FO g 8000 9 (adr 8000) ("CircuitCells$Line", "lost", "LCircuitCells$Expr;", false) (adr 8021) ∧
  cx_FR g 10 (adr 8000) ("CircuitCells$Line", "view", "LCircuitCells$View;", true) (.ref (adr 8010))
theorem cLn_rc0 {g : cx_G} {adr : Nat → Nat} (H : cLn_H g adr) : cx_Rc g (adr 8000) RX2 := H.1
theorem cLn_F00 {g : cx_G} {adr : Nat → Nat} (H : cLn_H g adr) : cx_FI g 8000 0 (adr 8000) ("CircuitCells$Line", "size", "I", false) .int := H.2.1
theorem cLn_F10 {g : cx_G} {adr : Nat → Nat} (H : cLn_H g adr) : cx_FI g 8000 1 (adr 8000) ("CircuitCells$Line", "target", "I", false) .int := H.2.2.1
theorem cLn_F20 {g : cx_G} {adr : Nat → Nat} (H : cLn_H g adr) : cx_FI g 8000 2 (adr 8000) ("CircuitCells$Line", "gainP", "I", false) .int := H.2.2.2.1
theorem cLn_F30 {g : cx_G} {adr : Nat → Nat} (H : cLn_H g adr) : cx_FI g 8000 3 (adr 8000) ("CircuitCells$Line", "gainI", "I", false) .int := H.2.2.2.2.1
theorem cLn_F40 {g : cx_G} {adr : Nat → Nat} (H : cLn_H g adr) : cx_FI g 8000 4 (adr 8000) ("CircuitCells$Line", "every", "I", false) .int := H.2.2.2.2.2.1
theorem cLn_F50 {g : cx_G} {adr : Nat → Nat} (H : cLn_H g adr) : cx_FI g 8000 5 (adr 8000) ("CircuitCells$Line", "offset", "I", false) .int := H.2.2.2.2.2.2.1
theorem cLn_F60 {g : cx_G} {adr : Nat → Nat} (H : cLn_H g adr) : cx_FI g 8000 6 (adr 8000) ("CircuitCells$Line", "frame", "I", false) .int := H.2.2.2.2.2.2.2.1
theorem cLn_R70 {g : cx_G} {adr : Nat → Nat} (H : cLn_H g adr) : cx_FR g 7 (adr 8000) ("CircuitCells$Line", "word", "Ljava/util/ArrayList;", true) (.ref (adr 8001)) := H.2.2.2.2.2.2.2.2.1
theorem cLn_O80 {g : cx_G} {adr : Nat → Nat} (H : cLn_H g adr) : cx_FO g 8000 8 (adr 8000) ("CircuitCells$Line", "delay", "LCircuitCells$Expr;", false) (adr 8020) := H.2.2.2.2.2.2.2.2.2.1
theorem cLn_O90 {g : cx_G} {adr : Nat → Nat} (H : cLn_H g adr) : cx_FO g 8000 9 (adr 8000) ("CircuitCells$Line", "lost", "LCircuitCells$Expr;", false) (adr 8021) := H.2.2.2.2.2.2.2.2.2.2.1
theorem cLn_R100 {g : cx_G} {adr : Nat → Nat} (H : cLn_H g adr) : cx_FR g 10 (adr 8000) ("CircuitCells$Line", "view", "LCircuitCells$View;", true) (.ref (adr 8010)) := H.2.2.2.2.2.2.2.2.2.2.2
def cCo_H (g : cx_G) (adr : Nat → Nat) : Prop :=
  cx_Rc g (adr 9000) RX7 ∧
  cx_FR g 0 (adr 9000) ("CircuitCells$Course", "delays", "[I", true) (.ref (adr 9001)) ∧
  cx_AI g 9001 512 (adr 9001) 0 .int ∧
  cx_FR g 1 (adr 9000) ("CircuitCells$Course", "losses", "[I", true) (.ref (adr 9002)) ∧
  cx_AI g 9002 512 (adr 9002) 0 .int ∧
  cx_FI g 9000 2 (adr 9000) ("CircuitCells$Course", "base", "I", false) .int
theorem cCo_rc0 {g : cx_G} {adr : Nat → Nat} (H : cCo_H g adr) : cx_Rc g (adr 9000) RX7 := H.1
theorem cCo_R00 {g : cx_G} {adr : Nat → Nat} (H : cCo_H g adr) : cx_FR g 0 (adr 9000) ("CircuitCells$Course", "delays", "[I", true) (.ref (adr 9001)) := H.2.1
theorem cCo_A00 {g : cx_G} {adr : Nat → Nat} (H : cCo_H g adr) : cx_AI g 9001 512 (adr 9001) 0 .int := H.2.2.1
theorem cCo_R10 {g : cx_G} {adr : Nat → Nat} (H : cCo_H g adr) : cx_FR g 1 (adr 9000) ("CircuitCells$Course", "losses", "[I", true) (.ref (adr 9002)) := H.2.2.2.1
theorem cCo_A10 {g : cx_G} {adr : Nat → Nat} (H : cCo_H g adr) : cx_AI g 9002 512 (adr 9002) 0 .int := H.2.2.2.2.1
theorem cCo_F20 {g : cx_G} {adr : Nat → Nat} (H : cCo_H g adr) : cx_FI g 9000 2 (adr 9000) ("CircuitCells$Course", "base", "I", false) .int := H.2.2.2.2.2
def cVw_H (g : cx_G) (adr : Nat → Nat) : Prop :=
  cx_Rc g (adr 8010) RX3 ∧
  cx_FR g 0 (adr 8010) ("CircuitCells$View", "of", "[I", true) (.ref (adr 8011)) ∧
  cx_AI g 8011 4 (adr 8011) 0 .int
theorem cVw_rc0 {g : cx_G} {adr : Nat → Nat} (H : cVw_H g adr) : cx_Rc g (adr 8010) RX3 := H.1
theorem cVw_R00 {g : cx_G} {adr : Nat → Nat} (H : cVw_H g adr) : cx_FR g 0 (adr 8010) ("CircuitCells$View", "of", "[I", true) (.ref (adr 8011)) := H.2.1
theorem cVw_A00 {g : cx_G} {adr : Nat → Nat} (H : cVw_H g adr) : cx_AI g 8011 4 (adr 8011) 0 .int := H.2.2
def cBk_H (g : cx_G) (adr : Nat → Nat) (b : Nat) : Prop :=
  cx_Rc g (adr b) RX5 ∧
  cx_FR g 0 (adr b) ("CircuitCells$Book", "now", "LCircuitCells$State;", true) (.ref (adr (cBk_st b))) ∧
  cx_FR g 1 (adr b) ("CircuitCells$Book", "ahead", "Ljava/util/ArrayList;", true) (.ref (adr (b + 2))) ∧
  cx_FR g 2 (adr b) ("CircuitCells$Book", "when", "[I", true) (.ref (adr (b + 3))) ∧
  cx_AI g (b + 3) 8 (adr (b + 3)) 0 .int ∧
  cx_FR g 3 (adr b) ("CircuitCells$Book", "level", "[I", true) (.ref (adr (b + 4))) ∧
  cx_AI g (b + 4) 8 (adr (b + 4)) 0 .int ∧
  cx_FR g 4 (adr b) ("CircuitCells$Book", "refused", "[I", true) (.ref (adr (b + 5))) ∧
  cx_AI g (b + 5) 3 (adr (b + 5)) 0 .int ∧
  cx_FI g b 5 (adr b) ("CircuitCells$Book", "acts", "I", false) .int ∧
  cx_FI g b 6 (adr b) ("CircuitCells$Book", "many", "I", false) .int ∧
  cSt_H g adr (cBk_st b) ∧
  (b = 600 ∨ b = 700)
theorem cBk_rc {g : cx_G} {adr : Nat → Nat} {b : Nat} (H : cBk_H g adr b) : cx_Rc g (adr b) RX5 := H.1
theorem cBk_R0 {g : cx_G} {adr : Nat → Nat} {b : Nat} (H : cBk_H g adr b) : cx_FR g 0 (adr b) ("CircuitCells$Book", "now", "LCircuitCells$State;", true) (.ref (adr (cBk_st b))) := H.2.1
theorem cBk_R1 {g : cx_G} {adr : Nat → Nat} {b : Nat} (H : cBk_H g adr b) : cx_FR g 1 (adr b) ("CircuitCells$Book", "ahead", "Ljava/util/ArrayList;", true) (.ref (adr (b + 2))) := H.2.2.1
theorem cBk_R2 {g : cx_G} {adr : Nat → Nat} {b : Nat} (H : cBk_H g adr b) : cx_FR g 2 (adr b) ("CircuitCells$Book", "when", "[I", true) (.ref (adr (b + 3))) := H.2.2.2.1
theorem cBk_A2 {g : cx_G} {adr : Nat → Nat} {b : Nat} (H : cBk_H g adr b) : cx_AI g (b + 3) 8 (adr (b + 3)) 0 .int := H.2.2.2.2.1
theorem cBk_R3 {g : cx_G} {adr : Nat → Nat} {b : Nat} (H : cBk_H g adr b) : cx_FR g 3 (adr b) ("CircuitCells$Book", "level", "[I", true) (.ref (adr (b + 4))) := H.2.2.2.2.2.1
theorem cBk_A3 {g : cx_G} {adr : Nat → Nat} {b : Nat} (H : cBk_H g adr b) : cx_AI g (b + 4) 8 (adr (b + 4)) 0 .int := H.2.2.2.2.2.2.1
theorem cBk_R4 {g : cx_G} {adr : Nat → Nat} {b : Nat} (H : cBk_H g adr b) : cx_FR g 4 (adr b) ("CircuitCells$Book", "refused", "[I", true) (.ref (adr (b + 5))) := H.2.2.2.2.2.2.2.1
theorem cBk_A4 {g : cx_G} {adr : Nat → Nat} {b : Nat} (H : cBk_H g adr b) : cx_AI g (b + 5) 3 (adr (b + 5)) 0 .int := H.2.2.2.2.2.2.2.2.1
theorem cBk_F5 {g : cx_G} {adr : Nat → Nat} {b : Nat} (H : cBk_H g adr b) : cx_FI g b 5 (adr b) ("CircuitCells$Book", "acts", "I", false) .int := H.2.2.2.2.2.2.2.2.2.1
theorem cBk_F6 {g : cx_G} {adr : Nat → Nat} {b : Nat} (H : cBk_H g adr b) : cx_FI g b 6 (adr b) ("CircuitCells$Book", "many", "I", false) .int := H.2.2.2.2.2.2.2.2.2.2.1
theorem cBk_S {g : cx_G} {adr : Nat → Nat} {b : Nat} (H : cBk_H g adr b) : cSt_H g adr (cBk_st b) := H.2.2.2.2.2.2.2.2.2.2.2.1
theorem cBk_b {g : cx_G} {adr : Nat → Nat} {b : Nat} (H : cBk_H g adr b) : (b = 600 ∨ b = 700) := H.2.2.2.2.2.2.2.2.2.2.2.2
def cCc_H (g : cx_G) (adr : Nat → Nat) : Prop :=
  cx_Rc g (adr 500) RX1 ∧
  cx_FR g 0 (adr 500) ("CircuitCells", "line", "LCircuitCells$Line;", false) (.ref (adr 8000)) ∧
  cx_FR g 1 (adr 500) ("CircuitCells", "book", "LCircuitCells$Book;", true) (.ref (adr 600)) ∧
  cx_FR g 2 (adr 500) ("CircuitCells", "image", "LCircuitCells$Book;", true) (.ref (adr 700)) ∧
  cx_FR g 3 (adr 500) ("CircuitCells", "now", "LCircuitCells$State;", true) (.ref (adr 1000)) ∧
  cx_FR g 4 (adr 500) ("CircuitCells", "tried", "LCircuitCells$State;", true) (.ref (adr 1100)) ∧
  cx_FR g 5 (adr 500) ("CircuitCells", "fills", "Ljava/util/ArrayList;", true) (.ref (adr 9040)) ∧
  cx_FR g 6 (adr 500) ("CircuitCells", "looks", "Ljava/util/ArrayList;", true) (.ref (adr 9041)) ∧
  cx_FI g 500 7 (adr 500) ("CircuitCells", "hasImage", "Z", false) .boolean ∧
  cx_FR g 8 (adr 500) ("CircuitCells", "tape", "[B", true) (.ref (adr 509)) ∧
  cx_AI g 509 700 (adr 509) 2 .byte ∧
  cx_FI g 500 9 (adr 500) ("CircuitCells", "taped", "I", false) .int ∧
  cx_FI g 500 10 (adr 500) ("CircuitCells", "faultPlace", "I", false) .int ∧
  cx_FR g 11 (adr 500) ("CircuitCells", "highs", "Ljava/util/ArrayDeque;", true) (.ref (adr 9300)) ∧
  cx_FR g 12 (adr 500) ("CircuitCells", "lows", "Ljava/util/ArrayDeque;", true) (.ref (adr 9310)) ∧
  cx_FR g 13 (adr 500) ("CircuitCells", "course", "LCircuitCells$Course;", true) (.ref (adr 9000)) ∧
  cx_FR g 14 (adr 500) ("CircuitCells", "tens", "[I", true) (.ref (adr 515)) ∧
  cx_AI g 515 5 (adr 515) 0 .int ∧
  cx_FR g 15 (adr 500) ("CircuitCells", "levels", "[I", true) (.ref (adr 516)) ∧
  cx_AI g 516 10000 (adr 516) 0 .int ∧
  cx_FI g 500 16 (adr 500) ("CircuitCells", "its", "I", false) .int
theorem cCc_rc0 {g : cx_G} {adr : Nat → Nat} (H : cCc_H g adr) : cx_Rc g (adr 500) RX1 := H.1
theorem cCc_R00 {g : cx_G} {adr : Nat → Nat} (H : cCc_H g adr) : cx_FR g 0 (adr 500) ("CircuitCells", "line", "LCircuitCells$Line;", false) (.ref (adr 8000)) := H.2.1
theorem cCc_R10 {g : cx_G} {adr : Nat → Nat} (H : cCc_H g adr) : cx_FR g 1 (adr 500) ("CircuitCells", "book", "LCircuitCells$Book;", true) (.ref (adr 600)) := H.2.2.1
theorem cCc_R20 {g : cx_G} {adr : Nat → Nat} (H : cCc_H g adr) : cx_FR g 2 (adr 500) ("CircuitCells", "image", "LCircuitCells$Book;", true) (.ref (adr 700)) := H.2.2.2.1
theorem cCc_R30 {g : cx_G} {adr : Nat → Nat} (H : cCc_H g adr) : cx_FR g 3 (adr 500) ("CircuitCells", "now", "LCircuitCells$State;", true) (.ref (adr 1000)) := H.2.2.2.2.1
theorem cCc_R40 {g : cx_G} {adr : Nat → Nat} (H : cCc_H g adr) : cx_FR g 4 (adr 500) ("CircuitCells", "tried", "LCircuitCells$State;", true) (.ref (adr 1100)) := H.2.2.2.2.2.1
theorem cCc_R50 {g : cx_G} {adr : Nat → Nat} (H : cCc_H g adr) : cx_FR g 5 (adr 500) ("CircuitCells", "fills", "Ljava/util/ArrayList;", true) (.ref (adr 9040)) := H.2.2.2.2.2.2.1
theorem cCc_R60 {g : cx_G} {adr : Nat → Nat} (H : cCc_H g adr) : cx_FR g 6 (adr 500) ("CircuitCells", "looks", "Ljava/util/ArrayList;", true) (.ref (adr 9041)) := H.2.2.2.2.2.2.2.1
theorem cCc_F70 {g : cx_G} {adr : Nat → Nat} (H : cCc_H g adr) : cx_FI g 500 7 (adr 500) ("CircuitCells", "hasImage", "Z", false) .boolean := H.2.2.2.2.2.2.2.2.1
theorem cCc_R80 {g : cx_G} {adr : Nat → Nat} (H : cCc_H g adr) : cx_FR g 8 (adr 500) ("CircuitCells", "tape", "[B", true) (.ref (adr 509)) := H.2.2.2.2.2.2.2.2.2.1
theorem cCc_A80 {g : cx_G} {adr : Nat → Nat} (H : cCc_H g adr) : cx_AI g 509 700 (adr 509) 2 .byte := H.2.2.2.2.2.2.2.2.2.2.1
theorem cCc_F90 {g : cx_G} {adr : Nat → Nat} (H : cCc_H g adr) : cx_FI g 500 9 (adr 500) ("CircuitCells", "taped", "I", false) .int := H.2.2.2.2.2.2.2.2.2.2.2.1
theorem cCc_F100 {g : cx_G} {adr : Nat → Nat} (H : cCc_H g adr) : cx_FI g 500 10 (adr 500) ("CircuitCells", "faultPlace", "I", false) .int := H.2.2.2.2.2.2.2.2.2.2.2.2.1
theorem cCc_R110 {g : cx_G} {adr : Nat → Nat} (H : cCc_H g adr) : cx_FR g 11 (adr 500) ("CircuitCells", "highs", "Ljava/util/ArrayDeque;", true) (.ref (adr 9300)) := H.2.2.2.2.2.2.2.2.2.2.2.2.2.1
theorem cCc_R120 {g : cx_G} {adr : Nat → Nat} (H : cCc_H g adr) : cx_FR g 12 (adr 500) ("CircuitCells", "lows", "Ljava/util/ArrayDeque;", true) (.ref (adr 9310)) := H.2.2.2.2.2.2.2.2.2.2.2.2.2.2.1
theorem cCc_R130 {g : cx_G} {adr : Nat → Nat} (H : cCc_H g adr) : cx_FR g 13 (adr 500) ("CircuitCells", "course", "LCircuitCells$Course;", true) (.ref (adr 9000)) := H.2.2.2.2.2.2.2.2.2.2.2.2.2.2.2.1
theorem cCc_R140 {g : cx_G} {adr : Nat → Nat} (H : cCc_H g adr) : cx_FR g 14 (adr 500) ("CircuitCells", "tens", "[I", true) (.ref (adr 515)) := H.2.2.2.2.2.2.2.2.2.2.2.2.2.2.2.2.1
theorem cCc_A140 {g : cx_G} {adr : Nat → Nat} (H : cCc_H g adr) : cx_AI g 515 5 (adr 515) 0 .int := H.2.2.2.2.2.2.2.2.2.2.2.2.2.2.2.2.2.1
theorem cCc_R150 {g : cx_G} {adr : Nat → Nat} (H : cCc_H g adr) : cx_FR g 15 (adr 500) ("CircuitCells", "levels", "[I", true) (.ref (adr 516)) := H.2.2.2.2.2.2.2.2.2.2.2.2.2.2.2.2.2.2.1
theorem cCc_A150 {g : cx_G} {adr : Nat → Nat} (H : cCc_H g adr) : cx_AI g 516 10000 (adr 516) 0 .int := H.2.2.2.2.2.2.2.2.2.2.2.2.2.2.2.2.2.2.2.1
theorem cCc_F160 {g : cx_G} {adr : Nat → Nat} (H : cCc_H g adr) : cx_FI g 500 16 (adr 500) ("CircuitCells", "its", "I", false) .int := H.2.2.2.2.2.2.2.2.2.2.2.2.2.2.2.2.2.2.2.2

/-- the constants of Value -/
def cEn_H0 (g : cx_G) (adr : Nat → Nat) : Prop := ∀ U : State, cx_K g U →
  va_Z "CircuitCells$Value" "PACKET" "LCircuitCells$Value;" (.ref (adr 9200)) g.2.2.2.1 U U.heap ∧ va_Z "CircuitCells$Value" "TIME" "LCircuitCells$Value;" (.ref (adr 9201)) g.2.2.2.1 U U.heap ∧
  va_Z "CircuitCells$Value" "LAST" "LCircuitCells$Value;" (.ref (adr 9202)) g.2.2.2.1 U U.heap ∧ va_Z "CircuitCells$Value" "FLYING" "LCircuitCells$Value;" (.ref (adr 9203)) g.2.2.2.1 U U.heap ∧
  ∀ e, e < 4 → cx_RO "CircuitCells$Value" (adr (9200 + e)) U ∧ cx_OF "java/lang/Enum" "ordinal" "I" (.int (nI e)) (adr (9200 + e)) U
def cEn_H (g : cx_G) (adr : Nat → Nat) : Prop := cEn_H0 g adr ∧ ∀ U : State, cx_K g U → va_Z "java/util/BitSet" "$assertionsDisabled" "Z" (.int 1) g.2.2.2.1 U U.heap
/-- whether the line has the rule: a constant that rides in N -/
def cEx_is (N : cx_N) (e : Nat) : Prop := ¬ N.2.1 2 (fun _ => nI (e + 1)) = 0
/-- a rule's answer for the view at hand -/
noncomputable def cEx_by (N : cx_N) (e : Nat) (M : cx_M) : Option cx_R := if N.2.1 2 (fun _ => nI (e + 1)) = 0 then none else some (M, N.2.1 e (M 8011), 0)
theorem cq_calS {o : Option cx_R} {F : cx_M → Int32 → Option cx_R} {rs : cx_R} (h : cx_cal o F = some rs) : cq_cal o (fun M r => F M r = some rs) := by
  cases o with
  | none => cases h
  | some r => exact h
theorem cq_ixS {i : Int32} {n : Nat} {F : Nat → Option cx_R} {rs : cx_R} (h : cx_ix i n F = some rs) : cq_ix i n (fun j => F j = some rs) := by
  unfold cx_ix at h
  unfold cq_ix
  split at h
  · cases h
  · next q => rw [if_neg q]; exact h
theorem cq_ahdS {f : Nat → Int32} {i : Int32} {F : Nat → Option cx_R} {rs : cx_R} (h : cx_ahd f i F = some rs) : cq_ahd f i (fun j => F j = some rs) := by
  unfold cx_ahd at h
  unfold cq_ahd
  split at h
  · cases h
  · next q =>
    rw [if_neg q]
    split at h
    · next z => rw [if_pos z]; exact h
    · cases h
theorem cq_aremS {M : cx_M} {c : Nat} {i : Int32} {F : cx_M → Nat → Option cx_R} {rs : cx_R} (h : cx_arem M c i F = some rs) : cq_arem M c i (fun M j => F M j = some rs) := by
  unfold cx_arem at h
  unfold cq_arem
  split at h
  · cases h
  · next q => rw [if_neg q]; exact cq_ahdS h
theorem cq_aaddS {M : cx_M} {c j : Nat} {F : cx_M → Option cx_R} {rs : cx_R} (h : cx_aadd M c j F = some rs) : cq_aadd M c j (fun M => F M = some rs) := by
  unfold cx_aadd at h
  unfold cq_aadd
  split at h
  · cases h
  · next q => rw [if_neg q]; exact h
def cLs_Hex (g : cx_G) (adr : Nat → Nat) (N : cx_N) : Prop := ∀ (e : Nat) (he : e < 2) (l : Launch) (X : cx_X) (S : cx_S) (cc : ByteArray) (pc : Nat) (lv : List (Nat × Value)) (st : List Value) (M : cx_M) (k n : Nat) (Q : State → Prop) (F : cx_M → Int32 → Prop) (index : Nat) , cq_cal (cEx_by N e M) F → decode cc pc = .ok (.invokevirtual index, 3) → Cond.methodLink S.2.1 index ⟨"CircuitCells$Expr", "by", "(LCircuitCells$View;)I"⟩ ∈ lw_all → 900 ≤ S.2.2.2.1.frames → 30000 ≤ S.2.2.2.1.locals → (st.map fun v => v.category).sum ≤ 7 → k ≤ S.2.2.2.1.cells → n ≤ S.2.2.2.1.slots →
  (∀ M' r, F M' r → cq_V l g X S cc (pc + 3) lv (.int r :: st) M' k n Q) → cq_V l g X S cc pc lv (.ref (adr 8010) :: .ref (adr (8020 + e)) :: st) M k n Q
/-- what is filled with: how 0 the octet ahead, 1 idle, 2 a frame ahead -/
noncomputable def cFi_bk (b : Nat) (M : cx_M) (x : Int32) : Option cx_R := if M b 6 < x then some (M, 126, 0) else cx_ld M (b + 40) 128 (cx_rem (M b 6 - x) 128) fun v => some (M, v, 0)
noncomputable def cFi_of (N : cx_N) (how b : Nat) (M : cx_M) : Option cx_R := if how = 1 then some (M, 126, 0) else cFi_bk b M (if how = 0 then 1 else M 8000 6)
def cLs_Hfi (g : cx_G) (adr : Nat → Nat) (N : cx_N) : Prop := ∀ (how : Nat) (hhow : how < 3) (b : Nat) (hb : cSt_H g adr b) (l : Launch) (X : cx_X) (S : cx_S) (cc : ByteArray) (pc : Nat) (lv : List (Nat × Value)) (st : List Value) (M : cx_M) (k n : Nat) (Q : State → Prop) (F : cx_M → Int32 → Prop) (index count : Nat) , cq_cal (cFi_of N how b M) F → decode cc pc = .ok (.invokeinterface index count, 5) → Cond.methodLink S.2.1 index ⟨"CircuitCells$Fill", "of", "(LCircuitCells$State;)I"⟩ ∈ lw_all → Cond.interfaceEntry S.2.1 index ∈ lw_tbl → 40 ≤ S.2.2.2.1.frames → 1200 ≤ S.2.2.2.1.locals → (st.map fun v => v.category).sum ≤ 7 → k ≤ S.2.2.2.1.cells → n ≤ S.2.2.2.1.slots →
  (∀ M' r, F M' r → cq_V l g X S cc (pc + 5) lv (.int r :: st) M' k n Q) → cq_V l g X S cc pc lv (.ref (adr b) :: .ref (adr (9100 + how)) :: st) M k n Q
/-- how many words, which: the line's constants ride in N -/
def cLn_n (N : cx_N) : Int32 := N.2.1 2 (fun _ => 0)
def cLn_w (N : cx_N) (k : Nat) : Int32 := N.2.1 (3 + k) (fun _ => 0)
/-- the word's octets -/
noncomputable def cLn_octet (N : cx_N) (M : cx_M) (i : Int32) : Option cx_R :=
  if cLn_n N = 0 then some (M, cx_rem (85 + i) 256, 0) else cx_chk (cx_rem i (cLn_n N)) (cLn_n N).toNatClampNeg (cLn_w N (cx_rem i (cLn_n N)).toNatClampNeg) fun v => some (M, cx_rem (v + i) 256, 0)
abbrev sX2_octet : cx_S := (2, RX2, cx_rI, { frames := 20, cells := 0, slots := 0, locals := 600 }, some .int, false)
def cWd_H (g : cx_G) (adr : Nat → Nat) (N : cx_N) : Prop := ∀ (l : Launch) (M : cx_M) (i : Int32) (rs : cx_R), cLn_octet N M i = some rs → cx_Met l g yX2_octet cX2_octet sX2_octet [.ref (adr 8000), .int i] M rs
noncomputable def cVw_sees (N : cx_N) (e : Nat) (M : cx_M) (x : Int32) : Option cx_R := some (cx_up M 8011 e x, 0, 0)
abbrev sX3_sees : cx_S := (3, RX3, cx_rV, { frames := 4, cells := 0, slots := 0, locals := 100 }, none, false)
noncomputable def cLk_at (N : cx_N) (kL b : Nat) (M : cx_M) : Option cx_R := N.2.2.1 kL b M
noncomputable def cWt_is (N : cx_N) (kW b : Nat) (M : cx_M) (x : Int32) : Option cx_R := N.2.2.2 kW b M x
def cLs_Hf (g : cx_G) (adr : Nat → Nat) : Prop := (∀ j, j < 3 → cx_FR g 0 (adr (9050 + j)) ("CircuitCells$Filling", "fill", "LCircuitCells$Fill;", true) (.ref (adr (9100 + j))) ∧ cx_Rc g (adr (9050 + j)) RX8) ∧ ∀ j, j < 6 → cx_FR g 0 (adr (9060 + j)) ("CircuitCells$Looking", "look", "LCircuitCells$Look;", true) (.ref (adr (9110 + j))) ∧ cx_Rc g (adr (9060 + j)) RX9
def cLs_Hfills (g : cx_G) (adr : Nat → Nat) (N : cx_N) : Prop := ∀  (l : Launch) (X : cx_X) (S : cx_S) (cc : ByteArray) (pc : Nat) (lv : List (Nat × Value)) (st : List Value) (M : cx_M) (k n : Nat) (Q : State → Prop) (F : Nat → Prop) (index : Nat) (i : Int32), cq_ix i 3 F → decode cc pc = .ok (.invokevirtual index, 3) → Cond.methodLink S.2.1 index ⟨"java/util/ArrayList", "get", "(I)Ljava/lang/Object;"⟩ ∈ lw_all → 30 ≤ S.2.2.2.1.frames → 900 ≤ S.2.2.2.1.locals → (st.map fun v => v.category).sum ≤ 6 → k ≤ S.2.2.2.1.cells → n ≤ S.2.2.2.1.slots →
  (∀ j, j < 3 → F j → cq_V l g X S cc (pc + 3) lv (.ref (adr (9050 + j)) :: st) M k n Q) → cq_V l g X S cc pc lv (.int i :: .ref (adr 9040) :: st) M k n Q
def cLs_Hlooks (g : cx_G) (adr : Nat → Nat) (N : cx_N) : Prop := ∀  (l : Launch) (X : cx_X) (S : cx_S) (cc : ByteArray) (pc : Nat) (lv : List (Nat × Value)) (st : List Value) (M : cx_M) (k n : Nat) (Q : State → Prop) (F : Nat → Prop) (index : Nat) (i : Int32), cq_ix i 6 F → decode cc pc = .ok (.invokevirtual index, 3) → Cond.methodLink S.2.1 index ⟨"java/util/ArrayList", "get", "(I)Ljava/lang/Object;"⟩ ∈ lw_all → 30 ≤ S.2.2.2.1.frames → 900 ≤ S.2.2.2.1.locals → (st.map fun v => v.category).sum ≤ 6 → k ≤ S.2.2.2.1.cells → n ≤ S.2.2.2.1.slots →
  (∀ j, j < 6 → F j → cq_V l g X S cc (pc + 3) lv (.ref (adr (9060 + j)) :: st) M k n Q) → cq_V l g X S cc pc lv (.int i :: .ref (adr 9041) :: st) M k n Q
def cLs_Hsize (g : cx_G) (adr : Nat → Nat) (N : cx_N) : Prop := ∀  (l : Launch) (X : cx_X) (S : cx_S) (cc : ByteArray) (pc : Nat) (lv : List (Nat × Value)) (st : List Value) (M : cx_M) (k n : Nat) (Q : State → Prop) (F : Int32 → Prop) (index : Nat) , cq_let (cLn_n N) F → decode cc pc = .ok (.invokevirtual index, 3) → Cond.methodLink S.2.1 index ⟨"java/util/ArrayList", "size", "()I"⟩ ∈ lw_all → 30 ≤ S.2.2.2.1.frames → 900 ≤ S.2.2.2.1.locals → (st.map fun v => v.category).sum ≤ 6 → k ≤ S.2.2.2.1.cells → n ≤ S.2.2.2.1.slots →
  (∀ v, F v → cq_V l g X S cc (pc + 3) lv (.int v :: st) M k n Q) → cq_V l g X S cc pc lv (.ref (adr 8001) :: st) M k n Q
def cLs_Hahead (g : cx_G) (adr : Nat → Nat) (N : cx_N) : Prop := ∀ (b : Nat) (hb : cBk_H g adr b) (l : Launch) (X : cx_X) (S : cx_S) (cc : ByteArray) (pc : Nat) (lv : List (Nat × Value)) (st : List Value) (M : cx_M) (k n : Nat) (Q : State → Prop) (F : Nat → Prop) (index : Nat) (i : Int32), cq_ahd (M (b + 2)) i F → decode cc pc = .ok (.invokevirtual index, 3) → Cond.methodLink S.2.1 index ⟨"java/util/ArrayList", "get", "(I)Ljava/lang/Object;"⟩ ∈ lw_all → 30 ≤ S.2.2.2.1.frames → 900 ≤ S.2.2.2.1.locals → (st.map fun v => v.category).sum ≤ 6 → k ≤ S.2.2.2.1.cells → n ≤ S.2.2.2.1.slots →
  (∀ j, cSt_H g adr j → F j → cq_V l g X S cc (pc + 3) lv (.ref (adr j) :: st) M k n Q) → cq_V l g X S cc pc lv (.int i :: .ref (adr (b + 2)) :: st) M k n Q
def cLs_Hremove (g : cx_G) (adr : Nat → Nat) (N : cx_N) : Prop := ∀ (b : Nat) (hb : cBk_H g adr b) (l : Launch) (X : cx_X) (S : cx_S) (cc : ByteArray) (pc : Nat) (lv : List (Nat × Value)) (st : List Value) (M : cx_M) (k n : Nat) (Q : State → Prop) (F : cx_M → Nat → Prop) (index : Nat) (i : Int32), cq_arem M (b + 2) i F → decode cc pc = .ok (.invokevirtual index, 3) → Cond.methodLink S.2.1 index ⟨"java/util/ArrayList", "remove", "(I)Ljava/lang/Object;"⟩ ∈ lw_all → 30 ≤ S.2.2.2.1.frames → 900 ≤ S.2.2.2.1.locals → (st.map fun v => v.category).sum ≤ 6 → k ≤ S.2.2.2.1.cells → n ≤ S.2.2.2.1.slots →
  (∀ M' j, cSt_H g adr j → F M' j → cq_V l g X S cc (pc + 3) lv (.ref (adr j) :: st) M' k n Q) → cq_V l g X S cc pc lv (.int i :: .ref (adr (b + 2)) :: st) M k n Q
def cLs_Hadd (g : cx_G) (adr : Nat → Nat) (N : cx_N) : Prop := ∀ (b : Nat) (hb : cBk_H g adr b) (j : Nat) (hj : cSt_H g adr j) (l : Launch) (X : cx_X) (S : cx_S) (cc : ByteArray) (pc : Nat) (lv : List (Nat × Value)) (st : List Value) (M : cx_M) (k n : Nat) (Q : State → Prop) (F : cx_M → Prop) (index : Nat) , cq_aadd M (b + 2) j F → decode cc pc = .ok (.invokevirtual index, 3) → Cond.methodLink S.2.1 index ⟨"java/util/ArrayList", "add", "(Ljava/lang/Object;)Z"⟩ ∈ lw_all → 30 ≤ S.2.2.2.1.frames → 900 ≤ S.2.2.2.1.locals → (st.map fun v => v.category).sum ≤ 6 → k ≤ S.2.2.2.1.cells → n ≤ S.2.2.2.1.slots →
  (∀ M', F M' → cq_V l g X S cc (pc + 3) lv (.int 1 :: st) M' k n Q) → cq_V l g X S cc pc lv (.ref (adr j) :: .ref (adr (b + 2)) :: st) M k n Q
def cLs_Hat (g : cx_G) (adr : Nat → Nat) (N : cx_N) : Prop := ∀ (kL : Nat) (hk : kL < 20) (b : Nat) (hb : cSt_H g adr b) (l : Launch) (X : cx_X) (S : cx_S) (cc : ByteArray) (pc : Nat) (lv : List (Nat × Value)) (st : List Value) (M : cx_M) (k n : Nat) (Q : State → Prop) (F : cx_M → Int32 → Prop) (index count : Nat) , cq_cal (cLk_at N kL b M) F → decode cc pc = .ok (.invokeinterface index count, 5) → Cond.methodLink S.2.1 index ⟨"CircuitCells$Look", "at", "(LCircuitCells$State;)I"⟩ ∈ lw_all → Cond.interfaceEntry S.2.1 index ∈ lw_tbl → 60 ≤ S.2.2.2.1.frames → 2000 ≤ S.2.2.2.1.locals → (st.map fun v => v.category).sum ≤ 6 → k ≤ S.2.2.2.1.cells → n ≤ S.2.2.2.1.slots →
  (∀ M' r, F M' r → cq_V l g X S cc (pc + 5) lv (.int r :: st) M' k n Q) → cq_V l g X S cc pc lv (.ref (adr b) :: .ref (adr (9110 + kL)) :: st) M k n Q
def cLs_His (g : cx_G) (adr : Nat → Nat) (N : cx_N) : Prop := ∀ (kW : Nat) (hk : kW < 8) (b : Nat) (hb : cSt_H g adr b) (l : Launch) (X : cx_X) (S : cx_S) (cc : ByteArray) (pc : Nat) (lv : List (Nat × Value)) (st : List Value) (M : cx_M) (k n : Nat) (Q : State → Prop) (F : cx_M → Int32 → Prop) (index count : Nat) (x : Int32), cq_cal (cWt_is N kW b M x) F → decode cc pc = .ok (.invokeinterface index count, 5) → Cond.methodLink S.2.1 index ⟨"CircuitCells$Wait", "is", "(LCircuitCells$State;I)Z"⟩ ∈ lw_all → Cond.interfaceEntry S.2.1 index ∈ lw_tbl → 60 ≤ S.2.2.2.1.frames → 2000 ≤ S.2.2.2.1.locals → (st.map fun v => v.category).sum ≤ 6 → k ≤ S.2.2.2.1.cells → n ≤ S.2.2.2.1.slots →
  (∀ M' r, F M' r → cq_V l g X S cc (pc + 5) lv (.int r :: st) M' k n Q) → cq_V l g X S cc pc lv (.int x :: .ref (adr b) :: .ref (adr (9130 + kW)) :: st) M k n Q
def cLs_H (g : cx_G) (adr : Nat → Nat) (N : cx_N) : Prop := cLs_Hfills g adr N ∧ cLs_Hlooks g adr N ∧ cLs_Hsize g adr N ∧ cLs_Hahead g adr N ∧ cLs_Hremove g adr N ∧ cLs_Hadd g adr N ∧ cLs_Hat g adr N ∧ cLs_His g adr N ∧ cLs_Hf g adr
/-- what is known of the class's world -/
def cCp_H (g : cx_G) (adr : Nat → Nat) (N : cx_N) : Prop := cLn_H g adr ∧ cCo_H g adr ∧ cVw_H g adr ∧ cEn_H g adr ∧ cLs_Hex g adr N ∧ cLs_Hfi g adr N ∧ cWd_H g adr N ∧ cCc_H g adr ∧ cBk_H g adr 600 ∧ cBk_H g adr 700 ∧ (∀ b, b ∈ cSt_all → cSt_H g adr b) ∧ cLs_H g adr N
theorem cLn_rc {g : cx_G} {adr : Nat → Nat} {N : cx_N} (H : cCp_H g adr N) : cx_Rc g (adr 8000) RX2 := cLn_rc0 H.1
theorem cLn_F0 {g : cx_G} {adr : Nat → Nat} {N : cx_N} (H : cCp_H g adr N) : cx_FI g 8000 0 (adr 8000) ("CircuitCells$Line", "size", "I", false) .int := cLn_F00 H.1
theorem cLn_F1 {g : cx_G} {adr : Nat → Nat} {N : cx_N} (H : cCp_H g adr N) : cx_FI g 8000 1 (adr 8000) ("CircuitCells$Line", "target", "I", false) .int := cLn_F10 H.1
theorem cLn_F2 {g : cx_G} {adr : Nat → Nat} {N : cx_N} (H : cCp_H g adr N) : cx_FI g 8000 2 (adr 8000) ("CircuitCells$Line", "gainP", "I", false) .int := cLn_F20 H.1
theorem cLn_F3 {g : cx_G} {adr : Nat → Nat} {N : cx_N} (H : cCp_H g adr N) : cx_FI g 8000 3 (adr 8000) ("CircuitCells$Line", "gainI", "I", false) .int := cLn_F30 H.1
theorem cLn_F4 {g : cx_G} {adr : Nat → Nat} {N : cx_N} (H : cCp_H g adr N) : cx_FI g 8000 4 (adr 8000) ("CircuitCells$Line", "every", "I", false) .int := cLn_F40 H.1
theorem cLn_F5 {g : cx_G} {adr : Nat → Nat} {N : cx_N} (H : cCp_H g adr N) : cx_FI g 8000 5 (adr 8000) ("CircuitCells$Line", "offset", "I", false) .int := cLn_F50 H.1
theorem cLn_F6 {g : cx_G} {adr : Nat → Nat} {N : cx_N} (H : cCp_H g adr N) : cx_FI g 8000 6 (adr 8000) ("CircuitCells$Line", "frame", "I", false) .int := cLn_F60 H.1
theorem cLn_R7 {g : cx_G} {adr : Nat → Nat} {N : cx_N} (H : cCp_H g adr N) : cx_FR g 7 (adr 8000) ("CircuitCells$Line", "word", "Ljava/util/ArrayList;", true) (.ref (adr 8001)) := cLn_R70 H.1
theorem cLn_O8 {g : cx_G} {adr : Nat → Nat} {N : cx_N} (H : cCp_H g adr N) : cx_FO g 8000 8 (adr 8000) ("CircuitCells$Line", "delay", "LCircuitCells$Expr;", false) (adr 8020) := cLn_O80 H.1
theorem cLn_O9 {g : cx_G} {adr : Nat → Nat} {N : cx_N} (H : cCp_H g adr N) : cx_FO g 8000 9 (adr 8000) ("CircuitCells$Line", "lost", "LCircuitCells$Expr;", false) (adr 8021) := cLn_O90 H.1
theorem cLn_R10 {g : cx_G} {adr : Nat → Nat} {N : cx_N} (H : cCp_H g adr N) : cx_FR g 10 (adr 8000) ("CircuitCells$Line", "view", "LCircuitCells$View;", true) (.ref (adr 8010)) := cLn_R100 H.1
theorem cCo_rc {g : cx_G} {adr : Nat → Nat} {N : cx_N} (H : cCp_H g adr N) : cx_Rc g (adr 9000) RX7 := cCo_rc0 H.2.1
theorem cCo_R0 {g : cx_G} {adr : Nat → Nat} {N : cx_N} (H : cCp_H g adr N) : cx_FR g 0 (adr 9000) ("CircuitCells$Course", "delays", "[I", true) (.ref (adr 9001)) := cCo_R00 H.2.1
theorem cCo_A0 {g : cx_G} {adr : Nat → Nat} {N : cx_N} (H : cCp_H g adr N) : cx_AI g 9001 512 (adr 9001) 0 .int := cCo_A00 H.2.1
theorem cCo_R1 {g : cx_G} {adr : Nat → Nat} {N : cx_N} (H : cCp_H g adr N) : cx_FR g 1 (adr 9000) ("CircuitCells$Course", "losses", "[I", true) (.ref (adr 9002)) := cCo_R10 H.2.1
theorem cCo_A1 {g : cx_G} {adr : Nat → Nat} {N : cx_N} (H : cCp_H g adr N) : cx_AI g 9002 512 (adr 9002) 0 .int := cCo_A10 H.2.1
theorem cCo_F2 {g : cx_G} {adr : Nat → Nat} {N : cx_N} (H : cCp_H g adr N) : cx_FI g 9000 2 (adr 9000) ("CircuitCells$Course", "base", "I", false) .int := cCo_F20 H.2.1
theorem cVw_rc {g : cx_G} {adr : Nat → Nat} {N : cx_N} (H : cCp_H g adr N) : cx_Rc g (adr 8010) RX3 := cVw_rc0 H.2.2.1
theorem cVw_R0 {g : cx_G} {adr : Nat → Nat} {N : cx_N} (H : cCp_H g adr N) : cx_FR g 0 (adr 8010) ("CircuitCells$View", "of", "[I", true) (.ref (adr 8011)) := cVw_R00 H.2.2.1
theorem cVw_A0 {g : cx_G} {adr : Nat → Nat} {N : cx_N} (H : cCp_H g adr N) : cx_AI g 8011 4 (adr 8011) 0 .int := cVw_A00 H.2.2.1
theorem cCc_rc {g : cx_G} {adr : Nat → Nat} {N : cx_N} (H : cCp_H g adr N) : cx_Rc g (adr 500) RX1 := cCc_rc0 H.2.2.2.2.2.2.2.1
theorem cCc_R0 {g : cx_G} {adr : Nat → Nat} {N : cx_N} (H : cCp_H g adr N) : cx_FR g 0 (adr 500) ("CircuitCells", "line", "LCircuitCells$Line;", false) (.ref (adr 8000)) := cCc_R00 H.2.2.2.2.2.2.2.1
theorem cCc_R1 {g : cx_G} {adr : Nat → Nat} {N : cx_N} (H : cCp_H g adr N) : cx_FR g 1 (adr 500) ("CircuitCells", "book", "LCircuitCells$Book;", true) (.ref (adr 600)) := cCc_R10 H.2.2.2.2.2.2.2.1
theorem cCc_R2 {g : cx_G} {adr : Nat → Nat} {N : cx_N} (H : cCp_H g adr N) : cx_FR g 2 (adr 500) ("CircuitCells", "image", "LCircuitCells$Book;", true) (.ref (adr 700)) := cCc_R20 H.2.2.2.2.2.2.2.1
theorem cCc_R3 {g : cx_G} {adr : Nat → Nat} {N : cx_N} (H : cCp_H g adr N) : cx_FR g 3 (adr 500) ("CircuitCells", "now", "LCircuitCells$State;", true) (.ref (adr 1000)) := cCc_R30 H.2.2.2.2.2.2.2.1
theorem cCc_R4 {g : cx_G} {adr : Nat → Nat} {N : cx_N} (H : cCp_H g adr N) : cx_FR g 4 (adr 500) ("CircuitCells", "tried", "LCircuitCells$State;", true) (.ref (adr 1100)) := cCc_R40 H.2.2.2.2.2.2.2.1
theorem cCc_R5 {g : cx_G} {adr : Nat → Nat} {N : cx_N} (H : cCp_H g adr N) : cx_FR g 5 (adr 500) ("CircuitCells", "fills", "Ljava/util/ArrayList;", true) (.ref (adr 9040)) := cCc_R50 H.2.2.2.2.2.2.2.1
theorem cCc_R6 {g : cx_G} {adr : Nat → Nat} {N : cx_N} (H : cCp_H g adr N) : cx_FR g 6 (adr 500) ("CircuitCells", "looks", "Ljava/util/ArrayList;", true) (.ref (adr 9041)) := cCc_R60 H.2.2.2.2.2.2.2.1
theorem cCc_F7 {g : cx_G} {adr : Nat → Nat} {N : cx_N} (H : cCp_H g adr N) : cx_FI g 500 7 (adr 500) ("CircuitCells", "hasImage", "Z", false) .boolean := cCc_F70 H.2.2.2.2.2.2.2.1
theorem cCc_R8 {g : cx_G} {adr : Nat → Nat} {N : cx_N} (H : cCp_H g adr N) : cx_FR g 8 (adr 500) ("CircuitCells", "tape", "[B", true) (.ref (adr 509)) := cCc_R80 H.2.2.2.2.2.2.2.1
theorem cCc_A8 {g : cx_G} {adr : Nat → Nat} {N : cx_N} (H : cCp_H g adr N) : cx_AI g 509 700 (adr 509) 2 .byte := cCc_A80 H.2.2.2.2.2.2.2.1
theorem cCc_F9 {g : cx_G} {adr : Nat → Nat} {N : cx_N} (H : cCp_H g adr N) : cx_FI g 500 9 (adr 500) ("CircuitCells", "taped", "I", false) .int := cCc_F90 H.2.2.2.2.2.2.2.1
theorem cCc_F10 {g : cx_G} {adr : Nat → Nat} {N : cx_N} (H : cCp_H g adr N) : cx_FI g 500 10 (adr 500) ("CircuitCells", "faultPlace", "I", false) .int := cCc_F100 H.2.2.2.2.2.2.2.1
theorem cCc_R11 {g : cx_G} {adr : Nat → Nat} {N : cx_N} (H : cCp_H g adr N) : cx_FR g 11 (adr 500) ("CircuitCells", "highs", "Ljava/util/ArrayDeque;", true) (.ref (adr 9300)) := cCc_R110 H.2.2.2.2.2.2.2.1
theorem cCc_R12 {g : cx_G} {adr : Nat → Nat} {N : cx_N} (H : cCp_H g adr N) : cx_FR g 12 (adr 500) ("CircuitCells", "lows", "Ljava/util/ArrayDeque;", true) (.ref (adr 9310)) := cCc_R120 H.2.2.2.2.2.2.2.1
theorem cCc_R13 {g : cx_G} {adr : Nat → Nat} {N : cx_N} (H : cCp_H g adr N) : cx_FR g 13 (adr 500) ("CircuitCells", "course", "LCircuitCells$Course;", true) (.ref (adr 9000)) := cCc_R130 H.2.2.2.2.2.2.2.1
theorem cCc_R14 {g : cx_G} {adr : Nat → Nat} {N : cx_N} (H : cCp_H g adr N) : cx_FR g 14 (adr 500) ("CircuitCells", "tens", "[I", true) (.ref (adr 515)) := cCc_R140 H.2.2.2.2.2.2.2.1
theorem cCc_A14 {g : cx_G} {adr : Nat → Nat} {N : cx_N} (H : cCp_H g adr N) : cx_AI g 515 5 (adr 515) 0 .int := cCc_A140 H.2.2.2.2.2.2.2.1
theorem cCc_R15 {g : cx_G} {adr : Nat → Nat} {N : cx_N} (H : cCp_H g adr N) : cx_FR g 15 (adr 500) ("CircuitCells", "levels", "[I", true) (.ref (adr 516)) := cCc_R150 H.2.2.2.2.2.2.2.1
theorem cCc_A15 {g : cx_G} {adr : Nat → Nat} {N : cx_N} (H : cCp_H g adr N) : cx_AI g 516 10000 (adr 516) 0 .int := cCc_A150 H.2.2.2.2.2.2.2.1
theorem cCc_F16 {g : cx_G} {adr : Nat → Nat} {N : cx_N} (H : cCp_H g adr N) : cx_FI g 500 16 (adr 500) ("CircuitCells", "its", "I", false) .int := cCc_F160 H.2.2.2.2.2.2.2.1
theorem cEn_v0 {g : cx_G} {adr : Nat → Nat} {N : cx_N} (H : cCp_H g adr N) : ∀ U, cx_K g U → va_Z "CircuitCells$Value" "PACKET" "LCircuitCells$Value;" (.ref (adr 9200)) g.2.2.2.1 U U.heap := fun U h => (H.2.2.2.1.1 U h).1
theorem cEn_v1 {g : cx_G} {adr : Nat → Nat} {N : cx_N} (H : cCp_H g adr N) : ∀ U, cx_K g U → va_Z "CircuitCells$Value" "TIME" "LCircuitCells$Value;" (.ref (adr 9201)) g.2.2.2.1 U U.heap := fun U h => (H.2.2.2.1.1 U h).2.1
theorem cEn_v2 {g : cx_G} {adr : Nat → Nat} {N : cx_N} (H : cCp_H g adr N) : ∀ U, cx_K g U → va_Z "CircuitCells$Value" "LAST" "LCircuitCells$Value;" (.ref (adr 9202)) g.2.2.2.1 U U.heap := fun U h => (H.2.2.2.1.1 U h).2.2.1
theorem cEn_v3 {g : cx_G} {adr : Nat → Nat} {N : cx_N} (H : cCp_H g adr N) : ∀ U, cx_K g U → va_Z "CircuitCells$Value" "FLYING" "LCircuitCells$Value;" (.ref (adr 9203)) g.2.2.2.1 U U.heap := fun U h => (H.2.2.2.1.1 U h).2.2.2.1
theorem cBk_i600 {g : cx_G} {adr : Nat → Nat} {N : cx_N} (H : cCp_H g adr N) : cBk_H g adr 600 := H.2.2.2.2.2.2.2.2.1
theorem cBk_i700 {g : cx_G} {adr : Nat → Nat} {N : cx_N} (H : cCp_H g adr N) : cBk_H g adr 700 := H.2.2.2.2.2.2.2.2.2.1
theorem cSt_i1000 {g : cx_G} {adr : Nat → Nat} {N : cx_N} (H : cCp_H g adr N) : cSt_H g adr 1000 := H.2.2.2.2.2.2.2.2.2.2.1 1000 (by decide +kernel)
theorem cSt_i1100 {g : cx_G} {adr : Nat → Nat} {N : cx_N} (H : cCp_H g adr N) : cSt_H g adr 1100 := H.2.2.2.2.2.2.2.2.2.2.1 1100 (by decide +kernel)
theorem cSt_i6000 {g : cx_G} {adr : Nat → Nat} {N : cx_N} (H : cCp_H g adr N) : cSt_H g adr 6000 := H.2.2.2.2.2.2.2.2.2.2.1 6000 (by decide +kernel)
theorem cSt_ibk {g : cx_G} {adr : Nat → Nat} {N : cx_N} (H : cCp_H g adr N) {b : Nat} (hb : cBk_H g adr b) : cSt_H g adr (cBk_st b) := cBk_S hb
theorem cqs_ex {g : cx_G} {adr : Nat → Nat} {N : cx_N} (H : cCp_H g adr N) {e : Nat} (he : e < 2) {l : Launch} {X : cx_X} {S : cx_S} {cc : ByteArray} {pc : Nat} {lv : List (Nat × Value)} {st : List Value} {M : cx_M} {k n : Nat} {Q : State → Prop} {F : cx_M → Int32 → Prop} {index : Nat}  : cq_cal (cEx_by N e M) F → decode cc pc = .ok (.invokevirtual index, 3) → Cond.methodLink S.2.1 index ⟨"CircuitCells$Expr", "by", "(LCircuitCells$View;)I"⟩ ∈ lw_all → 900 ≤ S.2.2.2.1.frames → 30000 ≤ S.2.2.2.1.locals → (st.map fun v => v.category).sum ≤ 7 → k ≤ S.2.2.2.1.cells → n ≤ S.2.2.2.1.slots →
  (∀ M' r, F M' r → cq_V l g X S cc (pc + 3) lv (.int r :: st) M' k n Q) → cq_V l g X S cc pc lv (.ref (adr 8010) :: .ref (adr (8020 + e)) :: st) M k n Q := H.2.2.2.2.1 e he l X S cc pc lv st M k n Q F index 
theorem cLs_ex {g : cx_G} {adr : Nat → Nat} {N : cx_N} (H : cCp_H g adr N) {e : Nat} (he : e < 2) {l : Launch} {X : cx_X} {S : cx_S} {cc : ByteArray} {pc : Nat} {lv : List (Nat × Value)} {st : List Value} {M : cx_M} {k n : Nat} {rs : cx_R} {F : cx_M → Int32 → Option cx_R} {index : Nat}  : cx_cal (cEx_by N e M) F = some rs → decode cc pc = .ok (.invokevirtual index, 3) → Cond.methodLink S.2.1 index ⟨"CircuitCells$Expr", "by", "(LCircuitCells$View;)I"⟩ ∈ lw_all → 900 ≤ S.2.2.2.1.frames → 30000 ≤ S.2.2.2.1.locals → (st.map fun v => v.category).sum ≤ 7 → k ≤ S.2.2.2.1.cells → n ≤ S.2.2.2.1.slots →
  (∀ M' r, F M' r = some rs → cx_V l g X S cc (pc + 3) lv (.int r :: st) M' k n rs) → cx_V l g X S cc pc lv (.ref (adr 8010) :: .ref (adr (8020 + e)) :: st) M k n rs := fun h => H.2.2.2.2.1 e he l X S cc pc lv st M k n (cx_fin g X S rs) (fun M' r => F M' r = some rs) index  (cq_calS h)
theorem cqs_fi_ {g : cx_G} {adr : Nat → Nat} {N : cx_N} (H : cCp_H g adr N) {how : Nat} (hhow : how < 3) {b : Nat} (hb : cSt_H g adr b) {l : Launch} {X : cx_X} {S : cx_S} {cc : ByteArray} {pc : Nat} {lv : List (Nat × Value)} {st : List Value} {M : cx_M} {k n : Nat} {Q : State → Prop} {F : cx_M → Int32 → Prop} {index count : Nat}  : cq_cal (cFi_of N how b M) F → decode cc pc = .ok (.invokeinterface index count, 5) → Cond.methodLink S.2.1 index ⟨"CircuitCells$Fill", "of", "(LCircuitCells$State;)I"⟩ ∈ lw_all → Cond.interfaceEntry S.2.1 index ∈ lw_tbl → 40 ≤ S.2.2.2.1.frames → 1200 ≤ S.2.2.2.1.locals → (st.map fun v => v.category).sum ≤ 7 → k ≤ S.2.2.2.1.cells → n ≤ S.2.2.2.1.slots →
  (∀ M' r, F M' r → cq_V l g X S cc (pc + 5) lv (.int r :: st) M' k n Q) → cq_V l g X S cc pc lv (.ref (adr b) :: .ref (adr (9100 + how)) :: st) M k n Q := H.2.2.2.2.2.1 how hhow b hb l X S cc pc lv st M k n Q F index count 
theorem cLs_fi_ {g : cx_G} {adr : Nat → Nat} {N : cx_N} (H : cCp_H g adr N) {how : Nat} (hhow : how < 3) {b : Nat} (hb : cSt_H g adr b) {l : Launch} {X : cx_X} {S : cx_S} {cc : ByteArray} {pc : Nat} {lv : List (Nat × Value)} {st : List Value} {M : cx_M} {k n : Nat} {rs : cx_R} {F : cx_M → Int32 → Option cx_R} {index count : Nat}  : cx_cal (cFi_of N how b M) F = some rs → decode cc pc = .ok (.invokeinterface index count, 5) → Cond.methodLink S.2.1 index ⟨"CircuitCells$Fill", "of", "(LCircuitCells$State;)I"⟩ ∈ lw_all → Cond.interfaceEntry S.2.1 index ∈ lw_tbl → 40 ≤ S.2.2.2.1.frames → 1200 ≤ S.2.2.2.1.locals → (st.map fun v => v.category).sum ≤ 7 → k ≤ S.2.2.2.1.cells → n ≤ S.2.2.2.1.slots →
  (∀ M' r, F M' r = some rs → cx_V l g X S cc (pc + 5) lv (.int r :: st) M' k n rs) → cx_V l g X S cc pc lv (.ref (adr b) :: .ref (adr (9100 + how)) :: st) M k n rs := fun h => H.2.2.2.2.2.1 how hhow b hb l X S cc pc lv st M k n (cx_fin g X S rs) (fun M' r => F M' r = some rs) index count  (cq_calS h)
theorem cqs_fills {g : cx_G} {adr : Nat → Nat} {N : cx_N} (H : cCp_H g adr N)  {l : Launch} {X : cx_X} {S : cx_S} {cc : ByteArray} {pc : Nat} {lv : List (Nat × Value)} {st : List Value} {M : cx_M} {k n : Nat} {Q : State → Prop} {F : Nat → Prop} {index : Nat} {i : Int32} : cq_ix i 3 F → decode cc pc = .ok (.invokevirtual index, 3) → Cond.methodLink S.2.1 index ⟨"java/util/ArrayList", "get", "(I)Ljava/lang/Object;"⟩ ∈ lw_all → 30 ≤ S.2.2.2.1.frames → 900 ≤ S.2.2.2.1.locals → (st.map fun v => v.category).sum ≤ 6 → k ≤ S.2.2.2.1.cells → n ≤ S.2.2.2.1.slots →
  (∀ j, j < 3 → F j → cq_V l g X S cc (pc + 3) lv (.ref (adr (9050 + j)) :: st) M k n Q) → cq_V l g X S cc pc lv (.int i :: .ref (adr 9040) :: st) M k n Q := H.2.2.2.2.2.2.2.2.2.2.2.1  l X S cc pc lv st M k n Q F index i
theorem cLs_fills {g : cx_G} {adr : Nat → Nat} {N : cx_N} (H : cCp_H g adr N)  {l : Launch} {X : cx_X} {S : cx_S} {cc : ByteArray} {pc : Nat} {lv : List (Nat × Value)} {st : List Value} {M : cx_M} {k n : Nat} {rs : cx_R} {F : Nat → Option cx_R} {index : Nat} {i : Int32} : cx_ix i 3 F = some rs → decode cc pc = .ok (.invokevirtual index, 3) → Cond.methodLink S.2.1 index ⟨"java/util/ArrayList", "get", "(I)Ljava/lang/Object;"⟩ ∈ lw_all → 30 ≤ S.2.2.2.1.frames → 900 ≤ S.2.2.2.1.locals → (st.map fun v => v.category).sum ≤ 6 → k ≤ S.2.2.2.1.cells → n ≤ S.2.2.2.1.slots →
  (∀ j, j < 3 → F j = some rs → cx_V l g X S cc (pc + 3) lv (.ref (adr (9050 + j)) :: st) M k n rs) → cx_V l g X S cc pc lv (.int i :: .ref (adr 9040) :: st) M k n rs := fun h => H.2.2.2.2.2.2.2.2.2.2.2.1  l X S cc pc lv st M k n (cx_fin g X S rs) (fun j => F j = some rs) index i (cq_ixS h)
theorem cqs_looks {g : cx_G} {adr : Nat → Nat} {N : cx_N} (H : cCp_H g adr N)  {l : Launch} {X : cx_X} {S : cx_S} {cc : ByteArray} {pc : Nat} {lv : List (Nat × Value)} {st : List Value} {M : cx_M} {k n : Nat} {Q : State → Prop} {F : Nat → Prop} {index : Nat} {i : Int32} : cq_ix i 6 F → decode cc pc = .ok (.invokevirtual index, 3) → Cond.methodLink S.2.1 index ⟨"java/util/ArrayList", "get", "(I)Ljava/lang/Object;"⟩ ∈ lw_all → 30 ≤ S.2.2.2.1.frames → 900 ≤ S.2.2.2.1.locals → (st.map fun v => v.category).sum ≤ 6 → k ≤ S.2.2.2.1.cells → n ≤ S.2.2.2.1.slots →
  (∀ j, j < 6 → F j → cq_V l g X S cc (pc + 3) lv (.ref (adr (9060 + j)) :: st) M k n Q) → cq_V l g X S cc pc lv (.int i :: .ref (adr 9041) :: st) M k n Q := H.2.2.2.2.2.2.2.2.2.2.2.2.1  l X S cc pc lv st M k n Q F index i
theorem cLs_looks {g : cx_G} {adr : Nat → Nat} {N : cx_N} (H : cCp_H g adr N)  {l : Launch} {X : cx_X} {S : cx_S} {cc : ByteArray} {pc : Nat} {lv : List (Nat × Value)} {st : List Value} {M : cx_M} {k n : Nat} {rs : cx_R} {F : Nat → Option cx_R} {index : Nat} {i : Int32} : cx_ix i 6 F = some rs → decode cc pc = .ok (.invokevirtual index, 3) → Cond.methodLink S.2.1 index ⟨"java/util/ArrayList", "get", "(I)Ljava/lang/Object;"⟩ ∈ lw_all → 30 ≤ S.2.2.2.1.frames → 900 ≤ S.2.2.2.1.locals → (st.map fun v => v.category).sum ≤ 6 → k ≤ S.2.2.2.1.cells → n ≤ S.2.2.2.1.slots →
  (∀ j, j < 6 → F j = some rs → cx_V l g X S cc (pc + 3) lv (.ref (adr (9060 + j)) :: st) M k n rs) → cx_V l g X S cc pc lv (.int i :: .ref (adr 9041) :: st) M k n rs := fun h => H.2.2.2.2.2.2.2.2.2.2.2.2.1  l X S cc pc lv st M k n (cx_fin g X S rs) (fun j => F j = some rs) index i (cq_ixS h)
theorem cqs_size {g : cx_G} {adr : Nat → Nat} {N : cx_N} (H : cCp_H g adr N)  {l : Launch} {X : cx_X} {S : cx_S} {cc : ByteArray} {pc : Nat} {lv : List (Nat × Value)} {st : List Value} {M : cx_M} {k n : Nat} {Q : State → Prop} {F : Int32 → Prop} {index : Nat}  : cq_let (cLn_n N) F → decode cc pc = .ok (.invokevirtual index, 3) → Cond.methodLink S.2.1 index ⟨"java/util/ArrayList", "size", "()I"⟩ ∈ lw_all → 30 ≤ S.2.2.2.1.frames → 900 ≤ S.2.2.2.1.locals → (st.map fun v => v.category).sum ≤ 6 → k ≤ S.2.2.2.1.cells → n ≤ S.2.2.2.1.slots →
  (∀ v, F v → cq_V l g X S cc (pc + 3) lv (.int v :: st) M k n Q) → cq_V l g X S cc pc lv (.ref (adr 8001) :: st) M k n Q := H.2.2.2.2.2.2.2.2.2.2.2.2.2.1  l X S cc pc lv st M k n Q F index 
theorem cLs_size {g : cx_G} {adr : Nat → Nat} {N : cx_N} (H : cCp_H g adr N)  {l : Launch} {X : cx_X} {S : cx_S} {cc : ByteArray} {pc : Nat} {lv : List (Nat × Value)} {st : List Value} {M : cx_M} {k n : Nat} {rs : cx_R} {F : Int32 → Option cx_R} {index : Nat}  : cx_let (cLn_n N) F = some rs → decode cc pc = .ok (.invokevirtual index, 3) → Cond.methodLink S.2.1 index ⟨"java/util/ArrayList", "size", "()I"⟩ ∈ lw_all → 30 ≤ S.2.2.2.1.frames → 900 ≤ S.2.2.2.1.locals → (st.map fun v => v.category).sum ≤ 6 → k ≤ S.2.2.2.1.cells → n ≤ S.2.2.2.1.slots →
  (∀ v, F v = some rs → cx_V l g X S cc (pc + 3) lv (.int v :: st) M k n rs) → cx_V l g X S cc pc lv (.ref (adr 8001) :: st) M k n rs := fun h => H.2.2.2.2.2.2.2.2.2.2.2.2.2.1  l X S cc pc lv st M k n (cx_fin g X S rs) (fun v => F v = some rs) index  ( h)
theorem cqs_ahead {g : cx_G} {adr : Nat → Nat} {N : cx_N} (H : cCp_H g adr N) {b : Nat} (hb : cBk_H g adr b) {l : Launch} {X : cx_X} {S : cx_S} {cc : ByteArray} {pc : Nat} {lv : List (Nat × Value)} {st : List Value} {M : cx_M} {k n : Nat} {Q : State → Prop} {F : Nat → Prop} {index : Nat} {i : Int32} : cq_ahd (M (b + 2)) i F → decode cc pc = .ok (.invokevirtual index, 3) → Cond.methodLink S.2.1 index ⟨"java/util/ArrayList", "get", "(I)Ljava/lang/Object;"⟩ ∈ lw_all → 30 ≤ S.2.2.2.1.frames → 900 ≤ S.2.2.2.1.locals → (st.map fun v => v.category).sum ≤ 6 → k ≤ S.2.2.2.1.cells → n ≤ S.2.2.2.1.slots →
  (∀ j, cSt_H g adr j → F j → cq_V l g X S cc (pc + 3) lv (.ref (adr j) :: st) M k n Q) → cq_V l g X S cc pc lv (.int i :: .ref (adr (b + 2)) :: st) M k n Q := H.2.2.2.2.2.2.2.2.2.2.2.2.2.2.1 b hb l X S cc pc lv st M k n Q F index i
theorem cLs_ahead {g : cx_G} {adr : Nat → Nat} {N : cx_N} (H : cCp_H g adr N) {b : Nat} (hb : cBk_H g adr b) {l : Launch} {X : cx_X} {S : cx_S} {cc : ByteArray} {pc : Nat} {lv : List (Nat × Value)} {st : List Value} {M : cx_M} {k n : Nat} {rs : cx_R} {F : Nat → Option cx_R} {index : Nat} {i : Int32} : cx_ahd (M (b + 2)) i F = some rs → decode cc pc = .ok (.invokevirtual index, 3) → Cond.methodLink S.2.1 index ⟨"java/util/ArrayList", "get", "(I)Ljava/lang/Object;"⟩ ∈ lw_all → 30 ≤ S.2.2.2.1.frames → 900 ≤ S.2.2.2.1.locals → (st.map fun v => v.category).sum ≤ 6 → k ≤ S.2.2.2.1.cells → n ≤ S.2.2.2.1.slots →
  (∀ j, cSt_H g adr j → F j = some rs → cx_V l g X S cc (pc + 3) lv (.ref (adr j) :: st) M k n rs) → cx_V l g X S cc pc lv (.int i :: .ref (adr (b + 2)) :: st) M k n rs := fun h => H.2.2.2.2.2.2.2.2.2.2.2.2.2.2.1 b hb l X S cc pc lv st M k n (cx_fin g X S rs) (fun j => F j = some rs) index i (cq_ahdS h)
theorem cqs_remove {g : cx_G} {adr : Nat → Nat} {N : cx_N} (H : cCp_H g adr N) {b : Nat} (hb : cBk_H g adr b) {l : Launch} {X : cx_X} {S : cx_S} {cc : ByteArray} {pc : Nat} {lv : List (Nat × Value)} {st : List Value} {M : cx_M} {k n : Nat} {Q : State → Prop} {F : cx_M → Nat → Prop} {index : Nat} {i : Int32} : cq_arem M (b + 2) i F → decode cc pc = .ok (.invokevirtual index, 3) → Cond.methodLink S.2.1 index ⟨"java/util/ArrayList", "remove", "(I)Ljava/lang/Object;"⟩ ∈ lw_all → 30 ≤ S.2.2.2.1.frames → 900 ≤ S.2.2.2.1.locals → (st.map fun v => v.category).sum ≤ 6 → k ≤ S.2.2.2.1.cells → n ≤ S.2.2.2.1.slots →
  (∀ M' j, cSt_H g adr j → F M' j → cq_V l g X S cc (pc + 3) lv (.ref (adr j) :: st) M' k n Q) → cq_V l g X S cc pc lv (.int i :: .ref (adr (b + 2)) :: st) M k n Q := H.2.2.2.2.2.2.2.2.2.2.2.2.2.2.2.1 b hb l X S cc pc lv st M k n Q F index i
theorem cLs_remove {g : cx_G} {adr : Nat → Nat} {N : cx_N} (H : cCp_H g adr N) {b : Nat} (hb : cBk_H g adr b) {l : Launch} {X : cx_X} {S : cx_S} {cc : ByteArray} {pc : Nat} {lv : List (Nat × Value)} {st : List Value} {M : cx_M} {k n : Nat} {rs : cx_R} {F : cx_M → Nat → Option cx_R} {index : Nat} {i : Int32} : cx_arem M (b + 2) i F = some rs → decode cc pc = .ok (.invokevirtual index, 3) → Cond.methodLink S.2.1 index ⟨"java/util/ArrayList", "remove", "(I)Ljava/lang/Object;"⟩ ∈ lw_all → 30 ≤ S.2.2.2.1.frames → 900 ≤ S.2.2.2.1.locals → (st.map fun v => v.category).sum ≤ 6 → k ≤ S.2.2.2.1.cells → n ≤ S.2.2.2.1.slots →
  (∀ M' j, cSt_H g adr j → F M' j = some rs → cx_V l g X S cc (pc + 3) lv (.ref (adr j) :: st) M' k n rs) → cx_V l g X S cc pc lv (.int i :: .ref (adr (b + 2)) :: st) M k n rs := fun h => H.2.2.2.2.2.2.2.2.2.2.2.2.2.2.2.1 b hb l X S cc pc lv st M k n (cx_fin g X S rs) (fun M' j => F M' j = some rs) index i (cq_aremS h)
theorem cqs_add {g : cx_G} {adr : Nat → Nat} {N : cx_N} (H : cCp_H g adr N) {b : Nat} (hb : cBk_H g adr b) {j : Nat} (hj : cSt_H g adr j) {l : Launch} {X : cx_X} {S : cx_S} {cc : ByteArray} {pc : Nat} {lv : List (Nat × Value)} {st : List Value} {M : cx_M} {k n : Nat} {Q : State → Prop} {F : cx_M → Prop} {index : Nat}  : cq_aadd M (b + 2) j F → decode cc pc = .ok (.invokevirtual index, 3) → Cond.methodLink S.2.1 index ⟨"java/util/ArrayList", "add", "(Ljava/lang/Object;)Z"⟩ ∈ lw_all → 30 ≤ S.2.2.2.1.frames → 900 ≤ S.2.2.2.1.locals → (st.map fun v => v.category).sum ≤ 6 → k ≤ S.2.2.2.1.cells → n ≤ S.2.2.2.1.slots →
  (∀ M', F M' → cq_V l g X S cc (pc + 3) lv (.int 1 :: st) M' k n Q) → cq_V l g X S cc pc lv (.ref (adr j) :: .ref (adr (b + 2)) :: st) M k n Q := H.2.2.2.2.2.2.2.2.2.2.2.2.2.2.2.2.1 b hb j hj l X S cc pc lv st M k n Q F index 
theorem cLs_add {g : cx_G} {adr : Nat → Nat} {N : cx_N} (H : cCp_H g adr N) {b : Nat} (hb : cBk_H g adr b) {j : Nat} (hj : cSt_H g adr j) {l : Launch} {X : cx_X} {S : cx_S} {cc : ByteArray} {pc : Nat} {lv : List (Nat × Value)} {st : List Value} {M : cx_M} {k n : Nat} {rs : cx_R} {F : cx_M → Option cx_R} {index : Nat}  : cx_aadd M (b + 2) j F = some rs → decode cc pc = .ok (.invokevirtual index, 3) → Cond.methodLink S.2.1 index ⟨"java/util/ArrayList", "add", "(Ljava/lang/Object;)Z"⟩ ∈ lw_all → 30 ≤ S.2.2.2.1.frames → 900 ≤ S.2.2.2.1.locals → (st.map fun v => v.category).sum ≤ 6 → k ≤ S.2.2.2.1.cells → n ≤ S.2.2.2.1.slots →
  (∀ M', F M' = some rs → cx_V l g X S cc (pc + 3) lv (.int 1 :: st) M' k n rs) → cx_V l g X S cc pc lv (.ref (adr j) :: .ref (adr (b + 2)) :: st) M k n rs := fun h => H.2.2.2.2.2.2.2.2.2.2.2.2.2.2.2.2.1 b hb j hj l X S cc pc lv st M k n (cx_fin g X S rs) (fun M' => F M' = some rs) index  (cq_aaddS h)
theorem cqs_at {g : cx_G} {adr : Nat → Nat} {N : cx_N} (H : cCp_H g adr N) {kL : Nat} (hk : kL < 20) {b : Nat} (hb : cSt_H g adr b) {l : Launch} {X : cx_X} {S : cx_S} {cc : ByteArray} {pc : Nat} {lv : List (Nat × Value)} {st : List Value} {M : cx_M} {k n : Nat} {Q : State → Prop} {F : cx_M → Int32 → Prop} {index count : Nat}  : cq_cal (cLk_at N kL b M) F → decode cc pc = .ok (.invokeinterface index count, 5) → Cond.methodLink S.2.1 index ⟨"CircuitCells$Look", "at", "(LCircuitCells$State;)I"⟩ ∈ lw_all → Cond.interfaceEntry S.2.1 index ∈ lw_tbl → 60 ≤ S.2.2.2.1.frames → 2000 ≤ S.2.2.2.1.locals → (st.map fun v => v.category).sum ≤ 6 → k ≤ S.2.2.2.1.cells → n ≤ S.2.2.2.1.slots →
  (∀ M' r, F M' r → cq_V l g X S cc (pc + 5) lv (.int r :: st) M' k n Q) → cq_V l g X S cc pc lv (.ref (adr b) :: .ref (adr (9110 + kL)) :: st) M k n Q := H.2.2.2.2.2.2.2.2.2.2.2.2.2.2.2.2.2.1 kL hk b hb l X S cc pc lv st M k n Q F index count 
theorem cLs_at {g : cx_G} {adr : Nat → Nat} {N : cx_N} (H : cCp_H g adr N) {kL : Nat} (hk : kL < 20) {b : Nat} (hb : cSt_H g adr b) {l : Launch} {X : cx_X} {S : cx_S} {cc : ByteArray} {pc : Nat} {lv : List (Nat × Value)} {st : List Value} {M : cx_M} {k n : Nat} {rs : cx_R} {F : cx_M → Int32 → Option cx_R} {index count : Nat}  : cx_cal (cLk_at N kL b M) F = some rs → decode cc pc = .ok (.invokeinterface index count, 5) → Cond.methodLink S.2.1 index ⟨"CircuitCells$Look", "at", "(LCircuitCells$State;)I"⟩ ∈ lw_all → Cond.interfaceEntry S.2.1 index ∈ lw_tbl → 60 ≤ S.2.2.2.1.frames → 2000 ≤ S.2.2.2.1.locals → (st.map fun v => v.category).sum ≤ 6 → k ≤ S.2.2.2.1.cells → n ≤ S.2.2.2.1.slots →
  (∀ M' r, F M' r = some rs → cx_V l g X S cc (pc + 5) lv (.int r :: st) M' k n rs) → cx_V l g X S cc pc lv (.ref (adr b) :: .ref (adr (9110 + kL)) :: st) M k n rs := fun h => H.2.2.2.2.2.2.2.2.2.2.2.2.2.2.2.2.2.1 kL hk b hb l X S cc pc lv st M k n (cx_fin g X S rs) (fun M' r => F M' r = some rs) index count  (cq_calS h)
theorem cqs_is {g : cx_G} {adr : Nat → Nat} {N : cx_N} (H : cCp_H g adr N) {kW : Nat} (hk : kW < 8) {b : Nat} (hb : cSt_H g adr b) {l : Launch} {X : cx_X} {S : cx_S} {cc : ByteArray} {pc : Nat} {lv : List (Nat × Value)} {st : List Value} {M : cx_M} {k n : Nat} {Q : State → Prop} {F : cx_M → Int32 → Prop} {index count : Nat} {x : Int32} : cq_cal (cWt_is N kW b M x) F → decode cc pc = .ok (.invokeinterface index count, 5) → Cond.methodLink S.2.1 index ⟨"CircuitCells$Wait", "is", "(LCircuitCells$State;I)Z"⟩ ∈ lw_all → Cond.interfaceEntry S.2.1 index ∈ lw_tbl → 60 ≤ S.2.2.2.1.frames → 2000 ≤ S.2.2.2.1.locals → (st.map fun v => v.category).sum ≤ 6 → k ≤ S.2.2.2.1.cells → n ≤ S.2.2.2.1.slots →
  (∀ M' r, F M' r → cq_V l g X S cc (pc + 5) lv (.int r :: st) M' k n Q) → cq_V l g X S cc pc lv (.int x :: .ref (adr b) :: .ref (adr (9130 + kW)) :: st) M k n Q := H.2.2.2.2.2.2.2.2.2.2.2.2.2.2.2.2.2.2.1 kW hk b hb l X S cc pc lv st M k n Q F index count x
theorem cLs_is {g : cx_G} {adr : Nat → Nat} {N : cx_N} (H : cCp_H g adr N) {kW : Nat} (hk : kW < 8) {b : Nat} (hb : cSt_H g adr b) {l : Launch} {X : cx_X} {S : cx_S} {cc : ByteArray} {pc : Nat} {lv : List (Nat × Value)} {st : List Value} {M : cx_M} {k n : Nat} {rs : cx_R} {F : cx_M → Int32 → Option cx_R} {index count : Nat} {x : Int32} : cx_cal (cWt_is N kW b M x) F = some rs → decode cc pc = .ok (.invokeinterface index count, 5) → Cond.methodLink S.2.1 index ⟨"CircuitCells$Wait", "is", "(LCircuitCells$State;I)Z"⟩ ∈ lw_all → Cond.interfaceEntry S.2.1 index ∈ lw_tbl → 60 ≤ S.2.2.2.1.frames → 2000 ≤ S.2.2.2.1.locals → (st.map fun v => v.category).sum ≤ 6 → k ≤ S.2.2.2.1.cells → n ≤ S.2.2.2.1.slots →
  (∀ M' r, F M' r = some rs → cx_V l g X S cc (pc + 5) lv (.int r :: st) M' k n rs) → cx_V l g X S cc pc lv (.int x :: .ref (adr b) :: .ref (adr (9130 + kW)) :: st) M k n rs := fun h => H.2.2.2.2.2.2.2.2.2.2.2.2.2.2.2.2.2.2.1 kW hk b hb l X S cc pc lv st M k n (cx_fin g X S rs) (fun M' r => F M' r = some rs) index count x (cq_calS h)
theorem cLs_fi {g : cx_G} {adr : Nat → Nat} {N : cx_N} (H : cCp_H g adr N) {j : Nat} (hj : j < 3) : cx_FR g 0 (adr (9050 + j)) ("CircuitCells$Filling", "fill", "LCircuitCells$Fill;", true) (.ref (adr (9100 + j))) := (H.2.2.2.2.2.2.2.2.2.2.2.2.2.2.2.2.2.2.2.1 j hj).1
theorem cLs_lo {g : cx_G} {adr : Nat → Nat} {N : cx_N} (H : cCp_H g adr N) {j : Nat} (hj : j < 6) : cx_FR g 0 (adr (9060 + j)) ("CircuitCells$Looking", "look", "LCircuitCells$Look;", true) (.ref (adr (9110 + j))) := (H.2.2.2.2.2.2.2.2.2.2.2.2.2.2.2.2.2.2.2.2 j hj).1
theorem cLs_fic {g : cx_G} {adr : Nat → Nat} {N : cx_N} (H : cCp_H g adr N) {j : Nat} (hj : j < 3) : cx_Rc g (adr (9050 + j)) RX8 := (H.2.2.2.2.2.2.2.2.2.2.2.2.2.2.2.2.2.2.2.1 j hj).2
theorem cLs_loc {g : cx_G} {adr : Nat → Nat} {N : cx_N} (H : cCp_H g adr N) {j : Nat} (hj : j < 6) : cx_Rc g (adr (9060 + j)) RX9 := (H.2.2.2.2.2.2.2.2.2.2.2.2.2.2.2.2.2.2.2.2 j hj).2
theorem cLn_octet_m {l : Launch} {g : cx_G} {adr : Nat → Nat} {N : cx_N} (H : cCp_H g adr N) (M : cx_M) (i : Int32) (rs : cx_R) (h : cLn_octet N M i = some rs) : cx_Met l g yX2_octet cX2_octet sX2_octet [.ref (adr 8000), .int i] M rs := H.2.2.2.2.2.2.1 l M i rs h
abbrev sJ18_ordinal : cx_S := (1, RJ18, cx_rI, { frames := 0, cells := 0, slots := 0, locals := 0 }, some .int, false)
theorem jEn_ordinal_m {l : Launch} {g : cx_G} {a : Nat} {e : Int32} (hO : ∀ (M : cx_M) (U : State), cx_w g M U.heap → cx_K g U → cx_OF "java/lang/Enum" "ordinal" "I" (.int e) a U) (M : cx_M) (rs : cx_R) (h : some (M, e, 0) = some rs) : cx_Met l g yJ18_ordinal cJ18_ordinal sJ18_ordinal [.ref a] M rs :=
  cx_met (by decide +kernel) rfl rfl (lv := [(0, .ref a)]) rfl (cx_le rfl) (fun X => by
    refine cx_aload_n 0 dJ18_ordinal_0 rfl ?_
    refine cx_getS hO q3017 dJ18_ordinal_1 ?_
    exact cx_iret h rfl rfl (cx_le rfl) (cx_le rfl) dJ18_ordinal_4)
theorem gU_X3_19 : GoodIn lw_all (va_wsU RX3 19 "CircuitCells$Value" "java/lang/Enum" ⟨"CircuitCells$Value", "ordinal", "()I"⟩ yJ18_ordinal (ws_ yJ18_ordinal cJ18_ordinal 1 (some .int))) := by
  refine lw_app ?_ (lw_meth q1184)
  intro w hw
  simp only [List.mem_cons, List.not_mem_nil, or_false] at hw
  rcases hw with e | e | e | e | e
  · rw [e]; exact q1179
  · rw [e]; exact q1180
  · rw [e]; exact q1182
  · rw [e]; exact q1183
  · rw [e]; exact q138
theorem cVw_sees_m {l : Launch} {g : cx_G} {adr : Nat → Nat} {N : cx_N} (H : cCp_H g adr N) {e : Nat} (he : e < 4) (M : cx_M) (x : Int32) (rs : cx_R) (h : cVw_sees N e M x = some rs) : cx_Met l g yX3_sees cX3_sees sX3_sees [.ref (adr 8010), .ref (adr (9200 + e)), .int x] M rs :=
  cx_met (by decide +kernel) rfl rfl (lv := [(0, .ref (adr 8010)), (1, .ref (adr (9200 + e))), (2, .int x)]) rfl (cx_le rfl) (fun X => by
    have hh : cx_cal (some (M, nI e, 0)) (fun M1 v => cx_st M1 8011 4 v x fun M2 => some (M2, 0, 0)) = some rs := by
      unfold cx_cal cx_st
      dsimp only
      rw [if_neg (vp_in_nI he (by decide)), nI_clamp (by omega)]
      exact h
    refine cx_aload_n 0 dX3_sees_0 rfl ?_
    refine cx_getR (cVw_R0 H) q552 dX3_sees_1 ?_
    refine cx_aload_n 1 dX3_sees_4 rfl ?_
    refine cx_cUi [] [.ref (adr 8011)] hh (fun rs' h' => jEn_ordinal_m (fun M U p q => ((H.2.2.2.1.1 U q).2.2.2.2 e he).2) M rs' h') (fun M U p q => ((H.2.2.2.1.1 U q).2.2.2.2 e he).1) dX3_sees_5 gU_X3_19 rfl (by decide +kernel) q1184 ⟨cx_le rfl, cx_le rfl⟩ rfl ⟨rfl, rfl⟩ ⟨cx_le rfl, cx_le rfl⟩ rfl (cx_le rfl) (fun M1 v h => ?_)
    refine cx_iload_n 2 dX3_sees_8 rfl ?_
    refine cx_stI h (cVw_A0 H) dX3_sees_9 (fun M2 h => ?_)
    exact cx_vret h rfl rfl (cx_le rfl) (cx_le rfl) dX3_sees_10)
theorem cJB_a {g : cx_G} {adr : Nat → Nat} {N : cx_N} (H : cCp_H g adr N) : ∀ U, cx_K g U → va_Z "java/util/BitSet" "$assertionsDisabled" "Z" (.int 1) g.2.2.2.1 U U.heap := H.2.2.2.1.2
