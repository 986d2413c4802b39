theorem cx_ic_0 : Int32.ofInt 0 = 0 := by decide +kernel
theorem cx_cl_0 : ((0 : Int32)).toNatClampNeg = 0 := by decide +kernel
theorem cx_vin_0_64 : vp_in 0 64 := by unfold vp_in; decide +kernel
theorem cx_bp_m20 : (Int8.ofInt (-20)).toInt32 = (-20) := by decide +kernel
theorem cx_bp_m28 : (Int8.ofInt (-28)).toInt32 = (-28) := by decide +kernel
theorem cx_ic_m1 : Int32.ofInt (-1) = (-1) := by decide +kernel
theorem cx_ic_4 : Int32.ofInt 4 = 4 := by decide +kernel
theorem cx_sp_1023 : (Int16.ofInt 1023).toInt32 = 1023 := by decide +kernel
theorem cx_sp_1024 : (Int16.ofInt 1024).toInt32 = 1024 := by decide +kernel
theorem cx_bp_31 : (Int8.ofInt 31).toInt32 = 31 := by decide +kernel
theorem cx_bp_8 : (Int8.ofInt 8).toInt32 = 8 := by decide +kernel
theorem cx_cl_8 : ((8 : Int32)).toNatClampNeg = 8 := by decide +kernel
theorem cx_vin_8_20 : vp_in 8 20 := by unfold vp_in; decide +kernel
theorem cx_bp_9 : (Int8.ofInt 9).toInt32 = 9 := by decide +kernel
theorem cx_cl_9 : ((9 : Int32)).toNatClampNeg = 9 := by decide +kernel
theorem cx_vin_9_20 : vp_in 9 20 := by unfold vp_in; decide +kernel
theorem cx_v_1 : vp_nar .boolean 1 = 1 := by decide +kernel
theorem cx_z_0 : narrow .boolean (.int 0) = .int 0 := by decide +kernel
theorem cx_bp_25 : (Int8.ofInt 25).toInt32 = 25 := by decide +kernel
theorem cx_cl_25 : ((25 : Int32)).toNatClampNeg = 25 := by decide +kernel
theorem cx_vin_25_665 : vp_in 25 665 := by unfold vp_in; decide +kernel
theorem cx_cl_31 : ((31 : Int32)).toNatClampNeg = 31 := by decide +kernel
theorem cx_vin_31_665 : vp_in 31 665 := by unfold vp_in; decide +kernel
theorem cx_bp_40 : (Int8.ofInt 40).toInt32 = 40 := by decide +kernel
theorem cx_ic_2 : Int32.ofInt 2 = 2 := by decide +kernel
theorem cx_cl_2 : ((2 : Int32)).toNatClampNeg = 2 := by decide +kernel
theorem cx_vin_2_665 : vp_in 2 665 := by unfold vp_in; decide +kernel
theorem cx_vin_0_4 : vp_in 0 4 := by unfold vp_in; decide +kernel
theorem cx_vin_0_665 : vp_in 0 665 := by unfold vp_in; decide +kernel
theorem cx_cl_1 : ((1 : Int32)).toNatClampNeg = 1 := by decide +kernel
theorem cx_vin_1_4 : vp_in 1 4 := by unfold vp_in; decide +kernel
theorem cx_bp_24 : (Int8.ofInt 24).toInt32 = 24 := by decide +kernel
theorem cx_cl_24 : ((24 : Int32)).toNatClampNeg = 24 := by decide +kernel
theorem cx_vin_24_665 : vp_in 24 665 := by unfold vp_in; decide +kernel
theorem cx_vin_2_4 : vp_in 2 4 := by unfold vp_in; decide +kernel
theorem cx_ic_3 : Int32.ofInt 3 = 3 := by decide +kernel
theorem cx_cl_3 : ((3 : Int32)).toNatClampNeg = 3 := by decide +kernel
theorem cx_vin_3_4 : vp_in 3 4 := by unfold vp_in; decide +kernel
theorem cx_bp_60 : (Int8.ofInt 60).toInt32 = 60 := by decide +kernel
theorem cx_bp_33 : (Int8.ofInt 33).toInt32 = 33 := by decide +kernel
theorem cx_bp_26 : (Int8.ofInt 26).toInt32 = 26 := by decide +kernel
theorem cx_cl_26 : ((26 : Int32)).toNatClampNeg = 26 := by decide +kernel
theorem cx_vin_26_665 : vp_in 26 665 := by unfold vp_in; decide +kernel
theorem cx_vin_3_665 : vp_in 3 665 := by unfold vp_in; decide +kernel
theorem cx_bp_22 : (Int8.ofInt 22).toInt32 = 22 := by decide +kernel
theorem cx_cl_22 : ((22 : Int32)).toNatClampNeg = 22 := by decide +kernel
theorem cx_vin_22_665 : vp_in 22 665 := by unfold vp_in; decide +kernel
theorem cx_sp_1000 : (Int16.ofInt 1000).toInt32 = 1000 := by decide +kernel
theorem cx_bp_27 : (Int8.ofInt 27).toInt32 = 27 := by decide +kernel
theorem cx_cl_27 : ((27 : Int32)).toNatClampNeg = 27 := by decide +kernel
theorem cx_vin_27_665 : vp_in 27 665 := by unfold vp_in; decide +kernel
theorem cx_vin_1_665 : vp_in 1 665 := by unfold vp_in; decide +kernel
theorem cx_vin_0_20 : vp_in 0 20 := by unfold vp_in; decide +kernel
theorem cx_bp_14 : (Int8.ofInt 14).toInt32 = 14 := by decide +kernel
theorem cx_cl_14 : ((14 : Int32)).toNatClampNeg = 14 := by decide +kernel
theorem cx_vin_14_665 : vp_in 14 665 := by unfold vp_in; decide +kernel
theorem cx_bp_64 : (Int8.ofInt 64).toInt32 = 64 := by decide +kernel
theorem cx_ne_64 : ¬ (64 : Int32) = 0 := by decide +kernel
theorem cx_vin_8_665 : vp_in 8 665 := by unfold vp_in; decide +kernel
theorem cx_bp_16 : (Int8.ofInt 16).toInt32 = 16 := by decide +kernel
theorem cx_cl_16 : ((16 : Int32)).toNatClampNeg = 16 := by decide +kernel
theorem cx_vin_16_665 : vp_in 16 665 := by unfold vp_in; decide +kernel
theorem cx_bp_15 : (Int8.ofInt 15).toInt32 = 15 := by decide +kernel
theorem cx_cl_15 : ((15 : Int32)).toNatClampNeg = 15 := by decide +kernel
theorem cx_vin_15_665 : vp_in 15 665 := by unfold vp_in; decide +kernel
theorem cx_bp_17 : (Int8.ofInt 17).toInt32 = 17 := by decide +kernel
theorem cx_cl_17 : ((17 : Int32)).toNatClampNeg = 17 := by decide +kernel
theorem cx_vin_17_665 : vp_in 17 665 := by unfold vp_in; decide +kernel
theorem cx_bp_18 : (Int8.ofInt 18).toInt32 = 18 := by decide +kernel
theorem cx_cl_18 : ((18 : Int32)).toNatClampNeg = 18 := by decide +kernel
theorem cx_vin_18_665 : vp_in 18 665 := by unfold vp_in; decide +kernel
theorem cx_bp_19 : (Int8.ofInt 19).toInt32 = 19 := by decide +kernel
theorem cx_cl_19 : ((19 : Int32)).toNatClampNeg = 19 := by decide +kernel
theorem cx_vin_19_665 : vp_in 19 665 := by unfold vp_in; decide +kernel
theorem cx_bp_20 : (Int8.ofInt 20).toInt32 = 20 := by decide +kernel
theorem cx_cl_20 : ((20 : Int32)).toNatClampNeg = 20 := by decide +kernel
theorem cx_vin_20_665 : vp_in 20 665 := by unfold vp_in; decide +kernel
theorem cx_bp_21 : (Int8.ofInt 21).toInt32 = 21 := by decide +kernel
theorem cx_cl_21 : ((21 : Int32)).toNatClampNeg = 21 := by decide +kernel
theorem cx_vin_21_665 : vp_in 21 665 := by unfold vp_in; decide +kernel
theorem cx_bp_32 : (Int8.ofInt 32).toInt32 = 32 := by decide +kernel
theorem cx_sp_153 : (Int16.ofInt 153).toInt32 = 153 := by decide +kernel
theorem cx_sp_217 : (Int16.ofInt 217).toInt32 = 217 := by decide +kernel
theorem cx_ic_5 : Int32.ofInt 5 = 5 := by decide +kernel
theorem cx_cl_5 : ((5 : Int32)).toNatClampNeg = 5 := by decide +kernel
theorem cx_vin_5_665 : vp_in 5 665 := by unfold vp_in; decide +kernel
theorem cx_cl_4 : ((4 : Int32)).toNatClampNeg = 4 := by decide +kernel
theorem cx_vin_4_665 : vp_in 4 665 := by unfold vp_in; decide +kernel
theorem cx_bp_29 : (Int8.ofInt 29).toInt32 = 29 := by decide +kernel
theorem cx_cl_29 : ((29 : Int32)).toNatClampNeg = 29 := by decide +kernel
theorem cx_vin_29_665 : vp_in 29 665 := by unfold vp_in; decide +kernel
theorem cx_bp_23 : (Int8.ofInt 23).toInt32 = 23 := by decide +kernel
theorem cx_cl_23 : ((23 : Int32)).toNatClampNeg = 23 := by decide +kernel
theorem cx_vin_23_665 : vp_in 23 665 := by unfold vp_in; decide +kernel
theorem cx_bp_10 : (Int8.ofInt 10).toInt32 = 10 := by decide +kernel
theorem cx_cl_10 : ((10 : Int32)).toNatClampNeg = 10 := by decide +kernel
theorem cx_vin_10_665 : vp_in 10 665 := by unfold vp_in; decide +kernel
theorem cx_vin_9_665 : vp_in 9 665 := by unfold vp_in; decide +kernel
theorem cx_bp_11 : (Int8.ofInt 11).toInt32 = 11 := by decide +kernel
theorem cx_cl_11 : ((11 : Int32)).toNatClampNeg = 11 := by decide +kernel
theorem cx_vin_11_665 : vp_in 11 665 := by unfold vp_in; decide +kernel
theorem cx_vin_4_20 : vp_in 4 20 := by unfold vp_in; decide +kernel
theorem cx_sp_m3200 : (Int16.ofInt (-3200)).toInt32 = (-3200) := by decide +kernel
theorem cx_sp_3200 : (Int16.ofInt 3200).toInt32 = 3200 := by decide +kernel
theorem cx_ne_16 : ¬ (16 : Int32) = 0 := by decide +kernel
theorem cx_sp_m200 : (Int16.ofInt (-200)).toInt32 = (-200) := by decide +kernel
theorem cx_sp_200 : (Int16.ofInt 200).toInt32 = 200 := by decide +kernel
theorem cx_sp_281 : (Int16.ofInt 281).toInt32 = 281 := by decide +kernel
theorem cx_cl_32 : ((32 : Int32)).toNatClampNeg = 32 := by decide +kernel
theorem cx_vin_32_665 : vp_in 32 665 := by unfold vp_in; decide +kernel
theorem cx_sp_128 : (Int16.ofInt 128).toInt32 = 128 := by decide +kernel
theorem cx_ne_128 : ¬ (128 : Int32) = 0 := by decide +kernel
theorem cx_bp_7 : (Int8.ofInt 7).toInt32 = 7 := by decide +kernel
theorem cx_cl_7 : ((7 : Int32)).toNatClampNeg = 7 := by decide +kernel
theorem cx_vin_7_20 : vp_in 7 20 := by unfold vp_in; decide +kernel
theorem cx_bp_6 : (Int8.ofInt 6).toInt32 = 6 := by decide +kernel
theorem cx_cl_6 : ((6 : Int32)).toNatClampNeg = 6 := by decide +kernel
theorem cx_vin_6_665 : vp_in 6 665 := by unfold vp_in; decide +kernel
theorem cx_sp_409 : (Int16.ofInt 409).toInt32 = 409 := by decide +kernel
theorem cx_bp_126 : (Int8.ofInt 126).toInt32 = 126 := by decide +kernel
theorem cx_bp_28 : (Int8.ofInt 28).toInt32 = 28 := by decide +kernel
theorem cx_cl_28 : ((28 : Int32)).toNatClampNeg = 28 := by decide +kernel
theorem cx_vin_28_665 : vp_in 28 665 := by unfold vp_in; decide +kernel
theorem cx_vin_6_20 : vp_in 6 20 := by unfold vp_in; decide +kernel
theorem cx_bp_13 : (Int8.ofInt 13).toInt32 = 13 := by decide +kernel
theorem cx_cl_13 : ((13 : Int32)).toNatClampNeg = 13 := by decide +kernel
theorem cx_vin_13_665 : vp_in 13 665 := by unfold vp_in; decide +kernel
theorem cx_vin_7_665 : vp_in 7 665 := by unfold vp_in; decide +kernel
theorem cx_bp_30 : (Int8.ofInt 30).toInt32 = 30 := by decide +kernel
theorem cx_cl_30 : ((30 : Int32)).toNatClampNeg = 30 := by decide +kernel
theorem cx_vin_30_665 : vp_in 30 665 := by unfold vp_in; decide +kernel
theorem cx_sp_537 : (Int16.ofInt 537).toInt32 = 537 := by decide +kernel
theorem cx_bp_12 : (Int8.ofInt 12).toInt32 = 12 := by decide +kernel
theorem cx_cl_12 : ((12 : Int32)).toNatClampNeg = 12 := by decide +kernel
theorem cx_vin_12_665 : vp_in 12 665 := by unfold vp_in; decide +kernel
theorem cx_vin_10_20 : vp_in 10 20 := by unfold vp_in; decide +kernel
theorem cx_vin_11_20 : vp_in 11 20 := by unfold vp_in; decide +kernel
theorem cx_vin_12_20 : vp_in 12 20 := by unfold vp_in; decide +kernel
theorem cx_vin_13_20 : vp_in 13 20 := by unfold vp_in; decide +kernel
theorem cx_vin_14_20 : vp_in 14 20 := by unfold vp_in; decide +kernel
theorem cx_vin_15_20 : vp_in 15 20 := by unfold vp_in; decide +kernel
theorem cx_vin_16_20 : vp_in 16 20 := by unfold vp_in; decide +kernel
theorem cx_vin_17_20 : vp_in 17 20 := by unfold vp_in; decide +kernel
theorem cx_vin_18_20 : vp_in 18 20 := by unfold vp_in; decide +kernel
theorem cx_vin_19_20 : vp_in 19 20 := by unfold vp_in; decide +kernel
theorem cx_bp_85 : (Int8.ofInt 85).toInt32 = 85 := by decide +kernel
theorem cx_vin_16_32 : vp_in 16 32 := by unfold vp_in; decide +kernel
theorem cx_ne_2 : ¬ (2 : Int32) = 0 := by decide +kernel
theorem cx_sp_2048 : (Int16.ofInt 2048).toInt32 = 2048 := by decide +kernel
theorem cx_v_0 : vp_nar .boolean 0 = 0 := by decide +kernel
theorem cx_vin_2_20 : vp_in 2 20 := by unfold vp_in; decide +kernel
theorem cx_vin_3_20 : vp_in 3 20 := by unfold vp_in; decide +kernel
theorem cx_sp_665 : (Int16.ofInt 665).toInt32 = 665 := by decide +kernel
theorem cx_vin_1_20 : vp_in 1 20 := by unfold vp_in; decide +kernel
theorem cx_vin_5_20 : vp_in 5 20 := by unfold vp_in; decide +kernel
theorem cx_f_0 : fits .boolean (.int 0) = true := by decide +kernel
theorem cx_f_1 : fits .boolean (.int 1) = true := by decide +kernel
theorem cx_sp_10000 : (Int16.ofInt 10000).toInt32 = 10000 := by decide +kernel
theorem cx_sp_12345 : (Int16.ofInt 12345).toInt32 = 12345 := by decide +kernel
theorem cx_sp_32767 : (Int16.ofInt 32767).toInt32 = 32767 := by decide +kernel
theorem cx_sp_700 : (Int16.ofInt 700).toInt32 = 700 := by decide +kernel
theorem cx_ne_4 : ¬ (4 : Int32) = 0 := by decide +kernel
theorem cx_lc_0 : Int64.ofNat (((0 : Fin 2)) : Nat) = 0 := by decide +kernel
theorem cx_ne_10 : ¬ (10 : Int32) = 0 := by decide +kernel
theorem cx_bp_48 : (Int8.ofInt 48).toInt32 = 48 := by decide +kernel
theorem cx_bp_57 : (Int8.ofInt 57).toInt32 = 57 := by decide +kernel
theorem cx_bp_97 : (Int8.ofInt 97).toInt32 = 97 := by decide +kernel
theorem cx_bp_122 : (Int8.ofInt 122).toInt32 = 122 := by decide +kernel
theorem cx_bp_59 : (Int8.ofInt 59).toInt32 = 59 := by decide +kernel
theorem cx_bp_41 : (Int8.ofInt 41).toInt32 = 41 := by decide +kernel
theorem cx_bp_43 : (Int8.ofInt 43).toInt32 = 43 := by decide +kernel
theorem cx_bp_45 : (Int8.ofInt 45).toInt32 = 45 := by decide +kernel
theorem cx_bp_42 : (Int8.ofInt 42).toInt32 = 42 := by decide +kernel
theorem cx_bp_47 : (Int8.ofInt 47).toInt32 = 47 := by decide +kernel
theorem cx_bp_61 : (Int8.ofInt 61).toInt32 = 61 := by decide +kernel
theorem cx_nI_26600 : Int32.ofNat 26600 = 26600 := by decide +kernel
theorem cx_sp_9999 : (Int16.ofInt 9999).toInt32 = 9999 := by decide +kernel
theorem cx_bp_m23 : (Int8.ofInt (-23)).toInt32 = (-23) := by decide +kernel
theorem cx_bp_m22 : (Int8.ofInt (-22)).toInt32 = (-22) := by decide +kernel
theorem cx_bp_m21 : (Int8.ofInt (-21)).toInt32 = (-21) := by decide +kernel
theorem cx_bp_m25 : (Int8.ofInt (-25)).toInt32 = (-25) := by decide +kernel
theorem cx_bp_m24 : (Int8.ofInt (-24)).toInt32 = (-24) := by decide +kernel
theorem cx_bp_m26 : (Int8.ofInt (-26)).toInt32 = (-26) := by decide +kernel
theorem cx_bp_m27 : (Int8.ofInt (-27)).toInt32 = (-27) := by decide +kernel
theorem cx_bp_99 : (Int8.ofInt 99).toInt32 = 99 := by decide +kernel
theorem cx_vin_0_3 : vp_in 0 3 := by unfold vp_in; decide +kernel
theorem cx_bp_m99 : (Int8.ofInt (-99)).toInt32 = (-99) := by decide +kernel
theorem cx_lc_1 : Int64.ofNat (((1 : Fin 2)) : Nat) = 1 := by decide +kernel
theorem cx_vin_0_199 : vp_in 0 199 := by unfold vp_in; decide +kernel
theorem cx_bp_100 : (Int8.ofInt 100).toInt32 = 100 := by decide +kernel
theorem cx_sp_440 : (Int16.ofInt 440).toInt32 = 440 := by decide +kernel
theorem cx_sp_20000 : (Int16.ofInt 20000).toInt32 = 20000 := by decide +kernel
theorem cx_bp_80 : (Int8.ofInt 80).toInt32 = 80 := by decide +kernel
theorem cx_sp_400 : (Int16.ofInt 400).toInt32 = 400 := by decide +kernel
/-! THE REFERENCE's WORLD: its object is the cell 60, an array the cell of its field's number -/
/-! the reference's strings: their addresses are those from 1000 on, their bytes' those from 2000 on -/
def twSlen : List Nat := [6, 4, 4, 6, 4, 6, 4, 5, 6, 5, 4, 5, 4, 3, 3, 2]
def twSbyt : List (List Int32) := [[112, 97, 99, 107, 101, 116], [116, 105, 109, 101], [108, 97, 115, 116], [102, 108, 121, 105, 110, 103], [115, 105, 122, 101], [116, 97, 114, 103, 101, 116], [103, 97, 105, 110], [101, 118, 101, 114, 121], [111, 102, 102, 115, 101, 116], [102, 114, 97, 109, 101], [119, 111, 114, 100], [100, 101, 108, 97, 121], [108, 111, 115, 116], [110, 111, 116], [97, 110, 100], [111, 114]]
/-- what the reference's methods need of what is known besides: its strings -/
def tw_Hs (g : cx_G) (adr : Nat → Nat) : Prop := ∀ U, cx_K g U → vk_S 16 twSlen twSbyt (fun w => adr (1000000 + w)) (fun w => adr (1000100 + w)) g.2.2.2.1 U U.heap ∧
  vk_R "CircuitCellsModel" 222 "not" (adr 1000013) U ∧ vk_R "CircuitCellsModel" 230 "and" (adr 1000014) U ∧ vk_R "CircuitCellsModel" 235 "or" (adr 1000015) U
def twSn (w : Nat) : Nat := twSlen.getD w 0
def twSf (w : Nat) : Nat → Int32 := fun j => (twSbyt.getD w []).getD j 0
def twQn (w : Nat) : Nat := if w = 0 then 4 else 9

def twLen : Nat → Nat := fun c => match c with
  | 3 => 20
  | 4 => 32
  | 5 => 1400
  | 6 => 1400
  | 7 => 3
  | 8 => 665
  | 11 => 700
  | 22 => 4
  | 23 => 64
  | 26 => 8192
  | 27 => 2048
  | 33 => 26600
  | 34 => 665
  | 35 => 441
  | 38 => 8
  | 39 => 8
  | 40 => 199
  | 41 => 995
  | 47 => 665
  | 48 => 26600
  | 49 => 8
  | 50 => 8
  | 51 => 3
  | _ => 0
def twCells : List Nat := [3, 4, 5, 6, 7, 8, 11, 22, 23, 26, 27, 33, 34, 35, 38, 39, 40, 41, 47, 48, 49, 50, 51]
def twIA (c : Nat) : Bool := decide (c ∈ twCells)
/-- what a world says of the reference -/
def tw_H (g : cx_G) (adr : Nat → Nat) : Prop :=
  cx_Rc g (adr 60) RX10 ∧
  cx_FR g 0 (adr 60) ("CircuitCellsModel", "values", "[Ljava/lang/String;", true) (.ref (adr 0)) ∧
  cx_FR g 1 (adr 60) ("CircuitCellsModel", "clauses", "[Ljava/lang/String;", true) (.ref (adr 1)) ∧
  cx_FI g 60 2 (adr 60) ("CircuitCellsModel", "code", "I", false) .int ∧
  cx_FR g 3 (adr 60) ("CircuitCellsModel", "told", "[I", true) (.ref (adr 3)) ∧
  cx_FR g 4 (adr 60) ("CircuitCellsModel", "word", "[I", true) (.ref (adr 4)) ∧
  cx_FR g 5 (adr 60) ("CircuitCellsModel", "signsDelay", "[I", true) (.ref (adr 5)) ∧
  cx_FR g 6 (adr 60) ("CircuitCellsModel", "signsLost", "[I", true) (.ref (adr 6)) ∧
  cx_FR g 7 (adr 60) ("CircuitCellsModel", "status", "[I", true) (.ref (adr 7)) ∧
  cx_FR g 8 (adr 60) ("CircuitCellsModel", "now", "[I", true) (.ref (adr 8)) ∧
  cx_FI g 60 9 (adr 60) ("CircuitCellsModel", "begun", "Z", false) .boolean ∧
  cx_FI g 60 10 (adr 60) ("CircuitCellsModel", "ofLost", "Z", false) .boolean ∧
  cx_FR g 11 (adr 60) ("CircuitCellsModel", "tape", "[I", true) (.ref (adr 11)) ∧
  cx_FI g 60 12 (adr 60) ("CircuitCellsModel", "taped", "I", false) .int ∧
  cx_FI g 60 13 (adr 60) ("CircuitCellsModel", "at", "I", false) .int ∧
  cx_FI g 60 14 (adr 60) ("CircuitCellsModel", "size", "I", false) .int ∧
  cx_FI g 60 15 (adr 60) ("CircuitCellsModel", "token", "I", false) .int ∧
  cx_FI g 60 16 (adr 60) ("CircuitCellsModel", "number", "I", false) .int ∧
  cx_FI g 60 17 (adr 60) ("CircuitCellsModel", "begins", "I", false) .int ∧
  cx_FI g 60 18 (adr 60) ("CircuitCellsModel", "stops", "I", false) .int ∧
  cx_FI g 60 19 (adr 60) ("CircuitCellsModel", "bad", "I", false) .int ∧
  cx_FI g 60 20 (adr 60) ("CircuitCellsModel", "badPlace", "I", false) .int ∧
  cx_FI g 60 21 (adr 60) ("CircuitCellsModel", "faultPlace", "I", false) .int ∧
  cx_FR g 22 (adr 60) ("CircuitCellsModel", "asked", "[I", true) (.ref (adr 22)) ∧
  cx_FR g 23 (adr 60) ("CircuitCellsModel", "stack", "[I", true) (.ref (adr 23)) ∧
  cx_FI g 60 24 (adr 60) ("CircuitCellsModel", "p", "I", false) .int ∧
  cx_FI g 60 25 (adr 60) ("CircuitCellsModel", "i", "I", false) .int ∧
  cx_FR g 26 (adr 60) ("CircuitCellsModel", "givenFor", "[I", true) (.ref (adr 26)) ∧
  cx_FR g 27 (adr 60) ("CircuitCellsModel", "given", "[I", true) (.ref (adr 27)) ∧
  cx_FR g 28 (adr 60) ("CircuitCellsModel", "hasGiven", "[Z", true) (.ref (adr 28)) ∧
  cx_FI g 60 29 (adr 60) ("CircuitCellsModel", "stormy", "I", false) .int ∧
  cx_FI g 60 30 (adr 60) ("CircuitCellsModel", "stormLost", "I", false) .int ∧
  cx_FI g 60 31 (adr 60) ("CircuitCellsModel", "acts", "I", false) .int ∧
  cx_FI g 60 32 (adr 60) ("CircuitCellsModel", "noted", "I", false) .int ∧
  cx_FR g 33 (adr 60) ("CircuitCellsModel", "past", "[I", true) (.ref (adr 33)) ∧
  cx_FR g 34 (adr 60) ("CircuitCellsModel", "rowThen", "[I", true) (.ref (adr 34)) ∧
  cx_FR g 35 (adr 60) ("CircuitCellsModel", "playsThen", "[I", true) (.ref (adr 35)) ∧
  cx_FI g 60 36 (adr 60) ("CircuitCellsModel", "bestOf", "I", false) .int ∧
  cx_FI g 60 37 (adr 60) ("CircuitCellsModel", "leastOf", "I", false) .int ∧
  cx_FR g 38 (adr 60) ("CircuitCellsModel", "notedIn", "[I", true) (.ref (adr 38)) ∧
  cx_FR g 39 (adr 60) ("CircuitCellsModel", "notedLevel", "[I", true) (.ref (adr 39)) ∧
  cx_FR g 40 (adr 60) ("CircuitCellsModel", "fits", "[I", true) (.ref (adr 40)) ∧
  cx_FR g 41 (adr 60) ("CircuitCellsModel", "levelThen", "[I", true) (.ref (adr 41)) ∧
  cx_FI g 60 42 (adr 60) ("CircuitCellsModel", "fitMany", "I", false) .int ∧
  cx_FI g 60 43 (adr 60) ("CircuitCellsModel", "seedNow", "I", false) .int ∧
  cx_FI g 60 44 (adr 60) ("CircuitCellsModel", "hasImage", "Z", false) .boolean ∧
  cx_FI g 60 45 (adr 60) ("CircuitCellsModel", "actsThen", "I", false) .int ∧
  cx_FI g 60 46 (adr 60) ("CircuitCellsModel", "notedThen", "I", false) .int ∧
  cx_FR g 47 (adr 60) ("CircuitCellsModel", "imageRow", "[I", true) (.ref (adr 47)) ∧
  cx_FR g 48 (adr 60) ("CircuitCellsModel", "pastThen", "[I", true) (.ref (adr 48)) ∧
  cx_FR g 49 (adr 60) ("CircuitCellsModel", "notedInThen", "[I", true) (.ref (adr 49)) ∧
  cx_FR g 50 (adr 60) ("CircuitCellsModel", "notedLevelThen", "[I", true) (.ref (adr 50)) ∧
  cx_FR g 51 (adr 60) ("CircuitCellsModel", "statusThen", "[I", true) (.ref (adr 51)) ∧
  cx_AI g 3 20 (adr 3) 0 .int ∧
  cx_AI g 4 32 (adr 4) 0 .int ∧
  cx_AI g 5 1400 (adr 5) 0 .int ∧
  cx_AI g 6 1400 (adr 6) 0 .int ∧
  cx_AI g 7 3 (adr 7) 0 .int ∧
  cx_AI g 8 665 (adr 8) 0 .int ∧
  cx_AI g 11 700 (adr 11) 0 .int ∧
  cx_AI g 22 4 (adr 22) 0 .int ∧
  cx_AI g 23 64 (adr 23) 0 .int ∧
  cx_AI g 26 8192 (adr 26) 0 .int ∧
  cx_AI g 27 2048 (adr 27) 0 .int ∧
  cx_AI g 33 26600 (adr 33) 0 .int ∧
  cx_AI g 34 665 (adr 34) 0 .int ∧
  cx_AI g 35 441 (adr 35) 0 .int ∧
  cx_AI g 38 8 (adr 38) 0 .int ∧
  cx_AI g 39 8 (adr 39) 0 .int ∧
  cx_AI g 40 199 (adr 40) 0 .int ∧
  cx_AI g 41 995 (adr 41) 0 .int ∧
  cx_AI g 47 665 (adr 47) 0 .int ∧
  cx_AI g 48 26600 (adr 48) 0 .int ∧
  cx_AI g 49 8 (adr 49) 0 .int ∧
  cx_AI g 50 8 (adr 50) 0 .int ∧
  cx_AI g 51 3 (adr 51) 0 .int ∧
  cx_AI g 28 2048 (adr 28) 1 .boolean ∧
  (∀ w, w < 2 → cx_QI g (adr w) (twQn w) 5 "java/lang/String" (fun j => adr (1000000 + (4 * w + j)))) ∧
  tw_Hs g adr ∧
  cJ_H g
theorem tw_rc {g : cx_G} {adr : Nat → Nat} (H : tw_H g adr) : cx_Rc g (adr 60) RX10 := H.1
theorem tw_R0 {g : cx_G} {adr : Nat → Nat} (H : tw_H g adr) : cx_FR g 0 (adr 60) ("CircuitCellsModel", "values", "[Ljava/lang/String;", true) (.ref (adr 0)) := H.2.1
theorem tw_R1 {g : cx_G} {adr : Nat → Nat} (H : tw_H g adr) : cx_FR g 1 (adr 60) ("CircuitCellsModel", "clauses", "[Ljava/lang/String;", true) (.ref (adr 1)) := H.2.2.1
theorem tw_F2 {g : cx_G} {adr : Nat → Nat} (H : tw_H g adr) : cx_FI g 60 2 (adr 60) ("CircuitCellsModel", "code", "I", false) .int := H.2.2.2.1
theorem tw_R3 {g : cx_G} {adr : Nat → Nat} (H : tw_H g adr) : cx_FR g 3 (adr 60) ("CircuitCellsModel", "told", "[I", true) (.ref (adr 3)) := H.2.2.2.2.1
theorem tw_R4 {g : cx_G} {adr : Nat → Nat} (H : tw_H g adr) : cx_FR g 4 (adr 60) ("CircuitCellsModel", "word", "[I", true) (.ref (adr 4)) := H.2.2.2.2.2.1
theorem tw_R5 {g : cx_G} {adr : Nat → Nat} (H : tw_H g adr) : cx_FR g 5 (adr 60) ("CircuitCellsModel", "signsDelay", "[I", true) (.ref (adr 5)) := H.2.2.2.2.2.2.1
theorem tw_R6 {g : cx_G} {adr : Nat → Nat} (H : tw_H g adr) : cx_FR g 6 (adr 60) ("CircuitCellsModel", "signsLost", "[I", true) (.ref (adr 6)) := H.2.2.2.2.2.2.2.1
theorem tw_R7 {g : cx_G} {adr : Nat → Nat} (H : tw_H g adr) : cx_FR g 7 (adr 60) ("CircuitCellsModel", "status", "[I", true) (.ref (adr 7)) := H.2.2.2.2.2.2.2.2.1
theorem tw_R8 {g : cx_G} {adr : Nat → Nat} (H : tw_H g adr) : cx_FR g 8 (adr 60) ("CircuitCellsModel", "now", "[I", true) (.ref (adr 8)) := H.2.2.2.2.2.2.2.2.2.1
theorem tw_F9 {g : cx_G} {adr : Nat → Nat} (H : tw_H g adr) : cx_FI g 60 9 (adr 60) ("CircuitCellsModel", "begun", "Z", false) .boolean := H.2.2.2.2.2.2.2.2.2.2.1
theorem tw_F10 {g : cx_G} {adr : Nat → Nat} (H : tw_H g adr) : cx_FI g 60 10 (adr 60) ("CircuitCellsModel", "ofLost", "Z", false) .boolean := H.2.2.2.2.2.2.2.2.2.2.2.1
theorem tw_R11 {g : cx_G} {adr : Nat → Nat} (H : tw_H g adr) : cx_FR g 11 (adr 60) ("CircuitCellsModel", "tape", "[I", true) (.ref (adr 11)) := H.2.2.2.2.2.2.2.2.2.2.2.2.1
theorem tw_F12 {g : cx_G} {adr : Nat → Nat} (H : tw_H g adr) : cx_FI g 60 12 (adr 60) ("CircuitCellsModel", "taped", "I", false) .int := H.2.2.2.2.2.2.2.2.2.2.2.2.2.1
theorem tw_F13 {g : cx_G} {adr : Nat → Nat} (H : tw_H g adr) : cx_FI g 60 13 (adr 60) ("CircuitCellsModel", "at", "I", false) .int := H.2.2.2.2.2.2.2.2.2.2.2.2.2.2.1
theorem tw_F14 {g : cx_G} {adr : Nat → Nat} (H : tw_H g adr) : cx_FI g 60 14 (adr 60) ("CircuitCellsModel", "size", "I", false) .int := H.2.2.2.2.2.2.2.2.2.2.2.2.2.2.2.1
theorem tw_F15 {g : cx_G} {adr : Nat → Nat} (H : tw_H g adr) : cx_FI g 60 15 (adr 60) ("CircuitCellsModel", "token", "I", false) .int := H.2.2.2.2.2.2.2.2.2.2.2.2.2.2.2.2.1
theorem tw_F16 {g : cx_G} {adr : Nat → Nat} (H : tw_H g adr) : cx_FI g 60 16 (adr 60) ("CircuitCellsModel", "number", "I", false) .int := H.2.2.2.2.2.2.2.2.2.2.2.2.2.2.2.2.2.1
theorem tw_F17 {g : cx_G} {adr : Nat → Nat} (H : tw_H g adr) : cx_FI g 60 17 (adr 60) ("CircuitCellsModel", "begins", "I", false) .int := H.2.2.2.2.2.2.2.2.2.2.2.2.2.2.2.2.2.2.1
theorem tw_F18 {g : cx_G} {adr : Nat → Nat} (H : tw_H g adr) : cx_FI g 60 18 (adr 60) ("CircuitCellsModel", "stops", "I", false) .int := H.2.2.2.2.2.2.2.2.2.2.2.2.2.2.2.2.2.2.2.1
theorem tw_F19 {g : cx_G} {adr : Nat → Nat} (H : tw_H g adr) : cx_FI g 60 19 (adr 60) ("CircuitCellsModel", "bad", "I", false) .int := H.2.2.2.2.2.2.2.2.2.2.2.2.2.2.2.2.2.2.2.2.1
theorem tw_F20 {g : cx_G} {adr : Nat → Nat} (H : tw_H g adr) : cx_FI g 60 20 (adr 60) ("CircuitCellsModel", "badPlace", "I", false) .int := H.2.2.2.2.2.2.2.2.2.2.2.2.2.2.2.2.2.2.2.2.2.1
theorem tw_F21 {g : cx_G} {adr : Nat → Nat} (H : tw_H g adr) : cx_FI g 60 21 (adr 60) ("CircuitCellsModel", "faultPlace", "I", false) .int := H.2.2.2.2.2.2.2.2.2.2.2.2.2.2.2.2.2.2.2.2.2.2.1
theorem tw_R22 {g : cx_G} {adr : Nat → Nat} (H : tw_H g adr) : cx_FR g 22 (adr 60) ("CircuitCellsModel", "asked", "[I", true) (.ref (adr 22)) := H.2.2.2.2.2.2.2.2.2.2.2.2.2.2.2.2.2.2.2.2.2.2.2.1
theorem tw_R23 {g : cx_G} {adr : Nat → Nat} (H : tw_H g adr) : cx_FR g 23 (adr 60) ("CircuitCellsModel", "stack", "[I", true) (.ref (adr 23)) := H.2.2.2.2.2.2.2.2.2.2.2.2.2.2.2.2.2.2.2.2.2.2.2.2.1
theorem tw_F24 {g : cx_G} {adr : Nat → Nat} (H : tw_H g adr) : cx_FI g 60 24 (adr 60) ("CircuitCellsModel", "p", "I", false) .int := H.2.2.2.2.2.2.2.2.2.2.2.2.2.2.2.2.2.2.2.2.2.2.2.2.2.1
theorem tw_F25 {g : cx_G} {adr : Nat → Nat} (H : tw_H g adr) : cx_FI g 60 25 (adr 60) ("CircuitCellsModel", "i", "I", false) .int := H.2.2.2.2.2.2.2.2.2.2.2.2.2.2.2.2.2.2.2.2.2.2.2.2.2.2.1
theorem tw_R26 {g : cx_G} {adr : Nat → Nat} (H : tw_H g adr) : cx_FR g 26 (adr 60) ("CircuitCellsModel", "givenFor", "[I", true) (.ref (adr 26)) := H.2.2.2.2.2.2.2.2.2.2.2.2.2.2.2.2.2.2.2.2.2.2.2.2.2.2.2.1
theorem tw_R27 {g : cx_G} {adr : Nat → Nat} (H : tw_H g adr) : cx_FR g 27 (adr 60) ("CircuitCellsModel", "given", "[I", true) (.ref (adr 27)) := H.2.2.2.2.2.2.2.2.2.2.2.2.2.2.2.2.2.2.2.2.2.2.2.2.2.2.2.2.1
theorem tw_R28 {g : cx_G} {adr : Nat → Nat} (H : tw_H g adr) : cx_FR g 28 (adr 60) ("CircuitCellsModel", "hasGiven", "[Z", true) (.ref (adr 28)) := H.2.2.2.2.2.2.2.2.2.2.2.2.2.2.2.2.2.2.2.2.2.2.2.2.2.2.2.2.2.1
theorem tw_F29 {g : cx_G} {adr : Nat → Nat} (H : tw_H g adr) : cx_FI g 60 29 (adr 60) ("CircuitCellsModel", "stormy", "I", false) .int := H.2.2.2.2.2.2.2.2.2.2.2.2.2.2.2.2.2.2.2.2.2.2.2.2.2.2.2.2.2.2.1
theorem tw_F30 {g : cx_G} {adr : Nat → Nat} (H : tw_H g adr) : cx_FI g 60 30 (adr 60) ("CircuitCellsModel", "stormLost", "I", false) .int := H.2.2.2.2.2.2.2.2.2.2.2.2.2.2.2.2.2.2.2.2.2.2.2.2.2.2.2.2.2.2.2.1
theorem tw_F31 {g : cx_G} {adr : Nat → Nat} (H : tw_H g adr) : cx_FI g 60 31 (adr 60) ("CircuitCellsModel", "acts", "I", false) .int := H.2.2.2.2.2.2.2.2.2.2.2.2.2.2.2.2.2.2.2.2.2.2.2.2.2.2.2.2.2.2.2.2.1
theorem tw_F32 {g : cx_G} {adr : Nat → Nat} (H : tw_H g adr) : cx_FI g 60 32 (adr 60) ("CircuitCellsModel", "noted", "I", false) .int := H.2.2.2.2.2.2.2.2.2.2.2.2.2.2.2.2.2.2.2.2.2.2.2.2.2.2.2.2.2.2.2.2.2.1
theorem tw_R33 {g : cx_G} {adr : Nat → Nat} (H : tw_H g adr) : cx_FR g 33 (adr 60) ("CircuitCellsModel", "past", "[I", true) (.ref (adr 33)) := H.2.2.2.2.2.2.2.2.2.2.2.2.2.2.2.2.2.2.2.2.2.2.2.2.2.2.2.2.2.2.2.2.2.2.1
theorem tw_R34 {g : cx_G} {adr : Nat → Nat} (H : tw_H g adr) : cx_FR g 34 (adr 60) ("CircuitCellsModel", "rowThen", "[I", true) (.ref (adr 34)) := H.2.2.2.2.2.2.2.2.2.2.2.2.2.2.2.2.2.2.2.2.2.2.2.2.2.2.2.2.2.2.2.2.2.2.2.1
theorem tw_R35 {g : cx_G} {adr : Nat → Nat} (H : tw_H g adr) : cx_FR g 35 (adr 60) ("CircuitCellsModel", "playsThen", "[I", true) (.ref (adr 35)) := H.2.2.2.2.2.2.2.2.2.2.2.2.2.2.2.2.2.2.2.2.2.2.2.2.2.2.2.2.2.2.2.2.2.2.2.2.1
theorem tw_F36 {g : cx_G} {adr : Nat → Nat} (H : tw_H g adr) : cx_FI g 60 36 (adr 60) ("CircuitCellsModel", "bestOf", "I", false) .int := H.2.2.2.2.2.2.2.2.2.2.2.2.2.2.2.2.2.2.2.2.2.2.2.2.2.2.2.2.2.2.2.2.2.2.2.2.2.1
theorem tw_F37 {g : cx_G} {adr : Nat → Nat} (H : tw_H g adr) : cx_FI g 60 37 (adr 60) ("CircuitCellsModel", "leastOf", "I", false) .int := H.2.2.2.2.2.2.2.2.2.2.2.2.2.2.2.2.2.2.2.2.2.2.2.2.2.2.2.2.2.2.2.2.2.2.2.2.2.2.1
theorem tw_R38 {g : cx_G} {adr : Nat → Nat} (H : tw_H g adr) : cx_FR g 38 (adr 60) ("CircuitCellsModel", "notedIn", "[I", true) (.ref (adr 38)) := H.2.2.2.2.2.2.2.2.2.2.2.2.2.2.2.2.2.2.2.2.2.2.2.2.2.2.2.2.2.2.2.2.2.2.2.2.2.2.2.1
theorem tw_R39 {g : cx_G} {adr : Nat → Nat} (H : tw_H g adr) : cx_FR g 39 (adr 60) ("CircuitCellsModel", "notedLevel", "[I", true) (.ref (adr 39)) := H.2.2.2.2.2.2.2.2.2.2.2.2.2.2.2.2.2.2.2.2.2.2.2.2.2.2.2.2.2.2.2.2.2.2.2.2.2.2.2.2.1
theorem tw_R40 {g : cx_G} {adr : Nat → Nat} (H : tw_H g adr) : cx_FR g 40 (adr 60) ("CircuitCellsModel", "fits", "[I", true) (.ref (adr 40)) := H.2.2.2.2.2.2.2.2.2.2.2.2.2.2.2.2.2.2.2.2.2.2.2.2.2.2.2.2.2.2.2.2.2.2.2.2.2.2.2.2.2.1
theorem tw_R41 {g : cx_G} {adr : Nat → Nat} (H : tw_H g adr) : cx_FR g 41 (adr 60) ("CircuitCellsModel", "levelThen", "[I", true) (.ref (adr 41)) := H.2.2.2.2.2.2.2.2.2.2.2.2.2.2.2.2.2.2.2.2.2.2.2.2.2.2.2.2.2.2.2.2.2.2.2.2.2.2.2.2.2.2.1
theorem tw_F42 {g : cx_G} {adr : Nat → Nat} (H : tw_H g adr) : cx_FI g 60 42 (adr 60) ("CircuitCellsModel", "fitMany", "I", false) .int := H.2.2.2.2.2.2.2.2.2.2.2.2.2.2.2.2.2.2.2.2.2.2.2.2.2.2.2.2.2.2.2.2.2.2.2.2.2.2.2.2.2.2.2.1
theorem tw_F43 {g : cx_G} {adr : Nat → Nat} (H : tw_H g adr) : cx_FI g 60 43 (adr 60) ("CircuitCellsModel", "seedNow", "I", false) .int := H.2.2.2.2.2.2.2.2.2.2.2.2.2.2.2.2.2.2.2.2.2.2.2.2.2.2.2.2.2.2.2.2.2.2.2.2.2.2.2.2.2.2.2.2.1
theorem tw_F44 {g : cx_G} {adr : Nat → Nat} (H : tw_H g adr) : cx_FI g 60 44 (adr 60) ("CircuitCellsModel", "hasImage", "Z", false) .boolean := H.2.2.2.2.2.2.2.2.2.2.2.2.2.2.2.2.2.2.2.2.2.2.2.2.2.2.2.2.2.2.2.2.2.2.2.2.2.2.2.2.2.2.2.2.2.1
theorem tw_F45 {g : cx_G} {adr : Nat → Nat} (H : tw_H g adr) : cx_FI g 60 45 (adr 60) ("CircuitCellsModel", "actsThen", "I", false) .int := H.2.2.2.2.2.2.2.2.2.2.2.2.2.2.2.2.2.2.2.2.2.2.2.2.2.2.2.2.2.2.2.2.2.2.2.2.2.2.2.2.2.2.2.2.2.2.1
theorem tw_F46 {g : cx_G} {adr : Nat → Nat} (H : tw_H g adr) : cx_FI g 60 46 (adr 60) ("CircuitCellsModel", "notedThen", "I", false) .int := H.2.2.2.2.2.2.2.2.2.2.2.2.2.2.2.2.2.2.2.2.2.2.2.2.2.2.2.2.2.2.2.2.2.2.2.2.2.2.2.2.2.2.2.2.2.2.2.1
theorem tw_R47 {g : cx_G} {adr : Nat → Nat} (H : tw_H g adr) : cx_FR g 47 (adr 60) ("CircuitCellsModel", "imageRow", "[I", true) (.ref (adr 47)) := H.2.2.2.2.2.2.2.2.2.2.2.2.2.2.2.2.2.2.2.2.2.2.2.2.2.2.2.2.2.2.2.2.2.2.2.2.2.2.2.2.2.2.2.2.2.2.2.2.1
theorem tw_R48 {g : cx_G} {adr : Nat → Nat} (H : tw_H g adr) : cx_FR g 48 (adr 60) ("CircuitCellsModel", "pastThen", "[I", true) (.ref (adr 48)) := H.2.2.2.2.2.2.2.2.2.2.2.2.2.2.2.2.2.2.2.2.2.2.2.2.2.2.2.2.2.2.2.2.2.2.2.2.2.2.2.2.2.2.2.2.2.2.2.2.2.1
theorem tw_R49 {g : cx_G} {adr : Nat → Nat} (H : tw_H g adr) : cx_FR g 49 (adr 60) ("CircuitCellsModel", "notedInThen", "[I", true) (.ref (adr 49)) := H.2.2.2.2.2.2.2.2.2.2.2.2.2.2.2.2.2.2.2.2.2.2.2.2.2.2.2.2.2.2.2.2.2.2.2.2.2.2.2.2.2.2.2.2.2.2.2.2.2.2.1
theorem tw_R50 {g : cx_G} {adr : Nat → Nat} (H : tw_H g adr) : cx_FR g 50 (adr 60) ("CircuitCellsModel", "notedLevelThen", "[I", true) (.ref (adr 50)) := H.2.2.2.2.2.2.2.2.2.2.2.2.2.2.2.2.2.2.2.2.2.2.2.2.2.2.2.2.2.2.2.2.2.2.2.2.2.2.2.2.2.2.2.2.2.2.2.2.2.2.2.1
theorem tw_R51 {g : cx_G} {adr : Nat → Nat} (H : tw_H g adr) : cx_FR g 51 (adr 60) ("CircuitCellsModel", "statusThen", "[I", true) (.ref (adr 51)) := H.2.2.2.2.2.2.2.2.2.2.2.2.2.2.2.2.2.2.2.2.2.2.2.2.2.2.2.2.2.2.2.2.2.2.2.2.2.2.2.2.2.2.2.2.2.2.2.2.2.2.2.2.1
theorem tw_A3 {g : cx_G} {adr : Nat → Nat} (H : tw_H g adr) : cx_AI g 3 20 (adr 3) 0 .int := H.2.2.2.2.2.2.2.2.2.2.2.2.2.2.2.2.2.2.2.2.2.2.2.2.2.2.2.2.2.2.2.2.2.2.2.2.2.2.2.2.2.2.2.2.2.2.2.2.2.2.2.2.2.1
theorem tw_A4 {g : cx_G} {adr : Nat → Nat} (H : tw_H g adr) : cx_AI g 4 32 (adr 4) 0 .int := H.2.2.2.2.2.2.2.2.2.2.2.2.2.2.2.2.2.2.2.2.2.2.2.2.2.2.2.2.2.2.2.2.2.2.2.2.2.2.2.2.2.2.2.2.2.2.2.2.2.2.2.2.2.2.1
theorem tw_A5 {g : cx_G} {adr : Nat → Nat} (H : tw_H g adr) : cx_AI g 5 1400 (adr 5) 0 .int := H.2.2.2.2.2.2.2.2.2.2.2.2.2.2.2.2.2.2.2.2.2.2.2.2.2.2.2.2.2.2.2.2.2.2.2.2.2.2.2.2.2.2.2.2.2.2.2.2.2.2.2.2.2.2.2.1
theorem tw_A6 {g : cx_G} {adr : Nat → Nat} (H : tw_H g adr) : cx_AI g 6 1400 (adr 6) 0 .int := H.2.2.2.2.2.2.2.2.2.2.2.2.2.2.2.2.2.2.2.2.2.2.2.2.2.2.2.2.2.2.2.2.2.2.2.2.2.2.2.2.2.2.2.2.2.2.2.2.2.2.2.2.2.2.2.2.1
theorem tw_A7 {g : cx_G} {adr : Nat → Nat} (H : tw_H g adr) : cx_AI g 7 3 (adr 7) 0 .int := H.2.2.2.2.2.2.2.2.2.2.2.2.2.2.2.2.2.2.2.2.2.2.2.2.2.2.2.2.2.2.2.2.2.2.2.2.2.2.2.2.2.2.2.2.2.2.2.2.2.2.2.2.2.2.2.2.2.1
theorem tw_A8 {g : cx_G} {adr : Nat → Nat} (H : tw_H g adr) : cx_AI g 8 665 (adr 8) 0 .int := H.2.2.2.2.2.2.2.2.2.2.2.2.2.2.2.2.2.2.2.2.2.2.2.2.2.2.2.2.2.2.2.2.2.2.2.2.2.2.2.2.2.2.2.2.2.2.2.2.2.2.2.2.2.2.2.2.2.2.1
theorem tw_A11 {g : cx_G} {adr : Nat → Nat} (H : tw_H g adr) : cx_AI g 11 700 (adr 11) 0 .int := H.2.2.2.2.2.2.2.2.2.2.2.2.2.2.2.2.2.2.2.2.2.2.2.2.2.2.2.2.2.2.2.2.2.2.2.2.2.2.2.2.2.2.2.2.2.2.2.2.2.2.2.2.2.2.2.2.2.2.2.1
theorem tw_A22 {g : cx_G} {adr : Nat → Nat} (H : tw_H g adr) : cx_AI g 22 4 (adr 22) 0 .int := H.2.2.2.2.2.2.2.2.2.2.2.2.2.2.2.2.2.2.2.2.2.2.2.2.2.2.2.2.2.2.2.2.2.2.2.2.2.2.2.2.2.2.2.2.2.2.2.2.2.2.2.2.2.2.2.2.2.2.2.2.1
theorem tw_A23 {g : cx_G} {adr : Nat → Nat} (H : tw_H g adr) : cx_AI g 23 64 (adr 23) 0 .int := H.2.2.2.2.2.2.2.2.2.2.2.2.2.2.2.2.2.2.2.2.2.2.2.2.2.2.2.2.2.2.2.2.2.2.2.2.2.2.2.2.2.2.2.2.2.2.2.2.2.2.2.2.2.2.2.2.2.2.2.2.2.1
theorem tw_A26 {g : cx_G} {adr : Nat → Nat} (H : tw_H g adr) : cx_AI g 26 8192 (adr 26) 0 .int := H.2.2.2.2.2.2.2.2.2.2.2.2.2.2.2.2.2.2.2.2.2.2.2.2.2.2.2.2.2.2.2.2.2.2.2.2.2.2.2.2.2.2.2.2.2.2.2.2.2.2.2.2.2.2.2.2.2.2.2.2.2.2.1
theorem tw_A27 {g : cx_G} {adr : Nat → Nat} (H : tw_H g adr) : cx_AI g 27 2048 (adr 27) 0 .int := H.2.2.2.2.2.2.2.2.2.2.2.2.2.2.2.2.2.2.2.2.2.2.2.2.2.2.2.2.2.2.2.2.2.2.2.2.2.2.2.2.2.2.2.2.2.2.2.2.2.2.2.2.2.2.2.2.2.2.2.2.2.2.2.1
theorem tw_A33 {g : cx_G} {adr : Nat → Nat} (H : tw_H g adr) : cx_AI g 33 26600 (adr 33) 0 .int := H.2.2.2.2.2.2.2.2.2.2.2.2.2.2.2.2.2.2.2.2.2.2.2.2.2.2.2.2.2.2.2.2.2.2.2.2.2.2.2.2.2.2.2.2.2.2.2.2.2.2.2.2.2.2.2.2.2.2.2.2.2.2.2.2.1
theorem tw_A34 {g : cx_G} {adr : Nat → Nat} (H : tw_H g adr) : cx_AI g 34 665 (adr 34) 0 .int := H.2.2.2.2.2.2.2.2.2.2.2.2.2.2.2.2.2.2.2.2.2.2.2.2.2.2.2.2.2.2.2.2.2.2.2.2.2.2.2.2.2.2.2.2.2.2.2.2.2.2.2.2.2.2.2.2.2.2.2.2.2.2.2.2.2.1
theorem tw_A35 {g : cx_G} {adr : Nat → Nat} (H : tw_H g adr) : cx_AI g 35 441 (adr 35) 0 .int := H.2.2.2.2.2.2.2.2.2.2.2.2.2.2.2.2.2.2.2.2.2.2.2.2.2.2.2.2.2.2.2.2.2.2.2.2.2.2.2.2.2.2.2.2.2.2.2.2.2.2.2.2.2.2.2.2.2.2.2.2.2.2.2.2.2.2.1
theorem tw_A38 {g : cx_G} {adr : Nat → Nat} (H : tw_H g adr) : cx_AI g 38 8 (adr 38) 0 .int := H.2.2.2.2.2.2.2.2.2.2.2.2.2.2.2.2.2.2.2.2.2.2.2.2.2.2.2.2.2.2.2.2.2.2.2.2.2.2.2.2.2.2.2.2.2.2.2.2.2.2.2.2.2.2.2.2.2.2.2.2.2.2.2.2.2.2.2.1
theorem tw_A39 {g : cx_G} {adr : Nat → Nat} (H : tw_H g adr) : cx_AI g 39 8 (adr 39) 0 .int := H.2.2.2.2.2.2.2.2.2.2.2.2.2.2.2.2.2.2.2.2.2.2.2.2.2.2.2.2.2.2.2.2.2.2.2.2.2.2.2.2.2.2.2.2.2.2.2.2.2.2.2.2.2.2.2.2.2.2.2.2.2.2.2.2.2.2.2.2.1
theorem tw_A40 {g : cx_G} {adr : Nat → Nat} (H : tw_H g adr) : cx_AI g 40 199 (adr 40) 0 .int := H.2.2.2.2.2.2.2.2.2.2.2.2.2.2.2.2.2.2.2.2.2.2.2.2.2.2.2.2.2.2.2.2.2.2.2.2.2.2.2.2.2.2.2.2.2.2.2.2.2.2.2.2.2.2.2.2.2.2.2.2.2.2.2.2.2.2.2.2.2.1
theorem tw_A41 {g : cx_G} {adr : Nat → Nat} (H : tw_H g adr) : cx_AI g 41 995 (adr 41) 0 .int := H.2.2.2.2.2.2.2.2.2.2.2.2.2.2.2.2.2.2.2.2.2.2.2.2.2.2.2.2.2.2.2.2.2.2.2.2.2.2.2.2.2.2.2.2.2.2.2.2.2.2.2.2.2.2.2.2.2.2.2.2.2.2.2.2.2.2.2.2.2.2.1
theorem tw_A47 {g : cx_G} {adr : Nat → Nat} (H : tw_H g adr) : cx_AI g 47 665 (adr 47) 0 .int := H.2.2.2.2.2.2.2.2.2.2.2.2.2.2.2.2.2.2.2.2.2.2.2.2.2.2.2.2.2.2.2.2.2.2.2.2.2.2.2.2.2.2.2.2.2.2.2.2.2.2.2.2.2.2.2.2.2.2.2.2.2.2.2.2.2.2.2.2.2.2.2.1
theorem tw_A48 {g : cx_G} {adr : Nat → Nat} (H : tw_H g adr) : cx_AI g 48 26600 (adr 48) 0 .int := H.2.2.2.2.2.2.2.2.2.2.2.2.2.2.2.2.2.2.2.2.2.2.2.2.2.2.2.2.2.2.2.2.2.2.2.2.2.2.2.2.2.2.2.2.2.2.2.2.2.2.2.2.2.2.2.2.2.2.2.2.2.2.2.2.2.2.2.2.2.2.2.2.1
theorem tw_A49 {g : cx_G} {adr : Nat → Nat} (H : tw_H g adr) : cx_AI g 49 8 (adr 49) 0 .int := H.2.2.2.2.2.2.2.2.2.2.2.2.2.2.2.2.2.2.2.2.2.2.2.2.2.2.2.2.2.2.2.2.2.2.2.2.2.2.2.2.2.2.2.2.2.2.2.2.2.2.2.2.2.2.2.2.2.2.2.2.2.2.2.2.2.2.2.2.2.2.2.2.2.1
theorem tw_A50 {g : cx_G} {adr : Nat → Nat} (H : tw_H g adr) : cx_AI g 50 8 (adr 50) 0 .int := H.2.2.2.2.2.2.2.2.2.2.2.2.2.2.2.2.2.2.2.2.2.2.2.2.2.2.2.2.2.2.2.2.2.2.2.2.2.2.2.2.2.2.2.2.2.2.2.2.2.2.2.2.2.2.2.2.2.2.2.2.2.2.2.2.2.2.2.2.2.2.2.2.2.2.1
theorem tw_A51 {g : cx_G} {adr : Nat → Nat} (H : tw_H g adr) : cx_AI g 51 3 (adr 51) 0 .int := H.2.2.2.2.2.2.2.2.2.2.2.2.2.2.2.2.2.2.2.2.2.2.2.2.2.2.2.2.2.2.2.2.2.2.2.2.2.2.2.2.2.2.2.2.2.2.2.2.2.2.2.2.2.2.2.2.2.2.2.2.2.2.2.2.2.2.2.2.2.2.2.2.2.2.2.1
theorem tw_Z28 {g : cx_G} {adr : Nat → Nat} (H : tw_H g adr) : cx_AI g 28 2048 (adr 28) 1 .boolean := H.2.2.2.2.2.2.2.2.2.2.2.2.2.2.2.2.2.2.2.2.2.2.2.2.2.2.2.2.2.2.2.2.2.2.2.2.2.2.2.2.2.2.2.2.2.2.2.2.2.2.2.2.2.2.2.2.2.2.2.2.2.2.2.2.2.2.2.2.2.2.2.2.2.2.2.2.1
theorem tw_Q {g : cx_G} {adr : Nat → Nat} (H : tw_H g adr) : (∀ w, w < 2 → cx_QI g (adr w) (twQn w) 5 "java/lang/String" (fun j => adr (1000000 + (4 * w + j)))) := H.2.2.2.2.2.2.2.2.2.2.2.2.2.2.2.2.2.2.2.2.2.2.2.2.2.2.2.2.2.2.2.2.2.2.2.2.2.2.2.2.2.2.2.2.2.2.2.2.2.2.2.2.2.2.2.2.2.2.2.2.2.2.2.2.2.2.2.2.2.2.2.2.2.2.2.2.2.1
theorem tw_S {g : cx_G} {adr : Nat → Nat} (H : tw_H g adr) : tw_Hs g adr := H.2.2.2.2.2.2.2.2.2.2.2.2.2.2.2.2.2.2.2.2.2.2.2.2.2.2.2.2.2.2.2.2.2.2.2.2.2.2.2.2.2.2.2.2.2.2.2.2.2.2.2.2.2.2.2.2.2.2.2.2.2.2.2.2.2.2.2.2.2.2.2.2.2.2.2.2.2.2.1
theorem tw_J {g : cx_G} {adr : Nat → Nat} (H : tw_H g adr) : cJ_H g := H.2.2.2.2.2.2.2.2.2.2.2.2.2.2.2.2.2.2.2.2.2.2.2.2.2.2.2.2.2.2.2.2.2.2.2.2.2.2.2.2.2.2.2.2.2.2.2.2.2.2.2.2.2.2.2.2.2.2.2.2.2.2.2.2.2.2.2.2.2.2.2.2.2.2.2.2.2.2.2
theorem tw_A {g : cx_G} {adr : Nat → Nat} {c : Nat} (H : tw_H g adr) (h : twIA c = true) : cx_AI g c (twLen c) (adr c) 0 .int := by
  have h := of_decide_eq_true h
  simp only [twCells, List.mem_cons, List.not_mem_nil, or_false] at h
  rcases h with rfl | rfl | rfl | rfl | rfl | rfl | rfl | rfl | rfl | rfl | rfl | rfl | rfl | rfl | rfl | rfl | rfl | rfl | rfl | rfl | rfl | rfl | rfl
  · exact tw_A3 H
  · exact tw_A4 H
  · exact tw_A5 H
  · exact tw_A6 H
  · exact tw_A7 H
  · exact tw_A8 H
  · exact tw_A11 H
  · exact tw_A22 H
  · exact tw_A23 H
  · exact tw_A26 H
  · exact tw_A27 H
  · exact tw_A33 H
  · exact tw_A34 H
  · exact tw_A35 H
  · exact tw_A38 H
  · exact tw_A39 H
  · exact tw_A40 H
  · exact tw_A41 H
  · exact tw_A47 H
  · exact tw_A48 H
  · exact tw_A49 H
  · exact tw_A50 H
  · exact tw_A51 H
abbrev sX10_readExpression (d : Nat) : cx_S := (3, RX10, cx_rV, { frames := 24 * d, cells := 0, slots := 0, locals := 800 * d }, none, false)
theorem tw_k222 {g : cx_G} {adr : Nat → Nat} (H : tw_H g adr) : ∀ U, cx_K g U → vk_R RX10 222 "not" (adr 1000013) U := fun U h => (tw_S H U h).2.1
theorem tw_k230 {g : cx_G} {adr : Nat → Nat} (H : tw_H g adr) : ∀ U, cx_K g U → vk_R RX10 230 "and" (adr 1000014) U := fun U h => (tw_S H U h).2.2.1
theorem tw_k235 {g : cx_G} {adr : Nat → Nat} (H : tw_H g adr) : ∀ U, cx_K g U → vk_R RX10 235 "or" (adr 1000015) U := fun U h => (tw_S H U h).2.2.2
theorem tw_Str {g : cx_G} {adr : Nat → Nat} (H : tw_H g adr) {w : Nat} (hw : w < 16) : cx_Str g (adr (1000000 + w)) (adr (1000100 + w)) (twSn w) (twSf w) := by
  intro M U hwM hK
  obtain ⟨h1, h2, h3, h4⟩ := (tw_S H U hK).1.1 w hw
  obtain ⟨c1, a1, a2, a3, -⟩ := h1
  obtain ⟨cf, k, i, f, c2, b1, b2, b3, b4, b5, -⟩ := h2
  obtain ⟨cf', k', i', f', c3, d1, d2, d3, d4, d5, -⟩ := h3
  obtain ⟨c4, e1, e2, e3, e4, e5, e6, -⟩ := h4
  exact ⟨⟨c1, a1, a2, a3⟩, ⟨cf, k, i, f, c2, b1, b2, b3, b4, b5⟩, ⟨cf', k', i', f', c3, d1, d2, d3, d4, d5⟩, ⟨c4, e1, e2, e3, ⟨e4, e5⟩, e6⟩⟩
theorem tw_q16 {w j : Nat} (hw : w < 2) (hj : j < twQn w) : 4 * w + j < 16 := by
  unfold twQn at hj
  split at hj <;> omega
theorem g_X10_294 : GoodIn lw_all (va_wsS RX10 294 yX10_reckon (ws_ yX10_reckon cX10_reckon 3 (some .int))) := lw_S q2788 q2789 q147 q2790
theorem hg_X10_294 : yX10_reckon.cls ≠ "java/lang/invoke/MethodHandle" ∧ yX10_reckon.cls ≠ "java/lang/invoke/VarHandle" ∧ (parseMethodDescriptor yX10_reckon.desc).map (fun d => d.parameters.length) = some 3 := by decide +kernel
theorem g_X10_290 : GoodIn lw_all (wsV RX10 290 RX10 yX10_valueNow (ws_ yX10_valueNow cX10_valueNow 6 (some .int))) := lw_V q2784 q2786 qs95 q147 q2787
theorem hg_X10_290 : yX10_valueNow.cls = RX10 ∧ yX10_valueNow.cls ≠ "java/lang/invoke/MethodHandle" ∧ yX10_valueNow.cls ≠ "java/lang/invoke/VarHandle" ∧ (parseMethodDescriptor yX10_valueNow.desc).map (fun d => d.parameters.length) = some 2 := by decide +kernel
theorem g_X10_240 : GoodIn lw_all (va_wsS RX10 240 yX10_isOf (ws_ yX10_isOf cX10_isOf 2 (some .boolean))) := lw_S q2624 q2625 q147 q2626
theorem hg_X10_240 : yX10_isOf.cls ≠ "java/lang/invoke/MethodHandle" ∧ yX10_isOf.cls ≠ "java/lang/invoke/VarHandle" ∧ (parseMethodDescriptor yX10_isOf.desc).map (fun d => d.parameters.length) = some 2 := by decide +kernel
theorem g_X10_304 : GoodIn lw_all (wsV RX10 304 RX10 yX10_ruleNow (ws_ yX10_ruleNow cX10_ruleNow 5 (some .int))) := lw_V q2780 q2782 qs94 q147 q2783
theorem hg_X10_304 : yX10_ruleNow.cls = RX10 ∧ yX10_ruleNow.cls ≠ "java/lang/invoke/MethodHandle" ∧ yX10_ruleNow.cls ≠ "java/lang/invoke/VarHandle" ∧ (parseMethodDescriptor yX10_ruleNow.desc).map (fun d => d.parameters.length) = some 1 := by decide +kernel
theorem g_X10_308 : GoodIn lw_all (va_wsS RX10 308 yX10_within (ws_ yX10_within cX10_within 3 (some .int))) := lw_S q2791 q2792 q147 q2793
theorem hg_X10_308 : yX10_within.cls ≠ "java/lang/invoke/MethodHandle" ∧ yX10_within.cls ≠ "java/lang/invoke/VarHandle" ∧ (parseMethodDescriptor yX10_within.desc).map (fun d => d.parameters.length) = some 3 := by decide +kernel
theorem g_X10_311 : GoodIn lw_all (wsV RX10 311 RX10 yX10_isLost (ws_ yX10_isLost cX10_isLost 1 (some .boolean))) := lw_V q2794 q2796 qs96 q147 q2797
theorem hg_X10_311 : yX10_isLost.cls = RX10 ∧ yX10_isLost.cls ≠ "java/lang/invoke/MethodHandle" ∧ yX10_isLost.cls ≠ "java/lang/invoke/VarHandle" ∧ (parseMethodDescriptor yX10_isLost.desc).map (fun d => d.parameters.length) = some 0 := by decide +kernel
theorem g_X10_315 : GoodIn lw_all (wsV RX10 315 RX10 yX10_send (ws_ yX10_send cX10_send 3 none)) := lw_V q2776 q2778 qs93 q147 q2779
theorem hg_X10_315 : yX10_send.cls = RX10 ∧ yX10_send.cls ≠ "java/lang/invoke/MethodHandle" ∧ yX10_send.cls ≠ "java/lang/invoke/VarHandle" ∧ (parseMethodDescriptor yX10_send.desc).map (fun d => d.parameters.length) = some 0 := by decide +kernel
theorem g_X10_318 : GoodIn lw_all (wsV RX10 318 RX10 yX10_spotNow (ws_ yX10_spotNow cX10_spotNow 1 (some .int))) := lw_V q2690 q2692 qs82 q147 q2693
theorem hg_X10_318 : yX10_spotNow.cls = RX10 ∧ yX10_spotNow.cls ≠ "java/lang/invoke/MethodHandle" ∧ yX10_spotNow.cls ≠ "java/lang/invoke/VarHandle" ∧ (parseMethodDescriptor yX10_spotNow.desc).map (fun d => d.parameters.length) = some 0 := by decide +kernel
theorem g_X10_321 : GoodIn lw_all (wsV RX10 321 RX10 yX10_come (ws_ yX10_come cX10_come 6 none)) := lw_V q2802 q2804 qs98 q147 q2805
theorem hg_X10_321 : yX10_come.cls = RX10 ∧ yX10_come.cls ≠ "java/lang/invoke/MethodHandle" ∧ yX10_come.cls ≠ "java/lang/invoke/VarHandle" ∧ (parseMethodDescriptor yX10_come.desc).map (fun d => d.parameters.length) = some 2 := by decide +kernel
theorem g_X10_325 : GoodIn lw_all (wsV RX10 325 RX10 yX10_levelNow (ws_ yX10_levelNow cX10_levelNow 4 (some .int))) := lw_V q2686 q2688 qs81 q147 q2689
theorem hg_X10_325 : yX10_levelNow.cls = RX10 ∧ yX10_levelNow.cls ≠ "java/lang/invoke/MethodHandle" ∧ yX10_levelNow.cls ≠ "java/lang/invoke/VarHandle" ∧ (parseMethodDescriptor yX10_levelNow.desc).map (fun d => d.parameters.length) = some 0 := by decide +kernel
theorem g_X10_328 : GoodIn lw_all (wsV RX10 328 RX10 yX10_playedBack (ws_ yX10_playedBack cX10_playedBack 2 (some .int))) := lw_V q2822 q2824 qs103 q147 q2825
theorem hg_X10_328 : yX10_playedBack.cls = RX10 ∧ yX10_playedBack.cls ≠ "java/lang/invoke/MethodHandle" ∧ yX10_playedBack.cls ≠ "java/lang/invoke/VarHandle" ∧ (parseMethodDescriptor yX10_playedBack.desc).map (fun d => d.parameters.length) = some 1 := by decide +kernel
theorem g_X10_334 : GoodIn lw_all (wsV RX10 334 RX10 yX10_filler (ws_ yX10_filler cX10_filler 1 (some .int))) := lw_V q2818 q2820 qs102 q147 q2821
theorem hg_X10_334 : yX10_filler.cls = RX10 ∧ yX10_filler.cls ≠ "java/lang/invoke/MethodHandle" ∧ yX10_filler.cls ≠ "java/lang/invoke/VarHandle" ∧ (parseMethodDescriptor yX10_filler.desc).map (fun d => d.parameters.length) = some 0 := by decide +kernel
theorem g_X10_331 : GoodIn lw_all (wsV RX10 331 RX10 yX10_octetOf (ws_ yX10_octetOf cX10_octetOf 2 (some .int))) := lw_V q2814 q2816 qs101 q147 q2817
theorem hg_X10_331 : yX10_octetOf.cls = RX10 ∧ yX10_octetOf.cls ≠ "java/lang/invoke/MethodHandle" ∧ yX10_octetOf.cls ≠ "java/lang/invoke/VarHandle" ∧ (parseMethodDescriptor yX10_octetOf.desc).map (fun d => d.parameters.length) = some 1 := by decide +kernel
theorem g_X10_275 : GoodIn lw_all (wsV RX10 275 RX10 yX10_emptySlots (ws_ yX10_emptySlots cX10_emptySlots 2 none)) := lw_V q2579 q2581 qs61 q147 q2582
theorem hg_X10_275 : yX10_emptySlots.cls = RX10 ∧ yX10_emptySlots.cls ≠ "java/lang/invoke/MethodHandle" ∧ yX10_emptySlots.cls ≠ "java/lang/invoke/VarHandle" ∧ (parseMethodDescriptor yX10_emptySlots.desc).map (fun d => d.parameters.length) = some 0 := by decide +kernel
theorem g_X10_337 : GoodIn lw_all (wsV RX10 337 RX10 yX10_makeOctets (ws_ yX10_makeOctets cX10_makeOctets 1 none)) := lw_V q2772 q2774 qs92 q147 q2775
theorem hg_X10_337 : yX10_makeOctets.cls = RX10 ∧ yX10_makeOctets.cls ≠ "java/lang/invoke/MethodHandle" ∧ yX10_makeOctets.cls ≠ "java/lang/invoke/VarHandle" ∧ (parseMethodDescriptor yX10_makeOctets.desc).map (fun d => d.parameters.length) = some 0 := by decide +kernel
theorem g_X10_340 : GoodIn lw_all (wsV RX10 340 RX10 yX10_receive (ws_ yX10_receive cX10_receive 8 none)) := lw_V q2798 q2800 qs97 q147 q2801
theorem hg_X10_340 : yX10_receive.cls = RX10 ∧ yX10_receive.cls ≠ "java/lang/invoke/MethodHandle" ∧ yX10_receive.cls ≠ "java/lang/invoke/VarHandle" ∧ (parseMethodDescriptor yX10_receive.desc).map (fun d => d.parameters.length) = some 0 := by decide +kernel
theorem g_X10_343 : GoodIn lw_all (wsV RX10 343 RX10 yX10_steer (ws_ yX10_steer cX10_steer 3 none)) := lw_V q2806 q2808 qs99 q147 q2809
theorem hg_X10_343 : yX10_steer.cls = RX10 ∧ yX10_steer.cls ≠ "java/lang/invoke/MethodHandle" ∧ yX10_steer.cls ≠ "java/lang/invoke/VarHandle" ∧ (parseMethodDescriptor yX10_steer.desc).map (fun d => d.parameters.length) = some 0 := by decide +kernel
theorem g_X10_346 : GoodIn lw_all (wsV RX10 346 RX10 yX10_play (ws_ yX10_play cX10_play 5 none)) := lw_V q2810 q2812 qs100 q147 q2813
theorem hg_X10_346 : yX10_play.cls = RX10 ∧ yX10_play.cls ≠ "java/lang/invoke/MethodHandle" ∧ yX10_play.cls ≠ "java/lang/invoke/VarHandle" ∧ (parseMethodDescriptor yX10_play.desc).map (fun d => d.parameters.length) = some 0 := by decide +kernel
theorem g_X10_394 : GoodIn lw_all (va_wsS RX10 394 yX10_copyTo (ws_ yX10_copyTo cX10_copyTo 3 none)) := lw_S q2856 q2857 q147 q2858
theorem hg_X10_394 : yX10_copyTo.cls ≠ "java/lang/invoke/MethodHandle" ∧ yX10_copyTo.cls ≠ "java/lang/invoke/VarHandle" ∧ (parseMethodDescriptor yX10_copyTo.desc).map (fun d => d.parameters.length) = some 2 := by decide +kernel
theorem g_X10_262 : GoodIn lw_all (va_wsS RX10 262 yX10_takeHalf (ws_ yX10_takeHalf cX10_takeHalf 2 none)) := lw_S q2572 q2573 q147 q2574
theorem hg_X10_262 : yX10_takeHalf.cls ≠ "java/lang/invoke/MethodHandle" ∧ yX10_takeHalf.cls ≠ "java/lang/invoke/VarHandle" ∧ (parseMethodDescriptor yX10_takeHalf.desc).map (fun d => d.parameters.length) = some 1 := by decide +kernel
theorem g_X10_272 : GoodIn lw_all (wsV RX10 272 RX10 yX10_forgetGiven (ws_ yX10_forgetGiven cX10_forgetGiven 2 none)) := lw_V q2575 q2577 qs60 q147 q2578
theorem hg_X10_272 : yX10_forgetGiven.cls = RX10 ∧ yX10_forgetGiven.cls ≠ "java/lang/invoke/MethodHandle" ∧ yX10_forgetGiven.cls ≠ "java/lang/invoke/VarHandle" ∧ (parseMethodDescriptor yX10_forgetGiven.desc).map (fun d => d.parameters.length) = some 0 := by decide +kernel
theorem g_X10_253 : GoodIn lw_all (wsV RX10 253 RX10 yX10_beginTold (ws_ yX10_beginTold cX10_beginTold 1 none)) := lw_V q2564 q2566 qs58 q147 q2567
theorem hg_X10_253 : yX10_beginTold.cls = RX10 ∧ yX10_beginTold.cls ≠ "java/lang/invoke/MethodHandle" ∧ yX10_beginTold.cls ≠ "java/lang/invoke/VarHandle" ∧ (parseMethodDescriptor yX10_beginTold.desc).map (fun d => d.parameters.length) = some 0 := by decide +kernel
theorem g_X10_259 : GoodIn lw_all (wsV RX10 259 RX10 yX10_takeOver (ws_ yX10_takeOver cX10_takeOver 2 none)) := lw_V q2568 q2570 qs59 q147 q2571
theorem hg_X10_259 : yX10_takeOver.cls = RX10 ∧ yX10_takeOver.cls ≠ "java/lang/invoke/MethodHandle" ∧ yX10_takeOver.cls ≠ "java/lang/invoke/VarHandle" ∧ (parseMethodDescriptor yX10_takeOver.desc).map (fun d => d.parameters.length) = some 0 := by decide +kernel
theorem g_X10_247 : GoodIn lw_all (wsV RX10 247 RX10 yX10_ready (ws_ yX10_ready cX10_ready 1 none)) := lw_V q2560 q2562 qs57 q147 q2563
theorem hg_X10_247 : yX10_ready.cls = RX10 ∧ yX10_ready.cls ≠ "java/lang/invoke/MethodHandle" ∧ yX10_ready.cls ≠ "java/lang/invoke/VarHandle" ∧ (parseMethodDescriptor yX10_ready.desc).map (fun d => d.parameters.length) = some 0 := by decide +kernel
theorem g_X10_250 : GoodIn lw_all (wsV RX10 250 RX10 yX10_fail (ws_ yX10_fail cX10_fail 2 (some .int))) := lw_V q2583 q2585 qs62 q147 q2586
theorem hg_X10_250 : yX10_fail.cls = RX10 ∧ yX10_fail.cls ≠ "java/lang/invoke/MethodHandle" ∧ yX10_fail.cls ≠ "java/lang/invoke/VarHandle" ∧ (parseMethodDescriptor yX10_fail.desc).map (fun d => d.parameters.length) = some 1 := by decide +kernel
theorem g_X10_352 : GoodIn lw_all (wsV RX10 352 RX10 yX10_regained (ws_ yX10_regained cX10_regained 1 (some .int))) := lw_V q2695 q2697 qs83 q147 q2698
theorem hg_X10_352 : yX10_regained.cls = RX10 ∧ yX10_regained.cls ≠ "java/lang/invoke/MethodHandle" ∧ yX10_regained.cls ≠ "java/lang/invoke/VarHandle" ∧ (parseMethodDescriptor yX10_regained.desc).map (fun d => d.parameters.length) = some 0 := by decide +kernel
theorem g_X10_355 : GoodIn lw_all (wsV RX10 355 RX10 yX10_samplesKept (ws_ yX10_samplesKept cX10_samplesKept 1 (some .int))) := lw_V q2699 q2701 qs84 q147 q2702
theorem hg_X10_355 : yX10_samplesKept.cls = RX10 ∧ yX10_samplesKept.cls ≠ "java/lang/invoke/MethodHandle" ∧ yX10_samplesKept.cls ≠ "java/lang/invoke/VarHandle" ∧ (parseMethodDescriptor yX10_samplesKept.desc).map (fun d => d.parameters.length) = some 0 := by decide +kernel
theorem g_X10_405 : GoodIn lw_all (wsV RX10 405 RX10 yX10_back (ws_ yX10_back cX10_back 2 (some .int))) := lw_V q2859 q2861 qs106 q147 q2862
theorem hg_X10_405 : yX10_back.cls = RX10 ∧ yX10_back.cls ≠ "java/lang/invoke/MethodHandle" ∧ yX10_back.cls ≠ "java/lang/invoke/VarHandle" ∧ (parseMethodDescriptor yX10_back.desc).map (fun d => d.parameters.length) = some 1 := by decide +kernel
theorem g_X10_349 : GoodIn lw_all (wsV RX10 349 RX10 yX10_aStep (ws_ yX10_aStep cX10_aStep 1 none)) := lw_V q2768 q2770 qs91 q147 q2771
theorem hg_X10_349 : yX10_aStep.cls = RX10 ∧ yX10_aStep.cls ≠ "java/lang/invoke/MethodHandle" ∧ yX10_aStep.cls ≠ "java/lang/invoke/VarHandle" ∧ (parseMethodDescriptor yX10_aStep.desc).map (fun d => d.parameters.length) = some 0 := by decide +kernel
theorem g_X10_358 : GoodIn lw_all (va_wsS RX10 358 yX10_isIn (ws_ yX10_isIn cX10_isIn 6 (some .boolean))) := lw_S q2711 q2712 q147 q2713
theorem hg_X10_358 : yX10_isIn.cls ≠ "java/lang/invoke/MethodHandle" ∧ yX10_isIn.cls ≠ "java/lang/invoke/VarHandle" ∧ (parseMethodDescriptor yX10_isIn.desc).map (fun d => d.parameters.length) = some 3 := by decide +kernel
theorem g_X10_174 : GoodIn lw_all (wsV RX10 174 RJ9 yJ9_length (ws_ yJ9_length cJ9_length 1 (some .int))) := lw_V q2618 q354 q355 q127 q356
theorem hg_X10_174 : yJ9_length.cls = RJ9 ∧ yJ9_length.cls ≠ "java/lang/invoke/MethodHandle" ∧ yJ9_length.cls ≠ "java/lang/invoke/VarHandle" ∧ (parseMethodDescriptor yJ9_length.desc).map (fun d => d.parameters.length) = some 0 := by decide +kernel
theorem g_X10_178 : GoodIn lw_all (wsV RX10 178 RJ9 yJ9_charAt (ws_ yJ9_charAt cJ9_charAt 2 (some .char))) := lw_V q2619 q1703 q1704 q127 q1705
theorem hg_X10_178 : yJ9_charAt.cls = RJ9 ∧ yJ9_charAt.cls ≠ "java/lang/invoke/MethodHandle" ∧ yJ9_charAt.cls ≠ "java/lang/invoke/VarHandle" ∧ (parseMethodDescriptor yJ9_charAt.desc).map (fun d => d.parameters.length) = some 1 := by decide +kernel
theorem g_X10_141 : GoodIn lw_all (wsV RX10 141 RX10 yX10_byteAt (ws_ yX10_byteAt cX10_byteAt 2 (some .int))) := lw_V q2591 q2593 qs64 q147 q2594
theorem hg_X10_141 : yX10_byteAt.cls = RX10 ∧ yX10_byteAt.cls ≠ "java/lang/invoke/MethodHandle" ∧ yX10_byteAt.cls ≠ "java/lang/invoke/VarHandle" ∧ (parseMethodDescriptor yX10_byteAt.desc).map (fun d => d.parameters.length) = some 1 := by decide +kernel
theorem g_X10_151 : GoodIn lw_all (va_wsS RX10 151 yX10_isLetter (ws_ yX10_isLetter cX10_isLetter 1 (some .boolean))) := lw_S q2595 q2596 q147 q2597
theorem hg_X10_151 : yX10_isLetter.cls ≠ "java/lang/invoke/MethodHandle" ∧ yX10_isLetter.cls ≠ "java/lang/invoke/VarHandle" ∧ (parseMethodDescriptor yX10_isLetter.desc).map (fun d => d.parameters.length) = some 1 := by decide +kernel
theorem g_X10_155 : GoodIn lw_all (va_wsS RX10 155 yX10_isDigit (ws_ yX10_isDigit cX10_isDigit 1 (some .boolean))) := lw_S q2598 q2599 q147 q2600
theorem hg_X10_155 : yX10_isDigit.cls ≠ "java/lang/invoke/MethodHandle" ∧ yX10_isDigit.cls ≠ "java/lang/invoke/VarHandle" ∧ (parseMethodDescriptor yX10_isDigit.desc).map (fun d => d.parameters.length) = some 1 := by decide +kernel
theorem g_X10_162 : GoodIn lw_all (va_wsS RX10 162 yX10_isMark (ws_ yX10_isMark cX10_isMark 1 (some .boolean))) := lw_S q2603 q2604 q147 q2605
theorem hg_X10_162 : yX10_isMark.cls ≠ "java/lang/invoke/MethodHandle" ∧ yX10_isMark.cls ≠ "java/lang/invoke/VarHandle" ∧ (parseMethodDescriptor yX10_isMark.desc).map (fun d => d.parameters.length) = some 1 := by decide +kernel
theorem g_X10_182 : GoodIn lw_all (wsV RX10 182 RX10 yX10_is (ws_ yX10_is cX10_is 4 (some .boolean))) := lw_V q2614 q2616 qs67 q147 q2617
theorem hg_X10_182 : yX10_is.cls = RX10 ∧ yX10_is.cls ≠ "java/lang/invoke/MethodHandle" ∧ yX10_is.cls ≠ "java/lang/invoke/VarHandle" ∧ (parseMethodDescriptor yX10_is.desc).map (fun d => d.parameters.length) = some 1 := by decide +kernel
theorem g_X10_189 : GoodIn lw_all (wsV RX10 189 RX10 yX10_wrong (ws_ yX10_wrong cX10_wrong 2 none)) := lw_V q2620 q2622 qs68 q147 q2623
theorem hg_X10_189 : yX10_wrong.cls = RX10 ∧ yX10_wrong.cls ≠ "java/lang/invoke/MethodHandle" ∧ yX10_wrong.cls ≠ "java/lang/invoke/VarHandle" ∧ (parseMethodDescriptor yX10_wrong.desc).map (fun d => d.parameters.length) = some 1 := by decide +kernel
theorem g_X10_193 : GoodIn lw_all (wsV RX10 193 RX10 yX10_stepOn (ws_ yX10_stepOn cX10_stepOn 2 none)) := lw_V q2587 q2589 qs63 q147 q2590
theorem hg_X10_193 : yX10_stepOn.cls = RX10 ∧ yX10_stepOn.cls ≠ "java/lang/invoke/MethodHandle" ∧ yX10_stepOn.cls ≠ "java/lang/invoke/VarHandle" ∧ (parseMethodDescriptor yX10_stepOn.desc).map (fun d => d.parameters.length) = some 0 := by decide +kernel
theorem g_X10_200 : GoodIn lw_all (wsV RX10 200 RX10 yX10_readNumber (ws_ yX10_readNumber cX10_readNumber 4 (some .int))) := lw_V q2631 q2633 qs70 q147 q2634
theorem hg_X10_200 : yX10_readNumber.cls = RX10 ∧ yX10_readNumber.cls ≠ "java/lang/invoke/MethodHandle" ∧ yX10_readNumber.cls ≠ "java/lang/invoke/VarHandle" ∧ (parseMethodDescriptor yX10_readNumber.desc).map (fun d => d.parameters.length) = some 2 := by decide +kernel
theorem g_X10_186 : GoodIn lw_all (wsV RX10 186 RX10 yX10_isMarked (ws_ yX10_isMarked cX10_isMarked 2 (some .boolean))) := lw_V q2635 q2637 qs71 q147 q2638
theorem hg_X10_186 : yX10_isMarked.cls = RX10 ∧ yX10_isMarked.cls ≠ "java/lang/invoke/MethodHandle" ∧ yX10_isMarked.cls ≠ "java/lang/invoke/VarHandle" ∧ (parseMethodDescriptor yX10_isMarked.desc).map (fun d => d.parameters.length) = some 1 := by decide +kernel
theorem g_X10_210 : GoodIn lw_all (wsV RX10 210 RX10 yX10_mark (ws_ yX10_mark cX10_mark 2 none)) := lw_V q2672 q2674 qs80 q147 q2675
theorem hg_X10_210 : yX10_mark.cls = RX10 ∧ yX10_mark.cls ≠ "java/lang/invoke/MethodHandle" ∧ yX10_mark.cls ≠ "java/lang/invoke/VarHandle" ∧ (parseMethodDescriptor yX10_mark.desc).map (fun d => d.parameters.length) = some 1 := by decide +kernel
theorem g_X10_213 : GoodIn lw_all (wsV RX10 213 RX10 yX10_readExpression (ws_ yX10_readExpression cX10_readExpression 3 none)) := lw_V q2643 q2645 qs73 q147 q2646
theorem hg_X10_213 : yX10_readExpression.cls = RX10 ∧ yX10_readExpression.cls ≠ "java/lang/invoke/MethodHandle" ∧ yX10_readExpression.cls ≠ "java/lang/invoke/VarHandle" ∧ (parseMethodDescriptor yX10_readExpression.desc).map (fun d => d.parameters.length) = some 1 := by decide +kernel
theorem g_X10_206 : GoodIn lw_all (wsV RX10 206 RX10 yX10_which (ws_ yX10_which cX10_which 3 (some .int))) := lw_V q2610 q2612 qs66 q147 q2613
theorem hg_X10_206 : yX10_which.cls = RX10 ∧ yX10_which.cls ≠ "java/lang/invoke/MethodHandle" ∧ yX10_which.cls ≠ "java/lang/invoke/VarHandle" ∧ (parseMethodDescriptor yX10_which.desc).map (fun d => d.parameters.length) = some 1 := by decide +kernel
theorem g_X10_203 : GoodIn lw_all (wsV RX10 203 RX10 yX10_lay (ws_ yX10_lay cX10_lay 3 none)) := lw_V q2668 q2670 qs79 q147 q2671
theorem hg_X10_203 : yX10_lay.cls = RX10 ∧ yX10_lay.cls ≠ "java/lang/invoke/MethodHandle" ∧ yX10_lay.cls ≠ "java/lang/invoke/VarHandle" ∧ (parseMethodDescriptor yX10_lay.desc).map (fun d => d.parameters.length) = some 1 := by decide +kernel
theorem g_X10_216 : GoodIn lw_all (wsV RX10 216 RX10 yX10_readPart (ws_ yX10_readPart cX10_readPart 3 none)) := lw_V q2664 q2666 qs78 q147 q2667
theorem hg_X10_216 : yX10_readPart.cls = RX10 ∧ yX10_readPart.cls ≠ "java/lang/invoke/MethodHandle" ∧ yX10_readPart.cls ≠ "java/lang/invoke/VarHandle" ∧ (parseMethodDescriptor yX10_readPart.desc).map (fun d => d.parameters.length) = some 1 := by decide +kernel
theorem g_X10_219 : GoodIn lw_all (wsV RX10 219 RX10 yX10_readProduct (ws_ yX10_readProduct cX10_readProduct 3 none)) := lw_V q2660 q2662 qs77 q147 q2663
theorem hg_X10_219 : yX10_readProduct.cls = RX10 ∧ yX10_readProduct.cls ≠ "java/lang/invoke/MethodHandle" ∧ yX10_readProduct.cls ≠ "java/lang/invoke/VarHandle" ∧ (parseMethodDescriptor yX10_readProduct.desc).map (fun d => d.parameters.length) = some 1 := by decide +kernel
theorem g_X10_224 : GoodIn lw_all (wsV RX10 224 RX10 yX10_readSum (ws_ yX10_readSum cX10_readSum 3 none)) := lw_V q2656 q2658 qs76 q147 q2659
theorem hg_X10_224 : yX10_readSum.cls = RX10 ∧ yX10_readSum.cls ≠ "java/lang/invoke/MethodHandle" ∧ yX10_readSum.cls ≠ "java/lang/invoke/VarHandle" ∧ (parseMethodDescriptor yX10_readSum.desc).map (fun d => d.parameters.length) = some 1 := by decide +kernel
theorem g_X10_227 : GoodIn lw_all (wsV RX10 227 RX10 yX10_readNot (ws_ yX10_readNot cX10_readNot 4 none)) := lw_V q2651 q2653 qs75 q147 q2654
theorem hg_X10_227 : yX10_readNot.cls = RX10 ∧ yX10_readNot.cls ≠ "java/lang/invoke/MethodHandle" ∧ yX10_readNot.cls ≠ "java/lang/invoke/VarHandle" ∧ (parseMethodDescriptor yX10_readNot.desc).map (fun d => d.parameters.length) = some 1 := by decide +kernel
theorem g_X10_232 : GoodIn lw_all (wsV RX10 232 RX10 yX10_readAnd (ws_ yX10_readAnd cX10_readAnd 2 none)) := lw_V q2647 q2649 qs74 q147 q2650
theorem hg_X10_232 : yX10_readAnd.cls = RX10 ∧ yX10_readAnd.cls ≠ "java/lang/invoke/MethodHandle" ∧ yX10_readAnd.cls ≠ "java/lang/invoke/VarHandle" ∧ (parseMethodDescriptor yX10_readAnd.desc).map (fun d => d.parameters.length) = some 1 := by decide +kernel
theorem g_X10_237 : GoodIn lw_all (wsV RX10 237 RX10 yX10_readWord (ws_ yX10_readWord cX10_readWord 2 none)) := lw_V q2639 q2641 qs72 q147 q2642
theorem hg_X10_237 : yX10_readWord.cls = RX10 ∧ yX10_readWord.cls ≠ "java/lang/invoke/MethodHandle" ∧ yX10_readWord.cls ≠ "java/lang/invoke/VarHandle" ∧ (parseMethodDescriptor yX10_readWord.desc).map (fun d => d.parameters.length) = some 0 := by decide +kernel
theorem g_X10_244 : GoodIn lw_all (wsV RX10 244 RX10 yX10_readClause (ws_ yX10_readClause cX10_readClause 4 none)) := lw_V q2627 q2629 qs69 q147 q2630
theorem hg_X10_244 : yX10_readClause.cls = RX10 ∧ yX10_readClause.cls ≠ "java/lang/invoke/MethodHandle" ∧ yX10_readClause.cls ≠ "java/lang/invoke/VarHandle" ∧ (parseMethodDescriptor yX10_readClause.desc).map (fun d => d.parameters.length) = some 1 := by decide +kernel
theorem g_X10_256 : GoodIn lw_all (wsV RX10 256 RX10 yX10_readLine (ws_ yX10_readLine cX10_readLine 3 (some .int))) := lw_V q2606 q2608 qs65 q147 q2609
theorem hg_X10_256 : yX10_readLine.cls = RX10 ∧ yX10_readLine.cls ≠ "java/lang/invoke/MethodHandle" ∧ yX10_readLine.cls ≠ "java/lang/invoke/VarHandle" ∧ (parseMethodDescriptor yX10_readLine.desc).map (fun d => d.parameters.length) = some 1 := by decide +kernel
theorem g_X10_402 : GoodIn lw_all (wsV RX10 402 RX10 yX10_rememberNow (ws_ yX10_rememberNow cX10_rememberNow 1 none)) := lw_V q2852 q2854 qs105 q147 q2855
theorem hg_X10_402 : yX10_rememberNow.cls = RX10 ∧ yX10_rememberNow.cls ≠ "java/lang/invoke/MethodHandle" ∧ yX10_rememberNow.cls ≠ "java/lang/invoke/VarHandle" ∧ (parseMethodDescriptor yX10_rememberNow.desc).map (fun d => d.parameters.length) = some 0 := by decide +kernel
theorem g_X10_438 : GoodIn lw_all (wsV RX10 438 RX10 yX10_isAsNoted (ws_ yX10_isAsNoted cX10_isAsNoted 6 (some .boolean))) := lw_V q2907 q2909 qs111 q147 q2910
theorem hg_X10_438 : yX10_isAsNoted.cls = RX10 ∧ yX10_isAsNoted.cls ≠ "java/lang/invoke/MethodHandle" ∧ yX10_isAsNoted.cls ≠ "java/lang/invoke/VarHandle" ∧ (parseMethodDescriptor yX10_isAsNoted.desc).map (fun d => d.parameters.length) = some 1 := by decide +kernel
theorem g_X10_441 : GoodIn lw_all (wsV RX10 441 RX10 yX10_tellFits (ws_ yX10_tellFits cX10_tellFits 3 none)) := lw_V q2911 q2913 qs112 q147 q2914
theorem hg_X10_441 : yX10_tellFits.cls = RX10 ∧ yX10_tellFits.cls ≠ "java/lang/invoke/MethodHandle" ∧ yX10_tellFits.cls ≠ "java/lang/invoke/VarHandle" ∧ (parseMethodDescriptor yX10_tellFits.desc).map (fun d => d.parameters.length) = some 0 := by decide +kernel
theorem g_X10_444 : GoodIn lw_all (wsV RX10 444 RX10 yX10_unlikeAt (ws_ yX10_unlikeAt cX10_unlikeAt 6 (some .int))) := lw_V q2919 q2921 qs113 q147 q2922
theorem hg_X10_444 : yX10_unlikeAt.cls = RX10 ∧ yX10_unlikeAt.cls ≠ "java/lang/invoke/MethodHandle" ∧ yX10_unlikeAt.cls ≠ "java/lang/invoke/VarHandle" ∧ (parseMethodDescriptor yX10_unlikeAt.desc).map (fun d => d.parameters.length) = some 1 := by decide +kernel
theorem g_X10_384 : GoodIn lw_all (wsV RX10 384 RX10 yX10_keep (ws_ yX10_keep cX10_keep 2 none)) := lw_V q2760 q2762 qs89 q147 q2763
theorem hg_X10_384 : yX10_keep.cls = RX10 ∧ yX10_keep.cls ≠ "java/lang/invoke/MethodHandle" ∧ yX10_keep.cls ≠ "java/lang/invoke/VarHandle" ∧ (parseMethodDescriptor yX10_keep.desc).map (fun d => d.parameters.length) = some 0 := by decide +kernel
theorem g_X10_381 : GoodIn lw_all (wsV RX10 381 RX10 yX10_refuse (ws_ yX10_refuse cX10_refuse 2 (some .int))) := lw_V q2756 q2758 qs88 q147 q2759
theorem hg_X10_381 : yX10_refuse.cls = RX10 ∧ yX10_refuse.cls ≠ "java/lang/invoke/MethodHandle" ∧ yX10_refuse.cls ≠ "java/lang/invoke/VarHandle" ∧ (parseMethodDescriptor yX10_refuse.desc).map (fun d => d.parameters.length) = some 1 := by decide +kernel
theorem g_X10_390 : GoodIn lw_all (wsV RX10 390 RX10 yX10_turnTo (ws_ yX10_turnTo cX10_turnTo 7 (some .int))) := lw_V q2830 q2832 qs104 q147 q2833
theorem hg_X10_390 : yX10_turnTo.cls = RX10 ∧ yX10_turnTo.cls ≠ "java/lang/invoke/MethodHandle" ∧ yX10_turnTo.cls ≠ "java/lang/invoke/VarHandle" ∧ (parseMethodDescriptor yX10_turnTo.desc).map (fun d => d.parameters.length) = some 5 := by decide +kernel
theorem g_X10_366 : GoodIn lw_all (wsV RX10 366 RX10 yX10_playedKept (ws_ yX10_playedKept cX10_playedKept 1 (some .int))) := lw_V q2724 q2726 qs85 q147 q2727
theorem hg_X10_366 : yX10_playedKept.cls = RX10 ∧ yX10_playedKept.cls ≠ "java/lang/invoke/MethodHandle" ∧ yX10_playedKept.cls ≠ "java/lang/invoke/VarHandle" ∧ (parseMethodDescriptor yX10_playedKept.desc).map (fun d => d.parameters.length) = some 0 := by decide +kernel
theorem g_X10_371 : GoodIn lw_all (wsV RX10 371 RX10 yX10_sampleAt (ws_ yX10_sampleAt cX10_sampleAt 2 (some .int))) := lw_V q2737 q2739 qs86 q147 q2740
theorem hg_X10_371 : yX10_sampleAt.cls = RX10 ∧ yX10_sampleAt.cls ≠ "java/lang/invoke/MethodHandle" ∧ yX10_sampleAt.cls ≠ "java/lang/invoke/VarHandle" ∧ (parseMethodDescriptor yX10_sampleAt.desc).map (fun d => d.parameters.length) = some 1 := by decide +kernel
theorem g_X10_416 : GoodIn lw_all (wsV RX10 416 RX10 yX10_isNear (ws_ yX10_isNear cX10_isNear 1 (some .boolean))) := lw_V q2876 q2878 qs108 q147 q2879
theorem hg_X10_416 : yX10_isNear.cls = RX10 ∧ yX10_isNear.cls ≠ "java/lang/invoke/MethodHandle" ∧ yX10_isNear.cls ≠ "java/lang/invoke/VarHandle" ∧ (parseMethodDescriptor yX10_isNear.desc).map (fun d => d.parameters.length) = some 0 := by decide +kernel
theorem g_X10_387 : GoodIn lw_all (wsV RX10 387 RX10 yX10_goOn (ws_ yX10_goOn cX10_goOn 3 none)) := lw_V q2764 q2766 qs90 q147 q2767
theorem hg_X10_387 : yX10_goOn.cls = RX10 ∧ yX10_goOn.cls ≠ "java/lang/invoke/MethodHandle" ∧ yX10_goOn.cls ≠ "java/lang/invoke/VarHandle" ∧ (parseMethodDescriptor yX10_goOn.desc).map (fun d => d.parameters.length) = some 1 := by decide +kernel
theorem g_X10_425 : GoodIn lw_all (wsV RX10 425 RX10 yX10_tryBest (ws_ yX10_tryBest cX10_tryBest 3 none)) := lw_V q2885 q2887 qs109 q147 q2888
theorem hg_X10_425 : yX10_tryBest.cls = RX10 ∧ yX10_tryBest.cls ≠ "java/lang/invoke/MethodHandle" ∧ yX10_tryBest.cls ≠ "java/lang/invoke/VarHandle" ∧ (parseMethodDescriptor yX10_tryBest.desc).map (fun d => d.parameters.length) = some 2 := by decide +kernel
theorem g_X10_428 : GoodIn lw_all (wsV RX10 428 RX10 yX10_farOff (ws_ yX10_farOff cX10_farOff 4 (some .int))) := lw_V q2893 q2895 qs110 q147 q2896
theorem hg_X10_428 : yX10_farOff.cls = RX10 ∧ yX10_farOff.cls ≠ "java/lang/invoke/MethodHandle" ∧ yX10_farOff.cls ≠ "java/lang/invoke/VarHandle" ∧ (parseMethodDescriptor yX10_farOff.desc).map (fun d => d.parameters.length) = some 1 := by decide +kernel
theorem g_X10_376 : GoodIn lw_all (wsV RX10 376 RX10 yX10_rangeOf (ws_ yX10_rangeOf cX10_rangeOf 6 (some .int))) := lw_V q2745 q2747 qs87 q147 q2748
theorem hg_X10_376 : yX10_rangeOf.cls = RX10 ∧ yX10_rangeOf.cls ≠ "java/lang/invoke/MethodHandle" ∧ yX10_rangeOf.cls ≠ "java/lang/invoke/VarHandle" ∧ (parseMethodDescriptor yX10_rangeOf.desc).map (fun d => d.parameters.length) = some 2 := by decide +kernel
theorem g_X10_410 : GoodIn lw_all (wsV RX10 410 RX10 yX10_isOnce (ws_ yX10_isOnce cX10_isOnce 2 (some .boolean))) := lw_V q2868 q2870 qs107 q147 q2871
theorem hg_X10_410 : yX10_isOnce.cls = RX10 ∧ yX10_isOnce.cls ≠ "java/lang/invoke/MethodHandle" ∧ yX10_isOnce.cls ≠ "java/lang/invoke/VarHandle" ∧ (parseMethodDescriptor yX10_isOnce.desc).map (fun d => d.parameters.length) = some 1 := by decide +kernel
theorem g_X10_453 : GoodIn lw_all (wsV RX10 453 RX10 yX10_drawOf (ws_ yX10_drawOf cX10_drawOf 2 (some .int))) := lw_V q2936 q2938 qs114 q147 q2939
theorem hg_X10_453 : yX10_drawOf.cls = RX10 ∧ yX10_drawOf.cls ≠ "java/lang/invoke/MethodHandle" ∧ yX10_drawOf.cls ≠ "java/lang/invoke/VarHandle" ∧ (parseMethodDescriptor yX10_drawOf.desc).map (fun d => d.parameters.length) = some 1 := by decide +kernel
