theorem cx_sp_1400 : (Int16.ofInt 1400).toInt32 = 1400 := by decide +kernel
theorem cx_sp_8192 : (Int16.ofInt 8192).toInt32 = 8192 := by decide +kernel
theorem cx_sp_26600 : (Int16.ofInt 26600).toInt32 = 26600 := by decide +kernel
theorem cx_sp_441 : (Int16.ofInt 441).toInt32 = 441 := by decide +kernel
theorem cx_sp_199 : (Int16.ofInt 199).toInt32 = 199 := by decide +kernel
theorem cx_sp_995 : (Int16.ofInt 995).toInt32 = 995 := by decide +kernel
theorem cd_aastS {l : Launch} {g : cx_G} {L : dL} {P : dP} {X : cx_X} {S : cx_S} {cc : ByteArray} {pc : Nat} {lv : List (Nat × Value)} {st : List Value} {M : cx_M} {k n : Nat} {Q : State → Prop} {a t nn v : Nat} {i : Int32} {F : dP → Prop} (hb : dB g) (hn : dN L) (hm : (a, (3, t, nn)) ∈ L) (hR : ∀ U, cx_K g U → cx_RO "java/lang/String" v U) (h : cd_stR P a nn i (some v) F) (ht : (cx_tys g.2.1)[t]? = some (g.2.1 t, .object "java/lang/String")) (d : decode cc pc = .ok (.aastore, 1)) (K : ∀ P', F P' → cq_V l (dG g L P') X S cc (pc + 1) lv st M k n Q) : cq_V l (dG g L P) X S cc pc lv (.ref v :: .int i :: .ref a :: st) M k n Q := by
  intro hk H locs ls hw hS hl
  unfold cd_stR at h
  split at h
  · cases h
  · next q =>
    obtain ⟨q0, m1, m2⟩ := dPutA (P := P) (M := M) (j := i.toNatClampNeg) (v := some v) hb hn hm
    refine vb_astq hk.1 hk.2.1 hk.2.2.2.2.2.2.2.1 hw.1 hw.2 hS q0 t m1 ht (hR { X.2.2.1 with heap := H } (hk.2.2.2.2.2.2.2.at hS)) vb_asgS q d ?_
    intro H1 locs1 hP hD hS1
    rw [m2] at hP hD
    exact K _ h hk H1 locs1 ls ⟨hP, hD⟩ hS1 hl
def dMk (g : cx_G) (adr : Nat → Nat) : Prop := (∀ U : State, cx_K g U → vk_R "CircuitCellsModel" 11 "packet" (adr (1000000 + 0)) U) ∧ (∀ U : State, cx_K g U → vk_R "CircuitCellsModel" 13 "time" (adr (1000000 + 1)) U) ∧ (∀ U : State, cx_K g U → vk_R "CircuitCellsModel" 15 "last" (adr (1000000 + 2)) U) ∧ (∀ U : State, cx_K g U → vk_R "CircuitCellsModel" 17 "flying" (adr (1000000 + 3)) U) ∧ (∀ U : State, cx_K g U → vk_R "CircuitCellsModel" 23 "size" (adr (1000000 + 4)) U) ∧ (∀ U : State, cx_K g U → vk_R "CircuitCellsModel" 25 "target" (adr (1000000 + 5)) U) ∧ (∀ U : State, cx_K g U → vk_R "CircuitCellsModel" 27 "gain" (adr (1000000 + 6)) U) ∧ (∀ U : State, cx_K g U → vk_R "CircuitCellsModel" 29 "every" (adr (1000000 + 7)) U) ∧ (∀ U : State, cx_K g U → vk_R "CircuitCellsModel" 31 "offset" (adr (1000000 + 8)) U) ∧ (∀ U : State, cx_K g U → vk_R "CircuitCellsModel" 33 "frame" (adr (1000000 + 9)) U) ∧ (∀ U : State, cx_K g U → vk_R "CircuitCellsModel" 35 "word" (adr (1000000 + 10)) U) ∧ (∀ U : State, cx_K g U → vk_R "CircuitCellsModel" 37 "delay" (adr (1000000 + 11)) U) ∧ (∀ U : State, cx_K g U → vk_R "CircuitCellsModel" 39 "lost" (adr (1000000 + 12)) U)
def dM (g : cx_G) (adr : Nat → Nat) : Prop := dH g ∧ (∀ U, cx_K g U → va_AO "java/lang/String" U) ∧ (∀ w, w < 16 → ∀ U, cx_K g U → cx_RO "java/lang/String" (adr (1000000 + w)) U) ∧ dMk g adr
theorem dM_k11 {g : cx_G} {adr : Nat → Nat} {L : dL} {P : dP} (H : dM g adr) : ∀ U, cx_K (dG g L P) U → vk_R "CircuitCellsModel" 11 "packet" (adr (1000000 + 0)) U := fun U h => H.2.2.2.1 U h
theorem dM_k13 {g : cx_G} {adr : Nat → Nat} {L : dL} {P : dP} (H : dM g adr) : ∀ U, cx_K (dG g L P) U → vk_R "CircuitCellsModel" 13 "time" (adr (1000000 + 1)) U := fun U h => H.2.2.2.2.1 U h
theorem dM_k15 {g : cx_G} {adr : Nat → Nat} {L : dL} {P : dP} (H : dM g adr) : ∀ U, cx_K (dG g L P) U → vk_R "CircuitCellsModel" 15 "last" (adr (1000000 + 2)) U := fun U h => H.2.2.2.2.2.1 U h
theorem dM_k17 {g : cx_G} {adr : Nat → Nat} {L : dL} {P : dP} (H : dM g adr) : ∀ U, cx_K (dG g L P) U → vk_R "CircuitCellsModel" 17 "flying" (adr (1000000 + 3)) U := fun U h => H.2.2.2.2.2.2.1 U h
theorem dM_k23 {g : cx_G} {adr : Nat → Nat} {L : dL} {P : dP} (H : dM g adr) : ∀ U, cx_K (dG g L P) U → vk_R "CircuitCellsModel" 23 "size" (adr (1000000 + 4)) U := fun U h => H.2.2.2.2.2.2.2.1 U h
theorem dM_k25 {g : cx_G} {adr : Nat → Nat} {L : dL} {P : dP} (H : dM g adr) : ∀ U, cx_K (dG g L P) U → vk_R "CircuitCellsModel" 25 "target" (adr (1000000 + 5)) U := fun U h => H.2.2.2.2.2.2.2.2.1 U h
theorem dM_k27 {g : cx_G} {adr : Nat → Nat} {L : dL} {P : dP} (H : dM g adr) : ∀ U, cx_K (dG g L P) U → vk_R "CircuitCellsModel" 27 "gain" (adr (1000000 + 6)) U := fun U h => H.2.2.2.2.2.2.2.2.2.1 U h
theorem dM_k29 {g : cx_G} {adr : Nat → Nat} {L : dL} {P : dP} (H : dM g adr) : ∀ U, cx_K (dG g L P) U → vk_R "CircuitCellsModel" 29 "every" (adr (1000000 + 7)) U := fun U h => H.2.2.2.2.2.2.2.2.2.2.1 U h
theorem dM_k31 {g : cx_G} {adr : Nat → Nat} {L : dL} {P : dP} (H : dM g adr) : ∀ U, cx_K (dG g L P) U → vk_R "CircuitCellsModel" 31 "offset" (adr (1000000 + 8)) U := fun U h => H.2.2.2.2.2.2.2.2.2.2.2.1 U h
theorem dM_k33 {g : cx_G} {adr : Nat → Nat} {L : dL} {P : dP} (H : dM g adr) : ∀ U, cx_K (dG g L P) U → vk_R "CircuitCellsModel" 33 "frame" (adr (1000000 + 9)) U := fun U h => H.2.2.2.2.2.2.2.2.2.2.2.2.1 U h
theorem dM_k35 {g : cx_G} {adr : Nat → Nat} {L : dL} {P : dP} (H : dM g adr) : ∀ U, cx_K (dG g L P) U → vk_R "CircuitCellsModel" 35 "word" (adr (1000000 + 10)) U := fun U h => H.2.2.2.2.2.2.2.2.2.2.2.2.2.1 U h
theorem dM_k37 {g : cx_G} {adr : Nat → Nat} {L : dL} {P : dP} (H : dM g adr) : ∀ U, cx_K (dG g L P) U → vk_R "CircuitCellsModel" 37 "delay" (adr (1000000 + 11)) U := fun U h => H.2.2.2.2.2.2.2.2.2.2.2.2.2.2.1 U h
theorem dM_k39 {g : cx_G} {adr : Nat → Nat} {L : dL} {P : dP} (H : dM g adr) : ∀ U, cx_K (dG g L P) U → vk_R "CircuitCellsModel" 39 "lost" (adr (1000000 + 12)) U := fun U h => H.2.2.2.2.2.2.2.2.2.2.2.2.2.2.2 U h
theorem dCl_X10 : cx_Cl 0 RX10 TX10 52 tyX10 := ⟨rfl, in_X10, tyX10_ok, nmX10⟩

abbrev esX10_initD (bc bs : Nat) : cx_S := (1, RX10, cx_rI, { frames := 1, cells := bc, slots := bs, locals := 20 }, none, false)
def dTw_initD_0 (N : dNt) (bc bs : Nat) (Q : cd_Qt) (a0 : Nat) (M : cx_M) (P : dP) (L : dL) (k n : Nat) : Prop :=
  cd_newa bc bs k n 4 (fun z => (3, 5, z)) M P L fun a1 M2 P3 L4 k5 n6 =>
  ∃ z7, (a1, (3, 5, z7)) ∈ L4 ∧ cd_stR P3 a1 z7 0 (some (N.2 (1000000 + 0))) fun P8 =>
  ∃ z9, (a1, (3, 5, z9)) ∈ L4 ∧ cd_stR P8 a1 z9 1 (some (N.2 (1000000 + 1))) fun P10 =>
  ∃ z11, (a1, (3, 5, z11)) ∈ L4 ∧ cd_stR P10 a1 z11 2 (some (N.2 (1000000 + 2))) fun P12 =>
  ∃ z13, (a1, (3, 5, z13)) ∈ L4 ∧ cd_stR P12 a1 z13 3 (some (N.2 (1000000 + 3))) fun P14 =>
  (a0, (0, 0, 0)) ∈ L4 ∧ cd_put P14 a0 0 (some a1) fun P15 =>
  cd_newa bc bs k5 n6 9 (fun z => (3, 5, z)) M2 P15 L4 fun a16 M17 P18 L19 k20 n21 =>
  ∃ z22, (a16, (3, 5, z22)) ∈ L19 ∧ cd_stR P18 a16 z22 0 (some (N.2 (1000000 + 4))) fun P23 =>
  ∃ z24, (a16, (3, 5, z24)) ∈ L19 ∧ cd_stR P23 a16 z24 1 (some (N.2 (1000000 + 5))) fun P25 =>
  ∃ z26, (a16, (3, 5, z26)) ∈ L19 ∧ cd_stR P25 a16 z26 2 (some (N.2 (1000000 + 6))) fun P27 =>
  ∃ z28, (a16, (3, 5, z28)) ∈ L19 ∧ cd_stR P27 a16 z28 3 (some (N.2 (1000000 + 7))) fun P29 =>
  ∃ z30, (a16, (3, 5, z30)) ∈ L19 ∧ cd_stR P29 a16 z30 4 (some (N.2 (1000000 + 8))) fun P31 =>
  ∃ z32, (a16, (3, 5, z32)) ∈ L19 ∧ cd_stR P31 a16 z32 5 (some (N.2 (1000000 + 9))) fun P33 =>
  ∃ z34, (a16, (3, 5, z34)) ∈ L19 ∧ cd_stR P33 a16 z34 6 (some (N.2 (1000000 + 10))) fun P35 =>
  ∃ z36, (a16, (3, 5, z36)) ∈ L19 ∧ cd_stR P35 a16 z36 7 (some (N.2 (1000000 + 11))) fun P37 =>
  ∃ z38, (a16, (3, 5, z38)) ∈ L19 ∧ cd_stR P37 a16 z38 8 (some (N.2 (1000000 + 12))) fun P39 =>
  (a0, (0, 0, 0)) ∈ L19 ∧ cd_put P39 a0 1 (some a16) fun P40 =>
  cd_newa bc bs k20 n21 20 (fun z => (1, 0, z)) M17 P40 L19 fun a41 M42 P43 L44 k45 n46 =>
  ∃ z48, (a41, (1, 0, z48)) ∈ L44 ∧ cq_st M42 (dc a41) z48 0 4 fun M47 =>
  ∃ z50, (a41, (1, 0, z50)) ∈ L44 ∧ cq_st M47 (dc a41) z50 1 12 fun M49 =>
  ∃ z52, (a41, (1, 0, z52)) ∈ L44 ∧ cq_st M49 (dc a41) z52 2 4 fun M51 =>
  ∃ z54, (a41, (1, 0, z54)) ∈ L44 ∧ cq_st M51 (dc a41) z54 3 1 fun M53 =>
  ∃ z56, (a41, (1, 0, z56)) ∈ L44 ∧ cq_st M53 (dc a41) z56 4 8 fun M55 =>
  ∃ z58, (a41, (1, 0, z58)) ∈ L44 ∧ cq_st M55 (dc a41) z58 5 0 fun M57 =>
  ∃ z60, (a41, (1, 0, z60)) ∈ L44 ∧ cq_st M57 (dc a41) z60 6 1 fun M59 =>
  ∃ z62, (a41, (1, 0, z62)) ∈ L44 ∧ cq_st M59 (dc a41) z62 7 1 fun M61 =>
  ∃ z64, (a41, (1, 0, z64)) ∈ L44 ∧ cq_st M61 (dc a41) z64 8 0 fun M63 =>
  ∃ z66, (a41, (1, 0, z66)) ∈ L44 ∧ cq_st M63 (dc a41) z66 9 0 fun M65 =>
  ∃ z68, (a41, (1, 0, z68)) ∈ L44 ∧ cq_st M65 (dc a41) z68 10 0 fun M67 =>
  ∃ z70, (a41, (1, 0, z70)) ∈ L44 ∧ cq_st M67 (dc a41) z70 11 0 fun M69 =>
  ∃ z72, (a41, (1, 0, z72)) ∈ L44 ∧ cq_st M69 (dc a41) z72 12 0 fun M71 =>
  ∃ z74, (a41, (1, 0, z74)) ∈ L44 ∧ cq_st M71 (dc a41) z74 13 0 fun M73 =>
  ∃ z76, (a41, (1, 0, z76)) ∈ L44 ∧ cq_st M73 (dc a41) z76 14 0 fun M75 =>
  ∃ z78, (a41, (1, 0, z78)) ∈ L44 ∧ cq_st M75 (dc a41) z78 15 0 fun M77 =>
  ∃ z80, (a41, (1, 0, z80)) ∈ L44 ∧ cq_st M77 (dc a41) z80 16 0 fun M79 =>
  ∃ z82, (a41, (1, 0, z82)) ∈ L44 ∧ cq_st M79 (dc a41) z82 17 0 fun M81 =>
  ∃ z84, (a41, (1, 0, z84)) ∈ L44 ∧ cq_st M81 (dc a41) z84 18 0 fun M83 =>
  ∃ z86, (a41, (1, 0, z86)) ∈ L44 ∧ cq_st M83 (dc a41) z86 19 0 fun M85 =>
  (a0, (0, 0, 0)) ∈ L44 ∧ cd_put P43 a0 3 (some a41) fun P87 =>
  cd_newa bc bs k45 n46 32 (fun z => (1, 0, z)) M85 P87 L44 fun a88 M89 P90 L91 k92 n93 =>
  (a0, (0, 0, 0)) ∈ L91 ∧ cd_put P90 a0 4 (some a88) fun P94 =>
  cd_newa bc bs k92 n93 1400 (fun z => (1, 0, z)) M89 P94 L91 fun a95 M96 P97 L98 k99 n100 =>
  (a0, (0, 0, 0)) ∈ L98 ∧ cd_put P97 a0 5 (some a95) fun P101 =>
  cd_newa bc bs k99 n100 1400 (fun z => (1, 0, z)) M96 P101 L98 fun a102 M103 P104 L105 k106 n107 =>
  (a0, (0, 0, 0)) ∈ L105 ∧ cd_put P104 a0 6 (some a102) fun P108 =>
  cd_newa bc bs k106 n107 3 (fun z => (1, 0, z)) M103 P108 L105 fun a109 M110 P111 L112 k113 n114 =>
  (a0, (0, 0, 0)) ∈ L112 ∧ cd_put P111 a0 7 (some a109) fun P115 =>
  cd_newa bc bs k113 n114 665 (fun z => (1, 0, z)) M110 P115 L112 fun a116 M117 P118 L119 k120 n121 =>
  (a0, (0, 0, 0)) ∈ L119 ∧ cd_put P118 a0 8 (some a116) fun P122 =>
  cd_newa bc bs k120 n121 700 (fun z => (1, 0, z)) M117 P122 L119 fun a123 M124 P125 L126 k127 n128 =>
  (a0, (0, 0, 0)) ∈ L126 ∧ cd_put P125 a0 11 (some a123) fun P129 =>
  (a0, (0, 0, 0)) ∈ L126 ∧ cq_put M124 (dc a0) 21 (-1) fun M130 =>
  cd_newa bc bs k127 n128 4 (fun z => (1, 0, z)) M130 P129 L126 fun a131 M132 P133 L134 k135 n136 =>
  (a0, (0, 0, 0)) ∈ L134 ∧ cd_put P133 a0 22 (some a131) fun P137 =>
  cd_newa bc bs k135 n136 64 (fun z => (1, 0, z)) M132 P137 L134 fun a138 M139 P140 L141 k142 n143 =>
  (a0, (0, 0, 0)) ∈ L141 ∧ cd_put P140 a0 23 (some a138) fun P144 =>
  cd_newa bc bs k142 n143 8192 (fun z => (1, 0, z)) M139 P144 L141 fun a145 M146 P147 L148 k149 n150 =>
  (a0, (0, 0, 0)) ∈ L148 ∧ cd_put P147 a0 26 (some a145) fun P151 =>
  cd_newa bc bs k149 n150 2048 (fun z => (1, 0, z)) M146 P151 L148 fun a152 M153 P154 L155 k156 n157 =>
  (a0, (0, 0, 0)) ∈ L155 ∧ cd_put P154 a0 27 (some a152) fun P158 =>
  cd_newa bc bs k156 n157 2048 (fun z => (1, 1, z)) M153 P158 L155 fun a159 M160 P161 L162 k163 n164 =>
  (a0, (0, 0, 0)) ∈ L162 ∧ cd_put P161 a0 28 (some a159) fun P165 =>
  cd_newa bc bs k163 n164 26600 (fun z => (1, 0, z)) M160 P165 L162 fun a166 M167 P168 L169 k170 n171 =>
  (a0, (0, 0, 0)) ∈ L169 ∧ cd_put P168 a0 33 (some a166) fun P172 =>
  cd_newa bc bs k170 n171 665 (fun z => (1, 0, z)) M167 P172 L169 fun a173 M174 P175 L176 k177 n178 =>
  (a0, (0, 0, 0)) ∈ L176 ∧ cd_put P175 a0 34 (some a173) fun P179 =>
  cd_newa bc bs k177 n178 441 (fun z => (1, 0, z)) M174 P179 L176 fun a180 M181 P182 L183 k184 n185 =>
  (a0, (0, 0, 0)) ∈ L183 ∧ cd_put P182 a0 35 (some a180) fun P186 =>
  cd_newa bc bs k184 n185 8 (fun z => (1, 0, z)) M181 P186 L183 fun a187 M188 P189 L190 k191 n192 =>
  (a0, (0, 0, 0)) ∈ L190 ∧ cd_put P189 a0 38 (some a187) fun P193 =>
  cd_newa bc bs k191 n192 8 (fun z => (1, 0, z)) M188 P193 L190 fun a194 M195 P196 L197 k198 n199 =>
  (a0, (0, 0, 0)) ∈ L197 ∧ cd_put P196 a0 39 (some a194) fun P200 =>
  cd_newa bc bs k198 n199 199 (fun z => (1, 0, z)) M195 P200 L197 fun a201 M202 P203 L204 k205 n206 =>
  (a0, (0, 0, 0)) ∈ L204 ∧ cd_put P203 a0 40 (some a201) fun P207 =>
  cd_newa bc bs k205 n206 995 (fun z => (1, 0, z)) M202 P207 L204 fun a208 M209 P210 L211 k212 n213 =>
  (a0, (0, 0, 0)) ∈ L211 ∧ cd_put P210 a0 41 (some a208) fun P214 =>
  cd_newa bc bs k212 n213 665 (fun z => (1, 0, z)) M209 P214 L211 fun a215 M216 P217 L218 k219 n220 =>
  (a0, (0, 0, 0)) ∈ L218 ∧ cd_put P217 a0 47 (some a215) fun P221 =>
  cd_newa bc bs k219 n220 26600 (fun z => (1, 0, z)) M216 P221 L218 fun a222 M223 P224 L225 k226 n227 =>
  (a0, (0, 0, 0)) ∈ L225 ∧ cd_put P224 a0 48 (some a222) fun P228 =>
  cd_newa bc bs k226 n227 8 (fun z => (1, 0, z)) M223 P228 L225 fun a229 M230 P231 L232 k233 n234 =>
  (a0, (0, 0, 0)) ∈ L232 ∧ cd_put P231 a0 49 (some a229) fun P235 =>
  cd_newa bc bs k233 n234 8 (fun z => (1, 0, z)) M230 P235 L232 fun a236 M237 P238 L239 k240 n241 =>
  (a0, (0, 0, 0)) ∈ L239 ∧ cd_put P238 a0 50 (some a236) fun P242 =>
  cd_newa bc bs k240 n241 3 (fun z => (1, 0, z)) M237 P242 L239 fun a243 M244 P245 L246 k247 n248 =>
  (a0, (0, 0, 0)) ∈ L246 ∧ cd_put P245 a0 51 (some a243) fun P249 =>
  Q M244 P249 L246 0 none 0 k247 n248
set_option maxRecDepth 100000 in
theorem dTw_initD_0_v {l : Launch} {g : cx_G} {X : cx_X} {N : dNt} {bc bs : Nat} {Q : cd_Qt} {a0 : Nat} (H : dM g N.2) (hX : X.2.2.2.2.2.2.1.name = "<init>") (M : cx_M) (P : dP) (L : dL) (k n : Nat) (hk : k ≤ bc ∧ n ≤ bs) (h : dTw_initD_0 N bc bs Q a0 M P L k n) : cq_V l (dG g L P) X (esX10_initD bc bs) cX10_init 0 [(0, .ref a0)] [] M k n (cd_fin g X (esX10_initD bc bs) cd_rV Q) := by
  unfold dTw_initD_0 at h
  refine cq_aload_n 0 dX10_init_0 rfl ?_
  refine cd_oinit q2374 q176 q177 dX10_init_1 (cx_le rfl) (cx_le rfl) ?_
  refine cq_aload_n 0 dX10_init_4 rfl ?_
  refine cq_iconst 4 dX10_init_5 cx_ic_4 ?_
  refine cd_newR H.1.1 h ⟨rfl, rfl⟩ q2375 (H.2.1) rfl dX10_init_6 (fun a1 M2 P3 L4 k5 n6 h hk => ?_)
  refine cq_dup dX10_init_9 rfl ?_
  refine cq_iconst 0 dX10_init_10 cx_ic_0 ?_
  refine cq_ldcS (dM_k11 H) dX10_init_11 ?_
  obtain ⟨z7, hm, h⟩ := h
  refine cq_nd H.1.1 (fun hn => cd_aastS H.1.1 hn hm (H.2.2.1 0 (by decide)) h rfl dX10_init_13 (fun P8 h => ?_))
  refine cq_dup dX10_init_14 rfl ?_
  refine cq_iconst 1 dX10_init_15 cx_ic_1 ?_
  refine cq_ldcS (dM_k13 H) dX10_init_16 ?_
  obtain ⟨z9, hm, h⟩ := h
  refine cq_nd H.1.1 (fun hn => cd_aastS H.1.1 hn hm (H.2.2.1 1 (by decide)) h rfl dX10_init_18 (fun P10 h => ?_))
  refine cq_dup dX10_init_19 rfl ?_
  refine cq_iconst 2 dX10_init_20 cx_ic_2 ?_
  refine cq_ldcS (dM_k15 H) dX10_init_21 ?_
  obtain ⟨z11, hm, h⟩ := h
  refine cq_nd H.1.1 (fun hn => cd_aastS H.1.1 hn hm (H.2.2.1 2 (by decide)) h rfl dX10_init_23 (fun P12 h => ?_))
  refine cq_dup dX10_init_24 rfl ?_
  refine cq_iconst 3 dX10_init_25 cx_ic_3 ?_
  refine cq_ldcS (dM_k17 H) dX10_init_26 ?_
  obtain ⟨z13, hm, h⟩ := h
  refine cq_nd H.1.1 (fun hn => cd_aastS H.1.1 hn hm (H.2.2.1 3 (by decide)) h rfl dX10_init_28 (fun P14 h => ?_))
  refine cq_nd H.1.1 (fun hn => cd_putRF (v := (some a1)) hX rfl H.1.1 hn h.1 h.2 dCl_X10 (cx_lt rfl) rfl rfl rfl cd_nfA rfl q2390 dX10_init_29 (fun P15 h => ?_))
  refine cq_aload_n 0 dX10_init_32 rfl ?_
  refine cq_bipush 9 dX10_init_33 cx_bp_9 ?_
  refine cd_newR H.1.1 h ⟨rfl, rfl⟩ q2375 (H.2.1) rfl dX10_init_35 (fun a16 M17 P18 L19 k20 n21 h hk => ?_)
  refine cq_dup dX10_init_38 rfl ?_
  refine cq_iconst 0 dX10_init_39 cx_ic_0 ?_
  refine cq_ldcS (dM_k23 H) dX10_init_40 ?_
  obtain ⟨z22, hm, h⟩ := h
  refine cq_nd H.1.1 (fun hn => cd_aastS H.1.1 hn hm (H.2.2.1 4 (by decide)) h rfl dX10_init_42 (fun P23 h => ?_))
  refine cq_dup dX10_init_43 rfl ?_
  refine cq_iconst 1 dX10_init_44 cx_ic_1 ?_
  refine cq_ldcS (dM_k25 H) dX10_init_45 ?_
  obtain ⟨z24, hm, h⟩ := h
  refine cq_nd H.1.1 (fun hn => cd_aastS H.1.1 hn hm (H.2.2.1 5 (by decide)) h rfl dX10_init_47 (fun P25 h => ?_))
  refine cq_dup dX10_init_48 rfl ?_
  refine cq_iconst 2 dX10_init_49 cx_ic_2 ?_
  refine cq_ldcS (dM_k27 H) dX10_init_50 ?_
  obtain ⟨z26, hm, h⟩ := h
  refine cq_nd H.1.1 (fun hn => cd_aastS H.1.1 hn hm (H.2.2.1 6 (by decide)) h rfl dX10_init_52 (fun P27 h => ?_))
  refine cq_dup dX10_init_53 rfl ?_
  refine cq_iconst 3 dX10_init_54 cx_ic_3 ?_
  refine cq_ldcS (dM_k29 H) dX10_init_55 ?_
  obtain ⟨z28, hm, h⟩ := h
  refine cq_nd H.1.1 (fun hn => cd_aastS H.1.1 hn hm (H.2.2.1 7 (by decide)) h rfl dX10_init_57 (fun P29 h => ?_))
  refine cq_dup dX10_init_58 rfl ?_
  refine cq_iconst 4 dX10_init_59 cx_ic_4 ?_
  refine cq_ldcS (dM_k31 H) dX10_init_60 ?_
  obtain ⟨z30, hm, h⟩ := h
  refine cq_nd H.1.1 (fun hn => cd_aastS H.1.1 hn hm (H.2.2.1 8 (by decide)) h rfl dX10_init_62 (fun P31 h => ?_))
  refine cq_dup dX10_init_63 rfl ?_
  refine cq_iconst 5 dX10_init_64 cx_ic_5 ?_
  refine cq_ldcS (dM_k33 H) dX10_init_65 ?_
  obtain ⟨z32, hm, h⟩ := h
  refine cq_nd H.1.1 (fun hn => cd_aastS H.1.1 hn hm (H.2.2.1 9 (by decide)) h rfl dX10_init_67 (fun P33 h => ?_))
  refine cq_dup dX10_init_68 rfl ?_
  refine cq_bipush 6 dX10_init_69 cx_bp_6 ?_
  refine cq_ldcS (dM_k35 H) dX10_init_71 ?_
  obtain ⟨z34, hm, h⟩ := h
  refine cq_nd H.1.1 (fun hn => cd_aastS H.1.1 hn hm (H.2.2.1 10 (by decide)) h rfl dX10_init_73 (fun P35 h => ?_))
  refine cq_dup dX10_init_74 rfl ?_
  refine cq_bipush 7 dX10_init_75 cx_bp_7 ?_
  refine cq_ldcS (dM_k37 H) dX10_init_77 ?_
  obtain ⟨z36, hm, h⟩ := h
  refine cq_nd H.1.1 (fun hn => cd_aastS H.1.1 hn hm (H.2.2.1 11 (by decide)) h rfl dX10_init_79 (fun P37 h => ?_))
  refine cq_dup dX10_init_80 rfl ?_
  refine cq_bipush 8 dX10_init_81 cx_bp_8 ?_
  refine cq_ldcS (dM_k39 H) dX10_init_83 ?_
  obtain ⟨z38, hm, h⟩ := h
  refine cq_nd H.1.1 (fun hn => cd_aastS H.1.1 hn hm (H.2.2.1 12 (by decide)) h rfl dX10_init_85 (fun P39 h => ?_))
  refine cq_nd H.1.1 (fun hn => cd_putRF (v := (some a16)) hX rfl H.1.1 hn h.1 h.2 dCl_X10 (cx_lt rfl) rfl rfl rfl cd_nfA rfl q2391 dX10_init_86 (fun P40 h => ?_))
  refine cq_aload_n 0 dX10_init_89 rfl ?_
  refine cq_bipush 20 dX10_init_90 cx_bp_20 ?_
  refine cd_newI (atype := .int) (ty := .int) H.1.1 h ⟨rfl, rfl⟩ q557 rfl rfl (fun _ _ => rfl) (by decide) dX10_init_92 (fun a41 M42 P43 L44 k45 n46 h hk => ?_)
  refine cq_dup dX10_init_94 rfl ?_
  refine cq_iconst 0 dX10_init_95 cx_ic_0 ?_
  refine cq_iconst 4 dX10_init_96 cx_ic_4 ?_
  obtain ⟨z48, hm, h⟩ := h
  refine cq_nd H.1.1 (fun hn => cq_stI h (dG_AI H.1.1 hn hm rfl) dX10_init_97 (fun M47 h => ?_))
  refine cq_dup dX10_init_98 rfl ?_
  refine cq_iconst 1 dX10_init_99 cx_ic_1 ?_
  refine cq_bipush 12 dX10_init_100 cx_bp_12 ?_
  obtain ⟨z50, hm, h⟩ := h
  refine cq_nd H.1.1 (fun hn => cq_stI h (dG_AI H.1.1 hn hm rfl) dX10_init_102 (fun M49 h => ?_))
  refine cq_dup dX10_init_103 rfl ?_
  refine cq_iconst 2 dX10_init_104 cx_ic_2 ?_
  refine cq_iconst 4 dX10_init_105 cx_ic_4 ?_
  obtain ⟨z52, hm, h⟩ := h
  refine cq_nd H.1.1 (fun hn => cq_stI h (dG_AI H.1.1 hn hm rfl) dX10_init_106 (fun M51 h => ?_))
  refine cq_dup dX10_init_107 rfl ?_
  refine cq_iconst 3 dX10_init_108 cx_ic_3 ?_
  refine cq_iconst 1 dX10_init_109 cx_ic_1 ?_
  obtain ⟨z54, hm, h⟩ := h
  refine cq_nd H.1.1 (fun hn => cq_stI h (dG_AI H.1.1 hn hm rfl) dX10_init_110 (fun M53 h => ?_))
  refine cq_dup dX10_init_111 rfl ?_
  refine cq_iconst 4 dX10_init_112 cx_ic_4 ?_
  refine cq_bipush 8 dX10_init_113 cx_bp_8 ?_
  obtain ⟨z56, hm, h⟩ := h
  refine cq_nd H.1.1 (fun hn => cq_stI h (dG_AI H.1.1 hn hm rfl) dX10_init_115 (fun M55 h => ?_))
  refine cq_dup dX10_init_116 rfl ?_
  refine cq_iconst 5 dX10_init_117 cx_ic_5 ?_
  refine cq_iconst 0 dX10_init_118 cx_ic_0 ?_
  obtain ⟨z58, hm, h⟩ := h
  refine cq_nd H.1.1 (fun hn => cq_stI h (dG_AI H.1.1 hn hm rfl) dX10_init_119 (fun M57 h => ?_))
  refine cq_dup dX10_init_120 rfl ?_
  refine cq_bipush 6 dX10_init_121 cx_bp_6 ?_
  refine cq_iconst 1 dX10_init_123 cx_ic_1 ?_
  obtain ⟨z60, hm, h⟩ := h
  refine cq_nd H.1.1 (fun hn => cq_stI h (dG_AI H.1.1 hn hm rfl) dX10_init_124 (fun M59 h => ?_))
  refine cq_dup dX10_init_125 rfl ?_
  refine cq_bipush 7 dX10_init_126 cx_bp_7 ?_
  refine cq_iconst 1 dX10_init_128 cx_ic_1 ?_
  obtain ⟨z62, hm, h⟩ := h
  refine cq_nd H.1.1 (fun hn => cq_stI h (dG_AI H.1.1 hn hm rfl) dX10_init_129 (fun M61 h => ?_))
  refine cq_dup dX10_init_130 rfl ?_
  refine cq_bipush 8 dX10_init_131 cx_bp_8 ?_
  refine cq_iconst 0 dX10_init_133 cx_ic_0 ?_
  obtain ⟨z64, hm, h⟩ := h
  refine cq_nd H.1.1 (fun hn => cq_stI h (dG_AI H.1.1 hn hm rfl) dX10_init_134 (fun M63 h => ?_))
  refine cq_dup dX10_init_135 rfl ?_
  refine cq_bipush 9 dX10_init_136 cx_bp_9 ?_
  refine cq_iconst 0 dX10_init_138 cx_ic_0 ?_
  obtain ⟨z66, hm, h⟩ := h
  refine cq_nd H.1.1 (fun hn => cq_stI h (dG_AI H.1.1 hn hm rfl) dX10_init_139 (fun M65 h => ?_))
  refine cq_dup dX10_init_140 rfl ?_
  refine cq_bipush 10 dX10_init_141 cx_bp_10 ?_
  refine cq_iconst 0 dX10_init_143 cx_ic_0 ?_
  obtain ⟨z68, hm, h⟩ := h
  refine cq_nd H.1.1 (fun hn => cq_stI h (dG_AI H.1.1 hn hm rfl) dX10_init_144 (fun M67 h => ?_))
  refine cq_dup dX10_init_145 rfl ?_
  refine cq_bipush 11 dX10_init_146 cx_bp_11 ?_
  refine cq_iconst 0 dX10_init_148 cx_ic_0 ?_
  obtain ⟨z70, hm, h⟩ := h
  refine cq_nd H.1.1 (fun hn => cq_stI h (dG_AI H.1.1 hn hm rfl) dX10_init_149 (fun M69 h => ?_))
  refine cq_dup dX10_init_150 rfl ?_
  refine cq_bipush 12 dX10_init_151 cx_bp_12 ?_
  refine cq_iconst 0 dX10_init_153 cx_ic_0 ?_
  obtain ⟨z72, hm, h⟩ := h
  refine cq_nd H.1.1 (fun hn => cq_stI h (dG_AI H.1.1 hn hm rfl) dX10_init_154 (fun M71 h => ?_))
  refine cq_dup dX10_init_155 rfl ?_
  refine cq_bipush 13 dX10_init_156 cx_bp_13 ?_
  refine cq_iconst 0 dX10_init_158 cx_ic_0 ?_
  obtain ⟨z74, hm, h⟩ := h
  refine cq_nd H.1.1 (fun hn => cq_stI h (dG_AI H.1.1 hn hm rfl) dX10_init_159 (fun M73 h => ?_))
  refine cq_dup dX10_init_160 rfl ?_
  refine cq_bipush 14 dX10_init_161 cx_bp_14 ?_
  refine cq_iconst 0 dX10_init_163 cx_ic_0 ?_
  obtain ⟨z76, hm, h⟩ := h
  refine cq_nd H.1.1 (fun hn => cq_stI h (dG_AI H.1.1 hn hm rfl) dX10_init_164 (fun M75 h => ?_))
  refine cq_dup dX10_init_165 rfl ?_
  refine cq_bipush 15 dX10_init_166 cx_bp_15 ?_
  refine cq_iconst 0 dX10_init_168 cx_ic_0 ?_
  obtain ⟨z78, hm, h⟩ := h
  refine cq_nd H.1.1 (fun hn => cq_stI h (dG_AI H.1.1 hn hm rfl) dX10_init_169 (fun M77 h => ?_))
  refine cq_dup dX10_init_170 rfl ?_
  refine cq_bipush 16 dX10_init_171 cx_bp_16 ?_
  refine cq_iconst 0 dX10_init_173 cx_ic_0 ?_
  obtain ⟨z80, hm, h⟩ := h
  refine cq_nd H.1.1 (fun hn => cq_stI h (dG_AI H.1.1 hn hm rfl) dX10_init_174 (fun M79 h => ?_))
  refine cq_dup dX10_init_175 rfl ?_
  refine cq_bipush 17 dX10_init_176 cx_bp_17 ?_
  refine cq_iconst 0 dX10_init_178 cx_ic_0 ?_
  obtain ⟨z82, hm, h⟩ := h
  refine cq_nd H.1.1 (fun hn => cq_stI h (dG_AI H.1.1 hn hm rfl) dX10_init_179 (fun M81 h => ?_))
  refine cq_dup dX10_init_180 rfl ?_
  refine cq_bipush 18 dX10_init_181 cx_bp_18 ?_
  refine cq_iconst 0 dX10_init_183 cx_ic_0 ?_
  obtain ⟨z84, hm, h⟩ := h
  refine cq_nd H.1.1 (fun hn => cq_stI h (dG_AI H.1.1 hn hm rfl) dX10_init_184 (fun M83 h => ?_))
  refine cq_dup dX10_init_185 rfl ?_
  refine cq_bipush 19 dX10_init_186 cx_bp_19 ?_
  refine cq_iconst 0 dX10_init_188 cx_ic_0 ?_
  obtain ⟨z86, hm, h⟩ := h
  refine cq_nd H.1.1 (fun hn => cq_stI h (dG_AI H.1.1 hn hm rfl) dX10_init_189 (fun M85 h => ?_))
  refine cq_nd H.1.1 (fun hn => cd_putRF (v := (some a41)) hX rfl H.1.1 hn h.1 h.2 dCl_X10 (cx_lt rfl) rfl rfl rfl cd_nfA rfl q2393 dX10_init_190 (fun P87 h => ?_))
  refine cq_aload_n 0 dX10_init_193 rfl ?_
  refine cq_bipush 32 dX10_init_194 cx_bp_32 ?_
  refine cd_newI (atype := .int) (ty := .int) H.1.1 h ⟨rfl, rfl⟩ q557 rfl rfl (fun _ _ => rfl) (by decide) dX10_init_196 (fun a88 M89 P90 L91 k92 n93 h hk => ?_)
  refine cq_nd H.1.1 (fun hn => cd_putRF (v := (some a88)) hX rfl H.1.1 hn h.1 h.2 dCl_X10 (cx_lt rfl) rfl rfl rfl cd_nfA rfl q2394 dX10_init_198 (fun P94 h => ?_))
  refine cq_aload_n 0 dX10_init_201 rfl ?_
  refine cq_sipush 1400 dX10_init_202 cx_sp_1400 ?_
  refine cd_newI (atype := .int) (ty := .int) H.1.1 h ⟨rfl, rfl⟩ q557 rfl rfl (fun _ _ => rfl) (by decide) dX10_init_205 (fun a95 M96 P97 L98 k99 n100 h hk => ?_)
  refine cq_nd H.1.1 (fun hn => cd_putRF (v := (some a95)) hX rfl H.1.1 hn h.1 h.2 dCl_X10 (cx_lt rfl) rfl rfl rfl cd_nfA rfl q2395 dX10_init_207 (fun P101 h => ?_))
  refine cq_aload_n 0 dX10_init_210 rfl ?_
  refine cq_sipush 1400 dX10_init_211 cx_sp_1400 ?_
  refine cd_newI (atype := .int) (ty := .int) H.1.1 h ⟨rfl, rfl⟩ q557 rfl rfl (fun _ _ => rfl) (by decide) dX10_init_214 (fun a102 M103 P104 L105 k106 n107 h hk => ?_)
  refine cq_nd H.1.1 (fun hn => cd_putRF (v := (some a102)) hX rfl H.1.1 hn h.1 h.2 dCl_X10 (cx_lt rfl) rfl rfl rfl cd_nfA rfl q2396 dX10_init_216 (fun P108 h => ?_))
  refine cq_aload_n 0 dX10_init_219 rfl ?_
  refine cq_iconst 3 dX10_init_220 cx_ic_3 ?_
  refine cd_newI (atype := .int) (ty := .int) H.1.1 h ⟨rfl, rfl⟩ q557 rfl rfl (fun _ _ => rfl) (by decide) dX10_init_221 (fun a109 M110 P111 L112 k113 n114 h hk => ?_)
  refine cq_nd H.1.1 (fun hn => cd_putRF (v := (some a109)) hX rfl H.1.1 hn h.1 h.2 dCl_X10 (cx_lt rfl) rfl rfl rfl cd_nfA rfl q2397 dX10_init_223 (fun P115 h => ?_))
  refine cq_aload_n 0 dX10_init_226 rfl ?_
  refine cq_sipush 665 dX10_init_227 cx_sp_665 ?_
  refine cd_newI (atype := .int) (ty := .int) H.1.1 h ⟨rfl, rfl⟩ q557 rfl rfl (fun _ _ => rfl) (by decide) dX10_init_230 (fun a116 M117 P118 L119 k120 n121 h hk => ?_)
  refine cq_nd H.1.1 (fun hn => cd_putRF (v := (some a116)) hX rfl H.1.1 hn h.1 h.2 dCl_X10 (cx_lt rfl) rfl rfl rfl cd_nfA rfl q2398 dX10_init_232 (fun P122 h => ?_))
  refine cq_aload_n 0 dX10_init_235 rfl ?_
  refine cq_sipush 700 dX10_init_236 cx_sp_700 ?_
  refine cd_newI (atype := .int) (ty := .int) H.1.1 h ⟨rfl, rfl⟩ q557 rfl rfl (fun _ _ => rfl) (by decide) dX10_init_239 (fun a123 M124 P125 L126 k127 n128 h hk => ?_)
  refine cq_nd H.1.1 (fun hn => cd_putRF (v := (some a123)) hX rfl H.1.1 hn h.1 h.2 dCl_X10 (cx_lt rfl) rfl rfl rfl cd_nfA rfl q2401 dX10_init_241 (fun P129 h => ?_))
  refine cq_aload_n 0 dX10_init_244 rfl ?_
  refine cq_iconst (-1) dX10_init_245 cx_ic_m1 ?_
  refine cq_nd H.1.1 (fun hn => cq_putI h.2 (dG_FI H.1.1 hn h.1 dCl_X10 (cx_lt rfl) rfl rfl rfl) rfl rfl rfl q2411 dX10_init_246 (fun M130 h => ?_))
  refine cq_aload_n 0 dX10_init_249 rfl ?_
  refine cq_iconst 4 dX10_init_250 cx_ic_4 ?_
  refine cd_newI (atype := .int) (ty := .int) H.1.1 h ⟨rfl, rfl⟩ q557 rfl rfl (fun _ _ => rfl) (by decide) dX10_init_251 (fun a131 M132 P133 L134 k135 n136 h hk => ?_)
  refine cq_nd H.1.1 (fun hn => cd_putRF (v := (some a131)) hX rfl H.1.1 hn h.1 h.2 dCl_X10 (cx_lt rfl) rfl rfl rfl cd_nfA rfl q2412 dX10_init_253 (fun P137 h => ?_))
  refine cq_aload_n 0 dX10_init_256 rfl ?_
  refine cq_bipush 64 dX10_init_257 cx_bp_64 ?_
  refine cd_newI (atype := .int) (ty := .int) H.1.1 h ⟨rfl, rfl⟩ q557 rfl rfl (fun _ _ => rfl) (by decide) dX10_init_259 (fun a138 M139 P140 L141 k142 n143 h hk => ?_)
  refine cq_nd H.1.1 (fun hn => cd_putRF (v := (some a138)) hX rfl H.1.1 hn h.1 h.2 dCl_X10 (cx_lt rfl) rfl rfl rfl cd_nfA rfl q2413 dX10_init_261 (fun P144 h => ?_))
  refine cq_aload_n 0 dX10_init_264 rfl ?_
  refine cq_sipush 8192 dX10_init_265 cx_sp_8192 ?_
  refine cd_newI (atype := .int) (ty := .int) H.1.1 h ⟨rfl, rfl⟩ q557 rfl rfl (fun _ _ => rfl) (by decide) dX10_init_268 (fun a145 M146 P147 L148 k149 n150 h hk => ?_)
  refine cq_nd H.1.1 (fun hn => cd_putRF (v := (some a145)) hX rfl H.1.1 hn h.1 h.2 dCl_X10 (cx_lt rfl) rfl rfl rfl cd_nfA rfl q2416 dX10_init_270 (fun P151 h => ?_))
  refine cq_aload_n 0 dX10_init_273 rfl ?_
  refine cq_sipush 2048 dX10_init_274 cx_sp_2048 ?_
  refine cd_newI (atype := .int) (ty := .int) H.1.1 h ⟨rfl, rfl⟩ q557 rfl rfl (fun _ _ => rfl) (by decide) dX10_init_277 (fun a152 M153 P154 L155 k156 n157 h hk => ?_)
  refine cq_nd H.1.1 (fun hn => cd_putRF (v := (some a152)) hX rfl H.1.1 hn h.1 h.2 dCl_X10 (cx_lt rfl) rfl rfl rfl cd_nfA rfl q2417 dX10_init_279 (fun P158 h => ?_))
  refine cq_aload_n 0 dX10_init_282 rfl ?_
  refine cq_sipush 2048 dX10_init_283 cx_sp_2048 ?_
  refine cd_newI (atype := .boolean) (ty := .boolean) H.1.1 h ⟨rfl, rfl⟩ q2547 rfl rfl (fun _ _ => rfl) (by decide) dX10_init_286 (fun a159 M160 P161 L162 k163 n164 h hk => ?_)
  refine cq_nd H.1.1 (fun hn => cd_putRF (v := (some a159)) hX rfl H.1.1 hn h.1 h.2 dCl_X10 (cx_lt rfl) rfl rfl rfl cd_nfA rfl q2418 dX10_init_288 (fun P165 h => ?_))
  refine cq_aload_n 0 dX10_init_291 rfl ?_
  refine cq_sipush 26600 dX10_init_292 cx_sp_26600 ?_
  refine cd_newI (atype := .int) (ty := .int) H.1.1 h ⟨rfl, rfl⟩ q557 rfl rfl (fun _ _ => rfl) (by decide) dX10_init_295 (fun a166 M167 P168 L169 k170 n171 h hk => ?_)
  refine cq_nd H.1.1 (fun hn => cd_putRF (v := (some a166)) hX rfl H.1.1 hn h.1 h.2 dCl_X10 (cx_lt rfl) rfl rfl rfl cd_nfA rfl q2423 dX10_init_297 (fun P172 h => ?_))
  refine cq_aload_n 0 dX10_init_300 rfl ?_
  refine cq_sipush 665 dX10_init_301 cx_sp_665 ?_
  refine cd_newI (atype := .int) (ty := .int) H.1.1 h ⟨rfl, rfl⟩ q557 rfl rfl (fun _ _ => rfl) (by decide) dX10_init_304 (fun a173 M174 P175 L176 k177 n178 h hk => ?_)
  refine cq_nd H.1.1 (fun hn => cd_putRF (v := (some a173)) hX rfl H.1.1 hn h.1 h.2 dCl_X10 (cx_lt rfl) rfl rfl rfl cd_nfA rfl q2424 dX10_init_306 (fun P179 h => ?_))
  refine cq_aload_n 0 dX10_init_309 rfl ?_
  refine cq_sipush 441 dX10_init_310 cx_sp_441 ?_
  refine cd_newI (atype := .int) (ty := .int) H.1.1 h ⟨rfl, rfl⟩ q557 rfl rfl (fun _ _ => rfl) (by decide) dX10_init_313 (fun a180 M181 P182 L183 k184 n185 h hk => ?_)
  refine cq_nd H.1.1 (fun hn => cd_putRF (v := (some a180)) hX rfl H.1.1 hn h.1 h.2 dCl_X10 (cx_lt rfl) rfl rfl rfl cd_nfA rfl q2425 dX10_init_315 (fun P186 h => ?_))
  refine cq_aload_n 0 dX10_init_318 rfl ?_
  refine cq_bipush 8 dX10_init_319 cx_bp_8 ?_
  refine cd_newI (atype := .int) (ty := .int) H.1.1 h ⟨rfl, rfl⟩ q557 rfl rfl (fun _ _ => rfl) (by decide) dX10_init_321 (fun a187 M188 P189 L190 k191 n192 h hk => ?_)
  refine cq_nd H.1.1 (fun hn => cd_putRF (v := (some a187)) hX rfl H.1.1 hn h.1 h.2 dCl_X10 (cx_lt rfl) rfl rfl rfl cd_nfA rfl q2428 dX10_init_323 (fun P193 h => ?_))
  refine cq_aload_n 0 dX10_init_326 rfl ?_
  refine cq_bipush 8 dX10_init_327 cx_bp_8 ?_
  refine cd_newI (atype := .int) (ty := .int) H.1.1 h ⟨rfl, rfl⟩ q557 rfl rfl (fun _ _ => rfl) (by decide) dX10_init_329 (fun a194 M195 P196 L197 k198 n199 h hk => ?_)
  refine cq_nd H.1.1 (fun hn => cd_putRF (v := (some a194)) hX rfl H.1.1 hn h.1 h.2 dCl_X10 (cx_lt rfl) rfl rfl rfl cd_nfA rfl q2429 dX10_init_331 (fun P200 h => ?_))
  refine cq_aload_n 0 dX10_init_334 rfl ?_
  refine cq_sipush 199 dX10_init_335 cx_sp_199 ?_
  refine cd_newI (atype := .int) (ty := .int) H.1.1 h ⟨rfl, rfl⟩ q557 rfl rfl (fun _ _ => rfl) (by decide) dX10_init_338 (fun a201 M202 P203 L204 k205 n206 h hk => ?_)
  refine cq_nd H.1.1 (fun hn => cd_putRF (v := (some a201)) hX rfl H.1.1 hn h.1 h.2 dCl_X10 (cx_lt rfl) rfl rfl rfl cd_nfA rfl q2430 dX10_init_340 (fun P207 h => ?_))
  refine cq_aload_n 0 dX10_init_343 rfl ?_
  refine cq_sipush 995 dX10_init_344 cx_sp_995 ?_
  refine cd_newI (atype := .int) (ty := .int) H.1.1 h ⟨rfl, rfl⟩ q557 rfl rfl (fun _ _ => rfl) (by decide) dX10_init_347 (fun a208 M209 P210 L211 k212 n213 h hk => ?_)
  refine cq_nd H.1.1 (fun hn => cd_putRF (v := (some a208)) hX rfl H.1.1 hn h.1 h.2 dCl_X10 (cx_lt rfl) rfl rfl rfl cd_nfA rfl q2431 dX10_init_349 (fun P214 h => ?_))
  refine cq_aload_n 0 dX10_init_352 rfl ?_
  refine cq_sipush 665 dX10_init_353 cx_sp_665 ?_
  refine cd_newI (atype := .int) (ty := .int) H.1.1 h ⟨rfl, rfl⟩ q557 rfl rfl (fun _ _ => rfl) (by decide) dX10_init_356 (fun a215 M216 P217 L218 k219 n220 h hk => ?_)
  refine cq_nd H.1.1 (fun hn => cd_putRF (v := (some a215)) hX rfl H.1.1 hn h.1 h.2 dCl_X10 (cx_lt rfl) rfl rfl rfl cd_nfA rfl q2437 dX10_init_358 (fun P221 h => ?_))
  refine cq_aload_n 0 dX10_init_361 rfl ?_
  refine cq_sipush 26600 dX10_init_362 cx_sp_26600 ?_
  refine cd_newI (atype := .int) (ty := .int) H.1.1 h ⟨rfl, rfl⟩ q557 rfl rfl (fun _ _ => rfl) (by decide) dX10_init_365 (fun a222 M223 P224 L225 k226 n227 h hk => ?_)
  refine cq_nd H.1.1 (fun hn => cd_putRF (v := (some a222)) hX rfl H.1.1 hn h.1 h.2 dCl_X10 (cx_lt rfl) rfl rfl rfl cd_nfA rfl q2438 dX10_init_367 (fun P228 h => ?_))
  refine cq_aload_n 0 dX10_init_370 rfl ?_
  refine cq_bipush 8 dX10_init_371 cx_bp_8 ?_
  refine cd_newI (atype := .int) (ty := .int) H.1.1 h ⟨rfl, rfl⟩ q557 rfl rfl (fun _ _ => rfl) (by decide) dX10_init_373 (fun a229 M230 P231 L232 k233 n234 h hk => ?_)
  refine cq_nd H.1.1 (fun hn => cd_putRF (v := (some a229)) hX rfl H.1.1 hn h.1 h.2 dCl_X10 (cx_lt rfl) rfl rfl rfl cd_nfA rfl q2439 dX10_init_375 (fun P235 h => ?_))
  refine cq_aload_n 0 dX10_init_378 rfl ?_
  refine cq_bipush 8 dX10_init_379 cx_bp_8 ?_
  refine cd_newI (atype := .int) (ty := .int) H.1.1 h ⟨rfl, rfl⟩ q557 rfl rfl (fun _ _ => rfl) (by decide) dX10_init_381 (fun a236 M237 P238 L239 k240 n241 h hk => ?_)
  refine cq_nd H.1.1 (fun hn => cd_putRF (v := (some a236)) hX rfl H.1.1 hn h.1 h.2 dCl_X10 (cx_lt rfl) rfl rfl rfl cd_nfA rfl q2440 dX10_init_383 (fun P242 h => ?_))
  refine cq_aload_n 0 dX10_init_386 rfl ?_
  refine cq_iconst 3 dX10_init_387 cx_ic_3 ?_
  refine cd_newI (atype := .int) (ty := .int) H.1.1 h ⟨rfl, rfl⟩ q557 rfl rfl (fun _ _ => rfl) (by decide) dX10_init_388 (fun a243 M244 P245 L246 k247 n248 h hk => ?_)
  refine cq_nd H.1.1 (fun hn => cd_putRF (v := (some a243)) hX rfl H.1.1 hn h.1 h.2 dCl_X10 (cx_lt rfl) rfl rfl rfl cd_nfA rfl q2441 dX10_init_390 (fun P249 h => ?_))
  exact cd_vret hk h rfl dX10_init_393
def dTw_initD (N : dNt) (bc bs : Nat) (M : cx_M) (P : dP) (L : dL) (a0 : Nat) (Q : cd_Qt) : Prop := dTw_initD_0 N bc bs Q a0 M P L 0 0
set_option maxRecDepth 100000 in
theorem dTw_initD_m {l : Launch} {g : cx_G} {N : dNt} {bc bs : Nat} {Q : cd_Qt} (H : dM g N.2) (M : cx_M) (P : dP) (L : dL) (a0 : Nat) (h : dTw_initD N bc bs M P L a0 Q) : cd_Met l g yX10_init cX10_init (esX10_initD bc bs) cd_rV [.ref a0] M P L Q :=
  cd_met (by decide +kernel) rfl rfl (lv := [(0, .ref a0)]) rfl (cx_le rfl) (fun X hX => cq_sub (lv' := [(0, .ref a0)]) [0] rfl (dTw_initD_0_v H hX M P L 0 0 ⟨Nat.zero_le _, Nat.zero_le _⟩ h))
