
def dK (l : Launch) (g : cx_G) (adr : Nat → Nat) : Prop := dR l g adr ∧ lmK_H g adr
theorem dCl_X1 : cx_Cl 1 RX1 TX1 17 tyX1 := ⟨rfl, in_X1, tyX1_ok, nmX1⟩
theorem dDf_X5 : ∀ j, j < 7 → defaultValue (tyX5 j) = dFv 2 j (fun _ => 0) (fun _ => none) := by decide +kernel
theorem dDf_J20 : ∀ j, j < 3 → defaultValue (tyJ20 j) = dFv 19 j (fun _ => 0) (fun _ => none) := by decide +kernel
theorem dDf_X7 : ∀ j, j < 3 → defaultValue (tyX7 j) = dFv 4 j (fun _ => 0) (fun _ => none) := by decide +kernel
theorem dDf_X8 : ∀ j, j < 1 → defaultValue (tyX8 j) = dFv 6 j (fun _ => 0) (fun _ => none) := by decide +kernel
theorem dDf_X9 : ∀ j, j < 1 → defaultValue (tyX9 j) = dFv 8 j (fun _ => 0) (fun _ => none) := by decide +kernel
theorem gd_X1_9 : GoodIn lw_all (ws_ yX2_init cX2_init 1 none) := lw_meth q182
theorem hgd_X1_9 : yX2_init.cls ≠ "java/lang/invoke/MethodHandle" ∧ yX2_init.cls ≠ "java/lang/invoke/VarHandle" ∧ (parseMethodDescriptor yX2_init.desc).map (fun d => d.parameters.length) = some 0 := by decide +kernel
theorem gd_X1_18D : GoodIn lw_all (ws_ yX5_init cX5_init 2 none) := lw_meth q616
theorem hgd_X1_18D : yX5_init.cls ≠ "java/lang/invoke/MethodHandle" ∧ yX5_init.cls ≠ "java/lang/invoke/VarHandle" ∧ (parseMethodDescriptor yX5_init.desc).map (fun d => d.parameters.length) = some 0 := by decide +kernel
theorem gd_X1_33D : GoodIn lw_all (ws_ yX6_init cX6_init 1 none) := lw_meth q622
theorem hgd_X1_33D : yX6_init.cls ≠ "java/lang/invoke/MethodHandle" ∧ yX6_init.cls ≠ "java/lang/invoke/VarHandle" ∧ (parseMethodDescriptor yX6_init.desc).map (fun d => d.parameters.length) = some 0 := by decide +kernel
theorem gd_X1_39 : GoodIn lw_all (ws_ yJ2_init cJ2_init 2 none) := lw_meth q188
theorem hgd_X1_39 : yJ2_init.cls ≠ "java/lang/invoke/MethodHandle" ∧ yJ2_init.cls ≠ "java/lang/invoke/VarHandle" ∧ (parseMethodDescriptor yJ2_init.desc).map (fun d => d.parameters.length) = some 1 := by decide +kernel
theorem gd_X1_59 : GoodIn lw_all (ws_ yJ20_init cJ20_init 1 none) := lw_meth q928
theorem hgd_X1_59 : yJ20_init.cls ≠ "java/lang/invoke/MethodHandle" ∧ yJ20_init.cls ≠ "java/lang/invoke/VarHandle" ∧ (parseMethodDescriptor yJ20_init.desc).map (fun d => d.parameters.length) = some 0 := by decide +kernel
theorem gd_X1_69D : GoodIn lw_all (ws_ yX7_init cX7_init 1 none) := lw_meth q945
theorem hgd_X1_69D : yX7_init.cls ≠ "java/lang/invoke/MethodHandle" ∧ yX7_init.cls ≠ "java/lang/invoke/VarHandle" ∧ (parseMethodDescriptor yX7_init.desc).map (fun d => d.parameters.length) = some 0 := by decide +kernel
theorem gd_X1_87D : GoodIn lw_all (ws_ yX8_init cX8_init 2 none) := lw_meth q967
theorem hgd_X1_87D : yX8_init.cls ≠ "java/lang/invoke/MethodHandle" ∧ yX8_init.cls ≠ "java/lang/invoke/VarHandle" ∧ (parseMethodDescriptor yX8_init.desc).map (fun d => d.parameters.length) = some 1 := by decide +kernel
theorem gd_X1_90 : GoodIn lw_all (wsV RX1 90 RJ2 yJ2_add (ws_ yJ2_add cJ2_add 2 (some .boolean))) := lw_V q974 q827 q828 q120 q829
theorem hgd_X1_90 : yJ2_add.cls = RJ2 ∧ yJ2_add.cls ≠ "java/lang/invoke/MethodHandle" ∧ yJ2_add.cls ≠ "java/lang/invoke/VarHandle" ∧ (parseMethodDescriptor yJ2_add.desc).map (fun d => d.parameters.length) = some 1 := by decide +kernel
theorem gd_X1_104D : GoodIn lw_all (ws_ yX9_init cX9_init 2 none) := lw_meth q992
theorem hgd_X1_104D : yX9_init.cls ≠ "java/lang/invoke/MethodHandle" ∧ yX9_init.cls ≠ "java/lang/invoke/VarHandle" ∧ (parseMethodDescriptor yX9_init.desc).map (fun d => d.parameters.length) = some 1 := by decide +kernel
theorem gd_X1_114D : GoodIn lw_all (wsV RX1 114 RX6 yX6_begins (ws_ yX6_begins cX6_begins 2 none)) := lw_V q1009 q1010 q1011 q141 q1012
theorem hgd_X1_114D : yX6_begins.cls = RX6 ∧ yX6_begins.cls ≠ "java/lang/invoke/MethodHandle" ∧ yX6_begins.cls ≠ "java/lang/invoke/VarHandle" ∧ (parseMethodDescriptor yX6_begins.desc).map (fun d => d.parameters.length) = some 1 := by decide +kernel
abbrev esX1_initD (bc bs : Nat) : cx_S := (1, RX1, cx_rI, { frames := 8, cells := bc, slots := bs, locals := 3102 }, none, false)
def dCc_initD_0 (N : dNt) (bc bs : Nat) (Q : cd_Qt) (a0 : Nat) (M : cx_M) (P : dP) (L : dL) (k n : Nat) : Prop :=
  cd_new bc bs k n 11 (0, 7, 0) M P L fun a1 M2 P3 L4 k5 n6 =>
  rLn_init N (bc - k5) (bs - n6) M2 P3 L4 a1 (fun M7 P8 L9 v10 r11 e9 k12 n13 => e9 = 0 → cd_add k5 k12 n6 n13 fun k14 n15 =>
  (a0, (0, 1, 0)) ∈ L9 ∧ cd_put P8 a0 0 (some a1) fun P16 =>
  cd_new bc bs k14 n15 7 (0, 2, 0) M7 P16 L9 fun a17 M18 P19 L20 k21 n22 =>
  dBk_initD N (bc - k21) (bs - n22) M18 P19 L20 a17 (fun M23 P24 L25 v26 r27 e9 k28 n29 => e9 = 0 → cd_add k21 k28 n22 n29 fun k30 n31 =>
  (a0, (0, 1, 0)) ∈ L25 ∧ cd_put P24 a0 1 (some a17) fun P32 =>
  cd_new bc bs k30 n31 7 (0, 2, 0) M23 P32 L25 fun a33 M34 P35 L36 k37 n38 =>
  dBk_initD N (bc - k37) (bs - n38) M34 P35 L36 a33 (fun M39 P40 L41 v42 r43 e9 k44 n45 => e9 = 0 → cd_add k37 k44 n38 n45 fun k46 n47 =>
  (a0, (0, 1, 0)) ∈ L41 ∧ cd_put P40 a0 2 (some a33) fun P48 =>
  (a0, (0, 1, 0)) ∈ L41 ∧ cd_let (P48 a0 1) fun r49 =>
  cd_nn r49 fun a50 =>
  (a50, (0, 2, 0)) ∈ L41 ∧ cd_let (P48 a50 0) fun r51 =>
  (a0, (0, 1, 0)) ∈ L41 ∧ cd_put P48 a0 3 r51 fun P52 =>
  cd_new bc bs k46 n47 46 (0, 12, 0) M39 P52 L41 fun a53 M54 P55 L56 k57 n58 =>
  dSt_initD N (bc - k57) (bs - n58) M54 P55 L56 a53 (fun M59 P60 L61 v62 r63 e9 k64 n65 => e9 = 0 → cd_add k57 k64 n58 n65 fun k66 n67 =>
  (a0, (0, 1, 0)) ∈ L61 ∧ cd_put P60 a0 4 (some a53) fun P68 =>
  cd_new bc bs k66 n67 3 (0, 20, 0) M59 P68 L61 fun a69 M70 P71 L72 k73 n74 =>
  jAl_init N (bc - k73) (bs - n74) M70 P71 L72 a69 3 (fun M75 P76 L77 v78 r79 e9 k80 n81 => e9 = 0 → cd_add k73 k80 n74 n81 fun k82 n83 =>
  (a0, (0, 1, 0)) ∈ L77 ∧ cd_put P76 a0 5 (some a69) fun P84 =>
  cd_new bc bs k82 n83 3 (0, 20, 0) M75 P84 L77 fun a85 M86 P87 L88 k89 n90 =>
  jAl_init N (bc - k89) (bs - n90) M86 P87 L88 a85 6 (fun M91 P92 L93 v94 r95 e9 k96 n97 => e9 = 0 → cd_add k89 k96 n90 n97 fun k98 n99 =>
  (a0, (0, 1, 0)) ∈ L93 ∧ cd_put P92 a0 6 (some a85) fun P100 =>
  cd_newa bc bs k98 n99 700 (fun z => (1, 2, z)) M91 P100 L93 fun a101 M102 P103 L104 k105 n106 =>
  (a0, (0, 1, 0)) ∈ L104 ∧ cd_put P103 a0 8 (some a101) fun P107 =>
  (a0, (0, 1, 0)) ∈ L104 ∧ cq_put M102 (dc a0) 10 (-1) fun M108 =>
  cd_new bc bs k105 n106 3 (0, 19, 0) M108 P107 L104 fun a109 M110 P111 L112 k113 n114 =>
  jAd_init N (bc - k113) (bs - n114) M110 P111 L112 a109 (fun M115 P116 L117 v118 r119 e9 k120 n121 => e9 = 0 → cd_add k113 k120 n114 n121 fun k122 n123 =>
  (a0, (0, 1, 0)) ∈ L117 ∧ cd_put P116 a0 11 (some a109) fun P124 =>
  cd_new bc bs k122 n123 3 (0, 19, 0) M115 P124 L117 fun a125 M126 P127 L128 k129 n130 =>
  jAd_init N (bc - k129) (bs - n130) M126 P127 L128 a125 (fun M131 P132 L133 v134 r135 e9 k136 n137 => e9 = 0 → cd_add k129 k136 n130 n137 fun k138 n139 =>
  (a0, (0, 1, 0)) ∈ L133 ∧ cd_put P132 a0 12 (some a125) fun P140 =>
  cd_new bc bs k138 n139 3 (0, 4, 0) M131 P140 L133 fun a141 M142 P143 L144 k145 n146 =>
  dCo_initD N (bc - k145) (bs - n146) M142 P143 L144 a141 (fun M147 P148 L149 v150 r151 e9 k152 n153 => e9 = 0 → cd_add k145 k152 n146 n153 fun k154 n155 =>
  (a0, (0, 1, 0)) ∈ L149 ∧ cd_put P148 a0 13 (some a141) fun P156 =>
  cd_newa bc bs k154 n155 5 (fun z => (1, 0, z)) M147 P156 L149 fun a157 M158 P159 L160 k161 n162 =>
  (a0, (0, 1, 0)) ∈ L160 ∧ cd_put P159 a0 14 (some a157) fun P163 =>
  cd_newa bc bs k161 n162 10000 (fun z => (1, 0, z)) M158 P163 L160 fun a164 M165 P166 L167 k168 n169 =>
  (a0, (0, 1, 0)) ∈ L167 ∧ cd_put P166 a0 15 (some a164) fun P170 =>
  (a0, (0, 1, 0)) ∈ L167 ∧ cd_let (P170 a0 5) fun r171 =>
  cd_new bc bs k168 n169 1 (0, 6, 0) M165 P170 L167 fun a172 M173 P174 L175 k176 n177 =>
  dFi_initD N (bc - k176) (bs - n177) M173 P174 L175 a172 (some ((N.2 9100))) (fun M178 P179 L180 v181 r182 e9 k183 n184 => e9 = 0 → cd_add k176 k183 n177 n184 fun k185 n186 =>
  cd_nn r171 fun a187 =>
  (a187, (0, 20, 0)) ∈ L180 ∧
  jAl_add N (bc - k185) (bs - n186) M178 P179 L180 a187 (some a172) (fun M188 P189 L190 v191 r192 e9 k193 n194 => e9 = 0 → cd_add k185 k193 n186 n194 fun k195 n196 =>
  (a0, (0, 1, 0)) ∈ L190 ∧ cd_let (P189 a0 5) fun r197 =>
  cd_new bc bs k195 n196 1 (0, 6, 0) M188 P189 L190 fun a198 M199 P200 L201 k202 n203 =>
  dFi_initD N (bc - k202) (bs - n203) M199 P200 L201 a198 (some ((N.2 9101))) (fun M204 P205 L206 v207 r208 e9 k209 n210 => e9 = 0 → cd_add k202 k209 n203 n210 fun k211 n212 =>
  cd_nn r197 fun a213 =>
  (a213, (0, 20, 0)) ∈ L206 ∧
  jAl_add N (bc - k211) (bs - n212) M204 P205 L206 a213 (some a198) (fun M214 P215 L216 v217 r218 e9 k219 n220 => e9 = 0 → cd_add k211 k219 n212 n220 fun k221 n222 =>
  (a0, (0, 1, 0)) ∈ L216 ∧ cd_let (P215 a0 5) fun r223 =>
  cd_new bc bs k221 n222 1 (0, 6, 0) M214 P215 L216 fun a224 M225 P226 L227 k228 n229 =>
  cd_mk bc bs k228 n229 22 a0 M225 P226 L227 fun a230 M231 P232 L233 k234 n235 =>
  dFi_initD N (bc - k234) (bs - n235) M231 P232 L233 a224 (some a230) (fun M236 P237 L238 v239 r240 e9 k241 n242 => e9 = 0 → cd_add k234 k241 n235 n242 fun k243 n244 =>
  cd_nn r223 fun a245 =>
  (a245, (0, 20, 0)) ∈ L238 ∧
  jAl_add N (bc - k243) (bs - n244) M236 P237 L238 a245 (some a224) (fun M246 P247 L248 v249 r250 e9 k251 n252 => e9 = 0 → cd_add k243 k251 n244 n252 fun k253 n254 =>
  (a0, (0, 1, 0)) ∈ L248 ∧ cd_let (P247 a0 6) fun r255 =>
  cd_new bc bs k253 n254 1 (0, 8, 0) M246 P247 L248 fun a256 M257 P258 L259 k260 n261 =>
  cd_mk bc bs k260 n261 23 a0 M257 P258 L259 fun a262 M263 P264 L265 k266 n267 =>
  dLo_initD N (bc - k266) (bs - n267) M263 P264 L265 a256 (some a262) (fun M268 P269 L270 v271 r272 e9 k273 n274 => e9 = 0 → cd_add k266 k273 n267 n274 fun k275 n276 =>
  cd_nn r255 fun a277 =>
  (a277, (0, 20, 0)) ∈ L270 ∧
  jAl_add N (bc - k275) (bs - n276) M268 P269 L270 a277 (some a256) (fun M278 P279 L280 v281 r282 e9 k283 n284 => e9 = 0 → cd_add k275 k283 n276 n284 fun k285 n286 =>
  (a0, (0, 1, 0)) ∈ L280 ∧ cd_let (P279 a0 6) fun r287 =>
  cd_new bc bs k285 n286 1 (0, 8, 0) M278 P279 L280 fun a288 M289 P290 L291 k292 n293 =>
  dLo_initD N (bc - k292) (bs - n293) M289 P290 L291 a288 (some ((N.2 9111))) (fun M294 P295 L296 v297 r298 e9 k299 n300 => e9 = 0 → cd_add k292 k299 n293 n300 fun k301 n302 =>
  cd_nn r287 fun a303 =>
  (a303, (0, 20, 0)) ∈ L296 ∧
  jAl_add N (bc - k301) (bs - n302) M294 P295 L296 a303 (some a288) (fun M304 P305 L306 v307 r308 e9 k309 n310 => e9 = 0 → cd_add k301 k309 n302 n310 fun k311 n312 =>
  (a0, (0, 1, 0)) ∈ L306 ∧ cd_let (P305 a0 6) fun r313 =>
  cd_new bc bs k311 n312 1 (0, 8, 0) M304 P305 L306 fun a314 M315 P316 L317 k318 n319 =>
  dLo_initD N (bc - k318) (bs - n319) M315 P316 L317 a314 (some ((N.2 9112))) (fun M320 P321 L322 v323 r324 e9 k325 n326 => e9 = 0 → cd_add k318 k325 n319 n326 fun k327 n328 =>
  cd_nn r313 fun a329 =>
  (a329, (0, 20, 0)) ∈ L322 ∧
  jAl_add N (bc - k327) (bs - n328) M320 P321 L322 a329 (some a314) (fun M330 P331 L332 v333 r334 e9 k335 n336 => e9 = 0 → cd_add k327 k335 n328 n336 fun k337 n338 =>
  (a0, (0, 1, 0)) ∈ L332 ∧ cd_let (P331 a0 6) fun r339 =>
  cd_new bc bs k337 n338 1 (0, 8, 0) M330 P331 L332 fun a340 M341 P342 L343 k344 n345 =>
  dLo_initD N (bc - k344) (bs - n345) M341 P342 L343 a340 (some ((N.2 9113))) (fun M346 P347 L348 v349 r350 e9 k351 n352 => e9 = 0 → cd_add k344 k351 n345 n352 fun k353 n354 =>
  cd_nn r339 fun a355 =>
  (a355, (0, 20, 0)) ∈ L348 ∧
  jAl_add N (bc - k353) (bs - n354) M346 P347 L348 a355 (some a340) (fun M356 P357 L358 v359 r360 e9 k361 n362 => e9 = 0 → cd_add k353 k361 n354 n362 fun k363 n364 =>
  (a0, (0, 1, 0)) ∈ L358 ∧ cd_let (P357 a0 6) fun r365 =>
  cd_new bc bs k363 n364 1 (0, 8, 0) M356 P357 L358 fun a366 M367 P368 L369 k370 n371 =>
  dLo_initD N (bc - k370) (bs - n371) M367 P368 L369 a366 (some ((N.2 9114))) (fun M372 P373 L374 v375 r376 e9 k377 n378 => e9 = 0 → cd_add k370 k377 n371 n378 fun k379 n380 =>
  cd_nn r365 fun a381 =>
  (a381, (0, 20, 0)) ∈ L374 ∧
  jAl_add N (bc - k379) (bs - n380) M372 P373 L374 a381 (some a366) (fun M382 P383 L384 v385 r386 e9 k387 n388 => e9 = 0 → cd_add k379 k387 n380 n388 fun k389 n390 =>
  (a0, (0, 1, 0)) ∈ L384 ∧ cd_let (P383 a0 6) fun r391 =>
  cd_new bc bs k389 n390 1 (0, 8, 0) M382 P383 L384 fun a392 M393 P394 L395 k396 n397 =>
  dLo_initD N (bc - k396) (bs - n397) M393 P394 L395 a392 (some ((N.2 9115))) (fun M398 P399 L400 v401 r402 e9 k403 n404 => e9 = 0 → cd_add k396 k403 n397 n404 fun k405 n406 =>
  cd_nn r391 fun a407 =>
  (a407, (0, 20, 0)) ∈ L400 ∧
  jAl_add N (bc - k405) (bs - n406) M398 P399 L400 a407 (some a392) (fun M408 P409 L410 v411 r412 e9 k413 n414 => e9 = 0 → cd_add k405 k413 n406 n414 fun k415 n416 =>
  (a0, (0, 1, 0)) ∈ L410 ∧ cd_let (P409 a0 3) fun r417 =>
  (a0, (0, 1, 0)) ∈ L410 ∧ cd_let (P409 a0 0) fun r418 =>
  cd_nn r417 fun a419 =>
  cd_nn r418 fun a420 =>
  (a419, (0, 12, 0)) ∈ L410 ∧
  dSt_beginsD N (bc - k415) (bs - n416) M408 P409 L410 a419 a420 (fun M421 P422 L423 v424 r425 e9 k426 n427 => e9 = 0 → cd_add k415 k426 n416 n427 fun k428 n429 =>
  Q M421 P422 L423 0 none 0 k428 n429))))))))))))))))))))))))))))
set_option maxRecDepth 100000 in
theorem dCc_initD_0_v {l : Launch} {g : cx_G} {X : cx_X} {N : dNt} {bc bs : Nat} {Q : cd_Qt} {a0 : Nat} (H : dK l g N.2) (hX : X.2.2.2.2.2.2.1.name = "<init>" ∧ X.2.2.1.methodNamed? yX1_init = some X.2.2.2.1) (M : cx_M) (P : dP) (L : dL) (k n : Nat) (hk : k ≤ bc ∧ n ≤ bs) (h : dCc_initD_0 N bc bs Q a0 M P L k n) : cq_V l (dG g L P) X (esX1_initD bc bs) cX1_init 0 [(0, .ref a0)] [] M k n (cd_fin g X (esX1_initD bc bs) cd_rV Q) := by
  unfold dCc_initD_0 at h
  refine cq_aload_n 0 dX1_init_0 rfl ?_
  refine cd_oinit q175 q176 q177 dX1_init_1 (cx_le rfl) (cx_le rfl) ?_
  refine cq_aload_n 0 dX1_init_4 rfl ?_
  refine cd_newO H.1.1.1.1 h ⟨rfl, rfl⟩ dCl_X2 dDf_X2 q178 q179 q117 dX1_init_5 (fun a1 M2 P3 L4 k5 n6 h hk => ?_)
  refine cq_dup dX1_init_8 rfl ?_
  refine cd_cIN [] [.ref a1, .ref a0] (rLn_init_m H.1 (N := N) (bc := bc - k5) (bs := bs - n6) M2 P3 L4 a1 h) dX1_init_9 gd_X1_9 rfl q117 q180 q181 rfl hgd_X1_9 ⟨cx_le rfl, cx_le rfl⟩ (cd_bud hk) rfl (cx_le rfl) (fun M7 P8 L9 v10 r11 k12 n13 hk2 h => ?_)
  refine cd_addI (h rfl) (cd_bk hk hk2) (fun k14 n15 h hk => ?_)
  refine cq_nd H.1.1.1.1 (fun hn => cd_putR (v := (some a1)) H.1.1.1.1 hn h.1 h.2 dCl_X1 (cx_lt rfl) rfl rfl rfl cd_nfO rfl q1017 dX1_init_12 (fun P16 h => ?_))
  refine cq_aload_n 0 dX1_init_15 rfl ?_
  refine cd_newO H.1.1.1.1 h ⟨rfl, rfl⟩ dCl_X5 dDf_X5 q612 q613 q140 dX1_init_16 (fun a17 M18 P19 L20 k21 n22 h hk => ?_)
  refine cq_dup dX1_init_19 rfl ?_
  refine cd_cI [] [.ref a17, .ref a0] (dBk_initD_m H.1 (N := N) (bc := bc - k21) (bs := bs - n22) M18 P19 L20 a17 h) dX1_init_20 gd_X1_18D rfl q140 q614 q615 rfl hgd_X1_18D ⟨cx_le rfl, cx_le rfl⟩ (cd_bud hk) rfl (cx_le rfl) (fun M23 P24 L25 v26 r27 k28 n29 hk2 h => ?_)
  refine cd_addI (h rfl) (cd_bk hk hk2) (fun k30 n31 h hk => ?_)
  refine cq_nd H.1.1.1.1 (fun hn => cd_putRF (v := (some a17)) hX.1 rfl H.1.1.1.1 hn h.1 h.2 dCl_X1 (cx_lt rfl) rfl rfl rfl cd_nfO rfl q1018 dX1_init_23 (fun P32 h => ?_))
  refine cq_aload_n 0 dX1_init_26 rfl ?_
  refine cd_newO H.1.1.1.1 h ⟨rfl, rfl⟩ dCl_X5 dDf_X5 q612 q613 q140 dX1_init_27 (fun a33 M34 P35 L36 k37 n38 h hk => ?_)
  refine cq_dup dX1_init_30 rfl ?_
  refine cd_cI [] [.ref a33, .ref a0] (dBk_initD_m H.1 (N := N) (bc := bc - k37) (bs := bs - n38) M34 P35 L36 a33 h) dX1_init_31 gd_X1_18D rfl q140 q614 q615 rfl hgd_X1_18D ⟨cx_le rfl, cx_le rfl⟩ (cd_bud hk) rfl (cx_le rfl) (fun M39 P40 L41 v42 r43 k44 n45 hk2 h => ?_)
  refine cd_addI (h rfl) (cd_bk hk hk2) (fun k46 n47 h hk => ?_)
  refine cq_nd H.1.1.1.1 (fun hn => cd_putRF (v := (some a33)) hX.1 rfl H.1.1.1.1 hn h.1 h.2 dCl_X1 (cx_lt rfl) rfl rfl rfl cd_nfO rfl q1019 dX1_init_34 (fun P48 h => ?_))
  refine cq_aload_n 0 dX1_init_37 rfl ?_
  refine cq_aload_n 0 dX1_init_38 rfl ?_
  refine cq_getR (dG_FR (k := 1) H.1.1.1.1 h.1 dCl_X1 (cx_lt rfl) rfl rfl) q1018 dX1_init_39 ?_
  refine cd_letI h.2 (fun r49 h => ?_)
  obtain ⟨a50, e9, h9⟩ := cd_nn_some h
  subst e9
  have h := h9; clear h9
  refine cq_getRN (dG_FR (k := 0) H.1.1.1.1 h.1 dCl_X5 (cx_lt rfl) rfl rfl) q892 dX1_init_42 ?_
  refine cd_letI h.2 (fun r51 h => ?_)
  refine cq_nd H.1.1.1.1 (fun hn => cd_putRF (v := r51) hX.1 rfl H.1.1.1.1 hn h.1 h.2 dCl_X1 (cx_lt rfl) rfl rfl rfl cd_nfO rfl q1020 dX1_init_45 (fun P52 h => ?_))
  refine cq_aload_n 0 dX1_init_48 rfl ?_
  refine cd_newO H.1.1.1.1 h ⟨rfl, rfl⟩ dCl_X6 dDf_X6 q920 q619 q141 dX1_init_49 (fun a53 M54 P55 L56 k57 n58 h hk => ?_)
  refine cq_dup dX1_init_52 rfl ?_
  refine cd_cIN [] [.ref a53, .ref a0] (dSt_initD_m H.1 (N := N) (bc := bc - k57) (bs := bs - n58) M54 P55 L56 a53 h) dX1_init_53 gd_X1_33D rfl q141 q921 q621 rfl hgd_X1_33D ⟨cx_le rfl, cx_le rfl⟩ (cd_bud hk) rfl (cx_le rfl) (fun M59 P60 L61 v62 r63 k64 n65 hk2 h => ?_)
  refine cd_addI (h rfl) (cd_bk hk hk2) (fun k66 n67 h hk => ?_)
  refine cq_nd H.1.1.1.1 (fun hn => cd_putRF (v := (some a53)) hX.1 rfl H.1.1.1.1 hn h.1 h.2 dCl_X1 (cx_lt rfl) rfl rfl rfl cd_nfO rfl q1021 dX1_init_56 (fun P68 h => ?_))
  refine cq_aload_n 0 dX1_init_59 rfl ?_
  refine cd_newO H.1.1.1.1 h ⟨rfl, rfl⟩ dCl_J2 dDf_J2 q922 q185 q120 dX1_init_60 (fun a69 M70 P71 L72 k73 n74 h hk => ?_)
  refine cq_dup dX1_init_63 rfl ?_
  refine cq_iconst 3 dX1_init_64 cx_ic_3 ?_
  refine cd_cI [.int 3] [.ref a69, .ref a0] (jAl_init_m H.1.1 (N := N) (bc := bc - k73) (bs := bs - n74) M70 P71 L72 a69 3 h) dX1_init_65 gd_X1_39 rfl q120 q923 q187 rfl hgd_X1_39 ⟨cx_le rfl, cx_le rfl⟩ (cd_bud hk) rfl (cx_le rfl) (fun M75 P76 L77 v78 r79 k80 n81 hk2 h => ?_)
  refine cd_addI (h rfl) (cd_bk hk hk2) (fun k82 n83 h hk => ?_)
  refine cq_nd H.1.1.1.1 (fun hn => cd_putRF (v := (some a69)) hX.1 rfl H.1.1.1.1 hn h.1 h.2 dCl_X1 (cx_lt rfl) rfl rfl rfl cd_nfO rfl q1022 dX1_init_68 (fun P84 h => ?_))
  refine cq_aload_n 0 dX1_init_71 rfl ?_
  refine cd_newO H.1.1.1.1 h ⟨rfl, rfl⟩ dCl_J2 dDf_J2 q922 q185 q120 dX1_init_72 (fun a85 M86 P87 L88 k89 n90 h hk => ?_)
  refine cq_dup dX1_init_75 rfl ?_
  refine cq_bipush 6 dX1_init_76 cx_bp_6 ?_
  refine cd_cI [.int 6] [.ref a85, .ref a0] (jAl_init_m H.1.1 (N := N) (bc := bc - k89) (bs := bs - n90) M86 P87 L88 a85 6 h) dX1_init_78 gd_X1_39 rfl q120 q923 q187 rfl hgd_X1_39 ⟨cx_le rfl, cx_le rfl⟩ (cd_bud hk) rfl (cx_le rfl) (fun M91 P92 L93 v94 r95 k96 n97 hk2 h => ?_)
  refine cd_addI (h rfl) (cd_bk hk hk2) (fun k98 n99 h hk => ?_)
  refine cq_nd H.1.1.1.1 (fun hn => cd_putRF (v := (some a85)) hX.1 rfl H.1.1.1.1 hn h.1 h.2 dCl_X1 (cx_lt rfl) rfl rfl rfl cd_nfO rfl q1023 dX1_init_81 (fun P100 h => ?_))
  refine cq_aload_n 0 dX1_init_84 rfl ?_
  refine cq_sipush 700 dX1_init_85 cx_sp_700 ?_
  refine cd_newI (atype := .byte) (ty := .byte) H.1.1.1.1 h ⟨rfl, rfl⟩ q274 rfl rfl (fun _ _ => rfl) (by decide) dX1_init_88 (fun a101 M102 P103 L104 k105 n106 h hk => ?_)
  refine cq_nd H.1.1.1.1 (fun hn => cd_putRF (v := (some a101)) hX.1 rfl H.1.1.1.1 hn h.1 h.2 dCl_X1 (cx_lt rfl) rfl rfl rfl cd_nfA rfl q1025 dX1_init_90 (fun P107 h => ?_))
  refine cq_aload_n 0 dX1_init_93 rfl ?_
  refine cq_iconst (-1) dX1_init_94 cx_ic_m1 ?_
  refine cq_nd H.1.1.1.1 (fun hn => cq_putI h.2 (dG_FI H.1.1.1.1 hn h.1 dCl_X1 (cx_lt rfl) rfl rfl rfl) rfl rfl rfl q1027 dX1_init_95 (fun M108 h => ?_))
  refine cq_aload_n 0 dX1_init_98 rfl ?_
  refine cd_newO H.1.1.1.1 h ⟨rfl, rfl⟩ dCl_J20 dDf_J20 q924 q925 q143 dX1_init_99 (fun a109 M110 P111 L112 k113 n114 h hk => ?_)
  refine cq_dup dX1_init_102 rfl ?_
  refine cd_cI [] [.ref a109, .ref a0] (jAd_init_m H.1.1 (N := N) (bc := bc - k113) (bs := bs - n114) M110 P111 L112 a109 h) dX1_init_103 gd_X1_59 rfl q143 q926 q927 rfl hgd_X1_59 ⟨cx_le rfl, cx_le rfl⟩ (cd_bud hk) rfl (cx_le rfl) (fun M115 P116 L117 v118 r119 k120 n121 hk2 h => ?_)
  refine cd_addI (h rfl) (cd_bk hk hk2) (fun k122 n123 h hk => ?_)
  refine cq_nd H.1.1.1.1 (fun hn => cd_putRF (v := (some a109)) hX.1 rfl H.1.1.1.1 hn h.1 h.2 dCl_X1 (cx_lt rfl) rfl rfl rfl cd_nfO rfl q1028 dX1_init_106 (fun P124 h => ?_))
  refine cq_aload_n 0 dX1_init_109 rfl ?_
  refine cd_newO H.1.1.1.1 h ⟨rfl, rfl⟩ dCl_J20 dDf_J20 q924 q925 q143 dX1_init_110 (fun a125 M126 P127 L128 k129 n130 h hk => ?_)
  refine cq_dup dX1_init_113 rfl ?_
  refine cd_cI [] [.ref a125, .ref a0] (jAd_init_m H.1.1 (N := N) (bc := bc - k129) (bs := bs - n130) M126 P127 L128 a125 h) dX1_init_114 gd_X1_59 rfl q143 q926 q927 rfl hgd_X1_59 ⟨cx_le rfl, cx_le rfl⟩ (cd_bud hk) rfl (cx_le rfl) (fun M131 P132 L133 v134 r135 k136 n137 hk2 h => ?_)
  refine cd_addI (h rfl) (cd_bk hk hk2) (fun k138 n139 h hk => ?_)
  refine cq_nd H.1.1.1.1 (fun hn => cd_putRF (v := (some a125)) hX.1 rfl H.1.1.1.1 hn h.1 h.2 dCl_X1 (cx_lt rfl) rfl rfl rfl cd_nfO rfl q1029 dX1_init_117 (fun P140 h => ?_))
  refine cq_aload_n 0 dX1_init_120 rfl ?_
  refine cd_newO H.1.1.1.1 h ⟨rfl, rfl⟩ dCl_X7 dDf_X7 q941 q942 q144 dX1_init_121 (fun a141 M142 P143 L144 k145 n146 h hk => ?_)
  refine cq_dup dX1_init_124 rfl ?_
  refine cd_cIN [] [.ref a141, .ref a0] (dCo_initD_m H.1 (N := N) (bc := bc - k145) (bs := bs - n146) M142 P143 L144 a141 h) dX1_init_125 gd_X1_69D rfl q144 q943 q944 rfl hgd_X1_69D ⟨cx_le rfl, cx_le rfl⟩ (cd_bud hk) rfl (cx_le rfl) (fun M147 P148 L149 v150 r151 k152 n153 hk2 h => ?_)
  refine cd_addI (h rfl) (cd_bk hk hk2) (fun k154 n155 h hk => ?_)
  refine cq_nd H.1.1.1.1 (fun hn => cd_putRF (v := (some a141)) hX.1 rfl H.1.1.1.1 hn h.1 h.2 dCl_X1 (cx_lt rfl) rfl rfl rfl cd_nfO rfl q1030 dX1_init_128 (fun P156 h => ?_))
  refine cq_aload_n 0 dX1_init_131 rfl ?_
  refine cq_iconst 5 dX1_init_132 cx_ic_5 ?_
  refine cd_newI (atype := .int) (ty := .int) H.1.1.1.1 h ⟨rfl, rfl⟩ q557 rfl rfl (fun _ _ => rfl) (by decide) dX1_init_133 (fun a157 M158 P159 L160 k161 n162 h hk => ?_)
  refine cq_nd H.1.1.1.1 (fun hn => cd_putRF (v := (some a157)) hX.1 rfl H.1.1.1.1 hn h.1 h.2 dCl_X1 (cx_lt rfl) rfl rfl rfl cd_nfA rfl q1031 dX1_init_135 (fun P163 h => ?_))
  refine cq_aload_n 0 dX1_init_138 rfl ?_
  refine cq_sipush 10000 dX1_init_139 cx_sp_10000 ?_
  refine cd_newI (atype := .int) (ty := .int) H.1.1.1.1 h ⟨rfl, rfl⟩ q557 rfl rfl (fun _ _ => rfl) (by decide) dX1_init_142 (fun a164 M165 P166 L167 k168 n169 h hk => ?_)
  refine cq_nd H.1.1.1.1 (fun hn => cd_putRF (v := (some a164)) hX.1 rfl H.1.1.1.1 hn h.1 h.2 dCl_X1 (cx_lt rfl) rfl rfl rfl cd_nfA rfl q1032 dX1_init_144 (fun P170 h => ?_))
  refine cq_aload_n 0 dX1_init_147 rfl ?_
  refine cq_getR (dG_FR (k := 5) H.1.1.1.1 h.1 dCl_X1 (cx_lt rfl) rfl rfl) q1022 dX1_init_148 ?_
  refine cd_letI h.2 (fun r171 h => ?_)
  refine cd_newO H.1.1.1.1 h ⟨rfl, rfl⟩ dCl_X8 dDf_X8 q957 q958 q145 dX1_init_151 (fun a172 M173 P174 L175 k176 n177 h hk => ?_)
  refine cq_dup dX1_init_154 rfl ?_
  refine cq_indyC hX.2 (fun U h => lmK_0 H.2 U h) dX1_init_155 (by simp only [List.map, va_rf_cat, List.sum_cons, List.sum_nil]; exact cx_le rfl) ?_
  refine cd_cI [va_rf (some ((N.2 9100)))] [.ref a172, va_rf r171] (dFi_initD_m H.1 (N := N) (bc := bc - k176) (bs := bs - n177) M173 P174 L175 a172 (some ((N.2 9100))) h) dX1_init_160 gd_X1_87D rfl q145 q965 q966 rfl hgd_X1_87D ⟨cx_le rfl, cx_le rfl⟩ (cd_bud hk) rfl (by simp only [List.map, va_rf_cat, List.sum_cons, List.sum_nil]; exact cx_le rfl) (fun M178 P179 L180 v181 r182 k183 n184 hk2 h => ?_)
  refine cd_addI (h rfl) (cd_bk hk hk2) (fun k185 n186 h hk => ?_)
  obtain ⟨a187, e9, h9⟩ := cd_nn_some h
  subst e9
  have h := h9; clear h9
  obtain ⟨hmr, h⟩ := h
  refine cd_cV [va_rf (some a172)] [] (jAl_add_m H.1.1 (N := N) (bc := bc - k185) (bs := bs - n186) M178 P179 L180 a187 (some a172) h) (dG_Rc H.1.1.1.1 hmr dCl_J2) dX1_init_163 gd_X1_90 hgd_X1_90 ⟨cx_le rfl, cx_le rfl⟩ (cd_bud hk) rfl (cx_le rfl) (fun M188 P189 L190 v191 r192 k193 n194 hk2 h => ?_)
  refine cd_addI (h rfl) (cd_bk hk hk2) (fun k195 n196 h hk => ?_)
  refine cq_pop dX1_init_166 rfl ?_
  refine cq_aload_n 0 dX1_init_167 rfl ?_
  refine cq_getR (dG_FR (k := 5) H.1.1.1.1 h.1 dCl_X1 (cx_lt rfl) rfl rfl) q1022 dX1_init_168 ?_
  refine cd_letI h.2 (fun r197 h => ?_)
  refine cd_newO H.1.1.1.1 h ⟨rfl, rfl⟩ dCl_X8 dDf_X8 q957 q958 q145 dX1_init_171 (fun a198 M199 P200 L201 k202 n203 h hk => ?_)
  refine cq_dup dX1_init_174 rfl ?_
  refine cq_indyC hX.2 (fun U h => lmK_1 H.2 U h) dX1_init_175 (by simp only [List.map, va_rf_cat, List.sum_cons, List.sum_nil]; exact cx_le rfl) ?_
  refine cd_cI [va_rf (some ((N.2 9101)))] [.ref a198, va_rf r197] (dFi_initD_m H.1 (N := N) (bc := bc - k202) (bs := bs - n203) M199 P200 L201 a198 (some ((N.2 9101))) h) dX1_init_180 gd_X1_87D rfl q145 q965 q966 rfl hgd_X1_87D ⟨cx_le rfl, cx_le rfl⟩ (cd_bud hk) rfl (by simp only [List.map, va_rf_cat, List.sum_cons, List.sum_nil]; exact cx_le rfl) (fun M204 P205 L206 v207 r208 k209 n210 hk2 h => ?_)
  refine cd_addI (h rfl) (cd_bk hk hk2) (fun k211 n212 h hk => ?_)
  obtain ⟨a213, e9, h9⟩ := cd_nn_some h
  subst e9
  have h := h9; clear h9
  obtain ⟨hmr, h⟩ := h
  refine cd_cV [va_rf (some a198)] [] (jAl_add_m H.1.1 (N := N) (bc := bc - k211) (bs := bs - n212) M204 P205 L206 a213 (some a198) h) (dG_Rc H.1.1.1.1 hmr dCl_J2) dX1_init_183 gd_X1_90 hgd_X1_90 ⟨cx_le rfl, cx_le rfl⟩ (cd_bud hk) rfl (cx_le rfl) (fun M214 P215 L216 v217 r218 k219 n220 hk2 h => ?_)
  refine cd_addI (h rfl) (cd_bk hk hk2) (fun k221 n222 h hk => ?_)
  refine cq_pop dX1_init_186 rfl ?_
  refine cq_aload_n 0 dX1_init_187 rfl ?_
  refine cq_getR (dG_FR (k := 5) H.1.1.1.1 h.1 dCl_X1 (cx_lt rfl) rfl rfl) q1022 dX1_init_188 ?_
  refine cd_letI h.2 (fun r223 h => ?_)
  refine cd_newO H.1.1.1.1 h ⟨rfl, rfl⟩ dCl_X8 dDf_X8 q957 q958 q145 dX1_init_191 (fun a224 M225 P226 L227 k228 n229 h hk => ?_)
  refine cq_dup dX1_init_194 rfl ?_
  refine cq_aload_n 0 dX1_init_195 rfl ?_
  refine cd_indyM H.1.1.1.1 h ⟨rfl, rfl⟩ hX.2 rfl rfl lmF_2 (fun U h => lmK_2 H.2 U h) dX1_init_196 (by simp only [List.map, va_rf_cat, List.sum_cons, List.sum_nil]; exact cx_le rfl) (fun a230 M231 P232 L233 k234 n235 h hk => ?_)
  refine cd_cI [va_rf (some a230)] [.ref a224, va_rf r223] (dFi_initD_m H.1 (N := N) (bc := bc - k234) (bs := bs - n235) M231 P232 L233 a224 (some a230) h) dX1_init_201 gd_X1_87D rfl q145 q965 q966 rfl hgd_X1_87D ⟨cx_le rfl, cx_le rfl⟩ (cd_bud hk) rfl (by simp only [List.map, va_rf_cat, List.sum_cons, List.sum_nil]; exact cx_le rfl) (fun M236 P237 L238 v239 r240 k241 n242 hk2 h => ?_)
  refine cd_addI (h rfl) (cd_bk hk hk2) (fun k243 n244 h hk => ?_)
  obtain ⟨a245, e9, h9⟩ := cd_nn_some h
  subst e9
  have h := h9; clear h9
  obtain ⟨hmr, h⟩ := h
  refine cd_cV [va_rf (some a224)] [] (jAl_add_m H.1.1 (N := N) (bc := bc - k243) (bs := bs - n244) M236 P237 L238 a245 (some a224) h) (dG_Rc H.1.1.1.1 hmr dCl_J2) dX1_init_204 gd_X1_90 hgd_X1_90 ⟨cx_le rfl, cx_le rfl⟩ (cd_bud hk) rfl (cx_le rfl) (fun M246 P247 L248 v249 r250 k251 n252 hk2 h => ?_)
  refine cd_addI (h rfl) (cd_bk hk hk2) (fun k253 n254 h hk => ?_)
  refine cq_pop dX1_init_207 rfl ?_
  refine cq_aload_n 0 dX1_init_208 rfl ?_
  refine cq_getR (dG_FR (k := 6) H.1.1.1.1 h.1 dCl_X1 (cx_lt rfl) rfl rfl) q1023 dX1_init_209 ?_
  refine cd_letI h.2 (fun r255 h => ?_)
  refine cd_newO H.1.1.1.1 h ⟨rfl, rfl⟩ dCl_X9 dDf_X9 q980 q981 q146 dX1_init_212 (fun a256 M257 P258 L259 k260 n261 h hk => ?_)
  refine cq_dup dX1_init_215 rfl ?_
  refine cq_aload_n 0 dX1_init_216 rfl ?_
  refine cd_indyM H.1.1.1.1 h ⟨rfl, rfl⟩ hX.2 rfl rfl lmF_3 (fun U h => lmK_3 H.2 U h) dX1_init_217 (by simp only [List.map, va_rf_cat, List.sum_cons, List.sum_nil]; exact cx_le rfl) (fun a262 M263 P264 L265 k266 n267 h hk => ?_)
  refine cd_cI [va_rf (some a262)] [.ref a256, va_rf r255] (dLo_initD_m H.1 (N := N) (bc := bc - k266) (bs := bs - n267) M263 P264 L265 a256 (some a262) h) dX1_init_222 gd_X1_104D rfl q146 q990 q991 rfl hgd_X1_104D ⟨cx_le rfl, cx_le rfl⟩ (cd_bud hk) rfl (by simp only [List.map, va_rf_cat, List.sum_cons, List.sum_nil]; exact cx_le rfl) (fun M268 P269 L270 v271 r272 k273 n274 hk2 h => ?_)
  refine cd_addI (h rfl) (cd_bk hk hk2) (fun k275 n276 h hk => ?_)
  obtain ⟨a277, e9, h9⟩ := cd_nn_some h
  subst e9
  have h := h9; clear h9
  obtain ⟨hmr, h⟩ := h
  refine cd_cV [va_rf (some a256)] [] (jAl_add_m H.1.1 (N := N) (bc := bc - k275) (bs := bs - n276) M268 P269 L270 a277 (some a256) h) (dG_Rc H.1.1.1.1 hmr dCl_J2) dX1_init_225 gd_X1_90 hgd_X1_90 ⟨cx_le rfl, cx_le rfl⟩ (cd_bud hk) rfl (cx_le rfl) (fun M278 P279 L280 v281 r282 k283 n284 hk2 h => ?_)
  refine cd_addI (h rfl) (cd_bk hk hk2) (fun k285 n286 h hk => ?_)
  refine cq_pop dX1_init_228 rfl ?_
  refine cq_aload_n 0 dX1_init_229 rfl ?_
  refine cq_getR (dG_FR (k := 6) H.1.1.1.1 h.1 dCl_X1 (cx_lt rfl) rfl rfl) q1023 dX1_init_230 ?_
  refine cd_letI h.2 (fun r287 h => ?_)
  refine cd_newO H.1.1.1.1 h ⟨rfl, rfl⟩ dCl_X9 dDf_X9 q980 q981 q146 dX1_init_233 (fun a288 M289 P290 L291 k292 n293 h hk => ?_)
  refine cq_dup dX1_init_236 rfl ?_
  refine cq_indyC hX.2 (fun U h => lmK_4 H.2 U h) dX1_init_237 (by simp only [List.map, va_rf_cat, List.sum_cons, List.sum_nil]; exact cx_le rfl) ?_
  refine cd_cI [va_rf (some ((N.2 9111)))] [.ref a288, va_rf r287] (dLo_initD_m H.1 (N := N) (bc := bc - k292) (bs := bs - n293) M289 P290 L291 a288 (some ((N.2 9111))) h) dX1_init_242 gd_X1_104D rfl q146 q990 q991 rfl hgd_X1_104D ⟨cx_le rfl, cx_le rfl⟩ (cd_bud hk) rfl (by simp only [List.map, va_rf_cat, List.sum_cons, List.sum_nil]; exact cx_le rfl) (fun M294 P295 L296 v297 r298 k299 n300 hk2 h => ?_)
  refine cd_addI (h rfl) (cd_bk hk hk2) (fun k301 n302 h hk => ?_)
  obtain ⟨a303, e9, h9⟩ := cd_nn_some h
  subst e9
  have h := h9; clear h9
  obtain ⟨hmr, h⟩ := h
  refine cd_cV [va_rf (some a288)] [] (jAl_add_m H.1.1 (N := N) (bc := bc - k301) (bs := bs - n302) M294 P295 L296 a303 (some a288) h) (dG_Rc H.1.1.1.1 hmr dCl_J2) dX1_init_245 gd_X1_90 hgd_X1_90 ⟨cx_le rfl, cx_le rfl⟩ (cd_bud hk) rfl (cx_le rfl) (fun M304 P305 L306 v307 r308 k309 n310 hk2 h => ?_)
  refine cd_addI (h rfl) (cd_bk hk hk2) (fun k311 n312 h hk => ?_)
  refine cq_pop dX1_init_248 rfl ?_
  refine cq_aload_n 0 dX1_init_249 rfl ?_
  refine cq_getR (dG_FR (k := 6) H.1.1.1.1 h.1 dCl_X1 (cx_lt rfl) rfl rfl) q1023 dX1_init_250 ?_
  refine cd_letI h.2 (fun r313 h => ?_)
  refine cd_newO H.1.1.1.1 h ⟨rfl, rfl⟩ dCl_X9 dDf_X9 q980 q981 q146 dX1_init_253 (fun a314 M315 P316 L317 k318 n319 h hk => ?_)
  refine cq_dup dX1_init_256 rfl ?_
  refine cq_indyC hX.2 (fun U h => lmK_5 H.2 U h) dX1_init_257 (by simp only [List.map, va_rf_cat, List.sum_cons, List.sum_nil]; exact cx_le rfl) ?_
  refine cd_cI [va_rf (some ((N.2 9112)))] [.ref a314, va_rf r313] (dLo_initD_m H.1 (N := N) (bc := bc - k318) (bs := bs - n319) M315 P316 L317 a314 (some ((N.2 9112))) h) dX1_init_262 gd_X1_104D rfl q146 q990 q991 rfl hgd_X1_104D ⟨cx_le rfl, cx_le rfl⟩ (cd_bud hk) rfl (by simp only [List.map, va_rf_cat, List.sum_cons, List.sum_nil]; exact cx_le rfl) (fun M320 P321 L322 v323 r324 k325 n326 hk2 h => ?_)
  refine cd_addI (h rfl) (cd_bk hk hk2) (fun k327 n328 h hk => ?_)
  obtain ⟨a329, e9, h9⟩ := cd_nn_some h
  subst e9
  have h := h9; clear h9
  obtain ⟨hmr, h⟩ := h
  refine cd_cV [va_rf (some a314)] [] (jAl_add_m H.1.1 (N := N) (bc := bc - k327) (bs := bs - n328) M320 P321 L322 a329 (some a314) h) (dG_Rc H.1.1.1.1 hmr dCl_J2) dX1_init_265 gd_X1_90 hgd_X1_90 ⟨cx_le rfl, cx_le rfl⟩ (cd_bud hk) rfl (cx_le rfl) (fun M330 P331 L332 v333 r334 k335 n336 hk2 h => ?_)
  refine cd_addI (h rfl) (cd_bk hk hk2) (fun k337 n338 h hk => ?_)
  refine cq_pop dX1_init_268 rfl ?_
  refine cq_aload_n 0 dX1_init_269 rfl ?_
  refine cq_getR (dG_FR (k := 6) H.1.1.1.1 h.1 dCl_X1 (cx_lt rfl) rfl rfl) q1023 dX1_init_270 ?_
  refine cd_letI h.2 (fun r339 h => ?_)
  refine cd_newO H.1.1.1.1 h ⟨rfl, rfl⟩ dCl_X9 dDf_X9 q980 q981 q146 dX1_init_273 (fun a340 M341 P342 L343 k344 n345 h hk => ?_)
  refine cq_dup dX1_init_276 rfl ?_
  refine cq_indyC hX.2 (fun U h => lmK_6 H.2 U h) dX1_init_277 (by simp only [List.map, va_rf_cat, List.sum_cons, List.sum_nil]; exact cx_le rfl) ?_
  refine cd_cI [va_rf (some ((N.2 9113)))] [.ref a340, va_rf r339] (dLo_initD_m H.1 (N := N) (bc := bc - k344) (bs := bs - n345) M341 P342 L343 a340 (some ((N.2 9113))) h) dX1_init_282 gd_X1_104D rfl q146 q990 q991 rfl hgd_X1_104D ⟨cx_le rfl, cx_le rfl⟩ (cd_bud hk) rfl (by simp only [List.map, va_rf_cat, List.sum_cons, List.sum_nil]; exact cx_le rfl) (fun M346 P347 L348 v349 r350 k351 n352 hk2 h => ?_)
  refine cd_addI (h rfl) (cd_bk hk hk2) (fun k353 n354 h hk => ?_)
  obtain ⟨a355, e9, h9⟩ := cd_nn_some h
  subst e9
  have h := h9; clear h9
  obtain ⟨hmr, h⟩ := h
  refine cd_cV [va_rf (some a340)] [] (jAl_add_m H.1.1 (N := N) (bc := bc - k353) (bs := bs - n354) M346 P347 L348 a355 (some a340) h) (dG_Rc H.1.1.1.1 hmr dCl_J2) dX1_init_285 gd_X1_90 hgd_X1_90 ⟨cx_le rfl, cx_le rfl⟩ (cd_bud hk) rfl (cx_le rfl) (fun M356 P357 L358 v359 r360 k361 n362 hk2 h => ?_)
  refine cd_addI (h rfl) (cd_bk hk hk2) (fun k363 n364 h hk => ?_)
  refine cq_pop dX1_init_288 rfl ?_
  refine cq_aload_n 0 dX1_init_289 rfl ?_
  refine cq_getR (dG_FR (k := 6) H.1.1.1.1 h.1 dCl_X1 (cx_lt rfl) rfl rfl) q1023 dX1_init_290 ?_
  refine cd_letI h.2 (fun r365 h => ?_)
  refine cd_newO H.1.1.1.1 h ⟨rfl, rfl⟩ dCl_X9 dDf_X9 q980 q981 q146 dX1_init_293 (fun a366 M367 P368 L369 k370 n371 h hk => ?_)
  refine cq_dup dX1_init_296 rfl ?_
  refine cq_indyC hX.2 (fun U h => lmK_7 H.2 U h) dX1_init_297 (by simp only [List.map, va_rf_cat, List.sum_cons, List.sum_nil]; exact cx_le rfl) ?_
  refine cd_cI [va_rf (some ((N.2 9114)))] [.ref a366, va_rf r365] (dLo_initD_m H.1 (N := N) (bc := bc - k370) (bs := bs - n371) M367 P368 L369 a366 (some ((N.2 9114))) h) dX1_init_302 gd_X1_104D rfl q146 q990 q991 rfl hgd_X1_104D ⟨cx_le rfl, cx_le rfl⟩ (cd_bud hk) rfl (by simp only [List.map, va_rf_cat, List.sum_cons, List.sum_nil]; exact cx_le rfl) (fun M372 P373 L374 v375 r376 k377 n378 hk2 h => ?_)
  refine cd_addI (h rfl) (cd_bk hk hk2) (fun k379 n380 h hk => ?_)
  obtain ⟨a381, e9, h9⟩ := cd_nn_some h
  subst e9
  have h := h9; clear h9
  obtain ⟨hmr, h⟩ := h
  refine cd_cV [va_rf (some a366)] [] (jAl_add_m H.1.1 (N := N) (bc := bc - k379) (bs := bs - n380) M372 P373 L374 a381 (some a366) h) (dG_Rc H.1.1.1.1 hmr dCl_J2) dX1_init_305 gd_X1_90 hgd_X1_90 ⟨cx_le rfl, cx_le rfl⟩ (cd_bud hk) rfl (cx_le rfl) (fun M382 P383 L384 v385 r386 k387 n388 hk2 h => ?_)
  refine cd_addI (h rfl) (cd_bk hk hk2) (fun k389 n390 h hk => ?_)
  refine cq_pop dX1_init_308 rfl ?_
  refine cq_aload_n 0 dX1_init_309 rfl ?_
  refine cq_getR (dG_FR (k := 6) H.1.1.1.1 h.1 dCl_X1 (cx_lt rfl) rfl rfl) q1023 dX1_init_310 ?_
  refine cd_letI h.2 (fun r391 h => ?_)
  refine cd_newO H.1.1.1.1 h ⟨rfl, rfl⟩ dCl_X9 dDf_X9 q980 q981 q146 dX1_init_313 (fun a392 M393 P394 L395 k396 n397 h hk => ?_)
  refine cq_dup dX1_init_316 rfl ?_
  refine cq_indyC hX.2 (fun U h => lmK_8 H.2 U h) dX1_init_317 (by simp only [List.map, va_rf_cat, List.sum_cons, List.sum_nil]; exact cx_le rfl) ?_
  refine cd_cI [va_rf (some ((N.2 9115)))] [.ref a392, va_rf r391] (dLo_initD_m H.1 (N := N) (bc := bc - k396) (bs := bs - n397) M393 P394 L395 a392 (some ((N.2 9115))) h) dX1_init_322 gd_X1_104D rfl q146 q990 q991 rfl hgd_X1_104D ⟨cx_le rfl, cx_le rfl⟩ (cd_bud hk) rfl (by simp only [List.map, va_rf_cat, List.sum_cons, List.sum_nil]; exact cx_le rfl) (fun M398 P399 L400 v401 r402 k403 n404 hk2 h => ?_)
  refine cd_addI (h rfl) (cd_bk hk hk2) (fun k405 n406 h hk => ?_)
  obtain ⟨a407, e9, h9⟩ := cd_nn_some h
  subst e9
  have h := h9; clear h9
  obtain ⟨hmr, h⟩ := h
  refine cd_cV [va_rf (some a392)] [] (jAl_add_m H.1.1 (N := N) (bc := bc - k405) (bs := bs - n406) M398 P399 L400 a407 (some a392) h) (dG_Rc H.1.1.1.1 hmr dCl_J2) dX1_init_325 gd_X1_90 hgd_X1_90 ⟨cx_le rfl, cx_le rfl⟩ (cd_bud hk) rfl (cx_le rfl) (fun M408 P409 L410 v411 r412 k413 n414 hk2 h => ?_)
  refine cd_addI (h rfl) (cd_bk hk hk2) (fun k415 n416 h hk => ?_)
  refine cq_pop dX1_init_328 rfl ?_
  refine cq_aload_n 0 dX1_init_329 rfl ?_
  refine cq_getR (dG_FR (k := 3) H.1.1.1.1 h.1 dCl_X1 (cx_lt rfl) rfl rfl) q1020 dX1_init_330 ?_
  refine cd_letI h.2 (fun r417 h => ?_)
  refine cq_aload_n 0 dX1_init_333 rfl ?_
  refine cq_getR (dG_FR (k := 0) H.1.1.1.1 h.1 dCl_X1 (cx_lt rfl) rfl rfl) q1017 dX1_init_334 ?_
  refine cd_letI h.2 (fun r418 h => ?_)
  obtain ⟨a419, e9, h9⟩ := cd_nn_some h
  subst e9
  have h := h9; clear h9
  obtain ⟨a420, e9, h9⟩ := cd_nn_some h
  subst e9
  have h := h9; clear h9
  obtain ⟨hmr, h⟩ := h
  refine cd_cV [.ref a420] [] (dSt_beginsD_m H.1 (N := N) (bc := bc - k415) (bs := bs - n416) M408 P409 L410 a419 a420 h) (dG_Rc H.1.1.1.1 hmr dCl_X6) dX1_init_337 gd_X1_114D hgd_X1_114D ⟨cx_le rfl, cx_le rfl⟩ (cd_bud hk) rfl (cx_le rfl) (fun M421 P422 L423 v424 r425 k426 n427 hk2 h => ?_)
  refine cd_addI (h rfl) (cd_bk hk hk2) (fun k428 n429 h hk => ?_)
  exact cd_vret hk h rfl dX1_init_340
def dCc_initD (N : dNt) (bc bs : Nat) (M : cx_M) (P : dP) (L : dL) (a0 : Nat) (Q : cd_Qt) : Prop := dCc_initD_0 N bc bs Q a0 M P L 0 0
set_option maxRecDepth 100000 in
theorem dCc_initD_m {l : Launch} {g : cx_G} {N : dNt} {bc bs : Nat} {Q : cd_Qt} (H : dK l g N.2) (M : cx_M) (P : dP) (L : dL) (a0 : Nat) (h : dCc_initD N bc bs M P L a0 Q) : cd_Met l g yX1_init cX1_init (esX1_initD bc bs) cd_rV [.ref a0] M P L Q :=
  cd_metN (by decide +kernel) rfl rfl (lv := [(0, .ref a0)]) rfl (cx_le rfl) (fun X hX => cq_sub (lv' := [(0, .ref a0)]) [0] rfl (dCc_initD_0_v H hX M P L 0 0 ⟨Nat.zero_le _, Nat.zero_le _⟩ h))
