abbrev sX10_regained : cx_S := (1, RX10, cx_rI, { frames := 0, cells := 0, slots := 0, locals := 0 }, some .int, false)
noncomputable def tw_regained_0 (N : Nat) (M : cx_M) : Option cx_R :=
  cx_get M 8 8 fun v1 =>
  if v1 = 0 then (
    some (M, 10000, 0))
  else (
    cx_get M 8 20 fun v2 =>
    if v2 = 0 then (
      some (M, 10000, 0))
    else (
      cx_get M 3 0 fun v3 =>
      cx_get M 8 21 fun v4 =>
      cx_get M 8 20 fun v5 =>
      cx_nz v5 <|
      some (M, ((((1000 : Int32) * v3) * v4) / v5) - 1000, 0)))
set_option maxRecDepth 100000 in
theorem tw_regained_0_v {l : Launch} {g : cx_G} {adr : Nat → Nat} {X : cx_X} {N : Nat} (H : tw_H g adr) (M : cx_M) (rs : cx_R) (h : tw_regained_0 N M = some rs) : cx_V l (g) X sX10_regained cX10_regained 0 [(0, .ref (adr 60))] [] M 0 0 rs := by
  unfold tw_regained_0 at h
  refine cx_aload_n 0 dX10_regained_0 rfl ?_
  refine cx_getR (tw_R8 H) q2398 dX10_regained_1 ?_
  refine cx_bipush 8 dX10_regained_4 cx_bp_8 ?_
  refine cx_ldC h (tw_A8 H) cx_cl_8 cx_vin_8_665 dX10_regained_6 (fun v1 h => ?_)
  refine cx_if_eq 20 h dX10_regained_7 rfl (fun h => ?_) (fun h => ?_)
  · refine cx_sipush 10000 dX10_regained_20 cx_sp_10000 ?_
    refine cx_goto 56 dX10_regained_23 rfl ?_
    exact cx_iret h rfl rfl (cx_le rfl) (cx_le rfl) dX10_regained_56
  · refine cx_aload_n 0 dX10_regained_10 rfl ?_
    refine cx_getR (tw_R8 H) q2398 dX10_regained_11 ?_
    refine cx_bipush 20 dX10_regained_14 cx_bp_20 ?_
    refine cx_ldC h (tw_A8 H) cx_cl_20 cx_vin_20_665 dX10_regained_16 (fun v2 h => ?_)
    refine cx_if_ne 26 h dX10_regained_17 rfl (fun h => ?_) (fun h => ?_)
    · refine cx_sipush 1000 dX10_regained_26 cx_sp_1000 ?_
      refine cx_aload_n 0 dX10_regained_29 rfl ?_
      refine cx_getR (tw_R3 H) q2393 dX10_regained_30 ?_
      refine cx_iconst 0 dX10_regained_33 cx_ic_0 ?_
      refine cx_ldC h (tw_A3 H) cx_cl_0 cx_vin_0_20 dX10_regained_34 (fun v3 h => ?_)
      refine cx_imul dX10_regained_35 ?_
      refine cx_aload_n 0 dX10_regained_36 rfl ?_
      refine cx_getR (tw_R8 H) q2398 dX10_regained_37 ?_
      refine cx_bipush 21 dX10_regained_40 cx_bp_21 ?_
      refine cx_ldC h (tw_A8 H) cx_cl_21 cx_vin_21_665 dX10_regained_42 (fun v4 h => ?_)
      refine cx_imul dX10_regained_43 ?_
      refine cx_aload_n 0 dX10_regained_44 rfl ?_
      refine cx_getR (tw_R8 H) q2398 dX10_regained_45 ?_
      refine cx_bipush 20 dX10_regained_48 cx_bp_20 ?_
      refine cx_ldC h (tw_A8 H) cx_cl_20 cx_vin_20_665 dX10_regained_50 (fun v5 h => ?_)
      refine cx_idiv h dX10_regained_51 (fun h => ?_)
      refine cx_sipush 1000 dX10_regained_52 cx_sp_1000 ?_
      refine cx_isub dX10_regained_55 ?_
      exact cx_iret h rfl rfl (cx_le rfl) (cx_le rfl) dX10_regained_56
    · refine cx_sipush 10000 dX10_regained_20 cx_sp_10000 ?_
      refine cx_goto 56 dX10_regained_23 rfl ?_
      exact cx_iret h rfl rfl (cx_le rfl) (cx_le rfl) dX10_regained_56
noncomputable def tw_regained (N : Nat) (M : cx_M) : Option cx_R := tw_regained_0 N M
theorem tw_regained_m {l : Launch} {g : cx_G} {adr : Nat → Nat} {N : Nat} (H : tw_H g adr) (M : cx_M) (rs : cx_R) (h : tw_regained N M = some rs) : cx_Met l (g) yX10_regained cX10_regained sX10_regained [.ref (adr 60)] M rs :=
  cx_met (by decide +kernel) rfl rfl (lv := [(0, .ref (adr 60))]) rfl (cx_le rfl) (fun X => cx_sub (lv' := [(0, .ref (adr 60))]) [0] rfl (tw_regained_0_v H M rs h))

abbrev sX10_samplesKept : cx_S := (1, RX10, cx_rI, { frames := 1, cells := 0, slots := 0, locals := 13 }, some .int, false)
noncomputable def tw_samplesKept_0 (N : Nat) (M : cx_M) : Option cx_R :=
  cx_get M 8 32 fun v1 =>
  some (M, cx_min 128 v1, 0)
set_option maxRecDepth 100000 in
theorem tw_samplesKept_0_v {l : Launch} {g : cx_G} {adr : Nat → Nat} {X : cx_X} {N : Nat} (H : tw_H g adr) (M : cx_M) (rs : cx_R) (h : tw_samplesKept_0 N M = some rs) : cx_V l (g) X sX10_samplesKept cX10_samplesKept 0 [(0, .ref (adr 60))] [] M 0 0 rs := by
  unfold tw_samplesKept_0 at h
  refine cx_sipush 128 dX10_samplesKept_0 cx_sp_128 ?_
  refine cx_aload_n 0 dX10_samplesKept_3 rfl ?_
  refine cx_getR (tw_R8 H) q2398 dX10_samplesKept_4 ?_
  refine cx_bipush 32 dX10_samplesKept_7 cx_bp_32 ?_
  refine cx_ldC h (tw_A8 H) cx_cl_32 cx_vin_32_665 dX10_samplesKept_9 (fun v1 h => ?_)
  refine cx_mmin dX10_samplesKept_10 q2602 (cx_le rfl) (cx_le rfl) (cx_le rfl) (cx_le rfl) ?_
  exact cx_iret h rfl rfl (cx_le rfl) (cx_le rfl) dX10_samplesKept_13
noncomputable def tw_samplesKept (N : Nat) (M : cx_M) : Option cx_R := tw_samplesKept_0 N M
theorem tw_samplesKept_m {l : Launch} {g : cx_G} {adr : Nat → Nat} {N : Nat} (H : tw_H g adr) (M : cx_M) (rs : cx_R) (h : tw_samplesKept N M = some rs) : cx_Met l (g) yX10_samplesKept cX10_samplesKept sX10_samplesKept [.ref (adr 60)] M rs :=
  cx_met (by decide +kernel) rfl rfl (lv := [(0, .ref (adr 60))]) rfl (cx_le rfl) (fun X => cx_sub (lv' := [(0, .ref (adr 60))]) [0] rfl (tw_samplesKept_0_v H M rs h))

abbrev sX10_fail : cx_S := (2, RX10, cx_rI, { frames := 0, cells := 0, slots := 0, locals := 0 }, some .int, false)
noncomputable def tw_fail_0 (N : Nat) (M : cx_M) (x1 : Int32) : Option cx_R :=
  cx_put M 60 2 x1 fun M1 =>
  some (M1, 0, 0)
set_option maxRecDepth 100000 in
theorem tw_fail_0_v {l : Launch} {g : cx_G} {adr : Nat → Nat} {X : cx_X} {N : Nat} (H : tw_H g adr) (M : cx_M) (x1 : Int32) (rs : cx_R) (h : tw_fail_0 N M x1 = some rs) : cx_V l (g) X sX10_fail cX10_fail 0 [(0, .ref (adr 60)), (1, .int x1)] [] M 0 0 rs := by
  unfold tw_fail_0 at h
  refine cx_aload_n 0 dX10_fail_0 rfl ?_
  refine cx_iload_n 1 dX10_fail_1 rfl ?_
  refine cx_putI h (tw_F2 H) rfl rfl rfl q2392 dX10_fail_2 (fun M1 h => ?_)
  refine cx_iconst 0 dX10_fail_5 cx_ic_0 ?_
  exact cx_iret h rfl rfl (cx_le rfl) (cx_le rfl) dX10_fail_6
noncomputable def tw_fail (N : Nat) (M : cx_M) (x1 : Int32) : Option cx_R := tw_fail_0 N M x1
theorem tw_fail_m {l : Launch} {g : cx_G} {adr : Nat → Nat} {N : Nat} (H : tw_H g adr) (M : cx_M) (x1 : Int32) (rs : cx_R) (h : tw_fail N M x1 = some rs) : cx_Met l (g) yX10_fail cX10_fail sX10_fail [.ref (adr 60), .int x1] M rs :=
  cx_met (by decide +kernel) rfl rfl (lv := [(0, .ref (adr 60)), (1, .int x1)]) rfl (cx_le rfl) (fun X => cx_sub (lv' := [(0, .ref (adr 60)), (1, .int x1)]) [0, 1] rfl (tw_fail_0_v H M x1 rs h))

abbrev sX10_count : cx_S := (2, RX10, cx_rI, { frames := 3, cells := 0, slots := 0, locals := 62 }, some .int, false)
noncomputable def tw_count_248 (N : Nat) (M : cx_M) (x1 : Int32) : Option cx_R :=
  cx_ld M 7 3 (x1 - 20) fun v1 =>
  some (M, v1, 0)
set_option maxRecDepth 100000 in
theorem tw_count_248_v {l : Launch} {g : cx_G} {adr : Nat → Nat} {X : cx_X} {N : Nat} (H : tw_H g adr) (M : cx_M) (x1 : Int32) (rs : cx_R) (h : tw_count_248 N M x1 = some rs) : cx_V l (g) X sX10_count cX10_count 248 [(0, .ref (adr 60)), (1, .int x1)] [] M 0 0 rs := by
  unfold tw_count_248 at h
  refine cx_aload_n 0 dX10_count_248 rfl ?_
  refine cx_getR (tw_R7 H) q2397 dX10_count_249 ?_
  refine cx_iload_n 1 dX10_count_252 rfl ?_
  refine cx_bipush 20 dX10_count_253 cx_bp_20 ?_
  refine cx_isub dX10_count_255 ?_
  refine cx_ldI h (tw_A7 H) dX10_count_256 (fun v1 h => ?_)
  exact cx_iret h rfl rfl (cx_le rfl) (cx_le rfl) dX10_count_257
noncomputable def tw_count_0 (N : Nat) (M : cx_M) (x1 : Int32) : Option cx_R :=
  cx_cal (tw_ready N M) fun M1 _ =>
  cx_sw x1 0 [
      (cx_get M1 8 0 fun v4 =>
      some (M1, v4, 0)),
      (cx_get M1 8 1 fun v5 =>
      some (M1, v5, 0)),
      (cx_get M1 8 2 fun v6 =>
      some (M1, v6, 0)),
      (cx_get M1 8 3 fun v7 =>
      some (M1, v7, 0)),
      (cx_get M1 8 31 fun v8 =>
      some (M1, v8, 0)),
      (cx_get M1 8 4 fun v9 =>
      some (M1, v9, 0)),
      (cx_get M1 8 5 fun v10 =>
      some (M1, v10, 0)),
      (cx_get M1 8 6 fun v11 =>
      some (M1, v11, 0)),
      (cx_get M1 8 7 fun v12 =>
      some (M1, v12, 0)),
      (cx_cal (tw_levelNow N M1) fun M13 v14 =>
      some (M13, v14, 0)),
      (cx_get M1 8 8 fun v15 =>
      some (M1, v15, 0)),
      (cx_get M1 8 9 fun v16 =>
      some (M1, v16, 0)),
      (cx_get M1 8 10 fun v17 =>
      some (M1, v17, 0)),
      (cx_cal (tw_regained N M1) fun M18 v19 =>
      some (M18, v19, 0)),
      (cx_get M1 8 12 fun v20 =>
      some (M1, v20, 0)),
      (cx_get M1 8 13 fun v21 =>
      some (M1, v21, 0)),
      (cx_cal (tw_samplesKept N M1) fun M22 v23 =>
      some (M22, v23, 0)),
      (cx_get M1 60 31 fun v24 =>
      some (M1, v24, 0)),
      (cx_get M1 60 32 fun v25 =>
      some (M1, v25, 0)),
      (cx_get M1 60 12 fun v26 =>
      some (M1, v26, 0)),
      (tw_count_248 N M1 x1),
      (tw_count_248 N M1 x1),
      (tw_count_248 N M1 x1)
    ] (
      cx_cal (tw_fail N M1 1) fun M2 v3 =>
      some (M2, v3, 0))
set_option maxRecDepth 100000 in
theorem tw_count_0_v {l : Launch} {g : cx_G} {adr : Nat → Nat} {X : cx_X} {N : Nat} (H : tw_H g adr) (M : cx_M) (x1 : Int32) (rs : cx_R) (h : tw_count_0 N M x1 = some rs) : cx_V l (g) X sX10_count cX10_count 0 [(0, .ref (adr 60)), (1, .int x1)] [] M 0 0 rs := by
  unfold tw_count_0 at h
  refine cx_aload_n 0 dX10_count_0 rfl ?_
  refine cx_cVv [] [] h (fun rs' h' => tw_ready_m H M rs' h') (tw_rc H) dX10_count_1 g_X10_247 hg_X10_247 ⟨cx_le rfl, cx_le rfl⟩ rfl ⟨rfl, rfl⟩ ⟨cx_le rfl, cx_le rfl⟩ rfl (cx_le rfl) (fun M1 _ h => ?_)
  refine cx_iload_n 1 dX10_count_4 rfl ?_
  refine cx_table 258 [112, 119, 126, 133, 140, 148, 155, 162, 170, 178, 183, 191, 199, 207, 212, 220, 228, 233, 238, 243, 248, 248, 248] 23 h dX10_count_5 (by decide +kernel) rfl rfl rfl (by decide +kernel) (fun h => ?_) (fun j B hB h => ?_)
  · refine cx_aload_n 0 dX10_count_258 rfl ?_
    refine cx_iconst 1 dX10_count_259 cx_ic_1 ?_
    refine cx_cVi [.int 1] [] h (fun rs' h' => tw_fail_m H M1 1 rs' h') (tw_rc H) dX10_count_260 g_X10_250 hg_X10_250 ⟨cx_le rfl, cx_le rfl⟩ rfl ⟨rfl, rfl⟩ ⟨cx_le rfl, cx_le rfl⟩ rfl (cx_le rfl) (fun M2 v3 h => ?_)
    exact cx_iret h rfl rfl (cx_le rfl) (cx_le rfl) dX10_count_263
  · match j, hB with
    | 0, hB =>
      cases hB
      refine cx_at (pc2 := 112) rfl ?_
      refine cx_aload_n 0 dX10_count_112 rfl ?_
      refine cx_getR (tw_R8 H) q2398 dX10_count_113 ?_
      refine cx_iconst 0 dX10_count_116 cx_ic_0 ?_
      refine cx_ldC h (tw_A8 H) cx_cl_0 cx_vin_0_665 dX10_count_117 (fun v4 h => ?_)
      exact cx_iret h rfl rfl (cx_le rfl) (cx_le rfl) dX10_count_118
    | 1, hB =>
      cases hB
      refine cx_at (pc2 := 119) rfl ?_
      refine cx_aload_n 0 dX10_count_119 rfl ?_
      refine cx_getR (tw_R8 H) q2398 dX10_count_120 ?_
      refine cx_iconst 1 dX10_count_123 cx_ic_1 ?_
      refine cx_ldC h (tw_A8 H) cx_cl_1 cx_vin_1_665 dX10_count_124 (fun v5 h => ?_)
      exact cx_iret h rfl rfl (cx_le rfl) (cx_le rfl) dX10_count_125
    | 2, hB =>
      cases hB
      refine cx_at (pc2 := 126) rfl ?_
      refine cx_aload_n 0 dX10_count_126 rfl ?_
      refine cx_getR (tw_R8 H) q2398 dX10_count_127 ?_
      refine cx_iconst 2 dX10_count_130 cx_ic_2 ?_
      refine cx_ldC h (tw_A8 H) cx_cl_2 cx_vin_2_665 dX10_count_131 (fun v6 h => ?_)
      exact cx_iret h rfl rfl (cx_le rfl) (cx_le rfl) dX10_count_132
    | 3, hB =>
      cases hB
      refine cx_at (pc2 := 133) rfl ?_
      refine cx_aload_n 0 dX10_count_133 rfl ?_
      refine cx_getR (tw_R8 H) q2398 dX10_count_134 ?_
      refine cx_iconst 3 dX10_count_137 cx_ic_3 ?_
      refine cx_ldC h (tw_A8 H) cx_cl_3 cx_vin_3_665 dX10_count_138 (fun v7 h => ?_)
      exact cx_iret h rfl rfl (cx_le rfl) (cx_le rfl) dX10_count_139
    | 4, hB =>
      cases hB
      refine cx_at (pc2 := 140) rfl ?_
      refine cx_aload_n 0 dX10_count_140 rfl ?_
      refine cx_getR (tw_R8 H) q2398 dX10_count_141 ?_
      refine cx_bipush 31 dX10_count_144 cx_bp_31 ?_
      refine cx_ldC h (tw_A8 H) cx_cl_31 cx_vin_31_665 dX10_count_146 (fun v8 h => ?_)
      exact cx_iret h rfl rfl (cx_le rfl) (cx_le rfl) dX10_count_147
    | 5, hB =>
      cases hB
      refine cx_at (pc2 := 148) rfl ?_
      refine cx_aload_n 0 dX10_count_148 rfl ?_
      refine cx_getR (tw_R8 H) q2398 dX10_count_149 ?_
      refine cx_iconst 4 dX10_count_152 cx_ic_4 ?_
      refine cx_ldC h (tw_A8 H) cx_cl_4 cx_vin_4_665 dX10_count_153 (fun v9 h => ?_)
      exact cx_iret h rfl rfl (cx_le rfl) (cx_le rfl) dX10_count_154
    | 6, hB =>
      cases hB
      refine cx_at (pc2 := 155) rfl ?_
      refine cx_aload_n 0 dX10_count_155 rfl ?_
      refine cx_getR (tw_R8 H) q2398 dX10_count_156 ?_
      refine cx_iconst 5 dX10_count_159 cx_ic_5 ?_
      refine cx_ldC h (tw_A8 H) cx_cl_5 cx_vin_5_665 dX10_count_160 (fun v10 h => ?_)
      exact cx_iret h rfl rfl (cx_le rfl) (cx_le rfl) dX10_count_161
    | 7, hB =>
      cases hB
      refine cx_at (pc2 := 162) rfl ?_
      refine cx_aload_n 0 dX10_count_162 rfl ?_
      refine cx_getR (tw_R8 H) q2398 dX10_count_163 ?_
      refine cx_bipush 6 dX10_count_166 cx_bp_6 ?_
      refine cx_ldC h (tw_A8 H) cx_cl_6 cx_vin_6_665 dX10_count_168 (fun v11 h => ?_)
      exact cx_iret h rfl rfl (cx_le rfl) (cx_le rfl) dX10_count_169
    | 8, hB =>
      cases hB
      refine cx_at (pc2 := 170) rfl ?_
      refine cx_aload_n 0 dX10_count_170 rfl ?_
      refine cx_getR (tw_R8 H) q2398 dX10_count_171 ?_
      refine cx_bipush 7 dX10_count_174 cx_bp_7 ?_
      refine cx_ldC h (tw_A8 H) cx_cl_7 cx_vin_7_665 dX10_count_176 (fun v12 h => ?_)
      exact cx_iret h rfl rfl (cx_le rfl) (cx_le rfl) dX10_count_177
    | 9, hB =>
      cases hB
      refine cx_at (pc2 := 178) rfl ?_
      refine cx_aload_n 0 dX10_count_178 rfl ?_
      refine cx_cVi [] [] h (fun rs' h' => tw_levelNow_m H M1 rs' h') (tw_rc H) dX10_count_179 g_X10_325 hg_X10_325 ⟨cx_le rfl, cx_le rfl⟩ rfl ⟨rfl, rfl⟩ ⟨cx_le rfl, cx_le rfl⟩ rfl (cx_le rfl) (fun M13 v14 h => ?_)
      exact cx_iret h rfl rfl (cx_le rfl) (cx_le rfl) dX10_count_182
    | 10, hB =>
      cases hB
      refine cx_at (pc2 := 183) rfl ?_
      refine cx_aload_n 0 dX10_count_183 rfl ?_
      refine cx_getR (tw_R8 H) q2398 dX10_count_184 ?_
      refine cx_bipush 8 dX10_count_187 cx_bp_8 ?_
      refine cx_ldC h (tw_A8 H) cx_cl_8 cx_vin_8_665 dX10_count_189 (fun v15 h => ?_)
      exact cx_iret h rfl rfl (cx_le rfl) (cx_le rfl) dX10_count_190
    | 11, hB =>
      cases hB
      refine cx_at (pc2 := 191) rfl ?_
      refine cx_aload_n 0 dX10_count_191 rfl ?_
      refine cx_getR (tw_R8 H) q2398 dX10_count_192 ?_
      refine cx_bipush 9 dX10_count_195 cx_bp_9 ?_
      refine cx_ldC h (tw_A8 H) cx_cl_9 cx_vin_9_665 dX10_count_197 (fun v16 h => ?_)
      exact cx_iret h rfl rfl (cx_le rfl) (cx_le rfl) dX10_count_198
    | 12, hB =>
      cases hB
      refine cx_at (pc2 := 199) rfl ?_
      refine cx_aload_n 0 dX10_count_199 rfl ?_
      refine cx_getR (tw_R8 H) q2398 dX10_count_200 ?_
      refine cx_bipush 10 dX10_count_203 cx_bp_10 ?_
      refine cx_ldC h (tw_A8 H) cx_cl_10 cx_vin_10_665 dX10_count_205 (fun v17 h => ?_)
      exact cx_iret h rfl rfl (cx_le rfl) (cx_le rfl) dX10_count_206
    | 13, hB =>
      cases hB
      refine cx_at (pc2 := 207) rfl ?_
      refine cx_aload_n 0 dX10_count_207 rfl ?_
      refine cx_cVi [] [] h (fun rs' h' => tw_regained_m H M1 rs' h') (tw_rc H) dX10_count_208 g_X10_352 hg_X10_352 ⟨cx_le rfl, cx_le rfl⟩ rfl ⟨rfl, rfl⟩ ⟨cx_le rfl, cx_le rfl⟩ rfl (cx_le rfl) (fun M18 v19 h => ?_)
      exact cx_iret h rfl rfl (cx_le rfl) (cx_le rfl) dX10_count_211
    | 14, hB =>
      cases hB
      refine cx_at (pc2 := 212) rfl ?_
      refine cx_aload_n 0 dX10_count_212 rfl ?_
      refine cx_getR (tw_R8 H) q2398 dX10_count_213 ?_
      refine cx_bipush 12 dX10_count_216 cx_bp_12 ?_
      refine cx_ldC h (tw_A8 H) cx_cl_12 cx_vin_12_665 dX10_count_218 (fun v20 h => ?_)
      exact cx_iret h rfl rfl (cx_le rfl) (cx_le rfl) dX10_count_219
    | 15, hB =>
      cases hB
      refine cx_at (pc2 := 220) rfl ?_
      refine cx_aload_n 0 dX10_count_220 rfl ?_
      refine cx_getR (tw_R8 H) q2398 dX10_count_221 ?_
      refine cx_bipush 13 dX10_count_224 cx_bp_13 ?_
      refine cx_ldC h (tw_A8 H) cx_cl_13 cx_vin_13_665 dX10_count_226 (fun v21 h => ?_)
      exact cx_iret h rfl rfl (cx_le rfl) (cx_le rfl) dX10_count_227
    | 16, hB =>
      cases hB
      refine cx_at (pc2 := 228) rfl ?_
      refine cx_aload_n 0 dX10_count_228 rfl ?_
      refine cx_cVi [] [] h (fun rs' h' => tw_samplesKept_m H M1 rs' h') (tw_rc H) dX10_count_229 g_X10_355 hg_X10_355 ⟨cx_le rfl, cx_le rfl⟩ rfl ⟨rfl, rfl⟩ ⟨cx_le rfl, cx_le rfl⟩ rfl (cx_le rfl) (fun M22 v23 h => ?_)
      exact cx_iret h rfl rfl (cx_le rfl) (cx_le rfl) dX10_count_232
    | 17, hB =>
      cases hB
      refine cx_at (pc2 := 233) rfl ?_
      refine cx_aload_n 0 dX10_count_233 rfl ?_
      refine cx_getI h (tw_F31 H) q2421 dX10_count_234 (fun v24 h => ?_)
      exact cx_iret h rfl rfl (cx_le rfl) (cx_le rfl) dX10_count_237
    | 18, hB =>
      cases hB
      refine cx_at (pc2 := 238) rfl ?_
      refine cx_aload_n 0 dX10_count_238 rfl ?_
      refine cx_getI h (tw_F32 H) q2422 dX10_count_239 (fun v25 h => ?_)
      exact cx_iret h rfl rfl (cx_le rfl) (cx_le rfl) dX10_count_242
    | 19, hB =>
      cases hB
      refine cx_at (pc2 := 243) rfl ?_
      refine cx_aload_n 0 dX10_count_243 rfl ?_
      refine cx_getI h (tw_F12 H) q2402 dX10_count_244 (fun v26 h => ?_)
      exact cx_iret h rfl rfl (cx_le rfl) (cx_le rfl) dX10_count_247
    | 20, hB =>
      cases hB
      refine cx_at (pc2 := 248) rfl ?_
      exact tw_count_248_v H M1 x1 _ h
    | 21, hB =>
      cases hB
      refine cx_at (pc2 := 248) rfl ?_
      exact tw_count_248_v H M1 x1 _ h
    | 22, hB =>
      cases hB
      refine cx_at (pc2 := 248) rfl ?_
      exact tw_count_248_v H M1 x1 _ h
    | j + 23, hB => cases hB
noncomputable def tw_count (N : Nat) (M : cx_M) (x1 : Int32) : Option cx_R := tw_count_0 N M x1
theorem tw_count_m {l : Launch} {g : cx_G} {adr : Nat → Nat} {N : Nat} (H : tw_H g adr) (M : cx_M) (x1 : Int32) (rs : cx_R) (h : tw_count N M x1 = some rs) : cx_Met l (g) yX10_count cX10_count sX10_count [.ref (adr 60), .int x1] M rs :=
  cx_met (by decide +kernel) rfl rfl (lv := [(0, .ref (adr 60)), (1, .int x1)]) rfl (cx_le rfl) (fun X => cx_sub (lv' := [(0, .ref (adr 60)), (1, .int x1)]) [0, 1] rfl (tw_count_0_v H M x1 rs h))

abbrev sX10_drawOf : cx_S := (2, RX10, cx_rI, { frames := 0, cells := 0, slots := 0, locals := 0 }, some .int, false)
noncomputable def tw_drawOf_0 (N : Nat) (M : cx_M) (x1 : Int32) : Option cx_R :=
  cx_get M 60 43 fun v1 =>
  cx_put M 60 43 ((v1 * 1103515245) + 12345) fun M2 =>
  cx_get M2 60 43 fun v3 =>
  cx_nz x1 <|
  some (M2, cx_rem ((v3 >>> (16 &&& 31)) &&& 32767) x1, 0)
set_option maxRecDepth 100000 in
theorem tw_drawOf_0_v {l : Launch} {g : cx_G} {adr : Nat → Nat} {X : cx_X} {N : Nat} (H : tw_H g adr) (M : cx_M) (x1 : Int32) (rs : cx_R) (h : tw_drawOf_0 N M x1 = some rs) : cx_V l (g) X sX10_drawOf cX10_drawOf 0 [(0, .ref (adr 60)), (1, .int x1)] [] M 0 0 rs := by
  unfold tw_drawOf_0 at h
  refine cx_aload_n 0 dX10_drawOf_0 rfl ?_
  refine cx_aload_n 0 dX10_drawOf_1 rfl ?_
  refine cx_getI h (tw_F43 H) q2433 dX10_drawOf_2 (fun v1 h => ?_)
  refine cx_ldcw 1103515245 dX10_drawOf_5 q2940 ?_
  refine cx_imul dX10_drawOf_8 ?_
  refine cx_sipush 12345 dX10_drawOf_9 cx_sp_12345 ?_
  refine cx_iadd dX10_drawOf_12 ?_
  refine cx_putI h (tw_F43 H) rfl rfl rfl q2433 dX10_drawOf_13 (fun M2 h => ?_)
  refine cx_aload_n 0 dX10_drawOf_16 rfl ?_
  refine cx_getI h (tw_F43 H) q2433 dX10_drawOf_17 (fun v3 h => ?_)
  refine cx_bipush 16 dX10_drawOf_20 cx_bp_16 ?_
  refine cx_ishr dX10_drawOf_22 ?_
  refine cx_sipush 32767 dX10_drawOf_23 cx_sp_32767 ?_
  refine cx_iand dX10_drawOf_26 ?_
  refine cx_iload_n 1 dX10_drawOf_27 rfl ?_
  refine cx_irem h dX10_drawOf_28 (fun h => ?_)
  exact cx_iret h rfl rfl (cx_le rfl) (cx_le rfl) dX10_drawOf_29
noncomputable def tw_drawOf (N : Nat) (M : cx_M) (x1 : Int32) : Option cx_R := tw_drawOf_0 N M x1
theorem tw_drawOf_m {l : Launch} {g : cx_G} {adr : Nat → Nat} {N : Nat} (H : tw_H g adr) (M : cx_M) (x1 : Int32) (rs : cx_R) (h : tw_drawOf N M x1 = some rs) : cx_Met l (g) yX10_drawOf cX10_drawOf sX10_drawOf [.ref (adr 60), .int x1] M rs :=
  cx_met (by decide +kernel) rfl rfl (lv := [(0, .ref (adr 60)), (1, .int x1)]) rfl (cx_le rfl) (fun X => cx_sub (lv' := [(0, .ref (adr 60)), (1, .int x1)]) [0, 1] rfl (tw_drawOf_0_v H M x1 rs h))

abbrev sX10_farOff : cx_S := (4, RX10, cx_rI, { frames := 7, cells := 0, slots := 0, locals := 153 }, some .int, false)
noncomputable def tw_farOff_44 (N : Nat) (r_4 : cx_M → Int32 → Int32 → Int32 → Option cx_R) (M : cx_M) (x1 : Int32) (x2 : Int32) (x3 : Int32) : Option cx_R :=
  cx_let (x3 + 1) fun v1 =>
  r_4 M x1 x2 v1
set_option maxRecDepth 100000 in
theorem tw_farOff_44_v {l : Launch} {g : cx_G} {adr : Nat → Nat} {X : cx_X} {N : Nat} {r_4 : cx_M → Int32 → Int32 → Int32 → Option cx_R} (H : tw_H g adr) (hr_4 : ∀ (M : cx_M) (x1 : Int32) (x2 : Int32) (x3 : Int32) (rs : cx_R), r_4 M x1 x2 x3 = some rs → cx_V l (g) X sX10_farOff cX10_farOff 4 [(0, .ref (adr 60)), (1, .int x1), (2, .int x2), (3, .int x3)] [] M 0 0 rs) (M : cx_M) (x1 : Int32) (x2 : Int32) (x3 : Int32) (rs : cx_R) (h : tw_farOff_44 N r_4 M x1 x2 x3 = some rs) : cx_V l (g) X sX10_farOff cX10_farOff 44 [(0, .ref (adr 60)), (1, .int x1), (2, .int x2), (3, .int x3)] [] M 0 0 rs := by
  unfold tw_farOff_44 at h
  refine cx_iinc 3 1 (fun v1 => [(3, .int v1), (0, .ref (adr 60)), (1, .int x1), (2, .int x2)]) h dX10_farOff_44 rfl cx_ic_1 (cx_lt rfl) (fun _ => rfl) (fun v1 h => ?_)
  refine cx_goto 4 dX10_farOff_47 rfl ?_
  refine cx_sub (lv' := [(0, .ref (adr 60)), (1, .int x1), (2, .int x2), (3, .int v1)]) [1, 2, 3, 0] rfl ?_
  exact hr_4 M x1 x2 v1 _ h
noncomputable def tw_farOff_4b (N : Nat) (r_4 : cx_M → Int32 → Int32 → Int32 → Option cx_R) (M : cx_M) (x1 : Int32) (x2 : Int32) (x3 : Int32) : Option cx_R :=
  if x1 ≤ x3 then (
    cx_cal (tw_back N M x2) fun M1 v2 =>
    some (M1, v2, 0))
  else (
    cx_cal (tw_aStep N M) fun M3 _ =>
    cx_get M3 8 8 fun v4 =>
    if v4 = 2 then (
      cx_cal (tw_levelNow N M3) fun M5 v6 =>
      cx_get M5 8 29 fun v7 =>
      cx_let (cx_max x2 (cx_abs (v6 - v7))) fun v8 =>
      tw_farOff_44 N r_4 M5 x1 v8 x3)
    else (
      tw_farOff_44 N r_4 M3 x1 x2 x3))
set_option maxRecDepth 100000 in
theorem tw_farOff_4b_v {l : Launch} {g : cx_G} {adr : Nat → Nat} {X : cx_X} {N : Nat} {r_4 : cx_M → Int32 → Int32 → Int32 → Option cx_R} (H : tw_H g adr) (hr_4 : ∀ (M : cx_M) (x1 : Int32) (x2 : Int32) (x3 : Int32) (rs : cx_R), r_4 M x1 x2 x3 = some rs → cx_V l (g) X sX10_farOff cX10_farOff 4 [(0, .ref (adr 60)), (1, .int x1), (2, .int x2), (3, .int x3)] [] M 0 0 rs) (M : cx_M) (x1 : Int32) (x2 : Int32) (x3 : Int32) (rs : cx_R) (h : tw_farOff_4b N r_4 M x1 x2 x3 = some rs) : cx_V l (g) X sX10_farOff cX10_farOff 4 [(0, .ref (adr 60)), (1, .int x1), (2, .int x2), (3, .int x3)] [] M 0 0 rs := by
  unfold tw_farOff_4b at h
  refine cx_iload_n 3 dX10_farOff_4 rfl ?_
  refine cx_iload_n 1 dX10_farOff_5 rfl ?_
  refine cx_icmp_ge 50 h dX10_farOff_6 rfl (fun h => ?_) (fun h => ?_)
  · refine cx_aload_n 0 dX10_farOff_50 rfl ?_
    refine cx_iload_n 2 dX10_farOff_51 rfl ?_
    refine cx_cVi [.int x2] [] h (fun rs' h' => tw_back_m H M x2 rs' h') (tw_rc H) dX10_farOff_52 g_X10_405 hg_X10_405 ⟨cx_le rfl, cx_le rfl⟩ rfl ⟨rfl, rfl⟩ ⟨cx_le rfl, cx_le rfl⟩ rfl (cx_le rfl) (fun M1 v2 h => ?_)
    exact cx_iret h rfl rfl (cx_le rfl) (cx_le rfl) dX10_farOff_55
  · refine cx_aload_n 0 dX10_farOff_9 rfl ?_
    refine cx_cVv [] [] h (fun rs' h' => tw_aStep_m H M rs' h') (tw_rc H) dX10_farOff_10 g_X10_349 hg_X10_349 ⟨cx_le rfl, cx_le rfl⟩ rfl ⟨rfl, rfl⟩ ⟨cx_le rfl, cx_le rfl⟩ rfl (cx_le rfl) (fun M3 _ h => ?_)
    refine cx_aload_n 0 dX10_farOff_13 rfl ?_
    refine cx_getR (tw_R8 H) q2398 dX10_farOff_14 ?_
    refine cx_bipush 8 dX10_farOff_17 cx_bp_8 ?_
    refine cx_ldC h (tw_A8 H) cx_cl_8 cx_vin_8_665 dX10_farOff_19 (fun v4 h => ?_)
    refine cx_iconst 2 dX10_farOff_20 cx_ic_2 ?_
    refine cx_icmp_ne 44 h dX10_farOff_21 rfl (fun h => ?_) (fun h => ?_)
    · exact tw_farOff_44_v H hr_4 M3 x1 x2 x3 _ h
    · refine cx_iload_n 2 dX10_farOff_24 rfl ?_
      refine cx_aload_n 0 dX10_farOff_25 rfl ?_
      refine cx_cVi [] [.int x2] h (fun rs' h' => tw_levelNow_m H M3 rs' h') (tw_rc H) dX10_farOff_26 g_X10_325 hg_X10_325 ⟨cx_le rfl, cx_le rfl⟩ rfl ⟨rfl, rfl⟩ ⟨cx_le rfl, cx_le rfl⟩ rfl (cx_le rfl) (fun M5 v6 h => ?_)
      refine cx_aload_n 0 dX10_farOff_29 rfl ?_
      refine cx_getR (tw_R8 H) q2398 dX10_farOff_30 ?_
      refine cx_bipush 29 dX10_farOff_33 cx_bp_29 ?_
      refine cx_ldC h (tw_A8 H) cx_cl_29 cx_vin_29_665 dX10_farOff_35 (fun v7 h => ?_)
      refine cx_isub dX10_farOff_36 ?_
      refine cx_mabs dX10_farOff_37 q2880 (cx_le rfl) (cx_le rfl) (cx_le rfl) (cx_le rfl) ?_
      refine cx_mmax dX10_farOff_40 q2694 (cx_le rfl) (cx_le rfl) (cx_le rfl) (cx_le rfl) ?_
      refine cx_letI h (fun v8 h => ?_)
      refine cx_istore_n [(2, .int v8), (0, .ref (adr 60)), (1, .int x1), (3, .int x3)] dX10_farOff_43 (cx_lt rfl) rfl ?_
      refine cx_sub (lv' := [(0, .ref (adr 60)), (1, .int x1), (2, .int v8), (3, .int x3)]) [1, 2, 0, 3] rfl ?_
      exact tw_farOff_44_v H hr_4 M5 x1 v8 x3 _ h
noncomputable def tw_farOff_4 (N : Nat) : Nat → cx_M → Int32 → Int32 → Int32 → Option cx_R :=
  cx_fix (fun _ _ _ _ => none) (fun r_4 => tw_farOff_4b N r_4)
theorem tw_farOff_4_v {l : Launch} {g : cx_G} {adr : Nat → Nat} {X : cx_X} {N : Nat} (H : tw_H g adr) : ∀ (n : Nat) (M : cx_M) (x1 : Int32) (x2 : Int32) (x3 : Int32) (rs : cx_R), tw_farOff_4 N n M x1 x2 x3 = some rs → cx_V l (g) X sX10_farOff cX10_farOff 4 [(0, .ref (adr 60)), (1, .int x1), (2, .int x2), (3, .int x3)] [] M 0 0 rs :=
  cx_fixI (fun (r : cx_M → Int32 → Int32 → Int32 → Option cx_R) => ∀ (M : cx_M) (x1 : Int32) (x2 : Int32) (x3 : Int32) (rs : cx_R), r M x1 x2 x3 = some rs → cx_V l (g) X sX10_farOff cX10_farOff 4 [(0, .ref (adr 60)), (1, .int x1), (2, .int x2), (3, .int x3)] [] M 0 0 rs) (fun _ _ _ _ _ h => by cases h) (fun r hr M x1 x2 x3 rs h => tw_farOff_4b_v H hr M x1 x2 x3 rs h)
noncomputable def tw_farOff_0 (N : Nat) (M : cx_M) (x1 : Int32) : Option cx_R :=
  tw_farOff_4 N N M x1 (-1) 0
set_option maxRecDepth 100000 in
theorem tw_farOff_0_v {l : Launch} {g : cx_G} {adr : Nat → Nat} {X : cx_X} {N : Nat} (H : tw_H g adr) (M : cx_M) (x1 : Int32) (rs : cx_R) (h : tw_farOff_0 N M x1 = some rs) : cx_V l (g) X sX10_farOff cX10_farOff 0 [(0, .ref (adr 60)), (1, .int x1)] [] M 0 0 rs := by
  unfold tw_farOff_0 at h
  refine cx_iconst (-1) dX10_farOff_0 cx_ic_m1 ?_
  refine cx_istore_n [(2, .int (-1)), (0, .ref (adr 60)), (1, .int x1)] dX10_farOff_1 (cx_lt rfl) rfl ?_
  refine cx_iconst 0 dX10_farOff_2 cx_ic_0 ?_
  refine cx_istore_n [(3, .int 0), (2, .int (-1)), (0, .ref (adr 60)), (1, .int x1)] dX10_farOff_3 (cx_lt rfl) rfl ?_
  refine cx_sub (lv' := [(0, .ref (adr 60)), (1, .int x1), (2, .int (-1)), (3, .int 0)]) [2, 3, 1, 0] rfl ?_
  exact tw_farOff_4_v H N M x1 (-1) 0 _ h
noncomputable def tw_farOff (N : Nat) (M : cx_M) (x1 : Int32) : Option cx_R := tw_farOff_0 N M x1
theorem tw_farOff_m {l : Launch} {g : cx_G} {adr : Nat → Nat} {N : Nat} (H : tw_H g adr) (M : cx_M) (x1 : Int32) (rs : cx_R) (h : tw_farOff N M x1 = some rs) : cx_Met l (g) yX10_farOff cX10_farOff sX10_farOff [.ref (adr 60), .int x1] M rs :=
  cx_met (by decide +kernel) rfl rfl (lv := [(0, .ref (adr 60)), (1, .int x1)]) rfl (cx_le rfl) (fun X => cx_sub (lv' := [(0, .ref (adr 60)), (1, .int x1)]) [0, 1] rfl (tw_farOff_0_v H M x1 rs h))

abbrev sX10_fault : cx_S := (1, RX10, cx_rI, { frames := 3, cells := 0, slots := 0, locals := 62 }, some .int, false)
noncomputable def tw_fault_0 (N : Nat) (M : cx_M) : Option cx_R :=
  cx_cal (tw_ready N M) fun M1 _ =>
  cx_get M1 60 21 fun v2 =>
  some (M1, v2, 0)
set_option maxRecDepth 100000 in
theorem tw_fault_0_v {l : Launch} {g : cx_G} {adr : Nat → Nat} {X : cx_X} {N : Nat} (H : tw_H g adr) (M : cx_M) (rs : cx_R) (h : tw_fault_0 N M = some rs) : cx_V l (g) X sX10_fault cX10_fault 0 [(0, .ref (adr 60))] [] M 0 0 rs := by
  unfold tw_fault_0 at h
  refine cx_aload_n 0 dX10_fault_0 rfl ?_
  refine cx_cVv [] [] h (fun rs' h' => tw_ready_m H M rs' h') (tw_rc H) dX10_fault_1 g_X10_247 hg_X10_247 ⟨cx_le rfl, cx_le rfl⟩ rfl ⟨rfl, rfl⟩ ⟨cx_le rfl, cx_le rfl⟩ rfl (cx_le rfl) (fun M1 _ h => ?_)
  refine cx_aload_n 0 dX10_fault_4 rfl ?_
  refine cx_getI h (tw_F21 H) q2411 dX10_fault_5 (fun v2 h => ?_)
  exact cx_iret h rfl rfl (cx_le rfl) (cx_le rfl) dX10_fault_8
noncomputable def tw_fault (N : Nat) (M : cx_M) : Option cx_R := tw_fault_0 N M
theorem tw_fault_m {l : Launch} {g : cx_G} {adr : Nat → Nat} {N : Nat} (H : tw_H g adr) (M : cx_M) (rs : cx_R) (h : tw_fault N M = some rs) : cx_Met l (g) yX10_fault cX10_fault sX10_fault [.ref (adr 60)] M rs :=
  cx_met (by decide +kernel) rfl rfl (lv := [(0, .ref (adr 60))]) rfl (cx_le rfl) (fun X => cx_sub (lv' := [(0, .ref (adr 60))]) [0] rfl (tw_fault_0_v H M rs h))

abbrev sX10_feed : cx_S := (8, RX10, cx_rI, { frames := 0, cells := 0, slots := 0, locals := 0 }, some .int, false)
noncomputable def tw_feed_76 (N : Nat) (r_23 : cx_M → Int32 → Int32 → Int32 → Int32 → Int32 → Int32 → Option cx_R) (M : cx_M) (x1 : Int32) (x2 : Int32) (x3 : Int32) (x4 : Int32) (x5 : Int32) (x6 : Int32) (z0 : Int32) : Option cx_R :=
  cx_get M 60 12 fun v1 =>
  cx_st M 11 700 v1 ((z0 >>> (((24 : Int32) - ((8 : Int32) * (cx_rem x6 4))) &&& 31)) &&& 255) fun M2 =>
  cx_get M2 60 12 fun v3 =>
  cx_put M2 60 12 (v3 + 1) fun M4 =>
  cx_let (x6 + 1) fun v5 =>
  r_23 M4 x1 x2 x3 x4 x5 v5
set_option maxRecDepth 100000 in
theorem tw_feed_76_v {l : Launch} {g : cx_G} {adr : Nat → Nat} {X : cx_X} {N : Nat} {r_23 : cx_M → Int32 → Int32 → Int32 → Int32 → Int32 → Int32 → Option cx_R} (H : tw_H g adr) (hr_23 : ∀ (M : cx_M) (x1 : Int32) (x2 : Int32) (x3 : Int32) (x4 : Int32) (x5 : Int32) (x6 : Int32) (rs : cx_R), r_23 M x1 x2 x3 x4 x5 x6 = some rs → cx_V l (g) X sX10_feed cX10_feed 23 [(0, .ref (adr 60)), (1, .int x1), (2, .int x2), (3, .int x3), (4, .int x4), (5, .int x5), (6, .int x6)] [] M 0 0 rs) (M : cx_M) (x1 : Int32) (x2 : Int32) (x3 : Int32) (x4 : Int32) (x5 : Int32) (x6 : Int32) (z0 : Int32) (rs : cx_R) (h : tw_feed_76 N r_23 M x1 x2 x3 x4 x5 x6 z0 = some rs) : cx_V l (g) X sX10_feed cX10_feed 76 [(0, .ref (adr 60)), (1, .int x1), (2, .int x2), (3, .int x3), (4, .int x4), (5, .int x5), (6, .int x6)] [.int z0] M 0 0 rs := by
  unfold tw_feed_76 at h
  refine cx_istore [(7, .int z0), (0, .ref (adr 60)), (1, .int x1), (2, .int x2), (3, .int x3), (4, .int x4), (5, .int x5), (6, .int x6)] dX10_feed_76 (cx_lt rfl) rfl ?_
  refine cx_aload_n 1 dX10_feed_78 rfl ?_
  refine cx_getR (tw_R11 H) q2401 dX10_feed_79 ?_
  refine cx_aload_n 1 dX10_feed_82 rfl ?_
  refine cx_getI h (tw_F12 H) q2402 dX10_feed_83 (fun v1 h => ?_)
  refine cx_iload 0 dX10_feed_86 rfl ?_
  refine cx_bipush 24 dX10_feed_88 cx_bp_24 ?_
  refine cx_bipush 8 dX10_feed_90 cx_bp_8 ?_
  refine cx_iload 7 dX10_feed_92 rfl ?_
  refine cx_iconst 4 dX10_feed_94 cx_ic_4 ?_
  refine cx_iremC cx_ne_4 dX10_feed_95 ?_
  refine cx_imul dX10_feed_96 ?_
  refine cx_isub dX10_feed_97 ?_
  refine cx_ishr dX10_feed_98 ?_
  refine cx_sipush 255 dX10_feed_99 cx_sp_255 ?_
  refine cx_iand dX10_feed_102 ?_
  refine cx_stI h (tw_A11 H) dX10_feed_103 (fun M2 h => ?_)
  refine cx_aload_n 1 dX10_feed_104 rfl ?_
  refine cx_dup dX10_feed_105 rfl ?_
  refine cx_getI h (tw_F12 H) q2402 dX10_feed_106 (fun v3 h => ?_)
  refine cx_iconst 1 dX10_feed_109 cx_ic_1 ?_
  refine cx_iadd dX10_feed_110 ?_
  refine cx_putI h (tw_F12 H) rfl rfl rfl q2402 dX10_feed_111 (fun M4 h => ?_)
  refine cx_iinc 7 1 (fun v5 => [(6, .int v5), (7, .int z0), (0, .ref (adr 60)), (1, .int x1), (2, .int x2), (3, .int x3), (4, .int x4), (5, .int x5)]) h dX10_feed_114 rfl cx_ic_1 (cx_lt rfl) (fun _ => rfl) (fun v5 h => ?_)
  refine cx_goto 23 dX10_feed_117 rfl ?_
  refine cx_sub (lv' := [(0, .ref (adr 60)), (1, .int x1), (2, .int x2), (3, .int x3), (4, .int x4), (5, .int x5), (6, .int v5)]) [2, 3, 4, 5, 6, 7, 0] rfl ?_
  exact hr_23 M4 x1 x2 x3 x4 x5 v5 _ h
noncomputable def tw_feed_23b (N : Nat) (r_23 : cx_M → Int32 → Int32 → Int32 → Int32 → Int32 → Int32 → Option cx_R) (M : cx_M) (x1 : Int32) (x2 : Int32) (x3 : Int32) (x4 : Int32) (x5 : Int32) (x6 : Int32) : Option cx_R :=
  if 20 ≤ x6 then (
    cx_get M 60 12 fun v1 =>
    some (M, v1, 0))
  else (
    if 4 ≤ x6 then (
      if 8 ≤ x6 then (
        if 12 ≤ x6 then (
          if 16 ≤ x6 then (
            tw_feed_76 N r_23 M x1 x2 x3 x4 x5 x6 x5)
          else (
            tw_feed_76 N r_23 M x1 x2 x3 x4 x5 x6 x4))
        else (
          tw_feed_76 N r_23 M x1 x2 x3 x4 x5 x6 x3))
      else (
        tw_feed_76 N r_23 M x1 x2 x3 x4 x5 x6 x2))
    else (
      tw_feed_76 N r_23 M x1 x2 x3 x4 x5 x6 x1))
set_option maxRecDepth 100000 in
theorem tw_feed_23b_v {l : Launch} {g : cx_G} {adr : Nat → Nat} {X : cx_X} {N : Nat} {r_23 : cx_M → Int32 → Int32 → Int32 → Int32 → Int32 → Int32 → Option cx_R} (H : tw_H g adr) (hr_23 : ∀ (M : cx_M) (x1 : Int32) (x2 : Int32) (x3 : Int32) (x4 : Int32) (x5 : Int32) (x6 : Int32) (rs : cx_R), r_23 M x1 x2 x3 x4 x5 x6 = some rs → cx_V l (g) X sX10_feed cX10_feed 23 [(0, .ref (adr 60)), (1, .int x1), (2, .int x2), (3, .int x3), (4, .int x4), (5, .int x5), (6, .int x6)] [] M 0 0 rs) (M : cx_M) (x1 : Int32) (x2 : Int32) (x3 : Int32) (x4 : Int32) (x5 : Int32) (x6 : Int32) (rs : cx_R) (h : tw_feed_23b N r_23 M x1 x2 x3 x4 x5 x6 = some rs) : cx_V l (g) X sX10_feed cX10_feed 23 [(0, .ref (adr 60)), (1, .int x1), (2, .int x2), (3, .int x3), (4, .int x4), (5, .int x5), (6, .int x6)] [] M 0 0 rs := by
  unfold tw_feed_23b at h
  refine cx_iload 6 dX10_feed_23 rfl ?_
  refine cx_bipush 20 dX10_feed_25 cx_bp_20 ?_
  refine cx_icmp_ge 120 h dX10_feed_27 rfl (fun h => ?_) (fun h => ?_)
  · refine cx_aload_n 0 dX10_feed_120 rfl ?_
    refine cx_getI h (tw_F12 H) q2402 dX10_feed_121 (fun v1 h => ?_)
    exact cx_iret h rfl rfl (cx_le rfl) (cx_le rfl) dX10_feed_124
  · refine cx_iload 6 dX10_feed_30 rfl ?_
    refine cx_iconst 4 dX10_feed_32 cx_ic_4 ?_
    refine cx_icmp_ge 40 h dX10_feed_33 rfl (fun h => ?_) (fun h => ?_)
    · refine cx_iload 6 dX10_feed_40 rfl ?_
      refine cx_bipush 8 dX10_feed_42 cx_bp_8 ?_
      refine cx_icmp_ge 51 h dX10_feed_44 rfl (fun h => ?_) (fun h => ?_)
      · refine cx_iload 6 dX10_feed_51 rfl ?_
        refine cx_bipush 12 dX10_feed_53 cx_bp_12 ?_
        refine cx_icmp_ge 62 h dX10_feed_55 rfl (fun h => ?_) (fun h => ?_)
        · refine cx_iload 6 dX10_feed_62 rfl ?_
          refine cx_bipush 16 dX10_feed_64 cx_bp_16 ?_
          refine cx_icmp_ge 74 h dX10_feed_66 rfl (fun h => ?_) (fun h => ?_)
          · refine cx_iload 5 dX10_feed_74 rfl ?_
            exact tw_feed_76_v H hr_23 M x1 x2 x3 x4 x5 x6 x5 _ h
          · refine cx_iload 4 dX10_feed_69 rfl ?_
            refine cx_goto 76 dX10_feed_71 rfl ?_
            exact tw_feed_76_v H hr_23 M x1 x2 x3 x4 x5 x6 x4 _ h
        · refine cx_iload_n 3 dX10_feed_58 rfl ?_
          refine cx_goto 76 dX10_feed_59 rfl ?_
          exact tw_feed_76_v H hr_23 M x1 x2 x3 x4 x5 x6 x3 _ h
      · refine cx_iload_n 2 dX10_feed_47 rfl ?_
        refine cx_goto 76 dX10_feed_48 rfl ?_
        exact tw_feed_76_v H hr_23 M x1 x2 x3 x4 x5 x6 x2 _ h
    · refine cx_iload_n 1 dX10_feed_36 rfl ?_
      refine cx_goto 76 dX10_feed_37 rfl ?_
      exact tw_feed_76_v H hr_23 M x1 x2 x3 x4 x5 x6 x1 _ h
noncomputable def tw_feed_23 (N : Nat) : Nat → cx_M → Int32 → Int32 → Int32 → Int32 → Int32 → Int32 → Option cx_R :=
  cx_fix (fun _ _ _ _ _ _ _ => none) (fun r_23 => tw_feed_23b N r_23)
theorem tw_feed_23_v {l : Launch} {g : cx_G} {adr : Nat → Nat} {X : cx_X} {N : Nat} (H : tw_H g adr) : ∀ (n : Nat) (M : cx_M) (x1 : Int32) (x2 : Int32) (x3 : Int32) (x4 : Int32) (x5 : Int32) (x6 : Int32) (rs : cx_R), tw_feed_23 N n M x1 x2 x3 x4 x5 x6 = some rs → cx_V l (g) X sX10_feed cX10_feed 23 [(0, .ref (adr 60)), (1, .int x1), (2, .int x2), (3, .int x3), (4, .int x4), (5, .int x5), (6, .int x6)] [] M 0 0 rs :=
  cx_fixI (fun (r : cx_M → Int32 → Int32 → Int32 → Int32 → Int32 → Int32 → Option cx_R) => ∀ (M : cx_M) (x1 : Int32) (x2 : Int32) (x3 : Int32) (x4 : Int32) (x5 : Int32) (x6 : Int32) (rs : cx_R), r M x1 x2 x3 x4 x5 x6 = some rs → cx_V l (g) X sX10_feed cX10_feed 23 [(0, .ref (adr 60)), (1, .int x1), (2, .int x2), (3, .int x3), (4, .int x4), (5, .int x5), (6, .int x6)] [] M 0 0 rs) (fun _ _ _ _ _ _ _ _ h => by cases h) (fun r hr M x1 x2 x3 x4 x5 x6 rs h => tw_feed_23b_v H hr M x1 x2 x3 x4 x5 x6 rs h)
noncomputable def tw_feed_0 (N : Nat) (M : cx_M) (x1 : Int32) (x2 : Int32) (x3 : Int32) (x4 : Int32) (x5 : Int32) : Option cx_R :=
  cx_put M 60 2 0 fun M1 =>
  cx_get M1 60 12 fun v2 =>
  if (v2 + 20) ≤ 700 then (
    tw_feed_23 N N M1 x1 x2 x3 x4 x5 0)
  else (
    some (M1, (-1), 0))
set_option maxRecDepth 100000 in
theorem tw_feed_0_v {l : Launch} {g : cx_G} {adr : Nat → Nat} {X : cx_X} {N : Nat} (H : tw_H g adr) (M : cx_M) (x1 : Int32) (x2 : Int32) (x3 : Int32) (x4 : Int32) (x5 : Int32) (rs : cx_R) (h : tw_feed_0 N M x1 x2 x3 x4 x5 = some rs) : cx_V l (g) X sX10_feed cX10_feed 0 [(0, .ref (adr 60)), (1, .int x1), (2, .int x2), (3, .int x3), (4, .int x4), (5, .int x5)] [] M 0 0 rs := by
  unfold tw_feed_0 at h
  refine cx_aload_n 0 dX10_feed_0 rfl ?_
  refine cx_iconst 0 dX10_feed_1 cx_ic_0 ?_
  refine cx_putI h (tw_F2 H) rfl rfl rfl q2392 dX10_feed_2 (fun M1 h => ?_)
  refine cx_aload_n 0 dX10_feed_5 rfl ?_
  refine cx_getI h (tw_F12 H) q2402 dX10_feed_6 (fun v2 h => ?_)
  refine cx_bipush 20 dX10_feed_9 cx_bp_20 ?_
  refine cx_iadd dX10_feed_11 ?_
  refine cx_sipush 700 dX10_feed_12 cx_sp_700 ?_
  refine cx_icmp_le 20 h dX10_feed_15 rfl (fun h => ?_) (fun h => ?_)
  · refine cx_iconst 0 dX10_feed_20 cx_ic_0 ?_
    refine cx_istore [(6, .int 0), (0, .ref (adr 60)), (1, .int x1), (2, .int x2), (3, .int x3), (4, .int x4), (5, .int x5)] dX10_feed_21 (cx_lt rfl) rfl ?_
    refine cx_sub (lv' := [(0, .ref (adr 60)), (1, .int x1), (2, .int x2), (3, .int x3), (4, .int x4), (5, .int x5), (6, .int 0)]) [1, 2, 3, 4, 5, 6, 0] rfl ?_
    exact tw_feed_23_v H N M1 x1 x2 x3 x4 x5 0 _ h
  · refine cx_iconst (-1) dX10_feed_18 cx_ic_m1 ?_
    exact cx_iret h rfl rfl (cx_le rfl) (cx_le rfl) dX10_feed_19
noncomputable def tw_feed (N : Nat) (M : cx_M) (x1 : Int32) (x2 : Int32) (x3 : Int32) (x4 : Int32) (x5 : Int32) : Option cx_R := tw_feed_0 N M x1 x2 x3 x4 x5
theorem tw_feed_m {l : Launch} {g : cx_G} {adr : Nat → Nat} {N : Nat} (H : tw_H g adr) (M : cx_M) (x1 : Int32) (x2 : Int32) (x3 : Int32) (x4 : Int32) (x5 : Int32) (rs : cx_R) (h : tw_feed N M x1 x2 x3 x4 x5 = some rs) : cx_Met l (g) yX10_feed cX10_feed sX10_feed [.ref (adr 60), .int x1, .int x2, .int x3, .int x4, .int x5] M rs :=
  cx_met (by decide +kernel) rfl rfl (lv := [(0, .ref (adr 60)), (1, .int x1), (2, .int x2), (3, .int x3), (4, .int x4), (5, .int x5)]) rfl (cx_le rfl) (fun X => cx_sub (lv' := [(0, .ref (adr 60)), (1, .int x1), (2, .int x2), (3, .int x3), (4, .int x4), (5, .int x5)]) [0, 1, 2, 3, 4, 5] rfl (tw_feed_0_v H M x1 x2 x3 x4 x5 rs h))

abbrev sX10_isIn : cx_S := (6, RX10, cx_rI, { frames := 0, cells := 0, slots := 0, locals := 0 }, some .boolean, false)
noncomputable def tw_isIn_0 (N : Nat) (M : cx_M) (x0 : Int64) (x2 : Int64) (x4 : Int64) : Option cx_R :=
  if (lg_cmp x0 x2) < 0 then (
    some (M, 0, 0))
  else (
    if 0 < (lg_cmp x0 x4) then (
      some (M, 0, 0))
    else (
      some (M, 1, 0)))
set_option maxRecDepth 100000 in
theorem tw_isIn_0_v {l : Launch} {g : cx_G} {adr : Nat → Nat} {X : cx_X} {N : Nat} (H : tw_H g adr) (M : cx_M) (x0 : Int64) (x2 : Int64) (x4 : Int64) (rs : cx_R) (h : tw_isIn_0 N M x0 x2 x4 = some rs) : cx_V l (g) X sX10_isIn cX10_isIn 0 [(0, .long x0), (2, .long x2), (4, .long x4)] [] M 0 0 rs := by
  unfold tw_isIn_0 at h
  refine cx_lload_n 0 dX10_isIn_0 rfl ?_
  refine cx_lload_n 1 dX10_isIn_1 rfl ?_
  refine cx_lcmp dX10_isIn_2 ?_
  refine cx_if_lt 17 h dX10_isIn_3 rfl (fun h => ?_) (fun h => ?_)
  · refine cx_iconst 0 dX10_isIn_17 cx_ic_0 ?_
    exact cx_zret h cx_z_0 rfl rfl (cx_le rfl) (cx_le rfl) dX10_isIn_18
  · refine cx_lload_n 0 dX10_isIn_6 rfl ?_
    refine cx_lload 2 dX10_isIn_7 rfl ?_
    refine cx_lcmp dX10_isIn_9 ?_
    refine cx_if_gt 17 h dX10_isIn_10 rfl (fun h => ?_) (fun h => ?_)
    · refine cx_iconst 0 dX10_isIn_17 cx_ic_0 ?_
      exact cx_zret h cx_z_0 rfl rfl (cx_le rfl) (cx_le rfl) dX10_isIn_18
    · refine cx_iconst 1 dX10_isIn_13 cx_ic_1 ?_
      refine cx_goto 18 dX10_isIn_14 rfl ?_
      exact cx_zret h cx_z_1 rfl rfl (cx_le rfl) (cx_le rfl) dX10_isIn_18
noncomputable def tw_isIn (N : Nat) (M : cx_M) (x0 : Int64) (x2 : Int64) (x4 : Int64) : Option cx_R := tw_isIn_0 N M x0 x2 x4
theorem tw_isIn_m {l : Launch} {g : cx_G} {adr : Nat → Nat} {N : Nat} (H : tw_H g adr) (M : cx_M) (x0 : Int64) (x2 : Int64) (x4 : Int64) (rs : cx_R) (h : tw_isIn N M x0 x2 x4 = some rs) : cx_Met l (g) yX10_isIn cX10_isIn sX10_isIn [.long x0, .long x2, .long x4] M rs :=
  cx_met (by decide +kernel) rfl rfl (lv := [(0, .long x0), (2, .long x2), (4, .long x4)]) rfl (cx_le rfl) (fun X => cx_sub (lv' := [(0, .long x0), (2, .long x2), (4, .long x4)]) [0, 1, 2] rfl (tw_isIn_0_v H M x0 x2 x4 rs h))

abbrev sX10_flying : cx_S := (3, RX10, cx_rI, { frames := 3, cells := 0, slots := 0, locals := 62 }, some .int, false)
noncomputable def tw_flying_51 (N : Nat) (M : cx_M) : Option cx_R :=
  cx_cal (tw_fail N M 1) fun M1 v2 =>
  some (M1, v2, 0)
set_option maxRecDepth 100000 in
theorem tw_flying_51_v {l : Launch} {g : cx_G} {adr : Nat → Nat} {X : cx_X} {N : Nat} (H : tw_H g adr) (M : cx_M) (rs : cx_R) (h : tw_flying_51 N M = some rs) : cx_V l (g) X sX10_flying cX10_flying 51 [(0, .ref (adr 60))] [] M 0 0 rs := by
  unfold tw_flying_51 at h
  refine cx_aload_n 0 dX10_flying_51 rfl ?_
  refine cx_iconst 1 dX10_flying_52 cx_ic_1 ?_
  refine cx_cVi [.int 1] [] h (fun rs' h' => tw_fail_m H M 1 rs' h') (tw_rc H) dX10_flying_53 g_X10_250 hg_X10_250 ⟨cx_le rfl, cx_le rfl⟩ rfl ⟨rfl, rfl⟩ ⟨cx_le rfl, cx_le rfl⟩ rfl (cx_le rfl) (fun M1 v2 h => ?_)
  exact cx_iret h rfl rfl (cx_le rfl) (cx_le rfl) dX10_flying_56
noncomputable def tw_flying_0 (N : Nat) (M : cx_M) (x1 : Int32) (x2 : Int32) : Option cx_R :=
  cx_cal (tw_ready N M) fun M1 _ =>
  cx_get M1 8 31 fun v2 =>
  cx_cal (tw_isIn N M1 (Int32.toInt64 x1) 0 (Int32.toInt64 (v2 - 1))) fun M3 v4 =>
  if v4 = 0 then (
    tw_flying_51 N M3)
  else (
    cx_cal (tw_isIn N M3 (Int32.toInt64 x2) 0 2) fun M5 v6 =>
    if v6 = 0 then (
      tw_flying_51 N M5)
    else (
      cx_ld M5 8 665 (((33 : Int32) + ((3 : Int32) * x1)) + x2) fun v7 =>
      some (M5, v7, 0)))
set_option maxRecDepth 100000 in
theorem tw_flying_0_v {l : Launch} {g : cx_G} {adr : Nat → Nat} {X : cx_X} {N : Nat} (H : tw_H g adr) (M : cx_M) (x1 : Int32) (x2 : Int32) (rs : cx_R) (h : tw_flying_0 N M x1 x2 = some rs) : cx_V l (g) X sX10_flying cX10_flying 0 [(0, .ref (adr 60)), (1, .int x1), (2, .int x2)] [] M 0 0 rs := by
  unfold tw_flying_0 at h
  refine cx_aload_n 0 dX10_flying_0 rfl ?_
  refine cx_cVv [] [] h (fun rs' h' => tw_ready_m H M rs' h') (tw_rc H) dX10_flying_1 g_X10_247 hg_X10_247 ⟨cx_le rfl, cx_le rfl⟩ rfl ⟨rfl, rfl⟩ ⟨cx_le rfl, cx_le rfl⟩ rfl (cx_le rfl) (fun M1 _ h => ?_)
  refine cx_iload_n 1 dX10_flying_4 rfl ?_
  refine cx_i2l dX10_flying_5 ?_
  refine cx_lconst 0 dX10_flying_6 cx_lc_0 ?_
  refine cx_aload_n 0 dX10_flying_7 rfl ?_
  refine cx_getR (tw_R8 H) q2398 dX10_flying_8 ?_
  refine cx_bipush 31 dX10_flying_11 cx_bp_31 ?_
  refine cx_ldC h (tw_A8 H) cx_cl_31 cx_vin_31_665 dX10_flying_13 (fun v2 h => ?_)
  refine cx_iconst 1 dX10_flying_14 cx_ic_1 ?_
  refine cx_isub dX10_flying_15 ?_
  refine cx_i2l dX10_flying_16 ?_
  refine cx_cSi [.long (Int32.toInt64 x1), .long 0, .long (Int32.toInt64 (v2 - 1))] [] h (fun rs' h' => tw_isIn_m H M1 (Int32.toInt64 x1) 0 (Int32.toInt64 (v2 - 1)) rs' h') dX10_flying_17 g_X10_358 hg_X10_358 ⟨cx_le rfl, cx_le rfl⟩ rfl ⟨rfl, rfl⟩ ⟨cx_le rfl, cx_le rfl⟩ rfl (cx_le rfl) (fun M3 v4 h => ?_)
  refine cx_if_eq 51 h dX10_flying_20 rfl (fun h => ?_) (fun h => ?_)
  · refine cx_sub (lv' := [(0, .ref (adr 60))]) [0] rfl ?_
    exact tw_flying_51_v H M3 _ h
  · refine cx_iload_n 2 dX10_flying_23 rfl ?_
    refine cx_i2l dX10_flying_24 ?_
    refine cx_lconst 0 dX10_flying_25 cx_lc_0 ?_
    refine cx_ldc2 2 dX10_flying_26 q2714 ?_
    refine cx_cSi [.long (Int32.toInt64 x2), .long 0, .long 2] [] h (fun rs' h' => tw_isIn_m H M3 (Int32.toInt64 x2) 0 2 rs' h') dX10_flying_29 g_X10_358 hg_X10_358 ⟨cx_le rfl, cx_le rfl⟩ rfl ⟨rfl, rfl⟩ ⟨cx_le rfl, cx_le rfl⟩ rfl (cx_le rfl) (fun M5 v6 h => ?_)
    refine cx_if_eq 51 h dX10_flying_32 rfl (fun h => ?_) (fun h => ?_)
    · refine cx_sub (lv' := [(0, .ref (adr 60))]) [0] rfl ?_
      exact tw_flying_51_v H M5 _ h
    · refine cx_aload_n 0 dX10_flying_35 rfl ?_
      refine cx_getR (tw_R8 H) q2398 dX10_flying_36 ?_
      refine cx_bipush 33 dX10_flying_39 cx_bp_33 ?_
      refine cx_iconst 3 dX10_flying_41 cx_ic_3 ?_
      refine cx_iload_n 1 dX10_flying_42 rfl ?_
      refine cx_imul dX10_flying_43 ?_
      refine cx_iadd dX10_flying_44 ?_
      refine cx_iload_n 2 dX10_flying_45 rfl ?_
      refine cx_iadd dX10_flying_46 ?_
      refine cx_ldI h (tw_A8 H) dX10_flying_47 (fun v7 h => ?_)
      refine cx_goto 56 dX10_flying_48 rfl ?_
      exact cx_iret h rfl rfl (cx_le rfl) (cx_le rfl) dX10_flying_56
noncomputable def tw_flying (N : Nat) (M : cx_M) (x1 : Int32) (x2 : Int32) : Option cx_R := tw_flying_0 N M x1 x2
theorem tw_flying_m {l : Launch} {g : cx_G} {adr : Nat → Nat} {N : Nat} (H : tw_H g adr) (M : cx_M) (x1 : Int32) (x2 : Int32) (rs : cx_R) (h : tw_flying N M x1 x2 = some rs) : cx_Met l (g) yX10_flying cX10_flying sX10_flying [.ref (adr 60), .int x1, .int x2] M rs :=
  cx_met (by decide +kernel) rfl rfl (lv := [(0, .ref (adr 60)), (1, .int x1), (2, .int x2)]) rfl (cx_le rfl) (fun X => cx_sub (lv' := [(0, .ref (adr 60)), (1, .int x1), (2, .int x2)]) [0, 1, 2] rfl (tw_flying_0_v H M x1 x2 rs h))

abbrev sX10_forget : cx_S := (1, RX10, cx_rV, { frames := 3, cells := 0, slots := 0, locals := 62 }, none, false)
noncomputable def tw_forget_0 (N : Nat) (M : cx_M) : Option cx_R :=
  cx_cal (tw_ready N M) fun M1 _ =>
  cx_put M1 60 32 0 fun M2 =>
  some (M2, 0, 0)
set_option maxRecDepth 100000 in
theorem tw_forget_0_v {l : Launch} {g : cx_G} {adr : Nat → Nat} {X : cx_X} {N : Nat} (H : tw_H g adr) (M : cx_M) (rs : cx_R) (h : tw_forget_0 N M = some rs) : cx_V l (g) X sX10_forget cX10_forget 0 [(0, .ref (adr 60))] [] M 0 0 rs := by
  unfold tw_forget_0 at h
  refine cx_aload_n 0 dX10_forget_0 rfl ?_
  refine cx_cVv [] [] h (fun rs' h' => tw_ready_m H M rs' h') (tw_rc H) dX10_forget_1 g_X10_247 hg_X10_247 ⟨cx_le rfl, cx_le rfl⟩ rfl ⟨rfl, rfl⟩ ⟨cx_le rfl, cx_le rfl⟩ rfl (cx_le rfl) (fun M1 _ h => ?_)
  refine cx_aload_n 0 dX10_forget_4 rfl ?_
  refine cx_iconst 0 dX10_forget_5 cx_ic_0 ?_
  refine cx_putI h (tw_F32 H) rfl rfl rfl q2422 dX10_forget_6 (fun M2 h => ?_)
  exact cx_vret h rfl rfl (cx_le rfl) (cx_le rfl) dX10_forget_9
noncomputable def tw_forget (N : Nat) (M : cx_M) : Option cx_R := tw_forget_0 N M
theorem tw_forget_m {l : Launch} {g : cx_G} {adr : Nat → Nat} {N : Nat} (H : tw_H g adr) (M : cx_M) (rs : cx_R) (h : tw_forget N M = some rs) : cx_Met l (g) yX10_forget cX10_forget sX10_forget [.ref (adr 60)] M rs :=
  cx_met (by decide +kernel) rfl rfl (lv := [(0, .ref (adr 60))]) rfl (cx_le rfl) (fun X => cx_sub (lv' := [(0, .ref (adr 60))]) [0] rfl (tw_forget_0_v H M rs h))

abbrev sX10_goOn : cx_S := (3, RX10, cx_rV, { frames := 7, cells := 0, slots := 0, locals := 153 }, none, false)
noncomputable def tw_goOn_2b (N : Nat) (r_2 : cx_M → Int32 → Int32 → Option cx_R) (M : cx_M) (x1 : Int32) (x2 : Int32) : Option cx_R :=
  if x1 ≤ x2 then (
    some (M, 0, 0))
  else (
    cx_cal (tw_aStep N M) fun M1 _ =>
    cx_let (x2 + 1) fun v2 =>
    r_2 M1 x1 v2)
set_option maxRecDepth 100000 in
theorem tw_goOn_2b_v {l : Launch} {g : cx_G} {adr : Nat → Nat} {X : cx_X} {N : Nat} {r_2 : cx_M → Int32 → Int32 → Option cx_R} (H : tw_H g adr) (hr_2 : ∀ (M : cx_M) (x1 : Int32) (x2 : Int32) (rs : cx_R), r_2 M x1 x2 = some rs → cx_V l (g) X sX10_goOn cX10_goOn 2 [(0, .ref (adr 60)), (1, .int x1), (2, .int x2)] [] M 0 0 rs) (M : cx_M) (x1 : Int32) (x2 : Int32) (rs : cx_R) (h : tw_goOn_2b N r_2 M x1 x2 = some rs) : cx_V l (g) X sX10_goOn cX10_goOn 2 [(0, .ref (adr 60)), (1, .int x1), (2, .int x2)] [] M 0 0 rs := by
  unfold tw_goOn_2b at h
  refine cx_iload_n 2 dX10_goOn_2 rfl ?_
  refine cx_iload_n 1 dX10_goOn_3 rfl ?_
  refine cx_icmp_ge 17 h dX10_goOn_4 rfl (fun h => ?_) (fun h => ?_)
  · exact cx_vret h rfl rfl (cx_le rfl) (cx_le rfl) dX10_goOn_17
  · refine cx_aload_n 0 dX10_goOn_7 rfl ?_
    refine cx_cVv [] [] h (fun rs' h' => tw_aStep_m H M rs' h') (tw_rc H) dX10_goOn_8 g_X10_349 hg_X10_349 ⟨cx_le rfl, cx_le rfl⟩ rfl ⟨rfl, rfl⟩ ⟨cx_le rfl, cx_le rfl⟩ rfl (cx_le rfl) (fun M1 _ h => ?_)
    refine cx_iinc 2 1 (fun v2 => [(2, .int v2), (0, .ref (adr 60)), (1, .int x1)]) h dX10_goOn_11 rfl cx_ic_1 (cx_lt rfl) (fun _ => rfl) (fun v2 h => ?_)
    refine cx_goto 2 dX10_goOn_14 rfl ?_
    refine cx_sub (lv' := [(0, .ref (adr 60)), (1, .int x1), (2, .int v2)]) [1, 2, 0] rfl ?_
    exact hr_2 M1 x1 v2 _ h
noncomputable def tw_goOn_2 (N : Nat) : Nat → cx_M → Int32 → Int32 → Option cx_R :=
  cx_fix (fun _ _ _ => none) (fun r_2 => tw_goOn_2b N r_2)
theorem tw_goOn_2_v {l : Launch} {g : cx_G} {adr : Nat → Nat} {X : cx_X} {N : Nat} (H : tw_H g adr) : ∀ (n : Nat) (M : cx_M) (x1 : Int32) (x2 : Int32) (rs : cx_R), tw_goOn_2 N n M x1 x2 = some rs → cx_V l (g) X sX10_goOn cX10_goOn 2 [(0, .ref (adr 60)), (1, .int x1), (2, .int x2)] [] M 0 0 rs :=
  cx_fixI (fun (r : cx_M → Int32 → Int32 → Option cx_R) => ∀ (M : cx_M) (x1 : Int32) (x2 : Int32) (rs : cx_R), r M x1 x2 = some rs → cx_V l (g) X sX10_goOn cX10_goOn 2 [(0, .ref (adr 60)), (1, .int x1), (2, .int x2)] [] M 0 0 rs) (fun _ _ _ _ h => by cases h) (fun r hr M x1 x2 rs h => tw_goOn_2b_v H hr M x1 x2 rs h)
noncomputable def tw_goOn_0 (N : Nat) (M : cx_M) (x1 : Int32) : Option cx_R :=
  tw_goOn_2 N N M x1 0
set_option maxRecDepth 100000 in
theorem tw_goOn_0_v {l : Launch} {g : cx_G} {adr : Nat → Nat} {X : cx_X} {N : Nat} (H : tw_H g adr) (M : cx_M) (x1 : Int32) (rs : cx_R) (h : tw_goOn_0 N M x1 = some rs) : cx_V l (g) X sX10_goOn cX10_goOn 0 [(0, .ref (adr 60)), (1, .int x1)] [] M 0 0 rs := by
  unfold tw_goOn_0 at h
  refine cx_iconst 0 dX10_goOn_0 cx_ic_0 ?_
  refine cx_istore_n [(2, .int 0), (0, .ref (adr 60)), (1, .int x1)] dX10_goOn_1 (cx_lt rfl) rfl ?_
  refine cx_sub (lv' := [(0, .ref (adr 60)), (1, .int x1), (2, .int 0)]) [1, 2, 0] rfl ?_
  exact tw_goOn_2_v H N M x1 0 _ h
noncomputable def tw_goOn (N : Nat) (M : cx_M) (x1 : Int32) : Option cx_R := tw_goOn_0 N M x1
theorem tw_goOn_m {l : Launch} {g : cx_G} {adr : Nat → Nat} {N : Nat} (H : tw_H g adr) (M : cx_M) (x1 : Int32) (rs : cx_R) (h : tw_goOn N M x1 = some rs) : cx_Met l (g) yX10_goOn cX10_goOn sX10_goOn [.ref (adr 60), .int x1] M rs :=
  cx_met (by decide +kernel) rfl rfl (lv := [(0, .ref (adr 60)), (1, .int x1)]) rfl (cx_le rfl) (fun X => cx_sub (lv' := [(0, .ref (adr 60)), (1, .int x1)]) [0, 1] rfl (tw_goOn_0_v H M x1 rs h))

abbrev sX10_image : cx_S := (1, RX10, cx_rV, { frames := 3, cells := 0, slots := 0, locals := 62 }, none, false)
noncomputable def tw_image_0 (N : Nat) (M : cx_M) : Option cx_R :=
  cx_cal (tw_ready N M) fun M1 _ =>
  cx_put M1 60 44 1 fun M2 =>
  cx_get M2 60 31 fun v3 =>
  cx_put M2 60 45 v3 fun M4 =>
  cx_get M4 60 32 fun v5 =>
  cx_put M4 60 46 v5 fun M6 =>
  cx_cal (tw_copyTo N 47 8 M6) fun M7 _ =>
  cx_cal (tw_copyTo N 48 33 M7) fun M8 _ =>
  cx_cal (tw_copyTo N 49 38 M8) fun M9 _ =>
  cx_cal (tw_copyTo N 50 39 M9) fun M10 _ =>
  cx_cal (tw_copyTo N 51 7 M10) fun M11 _ =>
  some (M11, 0, 0)
set_option maxRecDepth 100000 in
theorem tw_image_0_v {l : Launch} {g : cx_G} {adr : Nat → Nat} {X : cx_X} {N : Nat} (H : tw_H g adr) (M : cx_M) (rs : cx_R) (h : tw_image_0 N M = some rs) : cx_V l (g) X sX10_image cX10_image 0 [(0, .ref (adr 60))] [] M 0 0 rs := by
  unfold tw_image_0 at h
  refine cx_aload_n 0 dX10_image_0 rfl ?_
  refine cx_cVv [] [] h (fun rs' h' => tw_ready_m H M rs' h') (tw_rc H) dX10_image_1 g_X10_247 hg_X10_247 ⟨cx_le rfl, cx_le rfl⟩ rfl ⟨rfl, rfl⟩ ⟨cx_le rfl, cx_le rfl⟩ rfl (cx_le rfl) (fun M1 _ h => ?_)
  refine cx_aload_n 0 dX10_image_4 rfl ?_
  refine cx_iconst 1 dX10_image_5 cx_ic_1 ?_
  refine cx_putI h (tw_F44 H) cx_z_1 cx_f_1 rfl q2434 dX10_image_6 (fun M2 h => ?_)
  refine cx_aload_n 0 dX10_image_9 rfl ?_
  refine cx_aload_n 0 dX10_image_10 rfl ?_
  refine cx_getI h (tw_F31 H) q2421 dX10_image_11 (fun v3 h => ?_)
  refine cx_putI h (tw_F45 H) rfl rfl rfl q2435 dX10_image_14 (fun M4 h => ?_)
  refine cx_aload_n 0 dX10_image_17 rfl ?_
  refine cx_aload_n 0 dX10_image_18 rfl ?_
  refine cx_getI h (tw_F32 H) q2422 dX10_image_19 (fun v5 h => ?_)
  refine cx_putI h (tw_F46 H) rfl rfl rfl q2436 dX10_image_22 (fun M6 h => ?_)
  refine cx_aload_n 0 dX10_image_25 rfl ?_
  refine cx_getR (tw_R47 H) q2437 dX10_image_26 ?_
  refine cx_aload_n 0 dX10_image_29 rfl ?_
  refine cx_getR (tw_R8 H) q2398 dX10_image_30 ?_
  refine cx_cSv [.ref (adr 47), .ref (adr 8)] [] h (fun rs' h' => tw_copyTo_m H (rfl : twIA 47 = true) (rfl : twIA 8 = true) M6 rs' h') dX10_image_33 g_X10_394 hg_X10_394 ⟨cx_le rfl, cx_le rfl⟩ rfl ⟨rfl, rfl⟩ ⟨cx_le rfl, cx_le rfl⟩ rfl (cx_le rfl) (fun M7 _ h => ?_)
  refine cx_aload_n 0 dX10_image_36 rfl ?_
  refine cx_getR (tw_R48 H) q2438 dX10_image_37 ?_
  refine cx_aload_n 0 dX10_image_40 rfl ?_
  refine cx_getR (tw_R33 H) q2423 dX10_image_41 ?_
  refine cx_cSv [.ref (adr 48), .ref (adr 33)] [] h (fun rs' h' => tw_copyTo_m H (rfl : twIA 48 = true) (rfl : twIA 33 = true) M7 rs' h') dX10_image_44 g_X10_394 hg_X10_394 ⟨cx_le rfl, cx_le rfl⟩ rfl ⟨rfl, rfl⟩ ⟨cx_le rfl, cx_le rfl⟩ rfl (cx_le rfl) (fun M8 _ h => ?_)
  refine cx_aload_n 0 dX10_image_47 rfl ?_
  refine cx_getR (tw_R49 H) q2439 dX10_image_48 ?_
  refine cx_aload_n 0 dX10_image_51 rfl ?_
  refine cx_getR (tw_R38 H) q2428 dX10_image_52 ?_
  refine cx_cSv [.ref (adr 49), .ref (adr 38)] [] h (fun rs' h' => tw_copyTo_m H (rfl : twIA 49 = true) (rfl : twIA 38 = true) M8 rs' h') dX10_image_55 g_X10_394 hg_X10_394 ⟨cx_le rfl, cx_le rfl⟩ rfl ⟨rfl, rfl⟩ ⟨cx_le rfl, cx_le rfl⟩ rfl (cx_le rfl) (fun M9 _ h => ?_)
  refine cx_aload_n 0 dX10_image_58 rfl ?_
  refine cx_getR (tw_R50 H) q2440 dX10_image_59 ?_
  refine cx_aload_n 0 dX10_image_62 rfl ?_
  refine cx_getR (tw_R39 H) q2429 dX10_image_63 ?_
  refine cx_cSv [.ref (adr 50), .ref (adr 39)] [] h (fun rs' h' => tw_copyTo_m H (rfl : twIA 50 = true) (rfl : twIA 39 = true) M9 rs' h') dX10_image_66 g_X10_394 hg_X10_394 ⟨cx_le rfl, cx_le rfl⟩ rfl ⟨rfl, rfl⟩ ⟨cx_le rfl, cx_le rfl⟩ rfl (cx_le rfl) (fun M10 _ h => ?_)
  refine cx_aload_n 0 dX10_image_69 rfl ?_
  refine cx_getR (tw_R51 H) q2441 dX10_image_70 ?_
  refine cx_aload_n 0 dX10_image_73 rfl ?_
  refine cx_getR (tw_R7 H) q2397 dX10_image_74 ?_
  refine cx_cSv [.ref (adr 51), .ref (adr 7)] [] h (fun rs' h' => tw_copyTo_m H (rfl : twIA 51 = true) (rfl : twIA 7 = true) M10 rs' h') dX10_image_77 g_X10_394 hg_X10_394 ⟨cx_le rfl, cx_le rfl⟩ rfl ⟨rfl, rfl⟩ ⟨cx_le rfl, cx_le rfl⟩ rfl (cx_le rfl) (fun M11 _ h => ?_)
  exact cx_vret h rfl rfl (cx_le rfl) (cx_le rfl) dX10_image_80
noncomputable def tw_image (N : Nat) (M : cx_M) : Option cx_R := tw_image_0 N M
theorem tw_image_m {l : Launch} {g : cx_G} {adr : Nat → Nat} {N : Nat} (H : tw_H g adr) (M : cx_M) (rs : cx_R) (h : tw_image N M = some rs) : cx_Met l (g) yX10_image cX10_image sX10_image [.ref (adr 60)] M rs :=
  cx_met (by decide +kernel) rfl rfl (lv := [(0, .ref (adr 60))]) rfl (cx_le rfl) (fun X => cx_sub (lv' := [(0, .ref (adr 60))]) [0] rfl (tw_image_0_v H M rs h))

abbrev sX10_is : cx_S := (4, RX10, cx_rI, { frames := 4, cells := 0, slots := 0, locals := 85 }, some .boolean, false)
noncomputable def tw_is_75 (N : Nat) (w : Nat) (r_39 : cx_M → Int32 → Int32 → Option cx_R) (M : cx_M) (x3 : Int32) (z0 : Int32) : Option cx_R :=
  cx_let (x3 + 1) fun v1 =>
  r_39 M z0 v1
set_option maxRecDepth 100000 in
theorem tw_is_75_v {l : Launch} {g : cx_G} {adr : Nat → Nat} {X : cx_X} {N : Nat} {w : Nat} {r_39 : cx_M → Int32 → Int32 → Option cx_R} (H : tw_H g adr) (hw : w < 16) (hr_39 : ∀ (M : cx_M) (x2 : Int32) (x3 : Int32) (rs : cx_R), r_39 M x2 x3 = some rs → cx_V l (g) X sX10_is cX10_is 39 [(0, .ref (adr 60)), (1, .ref (adr (1000000 + w))), (2, .int x2), (3, .int x3)] [] M 0 0 rs) (M : cx_M) (x3 : Int32) (z0 : Int32) (rs : cx_R) (h : tw_is_75 N w r_39 M x3 z0 = some rs) : cx_V l (g) X sX10_is cX10_is 75 [(0, .ref (adr 60)), (1, .ref (adr (1000000 + w))), (3, .int x3)] [.int z0] M 0 0 rs := by
  unfold tw_is_75 at h
  refine cx_istore_n [(2, .int z0), (0, .ref (adr 60)), (1, .ref (adr (1000000 + w))), (3, .int x3)] dX10_is_75 (cx_lt rfl) rfl ?_
  refine cx_iinc 3 1 (fun v1 => [(3, .int v1), (2, .int z0), (0, .ref (adr 60)), (1, .ref (adr (1000000 + w)))]) h dX10_is_76 rfl cx_ic_1 (cx_lt rfl) (fun _ => rfl) (fun v1 h => ?_)
  refine cx_goto 39 dX10_is_79 rfl ?_
  refine cx_sub (lv' := [(0, .ref (adr 60)), (1, .ref (adr (1000000 + w))), (2, .int z0), (3, .int v1)]) [2, 3, 1, 0] rfl ?_
  exact hr_39 M z0 v1 _ h
noncomputable def tw_is_39b (N : Nat) (w : Nat) (r_39 : cx_M → Int32 → Int32 → Option cx_R) (M : cx_M) (x2 : Int32) (x3 : Int32) : Option cx_R :=
  if x2 = 0 then (
    cx_bl x2 (some (M, x2, 0)))
  else (
    cx_cal (jSt_length N (twSn w) (twSf w) M) fun M1 v2 =>
    if v2 ≤ x3 then (
      cx_bl x2 (some (M1, x2, 0)))
    else (
      cx_cal (jSt_charAt N (twSn w) (twSf w) M1 x3) fun M3 v4 =>
      cx_get M3 60 17 fun v5 =>
      cx_ld M3 11 700 (v5 + x3) fun v6 =>
      if v4 = v6 then (
        tw_is_75 N w r_39 M3 x3 1)
      else (
        tw_is_75 N w r_39 M3 x3 0)))
set_option maxRecDepth 100000 in
theorem tw_is_39b_v {l : Launch} {g : cx_G} {adr : Nat → Nat} {X : cx_X} {N : Nat} {w : Nat} {r_39 : cx_M → Int32 → Int32 → Option cx_R} (H : tw_H g adr) (hw : w < 16) (hr_39 : ∀ (M : cx_M) (x2 : Int32) (x3 : Int32) (rs : cx_R), r_39 M x2 x3 = some rs → cx_V l (g) X sX10_is cX10_is 39 [(0, .ref (adr 60)), (1, .ref (adr (1000000 + w))), (2, .int x2), (3, .int x3)] [] M 0 0 rs) (M : cx_M) (x2 : Int32) (x3 : Int32) (rs : cx_R) (h : tw_is_39b N w r_39 M x2 x3 = some rs) : cx_V l (g) X sX10_is cX10_is 39 [(0, .ref (adr 60)), (1, .ref (adr (1000000 + w))), (2, .int x2), (3, .int x3)] [] M 0 0 rs := by
  unfold tw_is_39b at h
  refine cx_iload_n 2 dX10_is_39 rfl ?_
  refine cx_if_eq 82 h dX10_is_40 rfl (fun h => ?_) (fun h => ?_)
  · refine cx_iload_n 2 dX10_is_82 rfl ?_
    refine cx_blI h (fun hz h => ?_)
    exact cx_zret h hz.1 rfl rfl (cx_le rfl) (cx_le rfl) dX10_is_83
  · refine cx_iload_n 3 dX10_is_43 rfl ?_
    refine cx_aload_n 1 dX10_is_44 rfl ?_
    refine cx_cRi [] [.int x3] h (fun rs' h' => jSt_length_m (N := N) (tw_J H) (tw_Str H (w := w) hw) M rs' h') (fun M U p q => ((tw_Str H (w := w) hw) M U p q).1) dX10_is_45 g_X10_174 hg_X10_174 ⟨cx_le rfl, cx_le rfl⟩ rfl ⟨rfl, rfl⟩ ⟨cx_le rfl, cx_le rfl⟩ rfl (cx_le rfl) (fun M1 v2 h => ?_)
    refine cx_icmp_ge 82 h dX10_is_48 rfl (fun h => ?_) (fun h => ?_)
    · refine cx_iload_n 2 dX10_is_82 rfl ?_
      refine cx_blI h (fun hz h => ?_)
      exact cx_zret h hz.1 rfl rfl (cx_le rfl) (cx_le rfl) dX10_is_83
    · refine cx_aload_n 1 dX10_is_51 rfl ?_
      refine cx_iload_n 3 dX10_is_52 rfl ?_
      refine cx_cRi [.int x3] [] h (fun rs' h' => jSt_charAt_m (N := N) (tw_J H) (tw_Str H (w := w) hw) M1 x3 rs' h') (fun M U p q => ((tw_Str H (w := w) hw) M U p q).1) dX10_is_53 g_X10_178 hg_X10_178 ⟨cx_le rfl, cx_le rfl⟩ rfl ⟨rfl, rfl⟩ ⟨cx_le rfl, cx_le rfl⟩ rfl (cx_le rfl) (fun M3 v4 h => ?_)
      refine cx_aload_n 0 dX10_is_56 rfl ?_
      refine cx_getR (tw_R11 H) q2401 dX10_is_57 ?_
      refine cx_aload_n 0 dX10_is_60 rfl ?_
      refine cx_getI h (tw_F17 H) q2407 dX10_is_61 (fun v5 h => ?_)
      refine cx_iload_n 3 dX10_is_64 rfl ?_
      refine cx_iadd dX10_is_65 ?_
      refine cx_ldI h (tw_A11 H) dX10_is_66 (fun v6 h => ?_)
      refine cx_icmp_ne 74 h dX10_is_67 rfl (fun h => ?_) (fun h => ?_)
      · refine cx_iconst 0 dX10_is_74 cx_ic_0 ?_
        refine cx_sub (lv' := [(0, .ref (adr 60)), (1, .ref (adr (1000000 + w))), (3, .int x3)]) [0, 1, 3] rfl ?_
        exact tw_is_75_v H hw hr_39 M3 x3 0 _ h
      · refine cx_iconst 1 dX10_is_70 cx_ic_1 ?_
        refine cx_goto 75 dX10_is_71 rfl ?_
        refine cx_sub (lv' := [(0, .ref (adr 60)), (1, .ref (adr (1000000 + w))), (3, .int x3)]) [0, 1, 3] rfl ?_
        exact tw_is_75_v H hw hr_39 M3 x3 1 _ h
noncomputable def tw_is_39 (N : Nat) (w : Nat) : Nat → cx_M → Int32 → Int32 → Option cx_R :=
  cx_fix (fun _ _ _ => none) (fun r_39 => tw_is_39b N w r_39)
theorem tw_is_39_v {l : Launch} {g : cx_G} {adr : Nat → Nat} {X : cx_X} {N : Nat} {w : Nat} (H : tw_H g adr) (hw : w < 16) : ∀ (n : Nat) (M : cx_M) (x2 : Int32) (x3 : Int32) (rs : cx_R), tw_is_39 N w n M x2 x3 = some rs → cx_V l (g) X sX10_is cX10_is 39 [(0, .ref (adr 60)), (1, .ref (adr (1000000 + w))), (2, .int x2), (3, .int x3)] [] M 0 0 rs :=
  cx_fixI (fun (r : cx_M → Int32 → Int32 → Option cx_R) => ∀ (M : cx_M) (x2 : Int32) (x3 : Int32) (rs : cx_R), r M x2 x3 = some rs → cx_V l (g) X sX10_is cX10_is 39 [(0, .ref (adr 60)), (1, .ref (adr (1000000 + w))), (2, .int x2), (3, .int x3)] [] M 0 0 rs) (fun _ _ _ _ h => by cases h) (fun r hr M x2 x3 rs h => tw_is_39b_v H hw hr M x2 x3 rs h)
noncomputable def tw_is_36 (N : Nat) (w : Nat) (M : cx_M) (z0 : Int32) : Option cx_R :=
  tw_is_39 N w N M z0 0
set_option maxRecDepth 100000 in
theorem tw_is_36_v {l : Launch} {g : cx_G} {adr : Nat → Nat} {X : cx_X} {N : Nat} {w : Nat} (H : tw_H g adr) (hw : w < 16) (M : cx_M) (z0 : Int32) (rs : cx_R) (h : tw_is_36 N w M z0 = some rs) : cx_V l (g) X sX10_is cX10_is 36 [(0, .ref (adr 60)), (1, .ref (adr (1000000 + w)))] [.int z0] M 0 0 rs := by
  unfold tw_is_36 at h
  refine cx_istore_n [(2, .int z0), (0, .ref (adr 60)), (1, .ref (adr (1000000 + w)))] dX10_is_36 (cx_lt rfl) rfl ?_
  refine cx_iconst 0 dX10_is_37 cx_ic_0 ?_
  refine cx_istore_n [(3, .int 0), (2, .int z0), (0, .ref (adr 60)), (1, .ref (adr (1000000 + w)))] dX10_is_38 (cx_lt rfl) rfl ?_
  refine cx_sub (lv' := [(0, .ref (adr 60)), (1, .ref (adr (1000000 + w))), (2, .int z0), (3, .int 0)]) [2, 3, 1, 0] rfl ?_
  exact tw_is_39_v H hw N M z0 0 _ h
noncomputable def tw_is_35 (N : Nat) (w : Nat) (M : cx_M) : Option cx_R :=
  tw_is_36 N w M 0
set_option maxRecDepth 100000 in
theorem tw_is_35_v {l : Launch} {g : cx_G} {adr : Nat → Nat} {X : cx_X} {N : Nat} {w : Nat} (H : tw_H g adr) (hw : w < 16) (M : cx_M) (rs : cx_R) (h : tw_is_35 N w M = some rs) : cx_V l (g) X sX10_is cX10_is 35 [(0, .ref (adr 60)), (1, .ref (adr (1000000 + w)))] [] M 0 0 rs := by
  unfold tw_is_35 at h
  refine cx_iconst 0 dX10_is_35 cx_ic_0 ?_
  exact tw_is_36_v H hw M 0 _ h
noncomputable def tw_is_0 (N : Nat) (w : Nat) (M : cx_M) : Option cx_R :=
  cx_get M 60 19 fun v1 =>
  if v1 = 0 then (
    cx_get M 60 15 fun v2 =>
    if v2 = 1 then (
      cx_cal (jSt_length N (twSn w) (twSf w) M) fun M3 v4 =>
      cx_get M3 60 18 fun v5 =>
      cx_get M3 60 17 fun v6 =>
      if v4 = (v5 - v6) then (
        tw_is_36 N w M3 1)
      else (
        tw_is_35 N w M3))
    else (
      tw_is_35 N w M))
  else (
    tw_is_35 N w M)
set_option maxRecDepth 100000 in
theorem tw_is_0_v {l : Launch} {g : cx_G} {adr : Nat → Nat} {X : cx_X} {N : Nat} {w : Nat} (H : tw_H g adr) (hw : w < 16) (M : cx_M) (rs : cx_R) (h : tw_is_0 N w M = some rs) : cx_V l (g) X sX10_is cX10_is 0 [(0, .ref (adr 60)), (1, .ref (adr (1000000 + w)))] [] M 0 0 rs := by
  unfold tw_is_0 at h
  refine cx_aload_n 0 dX10_is_0 rfl ?_
  refine cx_getI h (tw_F19 H) q2409 dX10_is_1 (fun v1 h => ?_)
  refine cx_if_ne 35 h dX10_is_4 rfl (fun h => ?_) (fun h => ?_)
  · exact tw_is_35_v H hw M _ h
  · refine cx_aload_n 0 dX10_is_7 rfl ?_
    refine cx_getI h (tw_F15 H) q2405 dX10_is_8 (fun v2 h => ?_)
    refine cx_iconst 1 dX10_is_11 cx_ic_1 ?_
    refine cx_icmp_ne 35 h dX10_is_12 rfl (fun h => ?_) (fun h => ?_)
    · exact tw_is_35_v H hw M _ h
    · refine cx_aload_n 1 dX10_is_15 rfl ?_
      refine cx_cRi [] [] h (fun rs' h' => jSt_length_m (N := N) (tw_J H) (tw_Str H (w := w) hw) M rs' h') (fun M U p q => ((tw_Str H (w := w) hw) M U p q).1) dX10_is_16 g_X10_174 hg_X10_174 ⟨cx_le rfl, cx_le rfl⟩ rfl ⟨rfl, rfl⟩ ⟨cx_le rfl, cx_le rfl⟩ rfl (cx_le rfl) (fun M3 v4 h => ?_)
      refine cx_aload_n 0 dX10_is_19 rfl ?_
      refine cx_getI h (tw_F18 H) q2408 dX10_is_20 (fun v5 h => ?_)
      refine cx_aload_n 0 dX10_is_23 rfl ?_
      refine cx_getI h (tw_F17 H) q2407 dX10_is_24 (fun v6 h => ?_)
      refine cx_isub dX10_is_27 ?_
      refine cx_icmp_ne 35 h dX10_is_28 rfl (fun h => ?_) (fun h => ?_)
      · exact tw_is_35_v H hw M3 _ h
      · refine cx_iconst 1 dX10_is_31 cx_ic_1 ?_
        refine cx_goto 36 dX10_is_32 rfl ?_
        exact tw_is_36_v H hw M3 1 _ h
noncomputable def tw_is (N : Nat) (w : Nat) (M : cx_M) : Option cx_R := tw_is_0 N w M
theorem tw_is_m {l : Launch} {g : cx_G} {adr : Nat → Nat} {N : Nat} {w : Nat} (H : tw_H g adr) (hw : w < 16) (M : cx_M) (rs : cx_R) (h : tw_is N w M = some rs) : cx_Met l (g) yX10_is cX10_is sX10_is [.ref (adr 60), .ref (adr (1000000 + w))] M rs :=
  cx_met (by decide +kernel) rfl rfl (lv := [(0, .ref (adr 60)), (1, .ref (adr (1000000 + w)))]) rfl (cx_le rfl) (fun X => cx_sub (lv' := [(0, .ref (adr 60)), (1, .ref (adr (1000000 + w)))]) [0, 1] rfl (tw_is_0_v H hw M rs h))

abbrev sX10_isAsNoted : cx_S := (6, RX10, cx_rI, { frames := 7, cells := 0, slots := 0, locals := 153 }, some .boolean, false)
noncomputable def tw_isAsNoted_60 (N : Nat) (r_4 : cx_M → Int32 → Int32 → Int32 → Option cx_R) (r_19 : cx_M → Int32 → Int32 → Int32 → Int32 → Int32 → Option cx_R) (M : cx_M) (x1 : Int32) (x3 : Int32) (x4 : Int32) (x5 : Int32) (z0 : Int32) : Option cx_R :=
  cx_let (x5 + 1) fun v1 =>
  r_19 M x1 z0 x3 x4 v1
set_option maxRecDepth 100000 in
theorem tw_isAsNoted_60_v {l : Launch} {g : cx_G} {adr : Nat → Nat} {X : cx_X} {N : Nat} {r_4 : cx_M → Int32 → Int32 → Int32 → Option cx_R} {r_19 : cx_M → Int32 → Int32 → Int32 → Int32 → Int32 → Option cx_R} (H : tw_H g adr) (hr_4 : ∀ (M : cx_M) (x1 : Int32) (x2 : Int32) (x3 : Int32) (rs : cx_R), r_4 M x1 x2 x3 = some rs → cx_V l (g) X sX10_isAsNoted cX10_isAsNoted 4 [(0, .ref (adr 60)), (1, .int x1), (2, .int x2), (3, .int x3)] [] M 0 0 rs) (hr_19 : ∀ (M : cx_M) (x1 : Int32) (x2 : Int32) (x3 : Int32) (x4 : Int32) (x5 : Int32) (rs : cx_R), r_19 M x1 x2 x3 x4 x5 = some rs → cx_V l (g) X sX10_isAsNoted cX10_isAsNoted 19 [(0, .ref (adr 60)), (1, .int x1), (2, .int x2), (3, .int x3), (4, .int x4), (5, .int x5)] [] M 0 0 rs) (M : cx_M) (x1 : Int32) (x3 : Int32) (x4 : Int32) (x5 : Int32) (z0 : Int32) (rs : cx_R) (h : tw_isAsNoted_60 N r_4 r_19 M x1 x3 x4 x5 z0 = some rs) : cx_V l (g) X sX10_isAsNoted cX10_isAsNoted 60 [(0, .ref (adr 60)), (1, .int x1), (3, .int x3), (4, .int x4), (5, .int x5)] [.int z0] M 0 0 rs := by
  unfold tw_isAsNoted_60 at h
  refine cx_istore_n [(2, .int z0), (0, .ref (adr 60)), (1, .int x1), (3, .int x3), (4, .int x4), (5, .int x5)] dX10_isAsNoted_60 (cx_lt rfl) rfl ?_
  refine cx_iinc 5 1 (fun v1 => [(5, .int v1), (2, .int z0), (0, .ref (adr 60)), (1, .int x1), (3, .int x3), (4, .int x4)]) h dX10_isAsNoted_61 rfl cx_ic_1 (cx_lt rfl) (fun _ => rfl) (fun v1 h => ?_)
  refine cx_goto 19 dX10_isAsNoted_64 rfl ?_
  refine cx_sub (lv' := [(0, .ref (adr 60)), (1, .int x1), (2, .int z0), (3, .int x3), (4, .int x4), (5, .int v1)]) [2, 3, 1, 4, 5, 0] rfl ?_
  exact hr_19 M x1 z0 x3 x4 v1 _ h
noncomputable def tw_isAsNoted_55 (N : Nat) (r_4 : cx_M → Int32 → Int32 → Int32 → Option cx_R) (r_19 : cx_M → Int32 → Int32 → Int32 → Int32 → Int32 → Option cx_R) (M : cx_M) (x1 : Int32) (x3 : Int32) (x4 : Int32) (x5 : Int32) : Option cx_R :=
  tw_isAsNoted_60 N r_4 r_19 M x1 x3 x4 x5 1
set_option maxRecDepth 100000 in
theorem tw_isAsNoted_55_v {l : Launch} {g : cx_G} {adr : Nat → Nat} {X : cx_X} {N : Nat} {r_4 : cx_M → Int32 → Int32 → Int32 → Option cx_R} {r_19 : cx_M → Int32 → Int32 → Int32 → Int32 → Int32 → Option cx_R} (H : tw_H g adr) (hr_4 : ∀ (M : cx_M) (x1 : Int32) (x2 : Int32) (x3 : Int32) (rs : cx_R), r_4 M x1 x2 x3 = some rs → cx_V l (g) X sX10_isAsNoted cX10_isAsNoted 4 [(0, .ref (adr 60)), (1, .int x1), (2, .int x2), (3, .int x3)] [] M 0 0 rs) (hr_19 : ∀ (M : cx_M) (x1 : Int32) (x2 : Int32) (x3 : Int32) (x4 : Int32) (x5 : Int32) (rs : cx_R), r_19 M x1 x2 x3 x4 x5 = some rs → cx_V l (g) X sX10_isAsNoted cX10_isAsNoted 19 [(0, .ref (adr 60)), (1, .int x1), (2, .int x2), (3, .int x3), (4, .int x4), (5, .int x5)] [] M 0 0 rs) (M : cx_M) (x1 : Int32) (x3 : Int32) (x4 : Int32) (x5 : Int32) (rs : cx_R) (h : tw_isAsNoted_55 N r_4 r_19 M x1 x3 x4 x5 = some rs) : cx_V l (g) X sX10_isAsNoted cX10_isAsNoted 55 [(0, .ref (adr 60)), (1, .int x1), (3, .int x3), (4, .int x4), (5, .int x5)] [] M 0 0 rs := by
  unfold tw_isAsNoted_55 at h
  refine cx_iconst 1 dX10_isAsNoted_55 cx_ic_1 ?_
  refine cx_goto 60 dX10_isAsNoted_56 rfl ?_
  exact tw_isAsNoted_60_v H hr_4 hr_19 M x1 x3 x4 x5 1 _ h
noncomputable def tw_isAsNoted_59 (N : Nat) (r_4 : cx_M → Int32 → Int32 → Int32 → Option cx_R) (r_19 : cx_M → Int32 → Int32 → Int32 → Int32 → Int32 → Option cx_R) (M : cx_M) (x1 : Int32) (x3 : Int32) (x4 : Int32) (x5 : Int32) : Option cx_R :=
  tw_isAsNoted_60 N r_4 r_19 M x1 x3 x4 x5 0
set_option maxRecDepth 100000 in
theorem tw_isAsNoted_59_v {l : Launch} {g : cx_G} {adr : Nat → Nat} {X : cx_X} {N : Nat} {r_4 : cx_M → Int32 → Int32 → Int32 → Option cx_R} {r_19 : cx_M → Int32 → Int32 → Int32 → Int32 → Int32 → Option cx_R} (H : tw_H g adr) (hr_4 : ∀ (M : cx_M) (x1 : Int32) (x2 : Int32) (x3 : Int32) (rs : cx_R), r_4 M x1 x2 x3 = some rs → cx_V l (g) X sX10_isAsNoted cX10_isAsNoted 4 [(0, .ref (adr 60)), (1, .int x1), (2, .int x2), (3, .int x3)] [] M 0 0 rs) (hr_19 : ∀ (M : cx_M) (x1 : Int32) (x2 : Int32) (x3 : Int32) (x4 : Int32) (x5 : Int32) (rs : cx_R), r_19 M x1 x2 x3 x4 x5 = some rs → cx_V l (g) X sX10_isAsNoted cX10_isAsNoted 19 [(0, .ref (adr 60)), (1, .int x1), (2, .int x2), (3, .int x3), (4, .int x4), (5, .int x5)] [] M 0 0 rs) (M : cx_M) (x1 : Int32) (x3 : Int32) (x4 : Int32) (x5 : Int32) (rs : cx_R) (h : tw_isAsNoted_59 N r_4 r_19 M x1 x3 x4 x5 = some rs) : cx_V l (g) X sX10_isAsNoted cX10_isAsNoted 59 [(0, .ref (adr 60)), (1, .int x1), (3, .int x3), (4, .int x4), (5, .int x5)] [] M 0 0 rs := by
  unfold tw_isAsNoted_59 at h
  refine cx_iconst 0 dX10_isAsNoted_59 cx_ic_0 ?_
  exact tw_isAsNoted_60_v H hr_4 hr_19 M x1 x3 x4 x5 0 _ h
noncomputable def tw_isAsNoted_103 (N : Nat) (r_4 : cx_M → Int32 → Int32 → Int32 → Option cx_R) (M : cx_M) (x1 : Int32) (x2 : Int32) (x3 : Int32) : Option cx_R :=
  cx_cal (tw_aStep N M) fun M1 _ =>
  cx_let (x3 + 1) fun v2 =>
  r_4 M1 x1 x2 v2
set_option maxRecDepth 100000 in
theorem tw_isAsNoted_103_v {l : Launch} {g : cx_G} {adr : Nat → Nat} {X : cx_X} {N : Nat} {r_4 : cx_M → Int32 → Int32 → Int32 → Option cx_R} (H : tw_H g adr) (hr_4 : ∀ (M : cx_M) (x1 : Int32) (x2 : Int32) (x3 : Int32) (rs : cx_R), r_4 M x1 x2 x3 = some rs → cx_V l (g) X sX10_isAsNoted cX10_isAsNoted 4 [(0, .ref (adr 60)), (1, .int x1), (2, .int x2), (3, .int x3)] [] M 0 0 rs) (M : cx_M) (x1 : Int32) (x2 : Int32) (x3 : Int32) (rs : cx_R) (h : tw_isAsNoted_103 N r_4 M x1 x2 x3 = some rs) : cx_V l (g) X sX10_isAsNoted cX10_isAsNoted 103 [(0, .ref (adr 60)), (1, .int x1), (2, .int x2), (3, .int x3)] [] M 0 0 rs := by
  unfold tw_isAsNoted_103 at h
  refine cx_aload_n 0 dX10_isAsNoted_103 rfl ?_
  refine cx_cVv [] [] h (fun rs' h' => tw_aStep_m H M rs' h') (tw_rc H) dX10_isAsNoted_104 g_X10_349 hg_X10_349 ⟨cx_le rfl, cx_le rfl⟩ rfl ⟨rfl, rfl⟩ ⟨cx_le rfl, cx_le rfl⟩ rfl (cx_le rfl) (fun M1 _ h => ?_)
  refine cx_iinc 3 1 (fun v2 => [(3, .int v2), (0, .ref (adr 60)), (1, .int x1), (2, .int x2)]) h dX10_isAsNoted_107 rfl cx_ic_1 (cx_lt rfl) (fun _ => rfl) (fun v2 h => ?_)
  refine cx_goto 4 dX10_isAsNoted_110 rfl ?_
  refine cx_sub (lv' := [(0, .ref (adr 60)), (1, .int x1), (2, .int x2), (3, .int v2)]) [1, 2, 3, 0] rfl ?_
  exact hr_4 M1 x1 x2 v2 _ h
noncomputable def tw_isAsNoted_19b (N : Nat) (r_4 : cx_M → Int32 → Int32 → Int32 → Option cx_R) (r_19 : cx_M → Int32 → Int32 → Int32 → Int32 → Int32 → Option cx_R) (M : cx_M) (x1 : Int32) (x2 : Int32) (x3 : Int32) (x4 : Int32) (x5 : Int32) : Option cx_R :=
  cx_get M 60 32 fun v1 =>
  if v1 ≤ x5 then (
    if x3 ≤ 0 then (
      tw_isAsNoted_103 N r_4 M x1 x2 x3)
    else (
      if (cx_rem x3 10) = 0 then (
        if 5 < (x3 / 10) then (
          tw_isAsNoted_103 N r_4 M x1 x2 x3)
        else (
          cx_st M 41 995 ((((5 : Int32) * x1) + (x3 / 10)) - 1) x4 fun M2 =>
          tw_isAsNoted_103 N r_4 M2 x1 x2 x3))
      else (
        tw_isAsNoted_103 N r_4 M x1 x2 x3)))
  else (
    if x2 = 0 then (
      tw_isAsNoted_59 N r_4 r_19 M x1 x3 x4 x5)
    else (
      cx_ld M 38 8 x5 fun v3 =>
      if v3 = x3 then (
        cx_ld M 39 8 x5 fun v4 =>
        if v4 = x4 then (
          tw_isAsNoted_55 N r_4 r_19 M x1 x3 x4 x5)
        else (
          tw_isAsNoted_59 N r_4 r_19 M x1 x3 x4 x5))
      else (
        tw_isAsNoted_55 N r_4 r_19 M x1 x3 x4 x5)))
set_option maxRecDepth 100000 in
theorem tw_isAsNoted_19b_v {l : Launch} {g : cx_G} {adr : Nat → Nat} {X : cx_X} {N : Nat} {r_4 : cx_M → Int32 → Int32 → Int32 → Option cx_R} {r_19 : cx_M → Int32 → Int32 → Int32 → Int32 → Int32 → Option cx_R} (H : tw_H g adr) (hr_4 : ∀ (M : cx_M) (x1 : Int32) (x2 : Int32) (x3 : Int32) (rs : cx_R), r_4 M x1 x2 x3 = some rs → cx_V l (g) X sX10_isAsNoted cX10_isAsNoted 4 [(0, .ref (adr 60)), (1, .int x1), (2, .int x2), (3, .int x3)] [] M 0 0 rs) (hr_19 : ∀ (M : cx_M) (x1 : Int32) (x2 : Int32) (x3 : Int32) (x4 : Int32) (x5 : Int32) (rs : cx_R), r_19 M x1 x2 x3 x4 x5 = some rs → cx_V l (g) X sX10_isAsNoted cX10_isAsNoted 19 [(0, .ref (adr 60)), (1, .int x1), (2, .int x2), (3, .int x3), (4, .int x4), (5, .int x5)] [] M 0 0 rs) (M : cx_M) (x1 : Int32) (x2 : Int32) (x3 : Int32) (x4 : Int32) (x5 : Int32) (rs : cx_R) (h : tw_isAsNoted_19b N r_4 r_19 M x1 x2 x3 x4 x5 = some rs) : cx_V l (g) X sX10_isAsNoted cX10_isAsNoted 19 [(0, .ref (adr 60)), (1, .int x1), (2, .int x2), (3, .int x3), (4, .int x4), (5, .int x5)] [] M 0 0 rs := by
  unfold tw_isAsNoted_19b at h
  refine cx_iload 5 dX10_isAsNoted_19 rfl ?_
  refine cx_aload_n 0 dX10_isAsNoted_21 rfl ?_
  refine cx_getI h (tw_F32 H) q2422 dX10_isAsNoted_22 (fun v1 h => ?_)
  refine cx_icmp_ge 67 h dX10_isAsNoted_25 rfl (fun h => ?_) (fun h => ?_)
  · refine cx_iload_n 3 dX10_isAsNoted_67 rfl ?_
    refine cx_if_le 103 h dX10_isAsNoted_68 rfl (fun h => ?_) (fun h => ?_)
    · refine cx_sub (lv' := [(0, .ref (adr 60)), (1, .int x1), (2, .int x2), (3, .int x3)]) [0, 1, 2, 3] rfl ?_
      exact tw_isAsNoted_103_v H hr_4 M x1 x2 x3 _ h
    · refine cx_iload_n 3 dX10_isAsNoted_71 rfl ?_
      refine cx_bipush 10 dX10_isAsNoted_72 cx_bp_10 ?_
      refine cx_iremC cx_ne_10 dX10_isAsNoted_74 ?_
      refine cx_if_ne 103 h dX10_isAsNoted_75 rfl (fun h => ?_) (fun h => ?_)
      · refine cx_sub (lv' := [(0, .ref (adr 60)), (1, .int x1), (2, .int x2), (3, .int x3)]) [0, 1, 2, 3] rfl ?_
        exact tw_isAsNoted_103_v H hr_4 M x1 x2 x3 _ h
      · refine cx_iload_n 3 dX10_isAsNoted_78 rfl ?_
        refine cx_bipush 10 dX10_isAsNoted_79 cx_bp_10 ?_
        refine cx_idivC cx_ne_10 dX10_isAsNoted_81 ?_
        refine cx_iconst 5 dX10_isAsNoted_82 cx_ic_5 ?_
        refine cx_icmp_gt 103 h dX10_isAsNoted_83 rfl (fun h => ?_) (fun h => ?_)
        · refine cx_sub (lv' := [(0, .ref (adr 60)), (1, .int x1), (2, .int x2), (3, .int x3)]) [0, 1, 2, 3] rfl ?_
          exact tw_isAsNoted_103_v H hr_4 M x1 x2 x3 _ h
        · refine cx_aload_n 0 dX10_isAsNoted_86 rfl ?_
          refine cx_getR (tw_R41 H) q2431 dX10_isAsNoted_87 ?_
          refine cx_iconst 5 dX10_isAsNoted_90 cx_ic_5 ?_
          refine cx_iload_n 1 dX10_isAsNoted_91 rfl ?_
          refine cx_imul dX10_isAsNoted_92 ?_
          refine cx_iload_n 3 dX10_isAsNoted_93 rfl ?_
          refine cx_bipush 10 dX10_isAsNoted_94 cx_bp_10 ?_
          refine cx_idivC cx_ne_10 dX10_isAsNoted_96 ?_
          refine cx_iadd dX10_isAsNoted_97 ?_
          refine cx_iconst 1 dX10_isAsNoted_98 cx_ic_1 ?_
          refine cx_isub dX10_isAsNoted_99 ?_
          refine cx_iload 4 dX10_isAsNoted_100 rfl ?_
          refine cx_stI h (tw_A41 H) dX10_isAsNoted_102 (fun M2 h => ?_)
          refine cx_sub (lv' := [(0, .ref (adr 60)), (1, .int x1), (2, .int x2), (3, .int x3)]) [0, 1, 2, 3] rfl ?_
          exact tw_isAsNoted_103_v H hr_4 M2 x1 x2 x3 _ h
  · refine cx_iload_n 2 dX10_isAsNoted_28 rfl ?_
    refine cx_if_eq 59 h dX10_isAsNoted_29 rfl (fun h => ?_) (fun h => ?_)
    · refine cx_sub (lv' := [(0, .ref (adr 60)), (1, .int x1), (3, .int x3), (4, .int x4), (5, .int x5)]) [0, 1, 3, 4, 5] rfl ?_
      exact tw_isAsNoted_59_v H hr_4 hr_19 M x1 x3 x4 x5 _ h
    · refine cx_aload_n 0 dX10_isAsNoted_32 rfl ?_
      refine cx_getR (tw_R38 H) q2428 dX10_isAsNoted_33 ?_
      refine cx_iload 5 dX10_isAsNoted_36 rfl ?_
      refine cx_ldI h (tw_A38 H) dX10_isAsNoted_38 (fun v3 h => ?_)
      refine cx_iload_n 3 dX10_isAsNoted_39 rfl ?_
      refine cx_icmp_ne 55 h dX10_isAsNoted_40 rfl (fun h => ?_) (fun h => ?_)
      · refine cx_sub (lv' := [(0, .ref (adr 60)), (1, .int x1), (3, .int x3), (4, .int x4), (5, .int x5)]) [0, 1, 3, 4, 5] rfl ?_
        exact tw_isAsNoted_55_v H hr_4 hr_19 M x1 x3 x4 x5 _ h
      · refine cx_aload_n 0 dX10_isAsNoted_43 rfl ?_
        refine cx_getR (tw_R39 H) q2429 dX10_isAsNoted_44 ?_
        refine cx_iload 5 dX10_isAsNoted_47 rfl ?_
        refine cx_ldI h (tw_A39 H) dX10_isAsNoted_49 (fun v4 h => ?_)
        refine cx_iload 4 dX10_isAsNoted_50 rfl ?_
        refine cx_icmp_ne 59 h dX10_isAsNoted_52 rfl (fun h => ?_) (fun h => ?_)
        · refine cx_sub (lv' := [(0, .ref (adr 60)), (1, .int x1), (3, .int x3), (4, .int x4), (5, .int x5)]) [0, 1, 3, 4, 5] rfl ?_
          exact tw_isAsNoted_59_v H hr_4 hr_19 M x1 x3 x4 x5 _ h
        · refine cx_sub (lv' := [(0, .ref (adr 60)), (1, .int x1), (3, .int x3), (4, .int x4), (5, .int x5)]) [0, 1, 3, 4, 5] rfl ?_
          exact tw_isAsNoted_55_v H hr_4 hr_19 M x1 x3 x4 x5 _ h
noncomputable def tw_isAsNoted_19 (N : Nat) (r_4 : cx_M → Int32 → Int32 → Int32 → Option cx_R) : Nat → cx_M → Int32 → Int32 → Int32 → Int32 → Int32 → Option cx_R :=
  cx_fix (fun _ _ _ _ _ _ => none) (fun r_19 => tw_isAsNoted_19b N r_4 r_19)
theorem tw_isAsNoted_19_v {l : Launch} {g : cx_G} {adr : Nat → Nat} {X : cx_X} {N : Nat} {r_4 : cx_M → Int32 → Int32 → Int32 → Option cx_R} (H : tw_H g adr) (hr_4 : ∀ (M : cx_M) (x1 : Int32) (x2 : Int32) (x3 : Int32) (rs : cx_R), r_4 M x1 x2 x3 = some rs → cx_V l (g) X sX10_isAsNoted cX10_isAsNoted 4 [(0, .ref (adr 60)), (1, .int x1), (2, .int x2), (3, .int x3)] [] M 0 0 rs) : ∀ (n : Nat) (M : cx_M) (x1 : Int32) (x2 : Int32) (x3 : Int32) (x4 : Int32) (x5 : Int32) (rs : cx_R), tw_isAsNoted_19 N r_4 n M x1 x2 x3 x4 x5 = some rs → cx_V l (g) X sX10_isAsNoted cX10_isAsNoted 19 [(0, .ref (adr 60)), (1, .int x1), (2, .int x2), (3, .int x3), (4, .int x4), (5, .int x5)] [] M 0 0 rs :=
  cx_fixI (fun (r : cx_M → Int32 → Int32 → Int32 → Int32 → Int32 → Option cx_R) => ∀ (M : cx_M) (x1 : Int32) (x2 : Int32) (x3 : Int32) (x4 : Int32) (x5 : Int32) (rs : cx_R), r M x1 x2 x3 x4 x5 = some rs → cx_V l (g) X sX10_isAsNoted cX10_isAsNoted 19 [(0, .ref (adr 60)), (1, .int x1), (2, .int x2), (3, .int x3), (4, .int x4), (5, .int x5)] [] M 0 0 rs) (fun _ _ _ _ _ _ _ h => by cases h) (fun r hr M x1 x2 x3 x4 x5 rs h => tw_isAsNoted_19b_v H hr_4 hr M x1 x2 x3 x4 x5 rs h)
noncomputable def tw_isAsNoted_4b (N : Nat) (r_4 : cx_M → Int32 → Int32 → Int32 → Option cx_R) (M : cx_M) (x1 : Int32) (x2 : Int32) (x3 : Int32) : Option cx_R :=
  if 60 < x3 then (
    cx_cal (tw_back N M 0) fun M1 v2 =>
    cx_bl x2 (some (M1, x2, 0)))
  else (
    cx_cal (tw_levelNow N M) fun M3 v4 =>
    tw_isAsNoted_19 N r_4 N M3 x1 x2 x3 v4 0)
set_option maxRecDepth 100000 in
theorem tw_isAsNoted_4b_v {l : Launch} {g : cx_G} {adr : Nat → Nat} {X : cx_X} {N : Nat} {r_4 : cx_M → Int32 → Int32 → Int32 → Option cx_R} (H : tw_H g adr) (hr_4 : ∀ (M : cx_M) (x1 : Int32) (x2 : Int32) (x3 : Int32) (rs : cx_R), r_4 M x1 x2 x3 = some rs → cx_V l (g) X sX10_isAsNoted cX10_isAsNoted 4 [(0, .ref (adr 60)), (1, .int x1), (2, .int x2), (3, .int x3)] [] M 0 0 rs) (M : cx_M) (x1 : Int32) (x2 : Int32) (x3 : Int32) (rs : cx_R) (h : tw_isAsNoted_4b N r_4 M x1 x2 x3 = some rs) : cx_V l (g) X sX10_isAsNoted cX10_isAsNoted 4 [(0, .ref (adr 60)), (1, .int x1), (2, .int x2), (3, .int x3)] [] M 0 0 rs := by
  unfold tw_isAsNoted_4b at h
  refine cx_iload_n 3 dX10_isAsNoted_4 rfl ?_
  refine cx_bipush 60 dX10_isAsNoted_5 cx_bp_60 ?_
  refine cx_icmp_gt 113 h dX10_isAsNoted_7 rfl (fun h => ?_) (fun h => ?_)
  · refine cx_aload_n 0 dX10_isAsNoted_113 rfl ?_
    refine cx_iconst 0 dX10_isAsNoted_114 cx_ic_0 ?_
    refine cx_cVi [.int 0] [] h (fun rs' h' => tw_back_m H M 0 rs' h') (tw_rc H) dX10_isAsNoted_115 g_X10_405 hg_X10_405 ⟨cx_le rfl, cx_le rfl⟩ rfl ⟨rfl, rfl⟩ ⟨cx_le rfl, cx_le rfl⟩ rfl (cx_le rfl) (fun M1 v2 h => ?_)
    refine cx_pop dX10_isAsNoted_118 rfl ?_
    refine cx_iload_n 2 dX10_isAsNoted_119 rfl ?_
    refine cx_blI h (fun hz h => ?_)
    exact cx_zret h hz.1 rfl rfl (cx_le rfl) (cx_le rfl) dX10_isAsNoted_120
  · refine cx_aload_n 0 dX10_isAsNoted_10 rfl ?_
    refine cx_cVi [] [] h (fun rs' h' => tw_levelNow_m H M rs' h') (tw_rc H) dX10_isAsNoted_11 g_X10_325 hg_X10_325 ⟨cx_le rfl, cx_le rfl⟩ rfl ⟨rfl, rfl⟩ ⟨cx_le rfl, cx_le rfl⟩ rfl (cx_le rfl) (fun M3 v4 h => ?_)
    refine cx_istore [(4, .int v4), (0, .ref (adr 60)), (1, .int x1), (2, .int x2), (3, .int x3)] dX10_isAsNoted_14 (cx_lt rfl) rfl ?_
    refine cx_iconst 0 dX10_isAsNoted_16 cx_ic_0 ?_
    refine cx_istore [(5, .int 0), (4, .int v4), (0, .ref (adr 60)), (1, .int x1), (2, .int x2), (3, .int x3)] dX10_isAsNoted_17 (cx_lt rfl) rfl ?_
    refine cx_sub (lv' := [(0, .ref (adr 60)), (1, .int x1), (2, .int x2), (3, .int x3), (4, .int v4), (5, .int 0)]) [2, 3, 4, 5, 1, 0] rfl ?_
    exact tw_isAsNoted_19_v H hr_4 N M3 x1 x2 x3 v4 0 _ h
noncomputable def tw_isAsNoted_4 (N : Nat) : Nat → cx_M → Int32 → Int32 → Int32 → Option cx_R :=
  cx_fix (fun _ _ _ _ => none) (fun r_4 => tw_isAsNoted_4b N r_4)
theorem tw_isAsNoted_4_v {l : Launch} {g : cx_G} {adr : Nat → Nat} {X : cx_X} {N : Nat} (H : tw_H g adr) : ∀ (n : Nat) (M : cx_M) (x1 : Int32) (x2 : Int32) (x3 : Int32) (rs : cx_R), tw_isAsNoted_4 N n M x1 x2 x3 = some rs → cx_V l (g) X sX10_isAsNoted cX10_isAsNoted 4 [(0, .ref (adr 60)), (1, .int x1), (2, .int x2), (3, .int x3)] [] M 0 0 rs :=
  cx_fixI (fun (r : cx_M → Int32 → Int32 → Int32 → Option cx_R) => ∀ (M : cx_M) (x1 : Int32) (x2 : Int32) (x3 : Int32) (rs : cx_R), r M x1 x2 x3 = some rs → cx_V l (g) X sX10_isAsNoted cX10_isAsNoted 4 [(0, .ref (adr 60)), (1, .int x1), (2, .int x2), (3, .int x3)] [] M 0 0 rs) (fun _ _ _ _ _ h => by cases h) (fun r hr M x1 x2 x3 rs h => tw_isAsNoted_4b_v H hr M x1 x2 x3 rs h)
noncomputable def tw_isAsNoted_0 (N : Nat) (M : cx_M) (x1 : Int32) : Option cx_R :=
  tw_isAsNoted_4 N N M x1 1 0
set_option maxRecDepth 100000 in
theorem tw_isAsNoted_0_v {l : Launch} {g : cx_G} {adr : Nat → Nat} {X : cx_X} {N : Nat} (H : tw_H g adr) (M : cx_M) (x1 : Int32) (rs : cx_R) (h : tw_isAsNoted_0 N M x1 = some rs) : cx_V l (g) X sX10_isAsNoted cX10_isAsNoted 0 [(0, .ref (adr 60)), (1, .int x1)] [] M 0 0 rs := by
  unfold tw_isAsNoted_0 at h
  refine cx_iconst 1 dX10_isAsNoted_0 cx_ic_1 ?_
  refine cx_istore_n [(2, .int 1), (0, .ref (adr 60)), (1, .int x1)] dX10_isAsNoted_1 (cx_lt rfl) rfl ?_
  refine cx_iconst 0 dX10_isAsNoted_2 cx_ic_0 ?_
  refine cx_istore_n [(3, .int 0), (2, .int 1), (0, .ref (adr 60)), (1, .int x1)] dX10_isAsNoted_3 (cx_lt rfl) rfl ?_
  refine cx_sub (lv' := [(0, .ref (adr 60)), (1, .int x1), (2, .int 1), (3, .int 0)]) [2, 3, 1, 0] rfl ?_
  exact tw_isAsNoted_4_v H N M x1 1 0 _ h
noncomputable def tw_isAsNoted (N : Nat) (M : cx_M) (x1 : Int32) : Option cx_R := tw_isAsNoted_0 N M x1
theorem tw_isAsNoted_m {l : Launch} {g : cx_G} {adr : Nat → Nat} {N : Nat} (H : tw_H g adr) (M : cx_M) (x1 : Int32) (rs : cx_R) (h : tw_isAsNoted N M x1 = some rs) : cx_Met l (g) yX10_isAsNoted cX10_isAsNoted sX10_isAsNoted [.ref (adr 60), .int x1] M rs :=
  cx_met (by decide +kernel) rfl rfl (lv := [(0, .ref (adr 60)), (1, .int x1)]) rfl (cx_le rfl) (fun X => cx_sub (lv' := [(0, .ref (adr 60)), (1, .int x1)]) [0, 1] rfl (tw_isAsNoted_0_v H M x1 rs h))

abbrev sX10_isDigit : cx_S := (1, RX10, cx_rI, { frames := 0, cells := 0, slots := 0, locals := 0 }, some .boolean, false)
noncomputable def tw_isDigit_0 (N : Nat) (M : cx_M) (x0 : Int32) : Option cx_R :=
  if x0 < 48 then (
    some (M, 0, 0))
  else (
    if 57 < x0 then (
      some (M, 0, 0))
    else (
      some (M, 1, 0)))
set_option maxRecDepth 100000 in
theorem tw_isDigit_0_v {l : Launch} {g : cx_G} {adr : Nat → Nat} {X : cx_X} {N : Nat} (H : tw_H g adr) (M : cx_M) (x0 : Int32) (rs : cx_R) (h : tw_isDigit_0 N M x0 = some rs) : cx_V l (g) X sX10_isDigit cX10_isDigit 0 [(0, .int x0)] [] M 0 0 rs := by
  unfold tw_isDigit_0 at h
  refine cx_iload_n 0 dX10_isDigit_0 rfl ?_
  refine cx_bipush 48 dX10_isDigit_1 cx_bp_48 ?_
  refine cx_icmp_lt 16 h dX10_isDigit_3 rfl (fun h => ?_) (fun h => ?_)
  · refine cx_iconst 0 dX10_isDigit_16 cx_ic_0 ?_
    exact cx_zret h cx_z_0 rfl rfl (cx_le rfl) (cx_le rfl) dX10_isDigit_17
  · refine cx_iload_n 0 dX10_isDigit_6 rfl ?_
    refine cx_bipush 57 dX10_isDigit_7 cx_bp_57 ?_
    refine cx_icmp_gt 16 h dX10_isDigit_9 rfl (fun h => ?_) (fun h => ?_)
    · refine cx_iconst 0 dX10_isDigit_16 cx_ic_0 ?_
      exact cx_zret h cx_z_0 rfl rfl (cx_le rfl) (cx_le rfl) dX10_isDigit_17
    · refine cx_iconst 1 dX10_isDigit_12 cx_ic_1 ?_
      refine cx_goto 17 dX10_isDigit_13 rfl ?_
      exact cx_zret h cx_z_1 rfl rfl (cx_le rfl) (cx_le rfl) dX10_isDigit_17
noncomputable def tw_isDigit (N : Nat) (M : cx_M) (x0 : Int32) : Option cx_R := tw_isDigit_0 N M x0
theorem tw_isDigit_m {l : Launch} {g : cx_G} {adr : Nat → Nat} {N : Nat} (H : tw_H g adr) (M : cx_M) (x0 : Int32) (rs : cx_R) (h : tw_isDigit N M x0 = some rs) : cx_Met l (g) yX10_isDigit cX10_isDigit sX10_isDigit [.int x0] M rs :=
  cx_met (by decide +kernel) rfl rfl (lv := [(0, .int x0)]) rfl (cx_le rfl) (fun X => cx_sub (lv' := [(0, .int x0)]) [0] rfl (tw_isDigit_0_v H M x0 rs h))

abbrev sX10_isLetter : cx_S := (1, RX10, cx_rI, { frames := 0, cells := 0, slots := 0, locals := 0 }, some .boolean, false)
noncomputable def tw_isLetter_0 (N : Nat) (M : cx_M) (x0 : Int32) : Option cx_R :=
  if x0 < 97 then (
    some (M, 0, 0))
  else (
    if 122 < x0 then (
      some (M, 0, 0))
    else (
      some (M, 1, 0)))
set_option maxRecDepth 100000 in
theorem tw_isLetter_0_v {l : Launch} {g : cx_G} {adr : Nat → Nat} {X : cx_X} {N : Nat} (H : tw_H g adr) (M : cx_M) (x0 : Int32) (rs : cx_R) (h : tw_isLetter_0 N M x0 = some rs) : cx_V l (g) X sX10_isLetter cX10_isLetter 0 [(0, .int x0)] [] M 0 0 rs := by
  unfold tw_isLetter_0 at h
  refine cx_iload_n 0 dX10_isLetter_0 rfl ?_
  refine cx_bipush 97 dX10_isLetter_1 cx_bp_97 ?_
  refine cx_icmp_lt 16 h dX10_isLetter_3 rfl (fun h => ?_) (fun h => ?_)
  · refine cx_iconst 0 dX10_isLetter_16 cx_ic_0 ?_
    exact cx_zret h cx_z_0 rfl rfl (cx_le rfl) (cx_le rfl) dX10_isLetter_17
  · refine cx_iload_n 0 dX10_isLetter_6 rfl ?_
    refine cx_bipush 122 dX10_isLetter_7 cx_bp_122 ?_
    refine cx_icmp_gt 16 h dX10_isLetter_9 rfl (fun h => ?_) (fun h => ?_)
    · refine cx_iconst 0 dX10_isLetter_16 cx_ic_0 ?_
      exact cx_zret h cx_z_0 rfl rfl (cx_le rfl) (cx_le rfl) dX10_isLetter_17
    · refine cx_iconst 1 dX10_isLetter_12 cx_ic_1 ?_
      refine cx_goto 17 dX10_isLetter_13 rfl ?_
      exact cx_zret h cx_z_1 rfl rfl (cx_le rfl) (cx_le rfl) dX10_isLetter_17
noncomputable def tw_isLetter (N : Nat) (M : cx_M) (x0 : Int32) : Option cx_R := tw_isLetter_0 N M x0
theorem tw_isLetter_m {l : Launch} {g : cx_G} {adr : Nat → Nat} {N : Nat} (H : tw_H g adr) (M : cx_M) (x0 : Int32) (rs : cx_R) (h : tw_isLetter N M x0 = some rs) : cx_Met l (g) yX10_isLetter cX10_isLetter sX10_isLetter [.int x0] M rs :=
  cx_met (by decide +kernel) rfl rfl (lv := [(0, .int x0)]) rfl (cx_le rfl) (fun X => cx_sub (lv' := [(0, .int x0)]) [0] rfl (tw_isLetter_0_v H M x0 rs h))

abbrev sX10_isMark : cx_S := (1, RX10, cx_rI, { frames := 0, cells := 0, slots := 0, locals := 0 }, some .boolean, false)
noncomputable def tw_isMark_0 (N : Nat) (M : cx_M) (x0 : Int32) : Option cx_R :=
  if x0 = 59 then (
    some (M, 1, 0))
  else (
    if x0 = 40 then (
      some (M, 1, 0))
    else (
      if x0 = 41 then (
        some (M, 1, 0))
      else (
        if x0 = 43 then (
          some (M, 1, 0))
        else (
          if x0 = 45 then (
            some (M, 1, 0))
          else (
            if x0 = 42 then (
              some (M, 1, 0))
            else (
              if x0 = 47 then (
                some (M, 1, 0))
              else (
                if x0 = 60 then (
                  some (M, 1, 0))
                else (
                  if x0 = 61 then (
                    some (M, 1, 0))
                  else (
                    some (M, 0, 0))))))))))
set_option maxRecDepth 100000 in
theorem tw_isMark_0_v {l : Launch} {g : cx_G} {adr : Nat → Nat} {X : cx_X} {N : Nat} (H : tw_H g adr) (M : cx_M) (x0 : Int32) (rs : cx_R) (h : tw_isMark_0 N M x0 = some rs) : cx_V l (g) X sX10_isMark cX10_isMark 0 [(0, .int x0)] [] M 0 0 rs := by
  unfold tw_isMark_0 at h
  refine cx_iload_n 0 dX10_isMark_0 rfl ?_
  refine cx_bipush 59 dX10_isMark_1 cx_bp_59 ?_
  refine cx_icmp_eq 54 h dX10_isMark_3 rfl (fun h => ?_) (fun h => ?_)
  · refine cx_iconst 1 dX10_isMark_54 cx_ic_1 ?_
    refine cx_goto 59 dX10_isMark_55 rfl ?_
    exact cx_zret h cx_z_1 rfl rfl (cx_le rfl) (cx_le rfl) dX10_isMark_59
  · refine cx_iload_n 0 dX10_isMark_6 rfl ?_
    refine cx_bipush 40 dX10_isMark_7 cx_bp_40 ?_
    refine cx_icmp_eq 54 h dX10_isMark_9 rfl (fun h => ?_) (fun h => ?_)
    · refine cx_iconst 1 dX10_isMark_54 cx_ic_1 ?_
      refine cx_goto 59 dX10_isMark_55 rfl ?_
      exact cx_zret h cx_z_1 rfl rfl (cx_le rfl) (cx_le rfl) dX10_isMark_59
    · refine cx_iload_n 0 dX10_isMark_12 rfl ?_
      refine cx_bipush 41 dX10_isMark_13 cx_bp_41 ?_
      refine cx_icmp_eq 54 h dX10_isMark_15 rfl (fun h => ?_) (fun h => ?_)
      · refine cx_iconst 1 dX10_isMark_54 cx_ic_1 ?_
        refine cx_goto 59 dX10_isMark_55 rfl ?_
        exact cx_zret h cx_z_1 rfl rfl (cx_le rfl) (cx_le rfl) dX10_isMark_59
      · refine cx_iload_n 0 dX10_isMark_18 rfl ?_
        refine cx_bipush 43 dX10_isMark_19 cx_bp_43 ?_
        refine cx_icmp_eq 54 h dX10_isMark_21 rfl (fun h => ?_) (fun h => ?_)
        · refine cx_iconst 1 dX10_isMark_54 cx_ic_1 ?_
          refine cx_goto 59 dX10_isMark_55 rfl ?_
          exact cx_zret h cx_z_1 rfl rfl (cx_le rfl) (cx_le rfl) dX10_isMark_59
        · refine cx_iload_n 0 dX10_isMark_24 rfl ?_
          refine cx_bipush 45 dX10_isMark_25 cx_bp_45 ?_
          refine cx_icmp_eq 54 h dX10_isMark_27 rfl (fun h => ?_) (fun h => ?_)
          · refine cx_iconst 1 dX10_isMark_54 cx_ic_1 ?_
            refine cx_goto 59 dX10_isMark_55 rfl ?_
            exact cx_zret h cx_z_1 rfl rfl (cx_le rfl) (cx_le rfl) dX10_isMark_59
          · refine cx_iload_n 0 dX10_isMark_30 rfl ?_
            refine cx_bipush 42 dX10_isMark_31 cx_bp_42 ?_
            refine cx_icmp_eq 54 h dX10_isMark_33 rfl (fun h => ?_) (fun h => ?_)
            · refine cx_iconst 1 dX10_isMark_54 cx_ic_1 ?_
              refine cx_goto 59 dX10_isMark_55 rfl ?_
              exact cx_zret h cx_z_1 rfl rfl (cx_le rfl) (cx_le rfl) dX10_isMark_59
            · refine cx_iload_n 0 dX10_isMark_36 rfl ?_
              refine cx_bipush 47 dX10_isMark_37 cx_bp_47 ?_
              refine cx_icmp_eq 54 h dX10_isMark_39 rfl (fun h => ?_) (fun h => ?_)
              · refine cx_iconst 1 dX10_isMark_54 cx_ic_1 ?_
                refine cx_goto 59 dX10_isMark_55 rfl ?_
                exact cx_zret h cx_z_1 rfl rfl (cx_le rfl) (cx_le rfl) dX10_isMark_59
              · refine cx_iload_n 0 dX10_isMark_42 rfl ?_
                refine cx_bipush 60 dX10_isMark_43 cx_bp_60 ?_
                refine cx_icmp_eq 54 h dX10_isMark_45 rfl (fun h => ?_) (fun h => ?_)
                · refine cx_iconst 1 dX10_isMark_54 cx_ic_1 ?_
                  refine cx_goto 59 dX10_isMark_55 rfl ?_
                  exact cx_zret h cx_z_1 rfl rfl (cx_le rfl) (cx_le rfl) dX10_isMark_59
                · refine cx_iload_n 0 dX10_isMark_48 rfl ?_
                  refine cx_bipush 61 dX10_isMark_49 cx_bp_61 ?_
                  refine cx_icmp_ne 58 h dX10_isMark_51 rfl (fun h => ?_) (fun h => ?_)
                  · refine cx_iconst 0 dX10_isMark_58 cx_ic_0 ?_
                    exact cx_zret h cx_z_0 rfl rfl (cx_le rfl) (cx_le rfl) dX10_isMark_59
                  · refine cx_iconst 1 dX10_isMark_54 cx_ic_1 ?_
                    refine cx_goto 59 dX10_isMark_55 rfl ?_
                    exact cx_zret h cx_z_1 rfl rfl (cx_le rfl) (cx_le rfl) dX10_isMark_59
noncomputable def tw_isMark (N : Nat) (M : cx_M) (x0 : Int32) : Option cx_R := tw_isMark_0 N M x0
theorem tw_isMark_m {l : Launch} {g : cx_G} {adr : Nat → Nat} {N : Nat} (H : tw_H g adr) (M : cx_M) (x0 : Int32) (rs : cx_R) (h : tw_isMark N M x0 = some rs) : cx_Met l (g) yX10_isMark cX10_isMark sX10_isMark [.int x0] M rs :=
  cx_met (by decide +kernel) rfl rfl (lv := [(0, .int x0)]) rfl (cx_le rfl) (fun X => cx_sub (lv' := [(0, .int x0)]) [0] rfl (tw_isMark_0_v H M x0 rs h))
