abbrev sX6_plays : cx_S := (7, RX6, cx_rV, { frames := 40, cells := 0, slots := 0, locals := 1200 }, none, false)
noncomputable def cSt_plays_196 (N : cx_N) (b : Nat) (how : Nat) (M : cx_M) (x5 : Int32) (z1 : Int32) : Option cx_R :=
  cx_put M b 21 z1 fun M1 =>
  if x5 = 0 then (
    cx_get M1 b 7 fun v2 =>
    cx_put M1 b 7 (v2 + 1) fun M3 =>
    cx_get M3 b 21 fun v4 =>
    if 64 ≤ v4 then (
      cx_put M3 b 21 0 fun M5 =>
      cx_get M5 b 22 fun v6 =>
      cx_put M5 b 22 (v6 + 1) fun M7 =>
      cx_put M7 b 8 0 fun M8 =>
      cx_cal (cSt_empties N b M8) fun M9 _ =>
      some (M9, 0, 0))
    else (
      some (M3, 0, 0)))
  else (
    some (M1, 0, 0))
set_option maxRecDepth 100000 in
theorem cSt_plays_196_v {l : Launch} {g : cx_G} {adr : Nat → Nat} {X : cx_X} {N : cx_N} {b : Nat} {how : Nat} (H : cCp_H g adr N) (hb : cSt_H g adr b) (hhow : how < 3) (M : cx_M) (x5 : Int32) (z1 : Int32) (rs : cx_R) (h : cSt_plays_196 N b how M x5 z1 = some rs) : cx_V l (g) X sX6_plays cX6_plays 196 [(0, .ref (adr b)), (5, .int x5)] [.int z1, .ref (adr b)] M 0 0 rs := by
  unfold cSt_plays_196 at h
  refine cx_putI h (cSt_F21 hb) rfl rfl rfl q686 dX6_plays_196 (fun M1 h => ?_)
  refine cx_iload 1 dX6_plays_199 rfl ?_
  refine cx_if_eq 205 h dX6_plays_201 rfl (fun h => ?_) (fun h => ?_)
  · refine cx_aload_n 0 dX6_plays_205 rfl ?_
    refine cx_dup dX6_plays_206 rfl ?_
    refine cx_getI h (cSt_F7 hb) q662 dX6_plays_207 (fun v2 h => ?_)
    refine cx_iconst 1 dX6_plays_210 cx_ic_1 ?_
    refine cx_iadd dX6_plays_211 ?_
    refine cx_putI h (cSt_F7 hb) rfl rfl rfl q662 dX6_plays_212 (fun M3 h => ?_)
    refine cx_aload_n 0 dX6_plays_215 rfl ?_
    refine cx_getI h (cSt_F21 hb) q686 dX6_plays_216 (fun v4 h => ?_)
    refine cx_bipush 64 dX6_plays_219 cx_bp_64 ?_
    refine cx_icmp_ge 225 h dX6_plays_221 rfl (fun h => ?_) (fun h => ?_)
    · refine cx_aload_n 0 dX6_plays_225 rfl ?_
      refine cx_iconst 0 dX6_plays_226 cx_ic_0 ?_
      refine cx_putI h (cSt_F21 hb) rfl rfl rfl q686 dX6_plays_227 (fun M5 h => ?_)
      refine cx_aload_n 0 dX6_plays_230 rfl ?_
      refine cx_dup dX6_plays_231 rfl ?_
      refine cx_getI h (cSt_F22 hb) q687 dX6_plays_232 (fun v6 h => ?_)
      refine cx_iconst 1 dX6_plays_235 cx_ic_1 ?_
      refine cx_iadd dX6_plays_236 ?_
      refine cx_putI h (cSt_F22 hb) rfl rfl rfl q687 dX6_plays_237 (fun M7 h => ?_)
      refine cx_aload_n 0 dX6_plays_240 rfl ?_
      refine cx_iconst 0 dX6_plays_241 cx_ic_0 ?_
      refine cx_putI h (cSt_F8 hb) rfl rfl rfl q664 dX6_plays_242 (fun M8 h => ?_)
      refine cx_aload_n 0 dX6_plays_245 rfl ?_
      refine cx_cVv [] [] h (fun rs' h' => cSt_empties_m H hb M8 rs' h') (cSt_rc hb) dX6_plays_246 g_X6_151 hg_X6_151 ⟨cx_le rfl, cx_le rfl⟩ rfl ⟨rfl, rfl⟩ ⟨cx_le rfl, cx_le rfl⟩ rfl (cx_le rfl) (fun M9 _ h => ?_)
      exact cx_vret h rfl rfl (cx_le rfl) (cx_le rfl) dX6_plays_249
    · exact cx_vret h rfl rfl (cx_le rfl) (cx_le rfl) dX6_plays_224
  · exact cx_vret h rfl rfl (cx_le rfl) (cx_le rfl) dX6_plays_204
noncomputable def cSt_plays_157 (N : cx_N) (b : Nat) (how : Nat) (M : cx_M) (x5 : Int32) (z1 : Int32) (z2 : Int32) : Option cx_R :=
  cx_cal (jBs_set N (b + 42) M z1 z2) fun M1 _ =>
  cx_get M1 b 6 fun v2 =>
  cx_put M1 b 6 (v2 + 1) fun M3 =>
  cx_get M3 b 14 fun v4 =>
  cx_put M3 b 14 (v4 + 1) fun M5 =>
  if x5 = 0 then (
    cx_get M5 b 21 fun v6 =>
    cSt_plays_196 N b how M5 x5 (v6 + 1))
  else (
    cSt_plays_196 N b how M5 x5 0)
set_option maxRecDepth 100000 in
theorem cSt_plays_157_v {l : Launch} {g : cx_G} {adr : Nat → Nat} {X : cx_X} {N : cx_N} {b : Nat} {how : Nat} (H : cCp_H g adr N) (hb : cSt_H g adr b) (hhow : how < 3) (M : cx_M) (x5 : Int32) (z1 : Int32) (z2 : Int32) (rs : cx_R) (h : cSt_plays_157 N b how M x5 z1 z2 = some rs) : cx_V l (g) X sX6_plays cX6_plays 157 [(0, .ref (adr b)), (5, .int x5)] [.int z2, .int z1, .ref (adr (b + 42))] M 0 0 rs := by
  unfold cSt_plays_157 at h
  refine cx_cVv [.int z1, .int z2] [] h (fun rs' h' => jBs_set_m H (cSt_B41 hb) M z1 z2 rs' h') (jBs_rc (cSt_B41 hb)) dX6_plays_157 g_X6_272 hg_X6_272 ⟨cx_le rfl, cx_le rfl⟩ rfl ⟨rfl, rfl⟩ ⟨cx_le rfl, cx_le rfl⟩ rfl (cx_le rfl) (fun M1 _ h => ?_)
  refine cx_aload_n 0 dX6_plays_160 rfl ?_
  refine cx_dup dX6_plays_161 rfl ?_
  refine cx_getI h (cSt_F6 hb) q660 dX6_plays_162 (fun v2 h => ?_)
  refine cx_iconst 1 dX6_plays_165 cx_ic_1 ?_
  refine cx_iadd dX6_plays_166 ?_
  refine cx_putI h (cSt_F6 hb) rfl rfl rfl q660 dX6_plays_167 (fun M3 h => ?_)
  refine cx_aload_n 0 dX6_plays_170 rfl ?_
  refine cx_dup dX6_plays_171 rfl ?_
  refine cx_getI h (cSt_F14 hb) q676 dX6_plays_172 (fun v4 h => ?_)
  refine cx_iconst 1 dX6_plays_175 cx_ic_1 ?_
  refine cx_iadd dX6_plays_176 ?_
  refine cx_putI h (cSt_F14 hb) rfl rfl rfl q676 dX6_plays_177 (fun M5 h => ?_)
  refine cx_aload_n 0 dX6_plays_180 rfl ?_
  refine cx_iload 1 dX6_plays_181 rfl ?_
  refine cx_if_eq 190 h dX6_plays_183 rfl (fun h => ?_) (fun h => ?_)
  · refine cx_aload_n 0 dX6_plays_190 rfl ?_
    refine cx_getI h (cSt_F21 hb) q686 dX6_plays_191 (fun v6 h => ?_)
    refine cx_iconst 1 dX6_plays_194 cx_ic_1 ?_
    refine cx_iadd dX6_plays_195 ?_
    exact cSt_plays_196_v H hb hhow M5 x5 (v6 + 1) _ h
  · refine cx_iconst 0 dX6_plays_186 cx_ic_0 ?_
    refine cx_goto 196 dX6_plays_187 rfl ?_
    exact cSt_plays_196_v H hb hhow M5 x5 0 _ h
noncomputable def cSt_plays_120 (N : cx_N) (b : Nat) (how : Nat) (M : cx_M) (x5 : Int32) (x6 : Int32) : Option cx_R :=
  cx_get M b 6 fun v1 =>
  cx_st M (b + 40) 128 (cx_rem v1 128) x6 fun M2 =>
  cx_get M2 b 6 fun v3 =>
  if x5 = 0 then (
    cSt_plays_157 N b how M2 x5 (cx_rem v3 128) 1)
  else (
    cSt_plays_157 N b how M2 x5 (cx_rem v3 128) 0)
set_option maxRecDepth 100000 in
theorem cSt_plays_120_v {l : Launch} {g : cx_G} {adr : Nat → Nat} {X : cx_X} {N : cx_N} {b : Nat} {how : Nat} (H : cCp_H g adr N) (hb : cSt_H g adr b) (hhow : how < 3) (M : cx_M) (x5 : Int32) (x6 : Int32) (rs : cx_R) (h : cSt_plays_120 N b how M x5 x6 = some rs) : cx_V l (g) X sX6_plays cX6_plays 120 [(0, .ref (adr b)), (5, .int x5), (6, .int x6)] [] M 0 0 rs := by
  unfold cSt_plays_120 at h
  refine cx_aload_n 0 dX6_plays_120 rfl ?_
  refine cx_getR (cSt_R39 hb) q720 dX6_plays_121 ?_
  refine cx_aload_n 0 dX6_plays_124 rfl ?_
  refine cx_getI h (cSt_F6 hb) q660 dX6_plays_125 (fun v1 h => ?_)
  refine cx_sipush 128 dX6_plays_128 cx_sp_128 ?_
  refine cx_iremC cx_ne_128 dX6_plays_131 ?_
  refine cx_iload 2 dX6_plays_132 rfl ?_
  refine cx_stI h (cSt_A39 hb) dX6_plays_134 (fun M2 h => ?_)
  refine cx_aload_n 0 dX6_plays_135 rfl ?_
  refine cx_getR (cSt_R41 hb) q722 dX6_plays_136 ?_
  refine cx_aload_n 0 dX6_plays_139 rfl ?_
  refine cx_getI h (cSt_F6 hb) q660 dX6_plays_140 (fun v3 h => ?_)
  refine cx_sipush 128 dX6_plays_143 cx_sp_128 ?_
  refine cx_iremC cx_ne_128 dX6_plays_146 ?_
  refine cx_iload 1 dX6_plays_147 rfl ?_
  refine cx_if_ne 156 h dX6_plays_149 rfl (fun h => ?_) (fun h => ?_)
  · refine cx_iconst 0 dX6_plays_156 cx_ic_0 ?_
    refine cx_sub (lv' := [(0, .ref (adr b)), (5, .int x5)]) [0, 1] rfl ?_
    exact cSt_plays_157_v H hb hhow M2 x5 (cx_rem v3 128) 0 _ h
  · refine cx_iconst 1 dX6_plays_152 cx_ic_1 ?_
    refine cx_goto 157 dX6_plays_153 rfl ?_
    refine cx_sub (lv' := [(0, .ref (adr b)), (5, .int x5)]) [0, 1] rfl ?_
    exact cSt_plays_157_v H hb hhow M2 x5 (cx_rem v3 128) 1 _ h
noncomputable def cSt_plays_75 (N : cx_N) (b : Nat) (how : Nat) (M : cx_M) (x5 : Int32) (z0 : Int32) : Option cx_R :=
  if x5 = 0 then (
    cSt_plays_120 N b how M x5 z0)
  else (
    cx_get M b 16 fun v1 =>
    cx_get M 8000 0 fun v2 =>
    cx_get M b 14 fun v3 =>
    cx_get M b 15 fun v4 =>
    cx_cal (cLn_octet N M (((v1 * v2) + v3) - v4)) fun M5 v6 =>
    if z0 = v6 then (
      cSt_plays_120 N b how M5 x5 z0)
    else (
      cx_get M5 b 23 fun v7 =>
      cx_put M5 b 23 (v7 + 1) fun M8 =>
      cSt_plays_120 N b how M8 x5 z0))
set_option maxRecDepth 100000 in
theorem cSt_plays_75_v {l : Launch} {g : cx_G} {adr : Nat → Nat} {X : cx_X} {N : cx_N} {b : Nat} {how : Nat} (H : cCp_H g adr N) (hb : cSt_H g adr b) (hhow : how < 3) (M : cx_M) (x5 : Int32) (z0 : Int32) (rs : cx_R) (h : cSt_plays_75 N b how M x5 z0 = some rs) : cx_V l (g) X sX6_plays cX6_plays 75 [(0, .ref (adr b)), (1, .ref (adr 8000)), (5, .int x5)] [.int z0] M 0 0 rs := by
  unfold cSt_plays_75 at h
  refine cx_istore [(6, .int z0), (0, .ref (adr b)), (1, .ref (adr 8000)), (5, .int x5)] dX6_plays_75 (cx_lt rfl) rfl ?_
  refine cx_iload 3 dX6_plays_77 rfl ?_
  refine cx_if_eq 120 h dX6_plays_79 rfl (fun h => ?_) (fun h => ?_)
  · refine cx_sub (lv' := [(0, .ref (adr b)), (5, .int x5), (6, .int z0)]) [1, 3, 0] rfl ?_
    exact cSt_plays_120_v H hb hhow M x5 z0 _ h
  · refine cx_iload 0 dX6_plays_82 rfl ?_
    refine cx_aload_n 2 dX6_plays_84 rfl ?_
    refine cx_aload_n 1 dX6_plays_85 rfl ?_
    refine cx_getI h (cSt_F16 hb) q679 dX6_plays_86 (fun v1 h => ?_)
    refine cx_aload_n 2 dX6_plays_89 rfl ?_
    refine cx_getIN h (cLn_F0 H) q559 dX6_plays_90 (fun v2 h => ?_)
    refine cx_imul dX6_plays_93 ?_
    refine cx_aload_n 1 dX6_plays_94 rfl ?_
    refine cx_getI h (cSt_F14 hb) q676 dX6_plays_95 (fun v3 h => ?_)
    refine cx_iadd dX6_plays_98 ?_
    refine cx_aload_n 1 dX6_plays_99 rfl ?_
    refine cx_getI h (cSt_F15 hb) q678 dX6_plays_100 (fun v4 h => ?_)
    refine cx_isub dX6_plays_103 ?_
    refine cx_cVi [.int (((v1 * v2) + v3) - v4)] [.int z0] h (fun rs' h' => cLn_octet_m H M (((v1 * v2) + v3) - v4) rs' h') (cLn_rc H) dX6_plays_104 g_X6_264 hg_X6_264 ⟨cx_le rfl, cx_le rfl⟩ rfl ⟨rfl, rfl⟩ ⟨cx_le rfl, cx_le rfl⟩ rfl (cx_le rfl) (fun M5 v6 h => ?_)
    refine cx_icmp_eq 120 h dX6_plays_107 rfl (fun h => ?_) (fun h => ?_)
    · refine cx_sub (lv' := [(0, .ref (adr b)), (5, .int x5), (6, .int z0)]) [1, 3, 0] rfl ?_
      exact cSt_plays_120_v H hb hhow M5 x5 z0 _ h
    · refine cx_aload_n 1 dX6_plays_110 rfl ?_
      refine cx_dup dX6_plays_111 rfl ?_
      refine cx_getI h (cSt_F23 hb) q689 dX6_plays_112 (fun v7 h => ?_)
      refine cx_iconst 1 dX6_plays_115 cx_ic_1 ?_
      refine cx_iadd dX6_plays_116 ?_
      refine cx_putI h (cSt_F23 hb) rfl rfl rfl q689 dX6_plays_117 (fun M8 h => ?_)
      refine cx_sub (lv' := [(0, .ref (adr b)), (5, .int x5), (6, .int z0)]) [1, 3, 0] rfl ?_
      exact cSt_plays_120_v H hb hhow M8 x5 z0 _ h
noncomputable def cSt_plays_32 (N : cx_N) (b : Nat) (how : Nat) (M : cx_M) (x4 : Int32) (z0 : Int32) : Option cx_R :=
  if z0 = 0 then (
    cx_cal (cFi_of N how b M) fun M1 v2 =>
    cSt_plays_75 N b how M1 z0 v2)
  else (
    cx_ld M (b + 39) 64 x4 fun v3 =>
    cx_get M 8000 0 fun v4 =>
    cx_get M b 14 fun v5 =>
    cx_get M 8000 0 fun v6 =>
    cx_nz v6 <|
    cx_cal (cLn_octet N M ((v3 * v4) + (cx_rem v5 v6))) fun M7 v8 =>
    cSt_plays_75 N b how M7 z0 v8)
set_option maxRecDepth 100000 in
theorem cSt_plays_32_v {l : Launch} {g : cx_G} {adr : Nat → Nat} {X : cx_X} {N : cx_N} {b : Nat} {how : Nat} (H : cCp_H g adr N) (hb : cSt_H g adr b) (hhow : how < 3) (M : cx_M) (x4 : Int32) (z0 : Int32) (rs : cx_R) (h : cSt_plays_32 N b how M x4 z0 = some rs) : cx_V l (g) X sX6_plays cX6_plays 32 [(0, .ref (adr b)), (1, .ref (adr 8000)), (2, .ref (adr (9100 + how))), (4, .int x4)] [.int z0] M 0 0 rs := by
  unfold cSt_plays_32 at h
  refine cx_istore [(5, .int z0), (0, .ref (adr b)), (1, .ref (adr 8000)), (2, .ref (adr (9100 + how))), (4, .int x4)] dX6_plays_32 (cx_lt rfl) rfl ?_
  refine cx_iload 0 dX6_plays_34 rfl ?_
  refine cx_if_eq 68 h dX6_plays_36 rfl (fun h => ?_) (fun h => ?_)
  · refine cx_aload_n 3 dX6_plays_68 rfl ?_
    refine cx_aload_n 1 dX6_plays_69 rfl ?_
    refine cLs_fi_ H hhow hb h dX6_plays_70 q1278 q1277 (cx_le rfl) (cx_le rfl) (cx_le rfl) (cx_le rfl) (cx_le rfl) (fun M1 v2 h => ?_)
    refine cx_sub (lv' := [(0, .ref (adr b)), (1, .ref (adr 8000)), (5, .int z0)]) [1, 2, 0] rfl ?_
    exact cSt_plays_75_v H hb hhow M1 z0 v2 _ h
  · refine cx_aload_n 2 dX6_plays_39 rfl ?_
    refine cx_aload_n 1 dX6_plays_40 rfl ?_
    refine cx_getR (cSt_R38 hb) q718 dX6_plays_41 ?_
    refine cx_iload 4 dX6_plays_44 rfl ?_
    refine cx_ldI h (cSt_A38 hb) dX6_plays_46 (fun v3 h => ?_)
    refine cx_aload_n 2 dX6_plays_47 rfl ?_
    refine cx_getIN h (cLn_F0 H) q559 dX6_plays_48 (fun v4 h => ?_)
    refine cx_imul dX6_plays_51 ?_
    refine cx_aload_n 1 dX6_plays_52 rfl ?_
    refine cx_getI h (cSt_F14 hb) q676 dX6_plays_53 (fun v5 h => ?_)
    refine cx_aload_n 2 dX6_plays_56 rfl ?_
    refine cx_getIN h (cLn_F0 H) q559 dX6_plays_57 (fun v6 h => ?_)
    refine cx_irem h dX6_plays_60 (fun h => ?_)
    refine cx_iadd dX6_plays_61 ?_
    refine cx_cVi [.int ((v3 * v4) + (cx_rem v5 v6))] [] h (fun rs' h' => cLn_octet_m H M ((v3 * v4) + (cx_rem v5 v6)) rs' h') (cLn_rc H) dX6_plays_62 g_X6_264 hg_X6_264 ⟨cx_le rfl, cx_le rfl⟩ rfl ⟨rfl, rfl⟩ ⟨cx_le rfl, cx_le rfl⟩ rfl (cx_le rfl) (fun M7 v8 h => ?_)
    refine cx_goto 75 dX6_plays_65 rfl ?_
    refine cx_sub (lv' := [(0, .ref (adr b)), (1, .ref (adr 8000)), (5, .int z0)]) [1, 2, 0] rfl ?_
    exact cSt_plays_75_v H hb hhow M7 z0 v8 _ h
noncomputable def cSt_plays_0 (N : cx_N) (b : Nat) (how : Nat) (M : cx_M) : Option cx_R :=
  cx_get M b 14 fun v1 =>
  cx_get M 8000 0 fun v2 =>
  cx_nz v2 <|
  cx_let (v1 / v2) fun v3 =>
  cx_let (cx_rem v3 64) fun v4 =>
  cx_ld M (b + 38) 64 v4 fun v5 =>
  if v5 = v3 then (
    cSt_plays_32 N b how M v4 1)
  else (
    cSt_plays_32 N b how M v4 0)
set_option maxRecDepth 100000 in
theorem cSt_plays_0_v {l : Launch} {g : cx_G} {adr : Nat → Nat} {X : cx_X} {N : cx_N} {b : Nat} {how : Nat} (H : cCp_H g adr N) (hb : cSt_H g adr b) (hhow : how < 3) (M : cx_M) (rs : cx_R) (h : cSt_plays_0 N b how M = some rs) : cx_V l (g) X sX6_plays cX6_plays 0 [(0, .ref (adr b)), (1, .ref (adr 8000)), (2, .ref (adr (9100 + how)))] [] M 0 0 rs := by
  unfold cSt_plays_0 at h
  refine cx_aload_n 0 dX6_plays_0 rfl ?_
  refine cx_getI h (cSt_F14 hb) q676 dX6_plays_1 (fun v1 h => ?_)
  refine cx_aload_n 1 dX6_plays_4 rfl ?_
  refine cx_getIN h (cLn_F0 H) q559 dX6_plays_5 (fun v2 h => ?_)
  refine cx_idiv h dX6_plays_8 (fun h => ?_)
  refine cx_letI h (fun v3 h => ?_)
  refine cx_istore_n [(3, .int v3), (0, .ref (adr b)), (1, .ref (adr 8000)), (2, .ref (adr (9100 + how)))] dX6_plays_9 (cx_lt rfl) rfl ?_
  refine cx_iload_n 0 dX6_plays_10 rfl ?_
  refine cx_bipush 64 dX6_plays_11 cx_bp_64 ?_
  refine cx_iremC cx_ne_64 dX6_plays_13 ?_
  refine cx_letI h (fun v4 h => ?_)
  refine cx_istore [(4, .int v4), (3, .int v3), (0, .ref (adr b)), (1, .ref (adr 8000)), (2, .ref (adr (9100 + how)))] dX6_plays_14 (cx_lt rfl) rfl ?_
  refine cx_aload_n 2 dX6_plays_16 rfl ?_
  refine cx_getR (cSt_R37 hb) q716 dX6_plays_17 ?_
  refine cx_iload 0 dX6_plays_20 rfl ?_
  refine cx_ldI h (cSt_A37 hb) dX6_plays_22 (fun v5 h => ?_)
  refine cx_iload_n 1 dX6_plays_23 rfl ?_
  refine cx_icmp_ne 31 h dX6_plays_24 rfl (fun h => ?_) (fun h => ?_)
  · refine cx_iconst 0 dX6_plays_31 cx_ic_0 ?_
    refine cx_sub (lv' := [(0, .ref (adr b)), (1, .ref (adr 8000)), (2, .ref (adr (9100 + how))), (4, .int v4)]) [2, 3, 4, 0] rfl ?_
    exact cSt_plays_32_v H hb hhow M v4 0 _ h
  · refine cx_iconst 1 dX6_plays_27 cx_ic_1 ?_
    refine cx_goto 32 dX6_plays_28 rfl ?_
    refine cx_sub (lv' := [(0, .ref (adr b)), (1, .ref (adr 8000)), (2, .ref (adr (9100 + how))), (4, .int v4)]) [2, 3, 4, 0] rfl ?_
    exact cSt_plays_32_v H hb hhow M v4 1 _ h
noncomputable def cSt_plays (N : cx_N) (b : Nat) (how : Nat) (M : cx_M) : Option cx_R := cSt_plays_0 N b how M
theorem cSt_plays_m {l : Launch} {g : cx_G} {adr : Nat → Nat} {N : cx_N} {b : Nat} {how : Nat} (H : cCp_H g adr N) (hb : cSt_H g adr b) (hhow : how < 3) (M : cx_M) (rs : cx_R) (h : cSt_plays N b how M = some rs) : cx_Met l (g) yX6_plays cX6_plays sX6_plays [.ref (adr b), .ref (adr 8000), .ref (adr (9100 + how))] M rs :=
  cx_met (by decide +kernel) rfl rfl (lv := [(0, .ref (adr b)), (1, .ref (adr 8000)), (2, .ref (adr (9100 + how)))]) rfl (cx_le rfl) (fun X => cx_sub (lv' := [(0, .ref (adr b)), (1, .ref (adr 8000)), (2, .ref (adr (9100 + how)))]) [0, 1, 2] rfl (cSt_plays_0_v H hb hhow M rs h))

abbrev sX6_goes : cx_S := (4, RX6, cx_rV, { frames := 903, cells := 0, slots := 0, locals := 30066 }, none, false)
noncomputable def cSt_goes_59 (N : cx_N) (b : Nat) (how : Nat) (r_22 : cx_M → Option cx_R) (M : cx_M) : Option cx_R :=
  cx_get M b 9 fun v1 =>
  cx_put M b 9 (v1 - 1000) fun M2 =>
  r_22 M2
set_option maxRecDepth 100000 in
theorem cSt_goes_59_v {l : Launch} {g : cx_G} {adr : Nat → Nat} {X : cx_X} {N : cx_N} {b : Nat} {how : Nat} {r_22 : cx_M → Option cx_R} (H : cCp_H g adr N) (hb : cSt_H g adr b) (hhow : how < 3) (hr_22 : ∀ (M : cx_M) (rs : cx_R), r_22 M = some rs → cx_V l (g) X sX6_goes cX6_goes 22 [(0, .ref (adr b)), (1, .ref (adr 8000)), (2, .ref (adr (9100 + how)))] [] M 0 0 rs) (M : cx_M) (rs : cx_R) (h : cSt_goes_59 N b how r_22 M = some rs) : cx_V l (g) X sX6_goes cX6_goes 59 [(0, .ref (adr b)), (1, .ref (adr 8000)), (2, .ref (adr (9100 + how)))] [] M 0 0 rs := by
  unfold cSt_goes_59 at h
  refine cx_aload_n 0 dX6_goes_59 rfl ?_
  refine cx_dup dX6_goes_60 rfl ?_
  refine cx_getI h (cSt_F9 hb) q666 dX6_goes_61 (fun v1 h => ?_)
  refine cx_sipush 1000 dX6_goes_64 cx_sp_1000 ?_
  refine cx_isub dX6_goes_67 ?_
  refine cx_putI h (cSt_F9 hb) rfl rfl rfl q666 dX6_goes_68 (fun M2 h => ?_)
  refine cx_goto 22 dX6_goes_71 rfl ?_
  exact hr_22 M2 _ h
noncomputable def cSt_goes_233 (N : cx_N) (b : Nat) (how : Nat) (M : cx_M) : Option cx_R :=
  cx_get M b 0 fun v1 =>
  cx_put M b 0 (v1 + 1) fun M2 =>
  some (M2, 0, 0)
set_option maxRecDepth 100000 in
theorem cSt_goes_233_v {l : Launch} {g : cx_G} {adr : Nat → Nat} {X : cx_X} {N : cx_N} {b : Nat} {how : Nat} (H : cCp_H g adr N) (hb : cSt_H g adr b) (hhow : how < 3) (M : cx_M) (rs : cx_R) (h : cSt_goes_233 N b how M = some rs) : cx_V l (g) X sX6_goes cX6_goes 233 [(0, .ref (adr b))] [] M 0 0 rs := by
  unfold cSt_goes_233 at h
  refine cx_aload_n 0 dX6_goes_233 rfl ?_
  refine cx_dup dX6_goes_234 rfl ?_
  refine cx_getI h (cSt_F0 hb) q648 dX6_goes_235 (fun v1 h => ?_)
  refine cx_iconst 1 dX6_goes_238 cx_ic_1 ?_
  refine cx_iadd dX6_goes_239 ?_
  refine cx_putI h (cSt_F0 hb) rfl rfl rfl q648 dX6_goes_240 (fun M2 h => ?_)
  exact cx_vret h rfl rfl (cx_le rfl) (cx_le rfl) dX6_goes_243
noncomputable def cSt_goes_194b (N : cx_N) (b : Nat) (how : Nat) (r_194 : cx_M → Option cx_R) (M : cx_M) : Option cx_R :=
  cx_get M b 10 fun v1 =>
  if v1 < 1000 then (
    cSt_goes_233 N b how M)
  else (
    cx_get M b 8 fun v2 =>
    if v2 = 2 then (
      cx_cal (cSt_plays N b how M) fun M3 _ =>
      cx_get M3 b 10 fun v4 =>
      cx_put M3 b 10 (v4 - 1000) fun M5 =>
      r_194 M5)
    else (
      cSt_goes_233 N b how M))
set_option maxRecDepth 100000 in
theorem cSt_goes_194b_v {l : Launch} {g : cx_G} {adr : Nat → Nat} {X : cx_X} {N : cx_N} {b : Nat} {how : Nat} {r_194 : cx_M → Option cx_R} (H : cCp_H g adr N) (hb : cSt_H g adr b) (hhow : how < 3) (hr_194 : ∀ (M : cx_M) (rs : cx_R), r_194 M = some rs → cx_V l (g) X sX6_goes cX6_goes 194 [(0, .ref (adr b)), (1, .ref (adr 8000)), (2, .ref (adr (9100 + how)))] [] M 0 0 rs) (M : cx_M) (rs : cx_R) (h : cSt_goes_194b N b how r_194 M = some rs) : cx_V l (g) X sX6_goes cX6_goes 194 [(0, .ref (adr b)), (1, .ref (adr 8000)), (2, .ref (adr (9100 + how)))] [] M 0 0 rs := by
  unfold cSt_goes_194b at h
  refine cx_aload_n 0 dX6_goes_194 rfl ?_
  refine cx_getI h (cSt_F10 hb) q668 dX6_goes_195 (fun v1 h => ?_)
  refine cx_sipush 1000 dX6_goes_198 cx_sp_1000 ?_
  refine cx_icmp_lt 233 h dX6_goes_201 rfl (fun h => ?_) (fun h => ?_)
  · refine cx_sub (lv' := [(0, .ref (adr b))]) [0] rfl ?_
    exact cSt_goes_233_v H hb hhow M _ h
  · refine cx_aload_n 0 dX6_goes_204 rfl ?_
    refine cx_getI h (cSt_F8 hb) q664 dX6_goes_205 (fun v2 h => ?_)
    refine cx_iconst 2 dX6_goes_208 cx_ic_2 ?_
    refine cx_icmp_ne 233 h dX6_goes_209 rfl (fun h => ?_) (fun h => ?_)
    · refine cx_sub (lv' := [(0, .ref (adr b))]) [0] rfl ?_
      exact cSt_goes_233_v H hb hhow M _ h
    · refine cx_aload_n 0 dX6_goes_212 rfl ?_
      refine cx_aload_n 1 dX6_goes_213 rfl ?_
      refine cx_aload_n 2 dX6_goes_214 rfl ?_
      refine cx_cVv [.ref (adr 8000), .ref (adr (9100 + how))] [] h (fun rs' h' => cSt_plays_m H hb hhow M rs' h') (cSt_rc hb) dX6_goes_215 g_X6_291 hg_X6_291 ⟨cx_le rfl, cx_le rfl⟩ rfl ⟨rfl, rfl⟩ ⟨cx_le rfl, cx_le rfl⟩ rfl (cx_le rfl) (fun M3 _ h => ?_)
      refine cx_aload_n 0 dX6_goes_218 rfl ?_
      refine cx_dup dX6_goes_219 rfl ?_
      refine cx_getI h (cSt_F10 hb) q668 dX6_goes_220 (fun v4 h => ?_)
      refine cx_sipush 1000 dX6_goes_223 cx_sp_1000 ?_
      refine cx_isub dX6_goes_226 ?_
      refine cx_putI h (cSt_F10 hb) rfl rfl rfl q668 dX6_goes_227 (fun M5 h => ?_)
      refine cx_goto 194 dX6_goes_230 rfl ?_
      exact hr_194 M5 _ h
noncomputable def cSt_goes_194 (N : cx_N) (b : Nat) (how : Nat) : Nat → cx_M → Option cx_R :=
  cx_fix (fun _ => none) (fun r_194 => cSt_goes_194b N b how r_194)
theorem cSt_goes_194_v {l : Launch} {g : cx_G} {adr : Nat → Nat} {X : cx_X} {N : cx_N} {b : Nat} {how : Nat} (H : cCp_H g adr N) (hb : cSt_H g adr b) (hhow : how < 3) : ∀ (n : Nat) (M : cx_M) (rs : cx_R), cSt_goes_194 N b how n M = some rs → cx_V l (g) X sX6_goes cX6_goes 194 [(0, .ref (adr b)), (1, .ref (adr 8000)), (2, .ref (adr (9100 + how)))] [] M 0 0 rs :=
  cx_fixI (fun (r : cx_M → Option cx_R) => ∀ (M : cx_M) (rs : cx_R), r M = some rs → cx_V l (g) X sX6_goes cX6_goes 194 [(0, .ref (adr b)), (1, .ref (adr 8000)), (2, .ref (adr (9100 + how)))] [] M 0 0 rs) (fun _ _ h => by cases h) (fun r hr M rs h => cSt_goes_194b_v H hb hhow hr M rs h)
noncomputable def cSt_goes_151 (N : cx_N) (b : Nat) (how : Nat) (M : cx_M) : Option cx_R :=
  cx_get M b 8 fun v1 =>
  if v1 = 2 then (
    cx_get M b 13 fun v2 =>
    cx_get M b 28 fun v3 =>
    cx_get M b 12 fun v4 =>
    cx_put M b 13 (v2 + (v3 - v4)) fun M5 =>
    cx_get M5 b 10 fun v6 =>
    cx_get M5 b 12 fun v7 =>
    cx_put M5 b 10 (v6 + ((1000 : Int32) + v7)) fun M8 =>
    cSt_goes_194 N b how N.1 M8)
  else (
    cSt_goes_233 N b how M)
set_option maxRecDepth 100000 in
theorem cSt_goes_151_v {l : Launch} {g : cx_G} {adr : Nat → Nat} {X : cx_X} {N : cx_N} {b : Nat} {how : Nat} (H : cCp_H g adr N) (hb : cSt_H g adr b) (hhow : how < 3) (M : cx_M) (rs : cx_R) (h : cSt_goes_151 N b how M = some rs) : cx_V l (g) X sX6_goes cX6_goes 151 [(0, .ref (adr b)), (1, .ref (adr 8000)), (2, .ref (adr (9100 + how)))] [] M 0 0 rs := by
  unfold cSt_goes_151 at h
  refine cx_aload_n 0 dX6_goes_151 rfl ?_
  refine cx_getI h (cSt_F8 hb) q664 dX6_goes_152 (fun v1 h => ?_)
  refine cx_iconst 2 dX6_goes_155 cx_ic_2 ?_
  refine cx_icmp_ne 233 h dX6_goes_156 rfl (fun h => ?_) (fun h => ?_)
  · refine cx_sub (lv' := [(0, .ref (adr b))]) [0] rfl ?_
    exact cSt_goes_233_v H hb hhow M _ h
  · refine cx_aload_n 0 dX6_goes_159 rfl ?_
    refine cx_dup dX6_goes_160 rfl ?_
    refine cx_getI h (cSt_F13 hb) q674 dX6_goes_161 (fun v2 h => ?_)
    refine cx_aload_n 0 dX6_goes_164 rfl ?_
    refine cx_getI h (cSt_F28 hb) q698 dX6_goes_165 (fun v3 h => ?_)
    refine cx_aload_n 0 dX6_goes_168 rfl ?_
    refine cx_getI h (cSt_F12 hb) q672 dX6_goes_169 (fun v4 h => ?_)
    refine cx_isub dX6_goes_172 ?_
    refine cx_iadd dX6_goes_173 ?_
    refine cx_putI h (cSt_F13 hb) rfl rfl rfl q674 dX6_goes_174 (fun M5 h => ?_)
    refine cx_aload_n 0 dX6_goes_177 rfl ?_
    refine cx_dup dX6_goes_178 rfl ?_
    refine cx_getI h (cSt_F10 hb) q668 dX6_goes_179 (fun v6 h => ?_)
    refine cx_sipush 1000 dX6_goes_182 cx_sp_1000 ?_
    refine cx_aload_n 0 dX6_goes_185 rfl ?_
    refine cx_getI h (cSt_F12 hb) q672 dX6_goes_186 (fun v7 h => ?_)
    refine cx_iadd dX6_goes_189 ?_
    refine cx_iadd dX6_goes_190 ?_
    refine cx_putI h (cSt_F10 hb) rfl rfl rfl q668 dX6_goes_191 (fun M8 h => ?_)
    exact cSt_goes_194_v H hb hhow N.1 M8 _ h
noncomputable def cSt_goes_126 (N : cx_N) (b : Nat) (how : Nat) (M : cx_M) (x3 : Int32) : Option cx_R :=
  cx_get M b 8 fun v1 =>
  if v1 = 2 then (
    cx_get M b 0 fun v2 =>
    cx_get M 8000 4 fun v3 =>
    cx_nz v3 <|
    if (cx_rem v2 v3) = 0 then (
      cx_cal (cSt_steers N b M x3) fun M4 _ =>
      cSt_goes_151 N b how M4)
    else (
      cSt_goes_151 N b how M))
  else (
    cSt_goes_151 N b how M)
set_option maxRecDepth 100000 in
theorem cSt_goes_126_v {l : Launch} {g : cx_G} {adr : Nat → Nat} {X : cx_X} {N : cx_N} {b : Nat} {how : Nat} (H : cCp_H g adr N) (hb : cSt_H g adr b) (hhow : how < 3) (M : cx_M) (x3 : Int32) (rs : cx_R) (h : cSt_goes_126 N b how M x3 = some rs) : cx_V l (g) X sX6_goes cX6_goes 126 [(0, .ref (adr b)), (1, .ref (adr 8000)), (2, .ref (adr (9100 + how))), (3, .int x3)] [] M 0 0 rs := by
  unfold cSt_goes_126 at h
  refine cx_aload_n 0 dX6_goes_126 rfl ?_
  refine cx_getI h (cSt_F8 hb) q664 dX6_goes_127 (fun v1 h => ?_)
  refine cx_iconst 2 dX6_goes_130 cx_ic_2 ?_
  refine cx_icmp_ne 151 h dX6_goes_131 rfl (fun h => ?_) (fun h => ?_)
  · refine cx_sub (lv' := [(0, .ref (adr b)), (1, .ref (adr 8000)), (2, .ref (adr (9100 + how)))]) [0, 1, 2] rfl ?_
    exact cSt_goes_151_v H hb hhow M _ h
  · refine cx_aload_n 0 dX6_goes_134 rfl ?_
    refine cx_getI h (cSt_F0 hb) q648 dX6_goes_135 (fun v2 h => ?_)
    refine cx_aload_n 1 dX6_goes_138 rfl ?_
    refine cx_getIN h (cLn_F4 H) q574 dX6_goes_139 (fun v3 h => ?_)
    refine cx_irem h dX6_goes_142 (fun h => ?_)
    refine cx_if_ne 151 h dX6_goes_143 rfl (fun h => ?_) (fun h => ?_)
    · refine cx_sub (lv' := [(0, .ref (adr b)), (1, .ref (adr 8000)), (2, .ref (adr (9100 + how)))]) [0, 1, 2] rfl ?_
      exact cSt_goes_151_v H hb hhow M _ h
    · refine cx_aload_n 0 dX6_goes_146 rfl ?_
      refine cx_iload_n 3 dX6_goes_147 rfl ?_
      refine cx_cVv [.int x3] [] h (fun rs' h' => cSt_steers_m H hb M x3 rs' h') (cSt_rc hb) dX6_goes_148 g_X6_288 hg_X6_288 ⟨cx_le rfl, cx_le rfl⟩ rfl ⟨rfl, rfl⟩ ⟨cx_le rfl, cx_le rfl⟩ rfl (cx_le rfl) (fun M4 _ h => ?_)
      refine cx_sub (lv' := [(0, .ref (adr b)), (1, .ref (adr 8000)), (2, .ref (adr (9100 + how)))]) [0, 1, 2] rfl ?_
      exact cSt_goes_151_v H hb hhow M4 _ h
noncomputable def cSt_goes_22b (N : cx_N) (b : Nat) (how : Nat) (r_22 : cx_M → Option cx_R) (M : cx_M) : Option cx_R :=
  cx_get M b 9 fun v1 =>
  if v1 < 1000 then (
    cx_cal (cSt_come N b M) fun M2 _ =>
    cx_cal (cSt_level N b M2) fun M3 v4 =>
    cx_get M3 b 8 fun v5 =>
    if v5 = 1 then (
      cx_get M3 b 30 fun v6 =>
      if v4 < v6 then (
        cSt_goes_126 N b how M3 v4)
      else (
        cx_put M3 b 8 2 fun M7 =>
        cx_put M7 b 13 0 fun M8 =>
        cx_put M8 b 12 0 fun M9 =>
        cx_put M9 b 11 0 fun M10 =>
        cx_put M10 b 10 0 fun M11 =>
        cSt_goes_126 N b how M11 v4))
    else (
      cSt_goes_126 N b how M3 v4))
  else (
    cx_get M b 1 fun v12 =>
    cx_put M b 1 (v12 + 1) fun M13 =>
    cx_get M13 b 1 fun v14 =>
    cx_get M13 8000 0 fun v15 =>
    cx_nz v15 <|
    if (cx_rem v14 v15) = 0 then (
      cx_cal (cSt_sends N b M13) fun M16 _ =>
      cSt_goes_59 N b how r_22 M16)
    else (
      cSt_goes_59 N b how r_22 M13))
set_option maxRecDepth 100000 in
theorem cSt_goes_22b_v {l : Launch} {g : cx_G} {adr : Nat → Nat} {X : cx_X} {N : cx_N} {b : Nat} {how : Nat} {r_22 : cx_M → Option cx_R} (H : cCp_H g adr N) (hb : cSt_H g adr b) (hhow : how < 3) (hr_22 : ∀ (M : cx_M) (rs : cx_R), r_22 M = some rs → cx_V l (g) X sX6_goes cX6_goes 22 [(0, .ref (adr b)), (1, .ref (adr 8000)), (2, .ref (adr (9100 + how)))] [] M 0 0 rs) (M : cx_M) (rs : cx_R) (h : cSt_goes_22b N b how r_22 M = some rs) : cx_V l (g) X sX6_goes cX6_goes 22 [(0, .ref (adr b)), (1, .ref (adr 8000)), (2, .ref (adr (9100 + how)))] [] M 0 0 rs := by
  unfold cSt_goes_22b at h
  refine cx_aload_n 0 dX6_goes_22 rfl ?_
  refine cx_getI h (cSt_F9 hb) q666 dX6_goes_23 (fun v1 h => ?_)
  refine cx_sipush 1000 dX6_goes_26 cx_sp_1000 ?_
  refine cx_icmp_lt 74 h dX6_goes_29 rfl (fun h => ?_) (fun h => ?_)
  · refine cx_aload_n 0 dX6_goes_74 rfl ?_
    refine cx_aload_n 1 dX6_goes_75 rfl ?_
    refine cx_cVv [.ref (adr 8000)] [] h (fun rs' h' => cSt_come_m H hb M rs' h') (cSt_rc hb) dX6_goes_76 g_X6_279 hg_X6_279 ⟨cx_le rfl, cx_le rfl⟩ rfl ⟨rfl, rfl⟩ ⟨cx_le rfl, cx_le rfl⟩ rfl (cx_le rfl) (fun M2 _ h => ?_)
    refine cx_aload_n 0 dX6_goes_79 rfl ?_
    refine cx_aload_n 1 dX6_goes_80 rfl ?_
    refine cx_cVi [.ref (adr 8000)] [] h (fun rs' h' => cSt_level_m H hb M2 rs' h') (cSt_rc hb) dX6_goes_81 g_X6_282 hg_X6_282 ⟨cx_le rfl, cx_le rfl⟩ rfl ⟨rfl, rfl⟩ ⟨cx_le rfl, cx_le rfl⟩ rfl (cx_le rfl) (fun M3 v4 h => ?_)
    refine cx_istore_n [(3, .int v4), (0, .ref (adr b)), (1, .ref (adr 8000)), (2, .ref (adr (9100 + how)))] dX6_goes_84 (cx_lt rfl) rfl ?_
    refine cx_aload_n 1 dX6_goes_85 rfl ?_
    refine cx_getI h (cSt_F8 hb) q664 dX6_goes_86 (fun v5 h => ?_)
    refine cx_iconst 1 dX6_goes_89 cx_ic_1 ?_
    refine cx_icmp_ne 126 h dX6_goes_90 rfl (fun h => ?_) (fun h => ?_)
    · refine cx_sub (lv' := [(0, .ref (adr b)), (1, .ref (adr 8000)), (2, .ref (adr (9100 + how))), (3, .int v4)]) [1, 2, 3, 0] rfl ?_
      exact cSt_goes_126_v H hb hhow M3 v4 _ h
    · refine cx_iload_n 0 dX6_goes_93 rfl ?_
      refine cx_aload_n 1 dX6_goes_94 rfl ?_
      refine cx_getI h (cSt_F30 hb) q702 dX6_goes_95 (fun v6 h => ?_)
      refine cx_icmp_lt 126 h dX6_goes_98 rfl (fun h => ?_) (fun h => ?_)
      · refine cx_sub (lv' := [(0, .ref (adr b)), (1, .ref (adr 8000)), (2, .ref (adr (9100 + how))), (3, .int v4)]) [1, 2, 3, 0] rfl ?_
        exact cSt_goes_126_v H hb hhow M3 v4 _ h
      · refine cx_aload_n 1 dX6_goes_101 rfl ?_
        refine cx_iconst 2 dX6_goes_102 cx_ic_2 ?_
        refine cx_putI h (cSt_F8 hb) rfl rfl rfl q664 dX6_goes_103 (fun M7 h => ?_)
        refine cx_aload_n 1 dX6_goes_106 rfl ?_
        refine cx_aload_n 1 dX6_goes_107 rfl ?_
        refine cx_aload_n 1 dX6_goes_108 rfl ?_
        refine cx_aload_n 1 dX6_goes_109 rfl ?_
        refine cx_iconst 0 dX6_goes_110 cx_ic_0 ?_
        refine cx_dup_x1 dX6_goes_111 rfl rfl ?_
        refine cx_putI h (cSt_F13 hb) rfl rfl rfl q674 dX6_goes_112 (fun M8 h => ?_)
        refine cx_dup_x1 dX6_goes_115 rfl rfl ?_
        refine cx_putI h (cSt_F12 hb) rfl rfl rfl q672 dX6_goes_116 (fun M9 h => ?_)
        refine cx_dup_x1 dX6_goes_119 rfl rfl ?_
        refine cx_putI h (cSt_F11 hb) rfl rfl rfl q670 dX6_goes_120 (fun M10 h => ?_)
        refine cx_putI h (cSt_F10 hb) rfl rfl rfl q668 dX6_goes_123 (fun M11 h => ?_)
        refine cx_sub (lv' := [(0, .ref (adr b)), (1, .ref (adr 8000)), (2, .ref (adr (9100 + how))), (3, .int v4)]) [1, 2, 3, 0] rfl ?_
        exact cSt_goes_126_v H hb hhow M11 v4 _ h
  · refine cx_aload_n 0 dX6_goes_32 rfl ?_
    refine cx_dup dX6_goes_33 rfl ?_
    refine cx_getI h (cSt_F1 hb) q650 dX6_goes_34 (fun v12 h => ?_)
    refine cx_iconst 1 dX6_goes_37 cx_ic_1 ?_
    refine cx_iadd dX6_goes_38 ?_
    refine cx_putI h (cSt_F1 hb) rfl rfl rfl q650 dX6_goes_39 (fun M13 h => ?_)
    refine cx_aload_n 0 dX6_goes_42 rfl ?_
    refine cx_getI h (cSt_F1 hb) q650 dX6_goes_43 (fun v14 h => ?_)
    refine cx_aload_n 1 dX6_goes_46 rfl ?_
    refine cx_getIN h (cLn_F0 H) q559 dX6_goes_47 (fun v15 h => ?_)
    refine cx_irem h dX6_goes_50 (fun h => ?_)
    refine cx_if_ne 59 h dX6_goes_51 rfl (fun h => ?_) (fun h => ?_)
    · exact cSt_goes_59_v H hb hhow hr_22 M13 _ h
    · refine cx_aload_n 0 dX6_goes_54 rfl ?_
      refine cx_aload_n 1 dX6_goes_55 rfl ?_
      refine cx_cVv [.ref (adr 8000)] [] h (fun rs' h' => cSt_sends_m H hb M13 rs' h') (cSt_rc hb) dX6_goes_56 g_X6_275 hg_X6_275 ⟨cx_le rfl, cx_le rfl⟩ rfl ⟨rfl, rfl⟩ ⟨cx_le rfl, cx_le rfl⟩ rfl (cx_le rfl) (fun M16 _ h => ?_)
      exact cSt_goes_59_v H hb hhow hr_22 M16 _ h
noncomputable def cSt_goes_22 (N : cx_N) (b : Nat) (how : Nat) : Nat → cx_M → Option cx_R :=
  cx_fix (fun _ => none) (fun r_22 => cSt_goes_22b N b how r_22)
theorem cSt_goes_22_v {l : Launch} {g : cx_G} {adr : Nat → Nat} {X : cx_X} {N : cx_N} {b : Nat} {how : Nat} (H : cCp_H g adr N) (hb : cSt_H g adr b) (hhow : how < 3) : ∀ (n : Nat) (M : cx_M) (rs : cx_R), cSt_goes_22 N b how n M = some rs → cx_V l (g) X sX6_goes cX6_goes 22 [(0, .ref (adr b)), (1, .ref (adr 8000)), (2, .ref (adr (9100 + how)))] [] M 0 0 rs :=
  cx_fixI (fun (r : cx_M → Option cx_R) => ∀ (M : cx_M) (rs : cx_R), r M = some rs → cx_V l (g) X sX6_goes cX6_goes 22 [(0, .ref (adr b)), (1, .ref (adr 8000)), (2, .ref (adr (9100 + how)))] [] M 0 0 rs) (fun _ _ h => by cases h) (fun r hr M rs h => cSt_goes_22b_v H hb hhow hr M rs h)
noncomputable def cSt_goes_0 (N : cx_N) (b : Nat) (how : Nat) (M : cx_M) : Option cx_R :=
  cx_put M b 42 0 fun M1 =>
  cx_get M1 b 9 fun v2 =>
  cx_get M1 b 28 fun v3 =>
  cx_put M1 b 9 (v2 + ((1000 : Int32) + v3)) fun M4 =>
  cSt_goes_22 N b how N.1 M4
set_option maxRecDepth 100000 in
theorem cSt_goes_0_v {l : Launch} {g : cx_G} {adr : Nat → Nat} {X : cx_X} {N : cx_N} {b : Nat} {how : Nat} (H : cCp_H g adr N) (hb : cSt_H g adr b) (hhow : how < 3) (M : cx_M) (rs : cx_R) (h : cSt_goes_0 N b how M = some rs) : cx_V l (g) X sX6_goes cX6_goes 0 [(0, .ref (adr b)), (1, .ref (adr 8000)), (2, .ref (adr (9100 + how)))] [] M 0 0 rs := by
  unfold cSt_goes_0 at h
  refine cx_aload_n 0 dX6_goes_0 rfl ?_
  refine cx_iconst 0 dX6_goes_1 cx_ic_0 ?_
  refine cx_putI h (cSt_F42 hb) cx_z_0 cx_f_0 rfl q723 dX6_goes_2 (fun M1 h => ?_)
  refine cx_aload_n 0 dX6_goes_5 rfl ?_
  refine cx_dup dX6_goes_6 rfl ?_
  refine cx_getI h (cSt_F9 hb) q666 dX6_goes_7 (fun v2 h => ?_)
  refine cx_sipush 1000 dX6_goes_10 cx_sp_1000 ?_
  refine cx_aload_n 0 dX6_goes_13 rfl ?_
  refine cx_getI h (cSt_F28 hb) q698 dX6_goes_14 (fun v3 h => ?_)
  refine cx_iadd dX6_goes_17 ?_
  refine cx_iadd dX6_goes_18 ?_
  refine cx_putI h (cSt_F9 hb) rfl rfl rfl q666 dX6_goes_19 (fun M4 h => ?_)
  exact cSt_goes_22_v H hb hhow N.1 M4 _ h
noncomputable def cSt_goes (N : cx_N) (b : Nat) (how : Nat) (M : cx_M) : Option cx_R := cSt_goes_0 N b how M
theorem cSt_goes_m {l : Launch} {g : cx_G} {adr : Nat → Nat} {N : cx_N} {b : Nat} {how : Nat} (H : cCp_H g adr N) (hb : cSt_H g adr b) (hhow : how < 3) (M : cx_M) (rs : cx_R) (h : cSt_goes N b how M = some rs) : cx_Met l (g) yX6_goes cX6_goes sX6_goes [.ref (adr b), .ref (adr 8000), .ref (adr (9100 + how))] M rs :=
  cx_met (by decide +kernel) rfl rfl (lv := [(0, .ref (adr b)), (1, .ref (adr 8000)), (2, .ref (adr (9100 + how)))]) rfl (cx_le rfl) (fun X => cx_sub (lv' := [(0, .ref (adr b)), (1, .ref (adr 8000)), (2, .ref (adr (9100 + how)))]) [0, 1, 2] rfl (cSt_goes_0_v H hb hhow M rs h))

abbrev sX1_goes : cx_S := (4, RX1, cx_rV, { frames := 904, cells := 0, slots := 0, locals := 30089 }, none, false)
noncomputable def cCc_goes_2b (N : cx_N) (b2 : Nat) (r_2 : cx_M → Int32 → Int32 → Option cx_R) (M : cx_M) (x2 : Int32) (x3 : Int32) : Option cx_R :=
  if x2 ≤ x3 then (
    some (M, 0, 0))
  else (
    cx_get M b2 29 fun v1 =>
    cx_ix v1 3 fun j2 =>
    cx_cal (cSt_goes N b2 j2 M) fun M3 _ =>
    cx_let (x3 + 1) fun v4 =>
    r_2 M3 x2 v4)
set_option maxRecDepth 100000 in
theorem cCc_goes_2b_v {l : Launch} {g : cx_G} {adr : Nat → Nat} {X : cx_X} {N : cx_N} {b2 : Nat} {r_2 : cx_M → Int32 → Int32 → Option cx_R} (H : cCp_H g adr N) (hb2 : cSt_H g adr b2) (hr_2 : ∀ (M : cx_M) (x2 : Int32) (x3 : Int32) (rs : cx_R), r_2 M x2 x3 = some rs → cx_V l (g) X sX1_goes cX1_goes 2 [(0, .ref (adr 500)), (1, .ref (adr b2)), (2, .int x2), (3, .int x3)] [] M 0 0 rs) (M : cx_M) (x2 : Int32) (x3 : Int32) (rs : cx_R) (h : cCc_goes_2b N b2 r_2 M x2 x3 = some rs) : cx_V l (g) X sX1_goes cX1_goes 2 [(0, .ref (adr 500)), (1, .ref (adr b2)), (2, .int x2), (3, .int x3)] [] M 0 0 rs := by
  unfold cCc_goes_2b at h
  refine cx_iload_n 3 dX1_goes_2 rfl ?_
  refine cx_iload_n 2 dX1_goes_3 rfl ?_
  refine cx_icmp_ge 38 h dX1_goes_4 rfl (fun h => ?_) (fun h => ?_)
  · exact cx_vret h rfl rfl (cx_le rfl) (cx_le rfl) dX1_goes_38
  · refine cx_aload_n 1 dX1_goes_7 rfl ?_
    refine cx_aload_n 0 dX1_goes_8 rfl ?_
    refine cx_getR (cCc_R0 H) q1017 dX1_goes_9 ?_
    refine cx_aload_n 0 dX1_goes_12 rfl ?_
    refine cx_getR (cCc_R5 H) q1022 dX1_goes_13 ?_
    refine cx_aload_n 1 dX1_goes_16 rfl ?_
    refine cx_getIN h (cSt_F29 hb2) q701 dX1_goes_17 (fun v1 h => ?_)
    refine cLs_fills H h dX1_goes_20 q1164 (cx_le rfl) (cx_le rfl) (cx_le rfl) (cx_le rfl) (cx_le rfl) (fun j2 hj2 h => ?_)
    refine cx_castR (cLs_fic H hj2) q957 dX1_goes_23 ?_
    refine cx_getRN (cLs_fi H hj2) q970 dX1_goes_26 ?_
    refine cx_cVv [.ref (adr 8000), .ref (adr (9100 + j2))] [] h (fun rs' h' => cSt_goes_m H hb2 hj2 M rs' h') (cSt_rc hb2) dX1_goes_29 g_X1_389 hg_X1_389 ⟨cx_le rfl, cx_le rfl⟩ rfl ⟨rfl, rfl⟩ ⟨cx_le rfl, cx_le rfl⟩ rfl (cx_le rfl) (fun M3 _ h => ?_)
    refine cx_iinc 3 1 (fun v4 => [(3, .int v4), (0, .ref (adr 500)), (1, .ref (adr b2)), (2, .int x2)]) h dX1_goes_32 rfl cx_ic_1 (cx_lt rfl) (fun _ => rfl) (fun v4 h => ?_)
    refine cx_goto 2 dX1_goes_35 rfl ?_
    refine cx_sub (lv' := [(0, .ref (adr 500)), (1, .ref (adr b2)), (2, .int x2), (3, .int v4)]) [1, 2, 3, 0] rfl ?_
    exact hr_2 M3 x2 v4 _ h
noncomputable def cCc_goes_2 (N : cx_N) (b2 : Nat) : Nat → cx_M → Int32 → Int32 → Option cx_R :=
  cx_fix (fun _ _ _ => none) (fun r_2 => cCc_goes_2b N b2 r_2)
theorem cCc_goes_2_v {l : Launch} {g : cx_G} {adr : Nat → Nat} {X : cx_X} {N : cx_N} {b2 : Nat} (H : cCp_H g adr N) (hb2 : cSt_H g adr b2) : ∀ (n : Nat) (M : cx_M) (x2 : Int32) (x3 : Int32) (rs : cx_R), cCc_goes_2 N b2 n M x2 x3 = some rs → cx_V l (g) X sX1_goes cX1_goes 2 [(0, .ref (adr 500)), (1, .ref (adr b2)), (2, .int x2), (3, .int x3)] [] M 0 0 rs :=
  cx_fixI (fun (r : cx_M → Int32 → Int32 → Option cx_R) => ∀ (M : cx_M) (x2 : Int32) (x3 : Int32) (rs : cx_R), r M x2 x3 = some rs → cx_V l (g) X sX1_goes cX1_goes 2 [(0, .ref (adr 500)), (1, .ref (adr b2)), (2, .int x2), (3, .int x3)] [] M 0 0 rs) (fun _ _ _ _ h => by cases h) (fun r hr M x2 x3 rs h => cCc_goes_2b_v H hb2 hr M x2 x3 rs h)
noncomputable def cCc_goes_0 (N : cx_N) (b2 : Nat) (M : cx_M) (x2 : Int32) : Option cx_R :=
  cCc_goes_2 N b2 N.1 M x2 0
set_option maxRecDepth 100000 in
theorem cCc_goes_0_v {l : Launch} {g : cx_G} {adr : Nat → Nat} {X : cx_X} {N : cx_N} {b2 : Nat} (H : cCp_H g adr N) (hb2 : cSt_H g adr b2) (M : cx_M) (x2 : Int32) (rs : cx_R) (h : cCc_goes_0 N b2 M x2 = some rs) : cx_V l (g) X sX1_goes cX1_goes 0 [(0, .ref (adr 500)), (1, .ref (adr b2)), (2, .int x2)] [] M 0 0 rs := by
  unfold cCc_goes_0 at h
  refine cx_iconst 0 dX1_goes_0 cx_ic_0 ?_
  refine cx_istore_n [(3, .int 0), (0, .ref (adr 500)), (1, .ref (adr b2)), (2, .int x2)] dX1_goes_1 (cx_lt rfl) rfl ?_
  refine cx_sub (lv' := [(0, .ref (adr 500)), (1, .ref (adr b2)), (2, .int x2), (3, .int 0)]) [1, 2, 3, 0] rfl ?_
  exact cCc_goes_2_v H hb2 N.1 M x2 0 _ h
noncomputable def cCc_goes (N : cx_N) (b2 : Nat) (M : cx_M) (x2 : Int32) : Option cx_R := cCc_goes_0 N b2 M x2
theorem cCc_goes_m {l : Launch} {g : cx_G} {adr : Nat → Nat} {N : cx_N} {b2 : Nat} (H : cCp_H g adr N) (hb2 : cSt_H g adr b2) (M : cx_M) (x2 : Int32) (rs : cx_R) (h : cCc_goes N b2 M x2 = some rs) : cx_Met l (g) yX1_goes cX1_goes sX1_goes [.ref (adr 500), .ref (adr b2), .int x2] M rs :=
  cx_met (by decide +kernel) rfl rfl (lv := [(0, .ref (adr 500)), (1, .ref (adr b2)), (2, .int x2)]) rfl (cx_le rfl) (fun X => cx_sub (lv' := [(0, .ref (adr 500)), (1, .ref (adr b2)), (2, .int x2)]) [0, 1, 2] rfl (cCc_goes_0_v H hb2 M x2 rs h))

abbrev sX1_happens : cx_S := (1, RX1, cx_rV, { frames := 1, cells := 0, slots := 0, locals := 21 }, none, false)
noncomputable def cCc_happens_0 (N : cx_N) (M : cx_M) : Option cx_R :=
  cx_cal (cCc_draw N M 5) fun M1 v2 =>
  cx_sw v2 0 [
      (cx_cal (cCc_draw N M1 4) fun M3 v4 =>
      cx_put M3 1100 26 v4 fun M5 =>
      some (M5, 0, 0)),
      (cx_cal (cCc_draw N M1 12) fun M6 v7 =>
      cx_put M6 1100 27 v7 fun M8 =>
      some (M8, 0, 0)),
      (cx_cal (cCc_draw N M1 41) fun M9 v10 =>
      cx_put M9 1100 28 (v10 - 20) fun M11 =>
      some (M11, 0, 0))
    ] (
      some (M1, 0, 0))
set_option maxRecDepth 100000 in
theorem cCc_happens_0_v {l : Launch} {g : cx_G} {adr : Nat → Nat} {X : cx_X} {N : cx_N} (H : cCp_H g adr N) (M : cx_M) (rs : cx_R) (h : cCc_happens_0 N M = some rs) : cx_V l (g) X sX1_happens cX1_happens 0 [(0, .ref (adr 500))] [] M 0 0 rs := by
  unfold cCc_happens_0 at h
  refine cx_aload_n 0 dX1_happens_0 rfl ?_
  refine cx_iconst 5 dX1_happens_1 cx_ic_5 ?_
  refine cx_cVi [.int 5] [] h (fun rs' h' => cCc_draw_m H M 5 rs' h') (cCc_rc H) dX1_happens_2 g_X1_487 hg_X1_487 ⟨cx_le rfl, cx_le rfl⟩ rfl ⟨rfl, rfl⟩ ⟨cx_le rfl, cx_le rfl⟩ rfl (cx_le rfl) (fun M1 v2 h => ?_)
  refine cx_table 82 [32, 47, 63] 3 h dX1_happens_5 (by decide +kernel) rfl rfl rfl (by decide +kernel) (fun h => ?_) (fun j B hB h => ?_)
  · exact cx_vret h rfl rfl (cx_le rfl) (cx_le rfl) dX1_happens_82
  · match j, hB with
    | 0, hB =>
      cases hB
      refine cx_at (pc2 := 32) rfl ?_
      refine cx_aload_n 0 dX1_happens_32 rfl ?_
      refine cx_getR (cCc_R4 H) q1021 dX1_happens_33 ?_
      refine cx_aload_n 0 dX1_happens_36 rfl ?_
      refine cx_iconst 4 dX1_happens_37 cx_ic_4 ?_
      refine cx_cVi [.int 4] [.ref (adr 1100)] h (fun rs' h' => cCc_draw_m H M1 4 rs' h') (cCc_rc H) dX1_happens_38 g_X1_487 hg_X1_487 ⟨cx_le rfl, cx_le rfl⟩ rfl ⟨rfl, rfl⟩ ⟨cx_le rfl, cx_le rfl⟩ rfl (cx_le rfl) (fun M3 v4 h => ?_)
      refine cx_putIN h (cSt_F26 (cSt_i1100 H)) rfl rfl rfl q695 dX1_happens_41 (fun M5 h => ?_)
      refine cx_goto 82 dX1_happens_44 rfl ?_
      exact cx_vret h rfl rfl (cx_le rfl) (cx_le rfl) dX1_happens_82
    | 1, hB =>
      cases hB
      refine cx_at (pc2 := 47) rfl ?_
      refine cx_aload_n 0 dX1_happens_47 rfl ?_
      refine cx_getR (cCc_R4 H) q1021 dX1_happens_48 ?_
      refine cx_aload_n 0 dX1_happens_51 rfl ?_
      refine cx_bipush 12 dX1_happens_52 cx_bp_12 ?_
      refine cx_cVi [.int 12] [.ref (adr 1100)] h (fun rs' h' => cCc_draw_m H M1 12 rs' h') (cCc_rc H) dX1_happens_54 g_X1_487 hg_X1_487 ⟨cx_le rfl, cx_le rfl⟩ rfl ⟨rfl, rfl⟩ ⟨cx_le rfl, cx_le rfl⟩ rfl (cx_le rfl) (fun M6 v7 h => ?_)
      refine cx_putIN h (cSt_F27 (cSt_i1100 H)) rfl rfl rfl q697 dX1_happens_57 (fun M8 h => ?_)
      refine cx_goto 82 dX1_happens_60 rfl ?_
      exact cx_vret h rfl rfl (cx_le rfl) (cx_le rfl) dX1_happens_82
    | 2, hB =>
      cases hB
      refine cx_at (pc2 := 63) rfl ?_
      refine cx_aload_n 0 dX1_happens_63 rfl ?_
      refine cx_getR (cCc_R4 H) q1021 dX1_happens_64 ?_
      refine cx_aload_n 0 dX1_happens_67 rfl ?_
      refine cx_bipush 41 dX1_happens_68 cx_bp_41 ?_
      refine cx_cVi [.int 41] [.ref (adr 1100)] h (fun rs' h' => cCc_draw_m H M1 41 rs' h') (cCc_rc H) dX1_happens_70 g_X1_487 hg_X1_487 ⟨cx_le rfl, cx_le rfl⟩ rfl ⟨rfl, rfl⟩ ⟨cx_le rfl, cx_le rfl⟩ rfl (cx_le rfl) (fun M9 v10 h => ?_)
      refine cx_bipush 20 dX1_happens_73 cx_bp_20 ?_
      refine cx_isub dX1_happens_75 ?_
      refine cx_putIN h (cSt_F28 (cSt_i1100 H)) rfl rfl rfl q699 dX1_happens_76 (fun M11 h => ?_)
      refine cx_goto 82 dX1_happens_79 rfl ?_
      exact cx_vret h rfl rfl (cx_le rfl) (cx_le rfl) dX1_happens_82
    | j + 3, hB => cases hB
noncomputable def cCc_happens (N : cx_N) (M : cx_M) : Option cx_R := cCc_happens_0 N M
theorem cCc_happens_m {l : Launch} {g : cx_G} {adr : Nat → Nat} {N : cx_N} (H : cCp_H g adr N) (M : cx_M) (rs : cx_R) (h : cCc_happens N M = some rs) : cx_Met l (g) yX1_happens cX1_happens sX1_happens [.ref (adr 500)] M rs :=
  cx_met (by decide +kernel) rfl rfl (lv := [(0, .ref (adr 500))]) rfl (cx_le rfl) (fun X => cx_sub (lv' := [(0, .ref (adr 500))]) [0] rfl (cCc_happens_0_v H M rs h))

abbrev sX1_idle : cx_S := (1, RX1, cx_rI, { frames := 0, cells := 0, slots := 0, locals := 0 }, some .int, false)
noncomputable def cCc_idle_0 (N : cx_N) (b2 : Nat) (M : cx_M) : Option cx_R :=
  some (M, 126, 0)
set_option maxRecDepth 100000 in
theorem cCc_idle_0_v {l : Launch} {g : cx_G} {adr : Nat → Nat} {X : cx_X} {N : cx_N} {b2 : Nat} (H : cCp_H g adr N) (hb2 : cSt_H g adr b2) (M : cx_M) (rs : cx_R) (h : cCc_idle_0 N b2 M = some rs) : cx_V l (g) X sX1_idle cX1_idle 0 [] [] M 0 0 rs := by
  unfold cCc_idle_0 at h
  refine cx_bipush 126 dX1_idle_0 cx_bp_126 ?_
  exact cx_iret h rfl rfl (cx_le rfl) (cx_le rfl) dX1_idle_2
noncomputable def cCc_idle (N : cx_N) (b2 : Nat) (M : cx_M) : Option cx_R := cCc_idle_0 N b2 M
theorem cCc_idle_m {l : Launch} {g : cx_G} {adr : Nat → Nat} {N : cx_N} {b2 : Nat} (H : cCp_H g adr N) (hb2 : cSt_H g adr b2) (M : cx_M) (rs : cx_R) (h : cCc_idle N b2 M = some rs) : cx_Met l (g) yX1_idle cX1_idle sX1_idle [.ref (adr b2)] M rs :=
  cx_met (by decide +kernel) rfl rfl (lv := [(0, .ref (adr b2))]) rfl (cx_le rfl) (fun X => cx_sub (lv' := []) [] rfl (cCc_idle_0_v H hb2 M rs h))

abbrev sX5_like : cx_S := (3, RX5, cx_rV, { frames := 30, cells := 0, slots := 0, locals := 900 }, none, false)
noncomputable def cBk_like_13b (N : cx_N) (b : Nat) (b2 : Nat) (r_13 : cx_M → Int32 → Option cx_R) (M : cx_M) (x2 : Int32) : Option cx_R :=
  cx_get M b2 5 fun v1 =>
  if v1 ≤ x2 then (
    cx_cal (cSt_copies N (b2 + 3) 8 (b + 3) 8 M) fun M2 _ =>
    cx_cal (cSt_copies N (b2 + 4) 8 (b + 4) 8 M2) fun M3 _ =>
    cx_cal (cSt_copies N (b2 + 5) 3 (b + 5) 3 M3) fun M4 _ =>
    cx_get M4 b2 5 fun v5 =>
    cx_put M4 b 5 v5 fun M6 =>
    cx_get M6 b2 6 fun v7 =>
    cx_put M6 b 6 v7 fun M8 =>
    some (M8, 0, 0))
  else (
    cx_ahd (M ((b + 2))) x2 fun j9 =>
    cx_ahd (M ((b2 + 2))) x2 fun j10 =>
    cx_cal (cSt_like N j9 j10 M) fun M11 _ =>
    cx_let (x2 + 1) fun v12 =>
    r_13 M11 v12)
set_option maxRecDepth 100000 in
theorem cBk_like_13b_v {l : Launch} {g : cx_G} {adr : Nat → Nat} {X : cx_X} {N : cx_N} {b : Nat} {b2 : Nat} {r_13 : cx_M → Int32 → Option cx_R} (H : cCp_H g adr N) (hb : cBk_H g adr b) (hb2 : cBk_H g adr b2) (hr_13 : ∀ (M : cx_M) (x2 : Int32) (rs : cx_R), r_13 M x2 = some rs → cx_V l (g) X sX5_like cX5_like 13 [(0, .ref (adr b)), (1, .ref (adr b2)), (2, .int x2)] [] M 0 0 rs) (M : cx_M) (x2 : Int32) (rs : cx_R) (h : cBk_like_13b N b b2 r_13 M x2 = some rs) : cx_V l (g) X sX5_like cX5_like 13 [(0, .ref (adr b)), (1, .ref (adr b2)), (2, .int x2)] [] M 0 0 rs := by
  unfold cBk_like_13b at h
  refine cx_iload_n 2 dX5_like_13 rfl ?_
  refine cx_aload_n 1 dX5_like_14 rfl ?_
  refine cx_getI h (cBk_F5 hb2) q901 dX5_like_15 (fun v1 h => ?_)
  refine cx_icmp_ge 52 h dX5_like_18 rfl (fun h => ?_) (fun h => ?_)
  · refine cx_aload_n 1 dX5_like_52 rfl ?_
    refine cx_getR (cBk_R2 hb2) q895 dX5_like_53 ?_
    refine cx_aload_n 0 dX5_like_56 rfl ?_
    refine cx_getR (cBk_R2 hb) q895 dX5_like_57 ?_
    refine cx_cSNv [.ref (adr (b2 + 3)), .ref (adr (b + 3))] [] h (fun rs' h' => cSt_copies_m H (cBk_A2 hb2) (cBk_A2 hb) M rs' h') dX5_like_60 gN_X5_56 hgN_X5_56 ⟨cx_le rfl, cx_le rfl⟩ rfl ⟨rfl, rfl⟩ ⟨cx_le rfl, cx_le rfl⟩ rfl (cx_le rfl) (fun M2 _ h => ?_)
    refine cx_aload_n 1 dX5_like_63 rfl ?_
    refine cx_getR (cBk_R3 hb2) q897 dX5_like_64 ?_
    refine cx_aload_n 0 dX5_like_67 rfl ?_
    refine cx_getR (cBk_R3 hb) q897 dX5_like_68 ?_
    refine cx_cSNv [.ref (adr (b2 + 4)), .ref (adr (b + 4))] [] h (fun rs' h' => cSt_copies_m H (cBk_A3 hb2) (cBk_A3 hb) M2 rs' h') dX5_like_71 gN_X5_56 hgN_X5_56 ⟨cx_le rfl, cx_le rfl⟩ rfl ⟨rfl, rfl⟩ ⟨cx_le rfl, cx_le rfl⟩ rfl (cx_le rfl) (fun M3 _ h => ?_)
    refine cx_aload_n 1 dX5_like_74 rfl ?_
    refine cx_getR (cBk_R4 hb2) q899 dX5_like_75 ?_
    refine cx_aload_n 0 dX5_like_78 rfl ?_
    refine cx_getR (cBk_R4 hb) q899 dX5_like_79 ?_
    refine cx_cSNv [.ref (adr (b2 + 5)), .ref (adr (b + 5))] [] h (fun rs' h' => cSt_copies_m H (cBk_A4 hb2) (cBk_A4 hb) M3 rs' h') dX5_like_82 gN_X5_56 hgN_X5_56 ⟨cx_le rfl, cx_le rfl⟩ rfl ⟨rfl, rfl⟩ ⟨cx_le rfl, cx_le rfl⟩ rfl (cx_le rfl) (fun M4 _ h => ?_)
    refine cx_aload_n 0 dX5_like_85 rfl ?_
    refine cx_aload_n 1 dX5_like_86 rfl ?_
    refine cx_getI h (cBk_F5 hb2) q901 dX5_like_87 (fun v5 h => ?_)
    refine cx_putI h (cBk_F5 hb) rfl rfl rfl q901 dX5_like_90 (fun M6 h => ?_)
    refine cx_aload_n 0 dX5_like_93 rfl ?_
    refine cx_aload_n 1 dX5_like_94 rfl ?_
    refine cx_getI h (cBk_F6 hb2) q903 dX5_like_95 (fun v7 h => ?_)
    refine cx_putI h (cBk_F6 hb) rfl rfl rfl q903 dX5_like_98 (fun M8 h => ?_)
    exact cx_vret h rfl rfl (cx_le rfl) (cx_le rfl) dX5_like_101
  · refine cx_aload_n 0 dX5_like_21 rfl ?_
    refine cx_getR (cBk_R1 hb) q893 dX5_like_22 ?_
    refine cx_iload_n 2 dX5_like_25 rfl ?_
    refine cLs_ahead H hb h dX5_like_26 q1111 (cx_le rfl) (cx_le rfl) (cx_le rfl) (cx_le rfl) (cx_le rfl) (fun j9 hj9 h => ?_)
    refine cx_castR (cSt_rc hj9) q618 dX5_like_29 ?_
    refine cx_aload_n 1 dX5_like_32 rfl ?_
    refine cx_getR (cBk_R1 hb2) q893 dX5_like_33 ?_
    refine cx_iload_n 2 dX5_like_36 rfl ?_
    refine cLs_ahead H hb2 h dX5_like_37 q1111 (cx_le rfl) (cx_le rfl) (cx_le rfl) (cx_le rfl) (cx_le rfl) (fun j10 hj10 h => ?_)
    refine cx_castR (cSt_rc hj10) q618 dX5_like_40 ?_
    refine cx_cVv [.ref (adr j10)] [] h (fun rs' h' => cSt_like_m H hj9 hj10 M rs' h') (cSt_rc hj9) dX5_like_43 g_X5_52 hg_X5_52 ⟨cx_le rfl, cx_le rfl⟩ rfl ⟨rfl, rfl⟩ ⟨cx_le rfl, cx_le rfl⟩ rfl (cx_le rfl) (fun M11 _ h => ?_)
    refine cx_iinc 2 1 (fun v12 => [(2, .int v12), (0, .ref (adr b)), (1, .ref (adr b2))]) h dX5_like_46 rfl cx_ic_1 (cx_lt rfl) (fun _ => rfl) (fun v12 h => ?_)
    refine cx_goto 13 dX5_like_49 rfl ?_
    refine cx_sub (lv' := [(0, .ref (adr b)), (1, .ref (adr b2)), (2, .int v12)]) [1, 2, 0] rfl ?_
    exact hr_13 M11 v12 _ h
noncomputable def cBk_like_13 (N : cx_N) (b : Nat) (b2 : Nat) : Nat → cx_M → Int32 → Option cx_R :=
  cx_fix (fun _ _ => none) (fun r_13 => cBk_like_13b N b b2 r_13)
theorem cBk_like_13_v {l : Launch} {g : cx_G} {adr : Nat → Nat} {X : cx_X} {N : cx_N} {b : Nat} {b2 : Nat} (H : cCp_H g adr N) (hb : cBk_H g adr b) (hb2 : cBk_H g adr b2) : ∀ (n : Nat) (M : cx_M) (x2 : Int32) (rs : cx_R), cBk_like_13 N b b2 n M x2 = some rs → cx_V l (g) X sX5_like cX5_like 13 [(0, .ref (adr b)), (1, .ref (adr b2)), (2, .int x2)] [] M 0 0 rs :=
  cx_fixI (fun (r : cx_M → Int32 → Option cx_R) => ∀ (M : cx_M) (x2 : Int32) (rs : cx_R), r M x2 = some rs → cx_V l (g) X sX5_like cX5_like 13 [(0, .ref (adr b)), (1, .ref (adr b2)), (2, .int x2)] [] M 0 0 rs) (fun _ _ _ h => by cases h) (fun r hr M x2 rs h => cBk_like_13b_v H hb hb2 hr M x2 rs h)
noncomputable def cBk_like_0 (N : cx_N) (b : Nat) (b2 : Nat) (M : cx_M) : Option cx_R :=
  cx_cal (cSt_like N (cBk_st b) (cBk_st b2) M) fun M1 _ =>
  cBk_like_13 N b b2 N.1 M1 0
set_option maxRecDepth 100000 in
theorem cBk_like_0_v {l : Launch} {g : cx_G} {adr : Nat → Nat} {X : cx_X} {N : cx_N} {b : Nat} {b2 : Nat} (H : cCp_H g adr N) (hb : cBk_H g adr b) (hb2 : cBk_H g adr b2) (M : cx_M) (rs : cx_R) (h : cBk_like_0 N b b2 M = some rs) : cx_V l (g) X sX5_like cX5_like 0 [(0, .ref (adr b)), (1, .ref (adr b2))] [] M 0 0 rs := by
  unfold cBk_like_0 at h
  refine cx_aload_n 0 dX5_like_0 rfl ?_
  refine cx_getR (cBk_R0 hb) q891 dX5_like_1 ?_
  refine cx_aload_n 1 dX5_like_4 rfl ?_
  refine cx_getR (cBk_R0 hb2) q891 dX5_like_5 ?_
  refine cx_cVv [.ref (adr (cBk_st b2))] [] h (fun rs' h' => cSt_like_m H (cSt_ibk H hb) (cSt_ibk H hb2) M rs' h') (cSt_rc (cSt_ibk H hb)) dX5_like_8 g_X5_52 hg_X5_52 ⟨cx_le rfl, cx_le rfl⟩ rfl ⟨rfl, rfl⟩ ⟨cx_le rfl, cx_le rfl⟩ rfl (cx_le rfl) (fun M1 _ h => ?_)
  refine cx_iconst 0 dX5_like_11 cx_ic_0 ?_
  refine cx_istore_n [(2, .int 0), (0, .ref (adr b)), (1, .ref (adr b2))] dX5_like_12 (cx_lt rfl) rfl ?_
  refine cx_sub (lv' := [(0, .ref (adr b)), (1, .ref (adr b2)), (2, .int 0)]) [1, 2, 0] rfl ?_
  exact cBk_like_13_v H hb hb2 N.1 M1 0 _ h
noncomputable def cBk_like (N : cx_N) (b : Nat) (b2 : Nat) (M : cx_M) : Option cx_R := cBk_like_0 N b b2 M
theorem cBk_like_m {l : Launch} {g : cx_G} {adr : Nat → Nat} {N : cx_N} {b : Nat} {b2 : Nat} (H : cCp_H g adr N) (hb : cBk_H g adr b) (hb2 : cBk_H g adr b2) (M : cx_M) (rs : cx_R) (h : cBk_like N b b2 M = some rs) : cx_Met l (g) yX5_like cX5_like sX5_like [.ref (adr b), .ref (adr b2)] M rs :=
  cx_met (by decide +kernel) rfl rfl (lv := [(0, .ref (adr b)), (1, .ref (adr b2))]) rfl (cx_le rfl) (fun X => cx_sub (lv' := [(0, .ref (adr b)), (1, .ref (adr b2))]) [0, 1] rfl (cBk_like_0_v H hb hb2 M rs h))

abbrev sX1_image : cx_S := (1, RX1, cx_rV, { frames := 31, cells := 0, slots := 0, locals := 922 }, none, false)
noncomputable def cCc_image_0 (N : cx_N) (M : cx_M) : Option cx_R :=
  cx_cal (cBk_like N 700 600 M) fun M1 _ =>
  cx_put M1 500 7 1 fun M2 =>
  some (M2, 0, 0)
set_option maxRecDepth 100000 in
theorem cCc_image_0_v {l : Launch} {g : cx_G} {adr : Nat → Nat} {X : cx_X} {N : cx_N} (H : cCp_H g adr N) (M : cx_M) (rs : cx_R) (h : cCc_image_0 N M = some rs) : cx_V l (g) X sX1_image cX1_image 0 [(0, .ref (adr 500))] [] M 0 0 rs := by
  unfold cCc_image_0 at h
  refine cx_aload_n 0 dX1_image_0 rfl ?_
  refine cx_getR (cCc_R2 H) q1019 dX1_image_1 ?_
  refine cx_aload_n 0 dX1_image_4 rfl ?_
  refine cx_getR (cCc_R1 H) q1018 dX1_image_5 ?_
  refine cx_cVv [.ref (adr 600)] [] h (fun rs' h' => cBk_like_m H (cBk_i700 H) (cBk_i600 H) M rs' h') (cBk_rc (cBk_i700 H)) dX1_image_8 g_X1_493 hg_X1_493 ⟨cx_le rfl, cx_le rfl⟩ rfl ⟨rfl, rfl⟩ ⟨cx_le rfl, cx_le rfl⟩ rfl (cx_le rfl) (fun M1 _ h => ?_)
  refine cx_aload_n 0 dX1_image_11 rfl ?_
  refine cx_iconst 1 dX1_image_12 cx_ic_1 ?_
  refine cx_putI h (cCc_F7 H) cx_z_1 cx_f_1 rfl q1024 dX1_image_13 (fun M2 h => ?_)
  exact cx_vret h rfl rfl (cx_le rfl) (cx_le rfl) dX1_image_16
noncomputable def cCc_image (N : cx_N) (M : cx_M) : Option cx_R := cCc_image_0 N M
theorem cCc_image_m {l : Launch} {g : cx_G} {adr : Nat → Nat} {N : cx_N} (H : cCp_H g adr N) (M : cx_M) (rs : cx_R) (h : cCc_image N M = some rs) : cx_Met l (g) yX1_image cX1_image sX1_image [.ref (adr 500)] M rs :=
  cx_met (by decide +kernel) rfl rfl (lv := [(0, .ref (adr 500))]) rfl (cx_le rfl) (fun X => cx_sub (lv' := [(0, .ref (adr 500))]) [0] rfl (cCc_image_0_v H M rs h))

abbrev sX1_tries : cx_S := (2, RX1, cx_rV, { frames := 905, cells := 0, slots := 0, locals := 30112 }, none, false)
noncomputable def cCc_tries_0 (N : cx_N) (M : cx_M) (x1 : Int32) : Option cx_R :=
  cx_cal (cSt_like N 1100 1000 M) fun M1 _ =>
  cx_cal (cCc_goes N 1100 M1 x1) fun M2 _ =>
  some (M2, 0, 0)
set_option maxRecDepth 100000 in
theorem cCc_tries_0_v {l : Launch} {g : cx_G} {adr : Nat → Nat} {X : cx_X} {N : cx_N} (H : cCp_H g adr N) (M : cx_M) (x1 : Int32) (rs : cx_R) (h : cCc_tries_0 N M x1 = some rs) : cx_V l (g) X sX1_tries cX1_tries 0 [(0, .ref (adr 500)), (1, .int x1)] [] M 0 0 rs := by
  unfold cCc_tries_0 at h
  refine cx_aload_n 0 dX1_tries_0 rfl ?_
  refine cx_getR (cCc_R4 H) q1021 dX1_tries_1 ?_
  refine cx_aload_n 0 dX1_tries_4 rfl ?_
  refine cx_getR (cCc_R3 H) q1020 dX1_tries_5 ?_
  refine cx_cVv [.ref (adr 1000)] [] h (fun rs' h' => cSt_like_m H (cSt_i1100 H) (cSt_i1000 H) M rs' h') (cSt_rc (cSt_i1100 H)) dX1_tries_8 g_X1_403 hg_X1_403 ⟨cx_le rfl, cx_le rfl⟩ rfl ⟨rfl, rfl⟩ ⟨cx_le rfl, cx_le rfl⟩ rfl (cx_le rfl) (fun M1 _ h => ?_)
  refine cx_aload_n 0 dX1_tries_11 rfl ?_
  refine cx_aload_n 0 dX1_tries_12 rfl ?_
  refine cx_getR (cCc_R4 H) q1021 dX1_tries_13 ?_
  refine cx_iload_n 1 dX1_tries_16 rfl ?_
  refine cx_cVv [.ref (adr 1100), .int x1] [] h (fun rs' h' => cCc_goes_m H (cSt_i1100 H) M1 x1 rs' h') (cCc_rc H) dX1_tries_17 g_X1_397 hg_X1_397 ⟨cx_le rfl, cx_le rfl⟩ rfl ⟨rfl, rfl⟩ ⟨cx_le rfl, cx_le rfl⟩ rfl (cx_le rfl) (fun M2 _ h => ?_)
  exact cx_vret h rfl rfl (cx_le rfl) (cx_le rfl) dX1_tries_20
noncomputable def cCc_tries (N : cx_N) (M : cx_M) (x1 : Int32) : Option cx_R := cCc_tries_0 N M x1
theorem cCc_tries_m {l : Launch} {g : cx_G} {adr : Nat → Nat} {N : cx_N} (H : cCp_H g adr N) (M : cx_M) (x1 : Int32) (rs : cx_R) (h : cCc_tries N M x1 = some rs) : cx_Met l (g) yX1_tries cX1_tries sX1_tries [.ref (adr 500), .int x1] M rs :=
  cx_met (by decide +kernel) rfl rfl (lv := [(0, .ref (adr 500)), (1, .int x1)]) rfl (cx_le rfl) (fun X => cx_sub (lv' := [(0, .ref (adr 500)), (1, .int x1)]) [0, 1] rfl (cCc_tries_0_v H M x1 rs h))

abbrev sX1_isNoted : cx_S := (4, RX1, cx_rI, { frames := 905, cells := 0, slots := 0, locals := 30112 }, some .boolean, false)
noncomputable def cCc_isNoted_61 (N : cx_N) (r_2 : cx_M → Int32 → Option cx_R) (r_22 : cx_M → Int32 → Int32 → Int32 → Option cx_R) (M : cx_M) (x1 : Int32) (x2 : Int32) (x3 : Int32) : Option cx_R :=
  cx_let (x3 + 1) fun v1 =>
  r_22 M x1 x2 v1
set_option maxRecDepth 100000 in
theorem cCc_isNoted_61_v {l : Launch} {g : cx_G} {adr : Nat → Nat} {X : cx_X} {N : cx_N} {r_2 : cx_M → Int32 → Option cx_R} {r_22 : cx_M → Int32 → Int32 → Int32 → Option cx_R} (H : cCp_H g adr N) (hr_2 : ∀ (M : cx_M) (x1 : Int32) (rs : cx_R), r_2 M x1 = some rs → cx_V l (g) X sX1_isNoted cX1_isNoted 2 [(0, .ref (adr 500)), (1, .int x1)] [] M 0 0 rs) (hr_22 : ∀ (M : cx_M) (x1 : Int32) (x2 : Int32) (x3 : Int32) (rs : cx_R), r_22 M x1 x2 x3 = some rs → cx_V l (g) X sX1_isNoted cX1_isNoted 22 [(0, .ref (adr 500)), (1, .int x1), (2, .int x2), (3, .int x3)] [] M 0 0 rs) (M : cx_M) (x1 : Int32) (x2 : Int32) (x3 : Int32) (rs : cx_R) (h : cCc_isNoted_61 N r_2 r_22 M x1 x2 x3 = some rs) : cx_V l (g) X sX1_isNoted cX1_isNoted 61 [(0, .ref (adr 500)), (1, .int x1), (2, .int x2), (3, .int x3)] [] M 0 0 rs := by
  unfold cCc_isNoted_61 at h
  refine cx_iinc 3 1 (fun v1 => [(3, .int v1), (0, .ref (adr 500)), (1, .int x1), (2, .int x2)]) h dX1_isNoted_61 rfl cx_ic_1 (cx_lt rfl) (fun _ => rfl) (fun v1 h => ?_)
  refine cx_goto 22 dX1_isNoted_64 rfl ?_
  refine cx_sub (lv' := [(0, .ref (adr 500)), (1, .int x1), (2, .int x2), (3, .int v1)]) [1, 2, 3, 0] rfl ?_
  exact hr_22 M x1 x2 v1 _ h
noncomputable def cCc_isNoted_96 (N : cx_N) (r_2 : cx_M → Int32 → Option cx_R) (M : cx_M) (x1 : Int32) : Option cx_R :=
  cx_cal (cCc_goes N 1100 M 1) fun M1 _ =>
  cx_let (x1 + 1) fun v2 =>
  r_2 M1 v2
set_option maxRecDepth 100000 in
theorem cCc_isNoted_96_v {l : Launch} {g : cx_G} {adr : Nat → Nat} {X : cx_X} {N : cx_N} {r_2 : cx_M → Int32 → Option cx_R} (H : cCp_H g adr N) (hr_2 : ∀ (M : cx_M) (x1 : Int32) (rs : cx_R), r_2 M x1 = some rs → cx_V l (g) X sX1_isNoted cX1_isNoted 2 [(0, .ref (adr 500)), (1, .int x1)] [] M 0 0 rs) (M : cx_M) (x1 : Int32) (rs : cx_R) (h : cCc_isNoted_96 N r_2 M x1 = some rs) : cx_V l (g) X sX1_isNoted cX1_isNoted 96 [(0, .ref (adr 500)), (1, .int x1)] [] M 0 0 rs := by
  unfold cCc_isNoted_96 at h
  refine cx_aload_n 0 dX1_isNoted_96 rfl ?_
  refine cx_aload_n 0 dX1_isNoted_97 rfl ?_
  refine cx_getR (cCc_R4 H) q1021 dX1_isNoted_98 ?_
  refine cx_iconst 1 dX1_isNoted_101 cx_ic_1 ?_
  refine cx_cVv [.ref (adr 1100), .int 1] [] h (fun rs' h' => cCc_goes_m H (cSt_i1100 H) M 1 rs' h') (cCc_rc H) dX1_isNoted_102 g_X1_397 hg_X1_397 ⟨cx_le rfl, cx_le rfl⟩ rfl ⟨rfl, rfl⟩ ⟨cx_le rfl, cx_le rfl⟩ rfl (cx_le rfl) (fun M1 _ h => ?_)
  refine cx_iinc 1 1 (fun v2 => [(1, .int v2), (0, .ref (adr 500))]) h dX1_isNoted_105 rfl cx_ic_1 (cx_lt rfl) (fun _ => rfl) (fun v2 h => ?_)
  refine cx_goto 2 dX1_isNoted_108 rfl ?_
  refine cx_sub (lv' := [(0, .ref (adr 500)), (1, .int v2)]) [1, 0] rfl ?_
  exact hr_2 M1 v2 _ h
noncomputable def cCc_isNoted_22b (N : cx_N) (r_2 : cx_M → Int32 → Option cx_R) (r_22 : cx_M → Int32 → Int32 → Int32 → Option cx_R) (M : cx_M) (x1 : Int32) (x2 : Int32) (x3 : Int32) : Option cx_R :=
  cx_get M 600 6 fun v1 =>
  if v1 ≤ x3 then (
    if (cx_rem x1 10) = 0 then (
      if x1 ≤ 0 then (
        cCc_isNoted_96 N r_2 M x1)
      else (
        if 60 ≤ x1 then (
          cCc_isNoted_96 N r_2 M x1)
        else (
          cx_st M 515 5 ((x1 / 10) - 1) x2 fun M2 =>
          cCc_isNoted_96 N r_2 M2 x1)))
    else (
      cCc_isNoted_96 N r_2 M x1))
  else (
    cx_ld M 603 8 x3 fun v3 =>
    if v3 = x1 then (
      cx_ld M 604 8 x3 fun v4 =>
      if x2 = v4 then (
        cCc_isNoted_61 N r_2 r_22 M x1 x2 x3)
      else (
        some (M, 0, 0)))
    else (
      cCc_isNoted_61 N r_2 r_22 M x1 x2 x3))
set_option maxRecDepth 100000 in
theorem cCc_isNoted_22b_v {l : Launch} {g : cx_G} {adr : Nat → Nat} {X : cx_X} {N : cx_N} {r_2 : cx_M → Int32 → Option cx_R} {r_22 : cx_M → Int32 → Int32 → Int32 → Option cx_R} (H : cCp_H g adr N) (hr_2 : ∀ (M : cx_M) (x1 : Int32) (rs : cx_R), r_2 M x1 = some rs → cx_V l (g) X sX1_isNoted cX1_isNoted 2 [(0, .ref (adr 500)), (1, .int x1)] [] M 0 0 rs) (hr_22 : ∀ (M : cx_M) (x1 : Int32) (x2 : Int32) (x3 : Int32) (rs : cx_R), r_22 M x1 x2 x3 = some rs → cx_V l (g) X sX1_isNoted cX1_isNoted 22 [(0, .ref (adr 500)), (1, .int x1), (2, .int x2), (3, .int x3)] [] M 0 0 rs) (M : cx_M) (x1 : Int32) (x2 : Int32) (x3 : Int32) (rs : cx_R) (h : cCc_isNoted_22b N r_2 r_22 M x1 x2 x3 = some rs) : cx_V l (g) X sX1_isNoted cX1_isNoted 22 [(0, .ref (adr 500)), (1, .int x1), (2, .int x2), (3, .int x3)] [] M 0 0 rs := by
  unfold cCc_isNoted_22b at h
  refine cx_iload_n 3 dX1_isNoted_22 rfl ?_
  refine cx_aload_n 0 dX1_isNoted_23 rfl ?_
  refine cx_getR (cCc_R1 H) q1018 dX1_isNoted_24 ?_
  refine cx_getIN h (cBk_F6 (cBk_i600 H)) q904 dX1_isNoted_27 (fun v1 h => ?_)
  refine cx_icmp_ge 67 h dX1_isNoted_30 rfl (fun h => ?_) (fun h => ?_)
  · refine cx_iload_n 1 dX1_isNoted_67 rfl ?_
    refine cx_bipush 10 dX1_isNoted_68 cx_bp_10 ?_
    refine cx_iremC cx_ne_10 dX1_isNoted_70 ?_
    refine cx_if_ne 96 h dX1_isNoted_71 rfl (fun h => ?_) (fun h => ?_)
    · refine cx_sub (lv' := [(0, .ref (adr 500)), (1, .int x1)]) [0, 1] rfl ?_
      exact cCc_isNoted_96_v H hr_2 M x1 _ h
    · refine cx_iload_n 1 dX1_isNoted_74 rfl ?_
      refine cx_if_le 96 h dX1_isNoted_75 rfl (fun h => ?_) (fun h => ?_)
      · refine cx_sub (lv' := [(0, .ref (adr 500)), (1, .int x1)]) [0, 1] rfl ?_
        exact cCc_isNoted_96_v H hr_2 M x1 _ h
      · refine cx_iload_n 1 dX1_isNoted_78 rfl ?_
        refine cx_bipush 60 dX1_isNoted_79 cx_bp_60 ?_
        refine cx_icmp_ge 96 h dX1_isNoted_81 rfl (fun h => ?_) (fun h => ?_)
        · refine cx_sub (lv' := [(0, .ref (adr 500)), (1, .int x1)]) [0, 1] rfl ?_
          exact cCc_isNoted_96_v H hr_2 M x1 _ h
        · refine cx_aload_n 0 dX1_isNoted_84 rfl ?_
          refine cx_getR (cCc_R14 H) q1031 dX1_isNoted_85 ?_
          refine cx_iload_n 1 dX1_isNoted_88 rfl ?_
          refine cx_bipush 10 dX1_isNoted_89 cx_bp_10 ?_
          refine cx_idivC cx_ne_10 dX1_isNoted_91 ?_
          refine cx_iconst 1 dX1_isNoted_92 cx_ic_1 ?_
          refine cx_isub dX1_isNoted_93 ?_
          refine cx_iload_n 2 dX1_isNoted_94 rfl ?_
          refine cx_stI h (cCc_A14 H) dX1_isNoted_95 (fun M2 h => ?_)
          refine cx_sub (lv' := [(0, .ref (adr 500)), (1, .int x1)]) [0, 1] rfl ?_
          exact cCc_isNoted_96_v H hr_2 M2 x1 _ h
  · refine cx_aload_n 0 dX1_isNoted_33 rfl ?_
    refine cx_getR (cCc_R1 H) q1018 dX1_isNoted_34 ?_
    refine cx_getRN (cBk_R2 (cBk_i600 H)) q896 dX1_isNoted_37 ?_
    refine cx_iload_n 3 dX1_isNoted_40 rfl ?_
    refine cx_ldI h (cBk_A2 (cBk_i600 H)) dX1_isNoted_41 (fun v3 h => ?_)
    refine cx_iload_n 1 dX1_isNoted_42 rfl ?_
    refine cx_icmp_ne 61 h dX1_isNoted_43 rfl (fun h => ?_) (fun h => ?_)
    · exact cCc_isNoted_61_v H hr_2 hr_22 M x1 x2 x3 _ h
    · refine cx_iload_n 2 dX1_isNoted_46 rfl ?_
      refine cx_aload_n 0 dX1_isNoted_47 rfl ?_
      refine cx_getR (cCc_R1 H) q1018 dX1_isNoted_48 ?_
      refine cx_getRN (cBk_R3 (cBk_i600 H)) q898 dX1_isNoted_51 ?_
      refine cx_iload_n 3 dX1_isNoted_54 rfl ?_
      refine cx_ldI h (cBk_A3 (cBk_i600 H)) dX1_isNoted_55 (fun v4 h => ?_)
      refine cx_icmp_eq 61 h dX1_isNoted_56 rfl (fun h => ?_) (fun h => ?_)
      · exact cCc_isNoted_61_v H hr_2 hr_22 M x1 x2 x3 _ h
      · refine cx_iconst 0 dX1_isNoted_59 cx_ic_0 ?_
        exact cx_zret h cx_z_0 rfl rfl (cx_le rfl) (cx_le rfl) dX1_isNoted_60
noncomputable def cCc_isNoted_22 (N : cx_N) (r_2 : cx_M → Int32 → Option cx_R) : Nat → cx_M → Int32 → Int32 → Int32 → Option cx_R :=
  cx_fix (fun _ _ _ _ => none) (fun r_22 => cCc_isNoted_22b N r_2 r_22)
theorem cCc_isNoted_22_v {l : Launch} {g : cx_G} {adr : Nat → Nat} {X : cx_X} {N : cx_N} {r_2 : cx_M → Int32 → Option cx_R} (H : cCp_H g adr N) (hr_2 : ∀ (M : cx_M) (x1 : Int32) (rs : cx_R), r_2 M x1 = some rs → cx_V l (g) X sX1_isNoted cX1_isNoted 2 [(0, .ref (adr 500)), (1, .int x1)] [] M 0 0 rs) : ∀ (n : Nat) (M : cx_M) (x1 : Int32) (x2 : Int32) (x3 : Int32) (rs : cx_R), cCc_isNoted_22 N r_2 n M x1 x2 x3 = some rs → cx_V l (g) X sX1_isNoted cX1_isNoted 22 [(0, .ref (adr 500)), (1, .int x1), (2, .int x2), (3, .int x3)] [] M 0 0 rs :=
  cx_fixI (fun (r : cx_M → Int32 → Int32 → Int32 → Option cx_R) => ∀ (M : cx_M) (x1 : Int32) (x2 : Int32) (x3 : Int32) (rs : cx_R), r M x1 x2 x3 = some rs → cx_V l (g) X sX1_isNoted cX1_isNoted 22 [(0, .ref (adr 500)), (1, .int x1), (2, .int x2), (3, .int x3)] [] M 0 0 rs) (fun _ _ _ _ _ h => by cases h) (fun r hr M x1 x2 x3 rs h => cCc_isNoted_22b_v H hr_2 hr M x1 x2 x3 rs h)
noncomputable def cCc_isNoted_2b (N : cx_N) (r_2 : cx_M → Int32 → Option cx_R) (M : cx_M) (x1 : Int32) : Option cx_R :=
  if 60 < x1 then (
    some (M, 1, 0))
  else (
    cx_cal (cSt_level N 1100 M) fun M1 v2 =>
    cCc_isNoted_22 N r_2 N.1 M1 x1 v2 0)
set_option maxRecDepth 100000 in
theorem cCc_isNoted_2b_v {l : Launch} {g : cx_G} {adr : Nat → Nat} {X : cx_X} {N : cx_N} {r_2 : cx_M → Int32 → Option cx_R} (H : cCp_H g adr N) (hr_2 : ∀ (M : cx_M) (x1 : Int32) (rs : cx_R), r_2 M x1 = some rs → cx_V l (g) X sX1_isNoted cX1_isNoted 2 [(0, .ref (adr 500)), (1, .int x1)] [] M 0 0 rs) (M : cx_M) (x1 : Int32) (rs : cx_R) (h : cCc_isNoted_2b N r_2 M x1 = some rs) : cx_V l (g) X sX1_isNoted cX1_isNoted 2 [(0, .ref (adr 500)), (1, .int x1)] [] M 0 0 rs := by
  unfold cCc_isNoted_2b at h
  refine cx_iload_n 1 dX1_isNoted_2 rfl ?_
  refine cx_bipush 60 dX1_isNoted_3 cx_bp_60 ?_
  refine cx_icmp_gt 111 h dX1_isNoted_5 rfl (fun h => ?_) (fun h => ?_)
  · refine cx_iconst 1 dX1_isNoted_111 cx_ic_1 ?_
    exact cx_zret h cx_z_1 rfl rfl (cx_le rfl) (cx_le rfl) dX1_isNoted_112
  · refine cx_aload_n 0 dX1_isNoted_8 rfl ?_
    refine cx_getR (cCc_R4 H) q1021 dX1_isNoted_9 ?_
    refine cx_aload_n 0 dX1_isNoted_12 rfl ?_
    refine cx_getR (cCc_R0 H) q1017 dX1_isNoted_13 ?_
    refine cx_cVi [.ref (adr 8000)] [] h (fun rs' h' => cSt_level_m H (cSt_i1100 H) M rs' h') (cSt_rc (cSt_i1100 H)) dX1_isNoted_16 g_X1_214 hg_X1_214 ⟨cx_le rfl, cx_le rfl⟩ rfl ⟨rfl, rfl⟩ ⟨cx_le rfl, cx_le rfl⟩ rfl (cx_le rfl) (fun M1 v2 h => ?_)
    refine cx_istore_n [(2, .int v2), (0, .ref (adr 500)), (1, .int x1)] dX1_isNoted_19 (cx_lt rfl) rfl ?_
    refine cx_iconst 0 dX1_isNoted_20 cx_ic_0 ?_
    refine cx_istore_n [(3, .int 0), (2, .int v2), (0, .ref (adr 500)), (1, .int x1)] dX1_isNoted_21 (cx_lt rfl) rfl ?_
    refine cx_sub (lv' := [(0, .ref (adr 500)), (1, .int x1), (2, .int v2), (3, .int 0)]) [2, 3, 1, 0] rfl ?_
    exact cCc_isNoted_22_v H hr_2 N.1 M1 x1 v2 0 _ h
noncomputable def cCc_isNoted_2 (N : cx_N) : Nat → cx_M → Int32 → Option cx_R :=
  cx_fix (fun _ _ => none) (fun r_2 => cCc_isNoted_2b N r_2)
theorem cCc_isNoted_2_v {l : Launch} {g : cx_G} {adr : Nat → Nat} {X : cx_X} {N : cx_N} (H : cCp_H g adr N) : ∀ (n : Nat) (M : cx_M) (x1 : Int32) (rs : cx_R), cCc_isNoted_2 N n M x1 = some rs → cx_V l (g) X sX1_isNoted cX1_isNoted 2 [(0, .ref (adr 500)), (1, .int x1)] [] M 0 0 rs :=
  cx_fixI (fun (r : cx_M → Int32 → Option cx_R) => ∀ (M : cx_M) (x1 : Int32) (rs : cx_R), r M x1 = some rs → cx_V l (g) X sX1_isNoted cX1_isNoted 2 [(0, .ref (adr 500)), (1, .int x1)] [] M 0 0 rs) (fun _ _ _ h => by cases h) (fun r hr M x1 rs h => cCc_isNoted_2b_v H hr M x1 rs h)
noncomputable def cCc_isNoted_0 (N : cx_N) (M : cx_M) : Option cx_R :=
  cCc_isNoted_2 N N.1 M 0
set_option maxRecDepth 100000 in
theorem cCc_isNoted_0_v {l : Launch} {g : cx_G} {adr : Nat → Nat} {X : cx_X} {N : cx_N} (H : cCp_H g adr N) (M : cx_M) (rs : cx_R) (h : cCc_isNoted_0 N M = some rs) : cx_V l (g) X sX1_isNoted cX1_isNoted 0 [(0, .ref (adr 500))] [] M 0 0 rs := by
  unfold cCc_isNoted_0 at h
  refine cx_iconst 0 dX1_isNoted_0 cx_ic_0 ?_
  refine cx_istore_n [(1, .int 0), (0, .ref (adr 500))] dX1_isNoted_1 (cx_lt rfl) rfl ?_
  refine cx_sub (lv' := [(0, .ref (adr 500)), (1, .int 0)]) [1, 0] rfl ?_
  exact cCc_isNoted_2_v H N.1 M 0 _ h
noncomputable def cCc_isNoted (N : cx_N) (M : cx_M) : Option cx_R := cCc_isNoted_0 N M
theorem cCc_isNoted_m {l : Launch} {g : cx_G} {adr : Nat → Nat} {N : cx_N} (H : cCp_H g adr N) (M : cx_M) (rs : cx_R) (h : cCc_isNoted N M = some rs) : cx_Met l (g) yX1_isNoted cX1_isNoted sX1_isNoted [.ref (adr 500)] M rs :=
  cx_met (by decide +kernel) rfl rfl (lv := [(0, .ref (adr 500))]) rfl (cx_le rfl) (fun X => cx_sub (lv' := [(0, .ref (adr 500))]) [0] rfl (cCc_isNoted_0_v H M rs h))

abbrev sX1_isGuess : cx_S := (2, RX1, cx_rI, { frames := 906, cells := 0, slots := 0, locals := 30135 }, some .boolean, false)
noncomputable def cCc_isGuess_0 (N : cx_N) (M : cx_M) (x1 : Int32) : Option cx_R :=
  cx_get M 1000 28 fun v1 =>
  if x1 = v1 then (
    some (M, 0, 0))
  else (
    cx_cal (cCc_tries N M 0) fun M2 _ =>
    cx_put M2 1100 28 x1 fun M3 =>
    cx_cal (cCc_isNoted N M3) fun M4 v5 =>
    cx_bl v5 (some (M4, v5, 0)))
set_option maxRecDepth 100000 in
theorem cCc_isGuess_0_v {l : Launch} {g : cx_G} {adr : Nat → Nat} {X : cx_X} {N : cx_N} (H : cCp_H g adr N) (M : cx_M) (x1 : Int32) (rs : cx_R) (h : cCc_isGuess_0 N M x1 = some rs) : cx_V l (g) X sX1_isGuess cX1_isGuess 0 [(0, .ref (adr 500)), (1, .int x1)] [] M 0 0 rs := by
  unfold cCc_isGuess_0 at h
  refine cx_iload_n 1 dX1_isGuess_0 rfl ?_
  refine cx_aload_n 0 dX1_isGuess_1 rfl ?_
  refine cx_getR (cCc_R3 H) q1020 dX1_isGuess_2 ?_
  refine cx_getIN h (cSt_F28 (cSt_i1000 H)) q699 dX1_isGuess_5 (fun v1 h => ?_)
  refine cx_icmp_ne 13 h dX1_isGuess_8 rfl (fun h => ?_) (fun h => ?_)
  · refine cx_aload_n 0 dX1_isGuess_13 rfl ?_
    refine cx_iconst 0 dX1_isGuess_14 cx_ic_0 ?_
    refine cx_cVv [.int 0] [] h (fun rs' h' => cCc_tries_m H M 0 rs' h') (cCc_rc H) dX1_isGuess_15 g_X1_411 hg_X1_411 ⟨cx_le rfl, cx_le rfl⟩ rfl ⟨rfl, rfl⟩ ⟨cx_le rfl, cx_le rfl⟩ rfl (cx_le rfl) (fun M2 _ h => ?_)
    refine cx_aload_n 0 dX1_isGuess_18 rfl ?_
    refine cx_getR (cCc_R4 H) q1021 dX1_isGuess_19 ?_
    refine cx_iload_n 1 dX1_isGuess_22 rfl ?_
    refine cx_putIN h (cSt_F28 (cSt_i1100 H)) rfl rfl rfl q699 dX1_isGuess_23 (fun M3 h => ?_)
    refine cx_aload_n 0 dX1_isGuess_26 rfl ?_
    refine cx_cVi [] [] h (fun rs' h' => cCc_isNoted_m H M3 rs' h') (cCc_rc H) dX1_isGuess_27 g_X1_462 hg_X1_462 ⟨cx_le rfl, cx_le rfl⟩ rfl ⟨rfl, rfl⟩ ⟨cx_le rfl, cx_le rfl⟩ rfl (cx_le rfl) (fun M4 v5 h => ?_)
    refine cx_blI h (fun hz h => ?_)
    exact cx_zret h hz.1 rfl rfl (cx_le rfl) (cx_le rfl) dX1_isGuess_30
  · refine cx_iconst 0 dX1_isGuess_11 cx_ic_0 ?_
    exact cx_zret h cx_z_0 rfl rfl (cx_le rfl) (cx_le rfl) dX1_isGuess_12
noncomputable def cCc_isGuess (N : cx_N) (M : cx_M) (x1 : Int32) : Option cx_R := cCc_isGuess_0 N M x1
theorem cCc_isGuess_m {l : Launch} {g : cx_G} {adr : Nat → Nat} {N : cx_N} (H : cCp_H g adr N) (M : cx_M) (x1 : Int32) (rs : cx_R) (h : cCc_isGuess N M x1 = some rs) : cx_Met l (g) yX1_isGuess cX1_isGuess sX1_isGuess [.ref (adr 500), .int x1] M rs :=
  cx_met (by decide +kernel) rfl rfl (lv := [(0, .ref (adr 500)), (1, .int x1)]) rfl (cx_le rfl) (fun X => cx_sub (lv' := [(0, .ref (adr 500)), (1, .int x1)]) [0, 1] rfl (cCc_isGuess_0_v H M x1 rs h))

abbrev sX1_lambda_new_0 : cx_S := (1, RX1, cx_rI, { frames := 1, cells := 0, slots := 0, locals := 21 }, some .int, false)
noncomputable def cCc_lambda_new_0_0 (N : cx_N) (b2 : Nat) (M : cx_M) : Option cx_R :=
  cx_cal (cSt_back N b2 M 1) fun M1 v2 =>
  some (M1, v2, 0)
set_option maxRecDepth 100000 in
theorem cCc_lambda_new_0_0_v {l : Launch} {g : cx_G} {adr : Nat → Nat} {X : cx_X} {N : cx_N} {b2 : Nat} (H : cCp_H g adr N) (hb2 : cSt_H g adr b2) (M : cx_M) (rs : cx_R) (h : cCc_lambda_new_0_0 N b2 M = some rs) : cx_V l (g) X sX1_lambda_new_0 cX1_lambda_new_0 0 [(0, .ref (adr b2))] [] M 0 0 rs := by
  unfold cCc_lambda_new_0_0 at h
  refine cx_aload_n 0 dX1_lambda_new_0_0 rfl ?_
  refine cx_iconst 1 dX1_lambda_new_0_1 cx_ic_1 ?_
  refine cx_cVi [.int 1] [] h (fun rs' h' => cSt_back_m H hb2 M 1 rs' h') (cSt_rc hb2) dX1_lambda_new_0_2 g_X1_121 hg_X1_121 ⟨cx_le rfl, cx_le rfl⟩ rfl ⟨rfl, rfl⟩ ⟨cx_le rfl, cx_le rfl⟩ rfl (cx_le rfl) (fun M1 v2 h => ?_)
  exact cx_iret h rfl rfl (cx_le rfl) (cx_le rfl) dX1_lambda_new_0_5
noncomputable def cCc_lambda_new_0 (N : cx_N) (b2 : Nat) (M : cx_M) : Option cx_R := cCc_lambda_new_0_0 N b2 M
theorem cCc_lambda_new_0_m {l : Launch} {g : cx_G} {adr : Nat → Nat} {N : cx_N} {b2 : Nat} (H : cCp_H g adr N) (hb2 : cSt_H g adr b2) (M : cx_M) (rs : cx_R) (h : cCc_lambda_new_0 N b2 M = some rs) : cx_Met l (g) yX1_lambda_new_0 cX1_lambda_new_0 sX1_lambda_new_0 [.ref (adr b2)] M rs :=
  cx_met (by decide +kernel) rfl rfl (lv := [(0, .ref (adr b2))]) rfl (cx_le rfl) (fun X => cx_sub (lv' := [(0, .ref (adr b2))]) [0] rfl (cCc_lambda_new_0_0_v H hb2 M rs h))

abbrev sX1_lambda_new_1 : cx_S := (2, RX1, cx_rI, { frames := 2, cells := 0, slots := 0, locals := 36 }, some .int, false)
noncomputable def cCc_lambda_new_1_0 (N : cx_N) (b2 : Nat) (M : cx_M) : Option cx_R :=
  cx_cal (cSt_level N b2 M) fun M1 v2 =>
  some (M1, v2, 0)
set_option maxRecDepth 100000 in
theorem cCc_lambda_new_1_0_v {l : Launch} {g : cx_G} {adr : Nat → Nat} {X : cx_X} {N : cx_N} {b2 : Nat} (H : cCp_H g adr N) (hb2 : cSt_H g adr b2) (M : cx_M) (rs : cx_R) (h : cCc_lambda_new_1_0 N b2 M = some rs) : cx_V l (g) X sX1_lambda_new_1 cX1_lambda_new_1 0 [(0, .ref (adr 500)), (1, .ref (adr b2))] [] M 0 0 rs := by
  unfold cCc_lambda_new_1_0 at h
  refine cx_aload_n 1 dX1_lambda_new_1_0 rfl ?_
  refine cx_aload_n 0 dX1_lambda_new_1_1 rfl ?_
  refine cx_getR (cCc_R0 H) q1017 dX1_lambda_new_1_2 ?_
  refine cx_cVi [.ref (adr 8000)] [] h (fun rs' h' => cSt_level_m H hb2 M rs' h') (cSt_rc hb2) dX1_lambda_new_1_5 g_X1_214 hg_X1_214 ⟨cx_le rfl, cx_le rfl⟩ rfl ⟨rfl, rfl⟩ ⟨cx_le rfl, cx_le rfl⟩ rfl (cx_le rfl) (fun M1 v2 h => ?_)
  exact cx_iret h rfl rfl (cx_le rfl) (cx_le rfl) dX1_lambda_new_1_8
noncomputable def cCc_lambda_new_1 (N : cx_N) (b2 : Nat) (M : cx_M) : Option cx_R := cCc_lambda_new_1_0 N b2 M
theorem cCc_lambda_new_1_m {l : Launch} {g : cx_G} {adr : Nat → Nat} {N : cx_N} {b2 : Nat} (H : cCp_H g adr N) (hb2 : cSt_H g adr b2) (M : cx_M) (rs : cx_R) (h : cCc_lambda_new_1 N b2 M = some rs) : cx_Met l (g) yX1_lambda_new_1 cX1_lambda_new_1 sX1_lambda_new_1 [.ref (adr 500), .ref (adr b2)] M rs :=
  cx_met (by decide +kernel) rfl rfl (lv := [(0, .ref (adr 500)), (1, .ref (adr b2))]) rfl (cx_le rfl) (fun X => cx_sub (lv' := [(0, .ref (adr 500)), (1, .ref (adr b2))]) [0, 1] rfl (cCc_lambda_new_1_0_v H hb2 M rs h))

abbrev sX1_lambda_new_2 : cx_S := (1, RX1, cx_rI, { frames := 0, cells := 0, slots := 0, locals := 0 }, some .int, false)
noncomputable def cCc_lambda_new_2_0 (N : cx_N) (b2 : Nat) (M : cx_M) : Option cx_R :=
  cx_get M b2 12 fun v1 =>
  some (M, v1, 0)
set_option maxRecDepth 100000 in
theorem cCc_lambda_new_2_0_v {l : Launch} {g : cx_G} {adr : Nat → Nat} {X : cx_X} {N : cx_N} {b2 : Nat} (H : cCp_H g adr N) (hb2 : cSt_H g adr b2) (M : cx_M) (rs : cx_R) (h : cCc_lambda_new_2_0 N b2 M = some rs) : cx_V l (g) X sX1_lambda_new_2 cX1_lambda_new_2 0 [(0, .ref (adr b2))] [] M 0 0 rs := by
  unfold cCc_lambda_new_2_0 at h
  refine cx_aload_n 0 dX1_lambda_new_2_0 rfl ?_
  refine cx_getIN h (cSt_F12 hb2) q673 dX1_lambda_new_2_1 (fun v1 h => ?_)
  exact cx_iret h rfl rfl (cx_le rfl) (cx_le rfl) dX1_lambda_new_2_4
noncomputable def cCc_lambda_new_2 (N : cx_N) (b2 : Nat) (M : cx_M) : Option cx_R := cCc_lambda_new_2_0 N b2 M
theorem cCc_lambda_new_2_m {l : Launch} {g : cx_G} {adr : Nat → Nat} {N : cx_N} {b2 : Nat} (H : cCp_H g adr N) (hb2 : cSt_H g adr b2) (M : cx_M) (rs : cx_R) (h : cCc_lambda_new_2 N b2 M = some rs) : cx_Met l (g) yX1_lambda_new_2 cX1_lambda_new_2 sX1_lambda_new_2 [.ref (adr b2)] M rs :=
  cx_met (by decide +kernel) rfl rfl (lv := [(0, .ref (adr b2))]) rfl (cx_le rfl) (fun X => cx_sub (lv' := [(0, .ref (adr b2))]) [0] rfl (cCc_lambda_new_2_0_v H hb2 M rs h))

abbrev sX1_lambda_new_3 : cx_S := (1, RX1, cx_rI, { frames := 0, cells := 0, slots := 0, locals := 0 }, some .int, false)
noncomputable def cCc_lambda_new_3_0 (N : cx_N) (b2 : Nat) (M : cx_M) : Option cx_R :=
  cx_get M b2 8 fun v1 =>
  some (M, v1, 0)
set_option maxRecDepth 100000 in
theorem cCc_lambda_new_3_0_v {l : Launch} {g : cx_G} {adr : Nat → Nat} {X : cx_X} {N : cx_N} {b2 : Nat} (H : cCp_H g adr N) (hb2 : cSt_H g adr b2) (M : cx_M) (rs : cx_R) (h : cCc_lambda_new_3_0 N b2 M = some rs) : cx_V l (g) X sX1_lambda_new_3 cX1_lambda_new_3 0 [(0, .ref (adr b2))] [] M 0 0 rs := by
  unfold cCc_lambda_new_3_0 at h
  refine cx_aload_n 0 dX1_lambda_new_3_0 rfl ?_
  refine cx_getIN h (cSt_F8 hb2) q665 dX1_lambda_new_3_1 (fun v1 h => ?_)
  exact cx_iret h rfl rfl (cx_le rfl) (cx_le rfl) dX1_lambda_new_3_4
noncomputable def cCc_lambda_new_3 (N : cx_N) (b2 : Nat) (M : cx_M) : Option cx_R := cCc_lambda_new_3_0 N b2 M
theorem cCc_lambda_new_3_m {l : Launch} {g : cx_G} {adr : Nat → Nat} {N : cx_N} {b2 : Nat} (H : cCp_H g adr N) (hb2 : cSt_H g adr b2) (M : cx_M) (rs : cx_R) (h : cCc_lambda_new_3 N b2 M = some rs) : cx_Met l (g) yX1_lambda_new_3 cX1_lambda_new_3 sX1_lambda_new_3 [.ref (adr b2)] M rs :=
  cx_met (by decide +kernel) rfl rfl (lv := [(0, .ref (adr b2))]) rfl (cx_le rfl) (fun X => cx_sub (lv' := [(0, .ref (adr b2))]) [0] rfl (cCc_lambda_new_3_0_v H hb2 M rs h))

abbrev sX1_lambda_new_4 : cx_S := (1, RX1, cx_rI, { frames := 0, cells := 0, slots := 0, locals := 0 }, some .int, false)
noncomputable def cCc_lambda_new_4_0 (N : cx_N) (b2 : Nat) (M : cx_M) : Option cx_R :=
  cx_get M b2 6 fun v1 =>
  some (M, v1, 0)
set_option maxRecDepth 100000 in
theorem cCc_lambda_new_4_0_v {l : Launch} {g : cx_G} {adr : Nat → Nat} {X : cx_X} {N : cx_N} {b2 : Nat} (H : cCp_H g adr N) (hb2 : cSt_H g adr b2) (M : cx_M) (rs : cx_R) (h : cCc_lambda_new_4_0 N b2 M = some rs) : cx_V l (g) X sX1_lambda_new_4 cX1_lambda_new_4 0 [(0, .ref (adr b2))] [] M 0 0 rs := by
  unfold cCc_lambda_new_4_0 at h
  refine cx_aload_n 0 dX1_lambda_new_4_0 rfl ?_
  refine cx_getIN h (cSt_F6 hb2) q661 dX1_lambda_new_4_1 (fun v1 h => ?_)
  exact cx_iret h rfl rfl (cx_le rfl) (cx_le rfl) dX1_lambda_new_4_4
noncomputable def cCc_lambda_new_4 (N : cx_N) (b2 : Nat) (M : cx_M) : Option cx_R := cCc_lambda_new_4_0 N b2 M
theorem cCc_lambda_new_4_m {l : Launch} {g : cx_G} {adr : Nat → Nat} {N : cx_N} {b2 : Nat} (H : cCp_H g adr N) (hb2 : cSt_H g adr b2) (M : cx_M) (rs : cx_R) (h : cCc_lambda_new_4 N b2 M = some rs) : cx_Met l (g) yX1_lambda_new_4 cX1_lambda_new_4 sX1_lambda_new_4 [.ref (adr b2)] M rs :=
  cx_met (by decide +kernel) rfl rfl (lv := [(0, .ref (adr b2))]) rfl (cx_le rfl) (fun X => cx_sub (lv' := [(0, .ref (adr b2))]) [0] rfl (cCc_lambda_new_4_0_v H hb2 M rs h))

abbrev sX1_lambda_new_5 : cx_S := (1, RX1, cx_rI, { frames := 0, cells := 0, slots := 0, locals := 0 }, some .int, false)
noncomputable def cCc_lambda_new_5_0 (N : cx_N) (b2 : Nat) (M : cx_M) : Option cx_R :=
  cx_get M b2 7 fun v1 =>
  some (M, v1, 0)
set_option maxRecDepth 100000 in
theorem cCc_lambda_new_5_0_v {l : Launch} {g : cx_G} {adr : Nat → Nat} {X : cx_X} {N : cx_N} {b2 : Nat} (H : cCp_H g adr N) (hb2 : cSt_H g adr b2) (M : cx_M) (rs : cx_R) (h : cCc_lambda_new_5_0 N b2 M = some rs) : cx_V l (g) X sX1_lambda_new_5 cX1_lambda_new_5 0 [(0, .ref (adr b2))] [] M 0 0 rs := by
  unfold cCc_lambda_new_5_0 at h
  refine cx_aload_n 0 dX1_lambda_new_5_0 rfl ?_
  refine cx_getIN h (cSt_F7 hb2) q663 dX1_lambda_new_5_1 (fun v1 h => ?_)
  exact cx_iret h rfl rfl (cx_le rfl) (cx_le rfl) dX1_lambda_new_5_4
noncomputable def cCc_lambda_new_5 (N : cx_N) (b2 : Nat) (M : cx_M) : Option cx_R := cCc_lambda_new_5_0 N b2 M
theorem cCc_lambda_new_5_m {l : Launch} {g : cx_G} {adr : Nat → Nat} {N : cx_N} {b2 : Nat} (H : cCp_H g adr N) (hb2 : cSt_H g adr b2) (M : cx_M) (rs : cx_R) (h : cCc_lambda_new_5 N b2 M = some rs) : cx_Met l (g) yX1_lambda_new_5 cX1_lambda_new_5 sX1_lambda_new_5 [.ref (adr b2)] M rs :=
  cx_met (by decide +kernel) rfl rfl (lv := [(0, .ref (adr b2))]) rfl (cx_le rfl) (fun X => cx_sub (lv' := [(0, .ref (adr b2))]) [0] rfl (cCc_lambda_new_5_0_v H hb2 M rs h))

abbrev sX1_lambda_new_6 : cx_S := (1, RX1, cx_rI, { frames := 0, cells := 0, slots := 0, locals := 0 }, some .int, false)
noncomputable def cCc_lambda_new_6_0 (N : cx_N) (b2 : Nat) (M : cx_M) : Option cx_R :=
  cx_get M b2 4 fun v1 =>
  some (M, v1, 0)
set_option maxRecDepth 100000 in
theorem cCc_lambda_new_6_0_v {l : Launch} {g : cx_G} {adr : Nat → Nat} {X : cx_X} {N : cx_N} {b2 : Nat} (H : cCp_H g adr N) (hb2 : cSt_H g adr b2) (M : cx_M) (rs : cx_R) (h : cCc_lambda_new_6_0 N b2 M = some rs) : cx_V l (g) X sX1_lambda_new_6 cX1_lambda_new_6 0 [(0, .ref (adr b2))] [] M 0 0 rs := by
  unfold cCc_lambda_new_6_0 at h
  refine cx_aload_n 0 dX1_lambda_new_6_0 rfl ?_
  refine cx_getIN h (cSt_F4 hb2) q657 dX1_lambda_new_6_1 (fun v1 h => ?_)
  exact cx_iret h rfl rfl (cx_le rfl) (cx_le rfl) dX1_lambda_new_6_4
noncomputable def cCc_lambda_new_6 (N : cx_N) (b2 : Nat) (M : cx_M) : Option cx_R := cCc_lambda_new_6_0 N b2 M
theorem cCc_lambda_new_6_m {l : Launch} {g : cx_G} {adr : Nat → Nat} {N : cx_N} {b2 : Nat} (H : cCp_H g adr N) (hb2 : cSt_H g adr b2) (M : cx_M) (rs : cx_R) (h : cCc_lambda_new_6 N b2 M = some rs) : cx_Met l (g) yX1_lambda_new_6 cX1_lambda_new_6 sX1_lambda_new_6 [.ref (adr b2)] M rs :=
  cx_met (by decide +kernel) rfl rfl (lv := [(0, .ref (adr b2))]) rfl (cx_le rfl) (fun X => cx_sub (lv' := [(0, .ref (adr b2))]) [0] rfl (cCc_lambda_new_6_0_v H hb2 M rs h))

abbrev sX1_lambda_when_10 : cx_S := (2, RX1, cx_rI, { frames := 0, cells := 0, slots := 0, locals := 0 }, some .boolean, false)
noncomputable def cCc_lambda_when_10_0 (N : cx_N) (b2 : Nat) (M : cx_M) (x1 : Int32) : Option cx_R :=
  cx_get M b2 7 fun v1 =>
  if v1 ≤ x1 then (
    some (M, 0, 0))
  else (
    some (M, 1, 0))
set_option maxRecDepth 100000 in
theorem cCc_lambda_when_10_0_v {l : Launch} {g : cx_G} {adr : Nat → Nat} {X : cx_X} {N : cx_N} {b2 : Nat} (H : cCp_H g adr N) (hb2 : cSt_H g adr b2) (M : cx_M) (x1 : Int32) (rs : cx_R) (h : cCc_lambda_when_10_0 N b2 M x1 = some rs) : cx_V l (g) X sX1_lambda_when_10 cX1_lambda_when_10 0 [(0, .ref (adr b2)), (1, .int x1)] [] M 0 0 rs := by
  unfold cCc_lambda_when_10_0 at h
  refine cx_aload_n 0 dX1_lambda_when_10_0 rfl ?_
  refine cx_getIN h (cSt_F7 hb2) q663 dX1_lambda_when_10_1 (fun v1 h => ?_)
  refine cx_iload_n 1 dX1_lambda_when_10_4 rfl ?_
  refine cx_icmp_le 12 h dX1_lambda_when_10_5 rfl (fun h => ?_) (fun h => ?_)
  · refine cx_iconst 0 dX1_lambda_when_10_12 cx_ic_0 ?_
    exact cx_zret h cx_z_0 rfl rfl (cx_le rfl) (cx_le rfl) dX1_lambda_when_10_13
  · refine cx_iconst 1 dX1_lambda_when_10_8 cx_ic_1 ?_
    refine cx_goto 13 dX1_lambda_when_10_9 rfl ?_
    exact cx_zret h cx_z_1 rfl rfl (cx_le rfl) (cx_le rfl) dX1_lambda_when_10_13
noncomputable def cCc_lambda_when_10 (N : cx_N) (b2 : Nat) (M : cx_M) (x1 : Int32) : Option cx_R := cCc_lambda_when_10_0 N b2 M x1
theorem cCc_lambda_when_10_m {l : Launch} {g : cx_G} {adr : Nat → Nat} {N : cx_N} {b2 : Nat} (H : cCp_H g adr N) (hb2 : cSt_H g adr b2) (M : cx_M) (x1 : Int32) (rs : cx_R) (h : cCc_lambda_when_10 N b2 M x1 = some rs) : cx_Met l (g) yX1_lambda_when_10 cX1_lambda_when_10 sX1_lambda_when_10 [.ref (adr b2), .int x1] M rs :=
  cx_met (by decide +kernel) rfl rfl (lv := [(0, .ref (adr b2)), (1, .int x1)]) rfl (cx_le rfl) (fun X => cx_sub (lv' := [(0, .ref (adr b2)), (1, .int x1)]) [0, 1] rfl (cCc_lambda_when_10_0_v H hb2 M x1 rs h))

abbrev sX1_lambda_when_11 : cx_S := (1, RX1, cx_rI, { frames := 0, cells := 0, slots := 0, locals := 0 }, some .int, false)
noncomputable def cCc_lambda_when_11_0 (N : cx_N) (b2 : Nat) (M : cx_M) : Option cx_R :=
  some (M, 0, 0)
set_option maxRecDepth 100000 in
theorem cCc_lambda_when_11_0_v {l : Launch} {g : cx_G} {adr : Nat → Nat} {X : cx_X} {N : cx_N} {b2 : Nat} (H : cCp_H g adr N) (hb2 : cSt_H g adr b2) (M : cx_M) (rs : cx_R) (h : cCc_lambda_when_11_0 N b2 M = some rs) : cx_V l (g) X sX1_lambda_when_11 cX1_lambda_when_11 0 [] [] M 0 0 rs := by
  unfold cCc_lambda_when_11_0 at h
  refine cx_iconst 0 dX1_lambda_when_11_0 cx_ic_0 ?_
  exact cx_iret h rfl rfl (cx_le rfl) (cx_le rfl) dX1_lambda_when_11_1
noncomputable def cCc_lambda_when_11 (N : cx_N) (b2 : Nat) (M : cx_M) : Option cx_R := cCc_lambda_when_11_0 N b2 M
theorem cCc_lambda_when_11_m {l : Launch} {g : cx_G} {adr : Nat → Nat} {N : cx_N} {b2 : Nat} (H : cCp_H g adr N) (hb2 : cSt_H g adr b2) (M : cx_M) (rs : cx_R) (h : cCc_lambda_when_11 N b2 M = some rs) : cx_Met l (g) yX1_lambda_when_11 cX1_lambda_when_11 sX1_lambda_when_11 [.ref (adr b2)] M rs :=
  cx_met (by decide +kernel) rfl rfl (lv := [(0, .ref (adr b2))]) rfl (cx_le rfl) (fun X => cx_sub (lv' := []) [] rfl (cCc_lambda_when_11_0_v H hb2 M rs h))

abbrev sX1_lambda_when_12 : cx_S := (2, RX1, cx_rI, { frames := 0, cells := 0, slots := 0, locals := 0 }, some .boolean, false)
noncomputable def cCc_lambda_when_12_0 (N : cx_N) (b2 : Nat) (M : cx_M) : Option cx_R :=
  cx_get M b2 42 fun v1 =>
  cx_bl v1 (some (M, v1, 0))
set_option maxRecDepth 100000 in
theorem cCc_lambda_when_12_0_v {l : Launch} {g : cx_G} {adr : Nat → Nat} {X : cx_X} {N : cx_N} {b2 : Nat} (H : cCp_H g adr N) (hb2 : cSt_H g adr b2) (M : cx_M) (rs : cx_R) (h : cCc_lambda_when_12_0 N b2 M = some rs) : cx_V l (g) X sX1_lambda_when_12 cX1_lambda_when_12 0 [(0, .ref (adr b2))] [] M 0 0 rs := by
  unfold cCc_lambda_when_12_0 at h
  refine cx_aload_n 0 dX1_lambda_when_12_0 rfl ?_
  refine cx_getIN h (cSt_F42 hb2) q724 dX1_lambda_when_12_1 (fun v1 h => ?_)
  refine cx_blI h (fun hz h => ?_)
  exact cx_zret h hz.1 rfl rfl (cx_le rfl) (cx_le rfl) dX1_lambda_when_12_4
noncomputable def cCc_lambda_when_12 (N : cx_N) (b2 : Nat) (M : cx_M) (x1 : Int32) : Option cx_R := cCc_lambda_when_12_0 N b2 M
theorem cCc_lambda_when_12_m {l : Launch} {g : cx_G} {adr : Nat → Nat} {N : cx_N} {b2 : Nat} (H : cCp_H g adr N) (hb2 : cSt_H g adr b2) (M : cx_M) (x1 : Int32) (rs : cx_R) (h : cCc_lambda_when_12 N b2 M x1 = some rs) : cx_Met l (g) yX1_lambda_when_12 cX1_lambda_when_12 sX1_lambda_when_12 [.ref (adr b2), .int x1] M rs :=
  cx_met (by decide +kernel) rfl rfl (lv := [(0, .ref (adr b2)), (1, .int x1)]) rfl (cx_le rfl) (fun X => cx_sub (lv' := [(0, .ref (adr b2))]) [0] rfl (cCc_lambda_when_12_0_v H hb2 M rs h))

abbrev sX1_lambda_when_13 : cx_S := (1, RX1, cx_rI, { frames := 0, cells := 0, slots := 0, locals := 0 }, some .int, false)
noncomputable def cCc_lambda_when_13_0 (N : cx_N) (b2 : Nat) (M : cx_M) : Option cx_R :=
  cx_get M b2 22 fun v1 =>
  some (M, v1, 0)
set_option maxRecDepth 100000 in
theorem cCc_lambda_when_13_0_v {l : Launch} {g : cx_G} {adr : Nat → Nat} {X : cx_X} {N : cx_N} {b2 : Nat} (H : cCp_H g adr N) (hb2 : cSt_H g adr b2) (M : cx_M) (rs : cx_R) (h : cCc_lambda_when_13_0 N b2 M = some rs) : cx_V l (g) X sX1_lambda_when_13 cX1_lambda_when_13 0 [(0, .ref (adr b2))] [] M 0 0 rs := by
  unfold cCc_lambda_when_13_0 at h
  refine cx_aload_n 0 dX1_lambda_when_13_0 rfl ?_
  refine cx_getIN h (cSt_F22 hb2) q688 dX1_lambda_when_13_1 (fun v1 h => ?_)
  exact cx_iret h rfl rfl (cx_le rfl) (cx_le rfl) dX1_lambda_when_13_4
noncomputable def cCc_lambda_when_13 (N : cx_N) (b2 : Nat) (M : cx_M) : Option cx_R := cCc_lambda_when_13_0 N b2 M
theorem cCc_lambda_when_13_m {l : Launch} {g : cx_G} {adr : Nat → Nat} {N : cx_N} {b2 : Nat} (H : cCp_H g adr N) (hb2 : cSt_H g adr b2) (M : cx_M) (rs : cx_R) (h : cCc_lambda_when_13 N b2 M = some rs) : cx_Met l (g) yX1_lambda_when_13 cX1_lambda_when_13 sX1_lambda_when_13 [.ref (adr b2)] M rs :=
  cx_met (by decide +kernel) rfl rfl (lv := [(0, .ref (adr b2))]) rfl (cx_le rfl) (fun X => cx_sub (lv' := [(0, .ref (adr b2))]) [0] rfl (cCc_lambda_when_13_0_v H hb2 M rs h))

abbrev sX1_lambda_when_14 : cx_S := (2, RX1, cx_rI, { frames := 0, cells := 0, slots := 0, locals := 0 }, some .boolean, false)
noncomputable def cCc_lambda_when_14_0 (N : cx_N) (b2 : Nat) (M : cx_M) (x1 : Int32) : Option cx_R :=
  cx_get M b2 22 fun v1 =>
  if v1 ≤ x1 then (
    some (M, 0, 0))
  else (
    some (M, 1, 0))
set_option maxRecDepth 100000 in
theorem cCc_lambda_when_14_0_v {l : Launch} {g : cx_G} {adr : Nat → Nat} {X : cx_X} {N : cx_N} {b2 : Nat} (H : cCp_H g adr N) (hb2 : cSt_H g adr b2) (M : cx_M) (x1 : Int32) (rs : cx_R) (h : cCc_lambda_when_14_0 N b2 M x1 = some rs) : cx_V l (g) X sX1_lambda_when_14 cX1_lambda_when_14 0 [(0, .ref (adr b2)), (1, .int x1)] [] M 0 0 rs := by
  unfold cCc_lambda_when_14_0 at h
  refine cx_aload_n 0 dX1_lambda_when_14_0 rfl ?_
  refine cx_getIN h (cSt_F22 hb2) q688 dX1_lambda_when_14_1 (fun v1 h => ?_)
  refine cx_iload_n 1 dX1_lambda_when_14_4 rfl ?_
  refine cx_icmp_le 12 h dX1_lambda_when_14_5 rfl (fun h => ?_) (fun h => ?_)
  · refine cx_iconst 0 dX1_lambda_when_14_12 cx_ic_0 ?_
    exact cx_zret h cx_z_0 rfl rfl (cx_le rfl) (cx_le rfl) dX1_lambda_when_14_13
  · refine cx_iconst 1 dX1_lambda_when_14_8 cx_ic_1 ?_
    refine cx_goto 13 dX1_lambda_when_14_9 rfl ?_
    exact cx_zret h cx_z_1 rfl rfl (cx_le rfl) (cx_le rfl) dX1_lambda_when_14_13
noncomputable def cCc_lambda_when_14 (N : cx_N) (b2 : Nat) (M : cx_M) (x1 : Int32) : Option cx_R := cCc_lambda_when_14_0 N b2 M x1
theorem cCc_lambda_when_14_m {l : Launch} {g : cx_G} {adr : Nat → Nat} {N : cx_N} {b2 : Nat} (H : cCp_H g adr N) (hb2 : cSt_H g adr b2) (M : cx_M) (x1 : Int32) (rs : cx_R) (h : cCc_lambda_when_14 N b2 M x1 = some rs) : cx_Met l (g) yX1_lambda_when_14 cX1_lambda_when_14 sX1_lambda_when_14 [.ref (adr b2), .int x1] M rs :=
  cx_met (by decide +kernel) rfl rfl (lv := [(0, .ref (adr b2)), (1, .int x1)]) rfl (cx_le rfl) (fun X => cx_sub (lv' := [(0, .ref (adr b2)), (1, .int x1)]) [0, 1] rfl (cCc_lambda_when_14_0_v H hb2 M x1 rs h))

abbrev sX1_lambda_when_7 : cx_S := (1, RX1, cx_rI, { frames := 0, cells := 0, slots := 0, locals := 0 }, some .int, false)
noncomputable def cCc_lambda_when_7_0 (N : cx_N) (b2 : Nat) (M : cx_M) : Option cx_R :=
  some (M, 0, 0)
set_option maxRecDepth 100000 in
theorem cCc_lambda_when_7_0_v {l : Launch} {g : cx_G} {adr : Nat → Nat} {X : cx_X} {N : cx_N} {b2 : Nat} (H : cCp_H g adr N) (hb2 : cSt_H g adr b2) (M : cx_M) (rs : cx_R) (h : cCc_lambda_when_7_0 N b2 M = some rs) : cx_V l (g) X sX1_lambda_when_7 cX1_lambda_when_7 0 [] [] M 0 0 rs := by
  unfold cCc_lambda_when_7_0 at h
  refine cx_iconst 0 dX1_lambda_when_7_0 cx_ic_0 ?_
  exact cx_iret h rfl rfl (cx_le rfl) (cx_le rfl) dX1_lambda_when_7_1
noncomputable def cCc_lambda_when_7 (N : cx_N) (b2 : Nat) (M : cx_M) : Option cx_R := cCc_lambda_when_7_0 N b2 M
theorem cCc_lambda_when_7_m {l : Launch} {g : cx_G} {adr : Nat → Nat} {N : cx_N} {b2 : Nat} (H : cCp_H g adr N) (hb2 : cSt_H g adr b2) (M : cx_M) (rs : cx_R) (h : cCc_lambda_when_7 N b2 M = some rs) : cx_Met l (g) yX1_lambda_when_7 cX1_lambda_when_7 sX1_lambda_when_7 [.ref (adr b2)] M rs :=
  cx_met (by decide +kernel) rfl rfl (lv := [(0, .ref (adr b2))]) rfl (cx_le rfl) (fun X => cx_sub (lv' := []) [] rfl (cCc_lambda_when_7_0_v H hb2 M rs h))
