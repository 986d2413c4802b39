abbrev sX10_levelNow : cx_S := (4, RX10, cx_rI, { frames := 1, cells := 0, slots := 0, locals := 20 }, some .int, false)
noncomputable def tw_levelNow_68 (N : Nat) (r_9 : cx_M → Int32 → Int32 → Int32 → Option cx_R) (M : cx_M) (x1 : Int32) (x2 : Int32) (x3 : Int32) : Option cx_R :=
  cx_let (x3 + 1) fun v1 =>
  r_9 M x1 x2 v1
set_option maxRecDepth 100000 in
theorem tw_levelNow_68_v {l : Launch} {g : cx_G} {adr : Nat → Nat} {X : cx_X} {N : Nat} {r_9 : cx_M → Int32 → Int32 → Int32 → Option cx_R} (H : tw_H g adr) (hr_9 : ∀ (M : cx_M) (x1 : Int32) (x2 : Int32) (x3 : Int32) (rs : cx_R), r_9 M x1 x2 x3 = some rs → cx_V l (g) X sX10_levelNow cX10_levelNow 9 [(0, .ref (adr 60)), (1, .int x1), (2, .int x2), (3, .int x3)] [] M 0 0 rs) (M : cx_M) (x1 : Int32) (x2 : Int32) (x3 : Int32) (rs : cx_R) (h : tw_levelNow_68 N r_9 M x1 x2 x3 = some rs) : cx_V l (g) X sX10_levelNow cX10_levelNow 68 [(0, .ref (adr 60)), (1, .int x1), (2, .int x2), (3, .int x3)] [] M 0 0 rs := by
  unfold tw_levelNow_68 at h
  refine cx_iinc 3 1 (fun v1 => [(3, .int v1), (0, .ref (adr 60)), (1, .int x1), (2, .int x2)]) h dX10_levelNow_68 rfl cx_ic_1 (cx_lt rfl) (fun _ => rfl) (fun v1 h => ?_)
  refine cx_goto 9 dX10_levelNow_71 rfl ?_
  refine cx_sub (lv' := [(0, .ref (adr 60)), (1, .int x1), (2, .int x2), (3, .int v1)]) [1, 2, 3, 0] rfl ?_
  exact hr_9 M x1 x2 v1 _ h
noncomputable def tw_levelNow_74 (N : Nat) (M : cx_M) (x1 : Int32) : Option cx_R :=
  if x1 = (-1) then (
    some (M, 0, 0))
  else (
    cx_get M 3 0 fun v1 =>
    cx_get M 8 14 fun v2 =>
    some (M, ((x1 + 1) * v1) - v2, 0))
set_option maxRecDepth 100000 in
theorem tw_levelNow_74_v {l : Launch} {g : cx_G} {adr : Nat → Nat} {X : cx_X} {N : Nat} (H : tw_H g adr) (M : cx_M) (x1 : Int32) (rs : cx_R) (h : tw_levelNow_74 N M x1 = some rs) : cx_V l (g) X sX10_levelNow cX10_levelNow 74 [(0, .ref (adr 60)), (1, .int x1)] [] M 0 0 rs := by
  unfold tw_levelNow_74 at h
  refine cx_iload_n 1 dX10_levelNow_74 rfl ?_
  refine cx_iconst (-1) dX10_levelNow_75 cx_ic_m1 ?_
  refine cx_icmp_ne 83 h dX10_levelNow_76 rfl (fun h => ?_) (fun h => ?_)
  · refine cx_iload_n 1 dX10_levelNow_83 rfl ?_
    refine cx_iconst 1 dX10_levelNow_84 cx_ic_1 ?_
    refine cx_iadd dX10_levelNow_85 ?_
    refine cx_aload_n 0 dX10_levelNow_86 rfl ?_
    refine cx_getR (tw_R3 H) q2393 dX10_levelNow_87 ?_
    refine cx_iconst 0 dX10_levelNow_90 cx_ic_0 ?_
    refine cx_ldC h (tw_A3 H) cx_cl_0 cx_vin_0_20 dX10_levelNow_91 (fun v1 h => ?_)
    refine cx_imul dX10_levelNow_92 ?_
    refine cx_aload_n 0 dX10_levelNow_93 rfl ?_
    refine cx_getR (tw_R8 H) q2398 dX10_levelNow_94 ?_
    refine cx_bipush 14 dX10_levelNow_97 cx_bp_14 ?_
    refine cx_ldC h (tw_A8 H) cx_cl_14 cx_vin_14_665 dX10_levelNow_99 (fun v2 h => ?_)
    refine cx_isub dX10_levelNow_100 ?_
    exact cx_iret h rfl rfl (cx_le rfl) (cx_le rfl) dX10_levelNow_101
  · refine cx_iconst 0 dX10_levelNow_79 cx_ic_0 ?_
    refine cx_goto 101 dX10_levelNow_80 rfl ?_
    exact cx_iret h rfl rfl (cx_le rfl) (cx_le rfl) dX10_levelNow_101
noncomputable def tw_levelNow_9b (N : Nat) (r_9 : cx_M → Int32 → Int32 → Int32 → Option cx_R) (M : cx_M) (x1 : Int32) (x2 : Int32) (x3 : Int32) : Option cx_R :=
  if 64 ≤ x3 then (
    tw_levelNow_74 N M x1)
  else (
    cx_get M 8 8 fun v1 =>
    if v1 = 0 then (
      tw_levelNow_74 N M x1)
    else (
      cx_ld M 8 665 ((153 : Int32) + x3) fun v2 =>
      if v2 = (-1) then (
        tw_levelNow_68 N r_9 M x1 x2 x3)
      else (
        cx_ld M 8 665 ((217 : Int32) + x3) fun v3 =>
        if v3 < x2 then (
          tw_levelNow_68 N r_9 M x1 x2 x3)
        else (
          cx_ld M 8 665 ((217 : Int32) + x3) fun v4 =>
          cx_let (cx_max x1 v4) fun v5 =>
          tw_levelNow_68 N r_9 M v5 x2 x3))))
set_option maxRecDepth 100000 in
theorem tw_levelNow_9b_v {l : Launch} {g : cx_G} {adr : Nat → Nat} {X : cx_X} {N : Nat} {r_9 : cx_M → Int32 → Int32 → Int32 → Option cx_R} (H : tw_H g adr) (hr_9 : ∀ (M : cx_M) (x1 : Int32) (x2 : Int32) (x3 : Int32) (rs : cx_R), r_9 M x1 x2 x3 = some rs → cx_V l (g) X sX10_levelNow cX10_levelNow 9 [(0, .ref (adr 60)), (1, .int x1), (2, .int x2), (3, .int x3)] [] M 0 0 rs) (M : cx_M) (x1 : Int32) (x2 : Int32) (x3 : Int32) (rs : cx_R) (h : tw_levelNow_9b N r_9 M x1 x2 x3 = some rs) : cx_V l (g) X sX10_levelNow cX10_levelNow 9 [(0, .ref (adr 60)), (1, .int x1), (2, .int x2), (3, .int x3)] [] M 0 0 rs := by
  unfold tw_levelNow_9b at h
  refine cx_iload_n 3 dX10_levelNow_9 rfl ?_
  refine cx_bipush 64 dX10_levelNow_10 cx_bp_64 ?_
  refine cx_icmp_ge 74 h dX10_levelNow_12 rfl (fun h => ?_) (fun h => ?_)
  · refine cx_sub (lv' := [(0, .ref (adr 60)), (1, .int x1)]) [0, 1] rfl ?_
    exact tw_levelNow_74_v H M x1 _ h
  · refine cx_aload_n 0 dX10_levelNow_15 rfl ?_
    refine cx_getR (tw_R8 H) q2398 dX10_levelNow_16 ?_
    refine cx_bipush 8 dX10_levelNow_19 cx_bp_8 ?_
    refine cx_ldC h (tw_A8 H) cx_cl_8 cx_vin_8_665 dX10_levelNow_21 (fun v1 h => ?_)
    refine cx_if_eq 74 h dX10_levelNow_22 rfl (fun h => ?_) (fun h => ?_)
    · refine cx_sub (lv' := [(0, .ref (adr 60)), (1, .int x1)]) [0, 1] rfl ?_
      exact tw_levelNow_74_v H M x1 _ h
    · refine cx_aload_n 0 dX10_levelNow_25 rfl ?_
      refine cx_getR (tw_R8 H) q2398 dX10_levelNow_26 ?_
      refine cx_sipush 153 dX10_levelNow_29 cx_sp_153 ?_
      refine cx_iload_n 3 dX10_levelNow_32 rfl ?_
      refine cx_iadd dX10_levelNow_33 ?_
      refine cx_ldI h (tw_A8 H) dX10_levelNow_34 (fun v2 h => ?_)
      refine cx_iconst (-1) dX10_levelNow_35 cx_ic_m1 ?_
      refine cx_icmp_eq 68 h dX10_levelNow_36 rfl (fun h => ?_) (fun h => ?_)
      · exact tw_levelNow_68_v H hr_9 M x1 x2 x3 _ h
      · refine cx_aload_n 0 dX10_levelNow_39 rfl ?_
        refine cx_getR (tw_R8 H) q2398 dX10_levelNow_40 ?_
        refine cx_sipush 217 dX10_levelNow_43 cx_sp_217 ?_
        refine cx_iload_n 3 dX10_levelNow_46 rfl ?_
        refine cx_iadd dX10_levelNow_47 ?_
        refine cx_ldI h (tw_A8 H) dX10_levelNow_48 (fun v3 h => ?_)
        refine cx_iload_n 2 dX10_levelNow_49 rfl ?_
        refine cx_icmp_lt 68 h dX10_levelNow_50 rfl (fun h => ?_) (fun h => ?_)
        · exact tw_levelNow_68_v H hr_9 M x1 x2 x3 _ h
        · refine cx_iload_n 1 dX10_levelNow_53 rfl ?_
          refine cx_aload_n 0 dX10_levelNow_54 rfl ?_
          refine cx_getR (tw_R8 H) q2398 dX10_levelNow_55 ?_
          refine cx_sipush 217 dX10_levelNow_58 cx_sp_217 ?_
          refine cx_iload_n 3 dX10_levelNow_61 rfl ?_
          refine cx_iadd dX10_levelNow_62 ?_
          refine cx_ldI h (tw_A8 H) dX10_levelNow_63 (fun v4 h => ?_)
          refine cx_mmax dX10_levelNow_64 q2694 (cx_le rfl) (cx_le rfl) (cx_le rfl) (cx_le rfl) ?_
          refine cx_letI h (fun v5 h => ?_)
          refine cx_istore_n [(1, .int v5), (0, .ref (adr 60)), (2, .int x2), (3, .int x3)] dX10_levelNow_67 (cx_lt rfl) rfl ?_
          refine cx_sub (lv' := [(0, .ref (adr 60)), (1, .int v5), (2, .int x2), (3, .int x3)]) [1, 0, 2, 3] rfl ?_
          exact tw_levelNow_68_v H hr_9 M v5 x2 x3 _ h
noncomputable def tw_levelNow_9 (N : Nat) : Nat → cx_M → Int32 → Int32 → Int32 → Option cx_R :=
  cx_fix (fun _ _ _ _ => none) (fun r_9 => tw_levelNow_9b N r_9)
theorem tw_levelNow_9_v {l : Launch} {g : cx_G} {adr : Nat → Nat} {X : cx_X} {N : Nat} (H : tw_H g adr) : ∀ (n : Nat) (M : cx_M) (x1 : Int32) (x2 : Int32) (x3 : Int32) (rs : cx_R), tw_levelNow_9 N n M x1 x2 x3 = some rs → cx_V l (g) X sX10_levelNow cX10_levelNow 9 [(0, .ref (adr 60)), (1, .int x1), (2, .int x2), (3, .int x3)] [] M 0 0 rs :=
  cx_fixI (fun (r : cx_M → Int32 → Int32 → Int32 → Option cx_R) => ∀ (M : cx_M) (x1 : Int32) (x2 : Int32) (x3 : Int32) (rs : cx_R), r M x1 x2 x3 = some rs → cx_V l (g) X sX10_levelNow cX10_levelNow 9 [(0, .ref (adr 60)), (1, .int x1), (2, .int x2), (3, .int x3)] [] M 0 0 rs) (fun _ _ _ _ _ h => by cases h) (fun r hr M x1 x2 x3 rs h => tw_levelNow_9b_v H hr M x1 x2 x3 rs h)
noncomputable def tw_levelNow_0 (N : Nat) (M : cx_M) : Option cx_R :=
  cx_cal (tw_spotNow N M) fun M1 v2 =>
  tw_levelNow_9 N N M1 (-1) v2 0
set_option maxRecDepth 100000 in
theorem tw_levelNow_0_v {l : Launch} {g : cx_G} {adr : Nat → Nat} {X : cx_X} {N : Nat} (H : tw_H g adr) (M : cx_M) (rs : cx_R) (h : tw_levelNow_0 N M = some rs) : cx_V l (g) X sX10_levelNow cX10_levelNow 0 [(0, .ref (adr 60))] [] M 0 0 rs := by
  unfold tw_levelNow_0 at h
  refine cx_iconst (-1) dX10_levelNow_0 cx_ic_m1 ?_
  refine cx_istore_n [(1, .int (-1)), (0, .ref (adr 60))] dX10_levelNow_1 (cx_lt rfl) rfl ?_
  refine cx_aload_n 1 dX10_levelNow_2 rfl ?_
  refine cx_cVi [] [] h (fun rs' h' => tw_spotNow_m H M rs' h') (tw_rc H) dX10_levelNow_3 g_X10_318 hg_X10_318 ⟨cx_le rfl, cx_le rfl⟩ rfl ⟨rfl, rfl⟩ ⟨cx_le rfl, cx_le rfl⟩ rfl (cx_le rfl) (fun M1 v2 h => ?_)
  refine cx_istore_n [(2, .int v2), (1, .int (-1)), (0, .ref (adr 60))] dX10_levelNow_6 (cx_lt rfl) rfl ?_
  refine cx_iconst 0 dX10_levelNow_7 cx_ic_0 ?_
  refine cx_istore_n [(3, .int 0), (2, .int v2), (1, .int (-1)), (0, .ref (adr 60))] dX10_levelNow_8 (cx_lt rfl) rfl ?_
  refine cx_sub (lv' := [(0, .ref (adr 60)), (1, .int (-1)), (2, .int v2), (3, .int 0)]) [3, 2, 1, 0] rfl ?_
  exact tw_levelNow_9_v H N M1 (-1) v2 0 _ h
noncomputable def tw_levelNow (N : Nat) (M : cx_M) : Option cx_R := tw_levelNow_0 N M
theorem tw_levelNow_m {l : Launch} {g : cx_G} {adr : Nat → Nat} {N : Nat} (H : tw_H g adr) (M : cx_M) (rs : cx_R) (h : tw_levelNow N M = some rs) : cx_Met l (g) yX10_levelNow cX10_levelNow sX10_levelNow [.ref (adr 60)] M rs :=
  cx_met (by decide +kernel) rfl rfl (lv := [(0, .ref (adr 60))]) rfl (cx_le rfl) (fun X => cx_sub (lv' := [(0, .ref (adr 60))]) [0] rfl (tw_levelNow_0_v H M rs h))

abbrev sX10_steer : cx_S := (3, RX10, cx_rV, { frames := 2, cells := 0, slots := 0, locals := 43 }, none, false)
noncomputable def tw_steer_67 (N : Nat) (M : cx_M) (x1 : Int32) : Option cx_R :=
  cx_get M 8 8 fun v1 =>
  if v1 = 2 then (
    cx_get M 8 0 fun v2 =>
    cx_get M 3 4 fun v3 =>
    cx_nz v3 <|
    if (cx_rem v2 v3) = 0 then (
      cx_get M 8 29 fun v4 =>
      cx_let (x1 - v4) fun v5 =>
      cx_get M 8 10 fun v6 =>
      cx_get M 60 25 fun v7 =>
      cx_cal (tw_within N M (v6 + (v7 * v5)) (-3200) 3200) fun M8 v9 =>
      cx_put M8 8 10 v9 fun M10 =>
      cx_get M10 60 24 fun v11 =>
      cx_get M10 8 10 fun v12 =>
      cx_cal (tw_within N M10 (((v11 * v5) + v12) / 16) (-200) 200) fun M13 v14 =>
      cx_put M13 8 9 v14 fun M15 =>
      cx_get M15 8 32 fun v16 =>
      cx_get M15 8 11 fun v17 =>
      cx_st M15 8 665 ((281 : Int32) + (cx_rem v16 128)) v17 fun M18 =>
      cx_get M18 8 32 fun v19 =>
      cx_put M18 8 32 (v19 + 1) fun M20 =>
      some (M20, 0, 0))
    else (
      some (M, 0, 0)))
  else (
    some (M, 0, 0))
set_option maxRecDepth 100000 in
theorem tw_steer_67_v {l : Launch} {g : cx_G} {adr : Nat → Nat} {X : cx_X} {N : Nat} (H : tw_H g adr) (M : cx_M) (x1 : Int32) (rs : cx_R) (h : tw_steer_67 N M x1 = some rs) : cx_V l (g) X sX10_steer cX10_steer 67 [(0, .ref (adr 60)), (1, .int x1)] [] M 0 0 rs := by
  unfold tw_steer_67 at h
  refine cx_aload_n 0 dX10_steer_67 rfl ?_
  refine cx_getR (tw_R8 H) q2398 dX10_steer_68 ?_
  refine cx_bipush 8 dX10_steer_71 cx_bp_8 ?_
  refine cx_ldC h (tw_A8 H) cx_cl_8 cx_vin_8_665 dX10_steer_73 (fun v1 h => ?_)
  refine cx_iconst 2 dX10_steer_74 cx_ic_2 ?_
  refine cx_icmp_ne 94 h dX10_steer_75 rfl (fun h => ?_) (fun h => ?_)
  · exact cx_vret h rfl rfl (cx_le rfl) (cx_le rfl) dX10_steer_94
  · refine cx_aload_n 0 dX10_steer_78 rfl ?_
    refine cx_getR (tw_R8 H) q2398 dX10_steer_79 ?_
    refine cx_iconst 0 dX10_steer_82 cx_ic_0 ?_
    refine cx_ldC h (tw_A8 H) cx_cl_0 cx_vin_0_665 dX10_steer_83 (fun v2 h => ?_)
    refine cx_aload_n 0 dX10_steer_84 rfl ?_
    refine cx_getR (tw_R3 H) q2393 dX10_steer_85 ?_
    refine cx_iconst 4 dX10_steer_88 cx_ic_4 ?_
    refine cx_ldC h (tw_A3 H) cx_cl_4 cx_vin_4_20 dX10_steer_89 (fun v3 h => ?_)
    refine cx_irem h dX10_steer_90 (fun h => ?_)
    refine cx_if_eq 95 h dX10_steer_91 rfl (fun h => ?_) (fun h => ?_)
    · refine cx_iload_n 1 dX10_steer_95 rfl ?_
      refine cx_aload_n 0 dX10_steer_96 rfl ?_
      refine cx_getR (tw_R8 H) q2398 dX10_steer_97 ?_
      refine cx_bipush 29 dX10_steer_100 cx_bp_29 ?_
      refine cx_ldC h (tw_A8 H) cx_cl_29 cx_vin_29_665 dX10_steer_102 (fun v4 h => ?_)
      refine cx_isub dX10_steer_103 ?_
      refine cx_letI h (fun v5 h => ?_)
      refine cx_istore_n [(2, .int v5), (0, .ref (adr 60)), (1, .int x1)] dX10_steer_104 (cx_lt rfl) rfl ?_
      refine cx_aload_n 1 dX10_steer_105 rfl ?_
      refine cx_getR (tw_R8 H) q2398 dX10_steer_106 ?_
      refine cx_bipush 10 dX10_steer_109 cx_bp_10 ?_
      refine cx_aload_n 1 dX10_steer_111 rfl ?_
      refine cx_getR (tw_R8 H) q2398 dX10_steer_112 ?_
      refine cx_bipush 10 dX10_steer_115 cx_bp_10 ?_
      refine cx_ldC h (tw_A8 H) cx_cl_10 cx_vin_10_665 dX10_steer_117 (fun v6 h => ?_)
      refine cx_aload_n 1 dX10_steer_118 rfl ?_
      refine cx_getI h (tw_F25 H) q2415 dX10_steer_119 (fun v7 h => ?_)
      refine cx_iload_n 0 dX10_steer_122 rfl ?_
      refine cx_imul dX10_steer_123 ?_
      refine cx_iadd dX10_steer_124 ?_
      refine cx_sipush (-3200) dX10_steer_125 cx_sp_m3200 ?_
      refine cx_sipush 3200 dX10_steer_128 cx_sp_3200 ?_
      refine cx_cSi [.int (v6 + (v7 * v5)), .int (-3200), .int 3200] [.int 10, .ref (adr 8)] h (fun rs' h' => tw_within_m H M (v6 + (v7 * v5)) (-3200) 3200 rs' h') dX10_steer_131 g_X10_308 hg_X10_308 ⟨cx_le rfl, cx_le rfl⟩ rfl ⟨rfl, rfl⟩ ⟨cx_le rfl, cx_le rfl⟩ rfl (cx_le rfl) (fun M8 v9 h => ?_)
      refine cx_stC h (tw_A8 H) cx_cl_10 cx_vin_10_665 dX10_steer_134 (fun M10 h => ?_)
      refine cx_aload_n 1 dX10_steer_135 rfl ?_
      refine cx_getR (tw_R8 H) q2398 dX10_steer_136 ?_
      refine cx_bipush 9 dX10_steer_139 cx_bp_9 ?_
      refine cx_aload_n 1 dX10_steer_141 rfl ?_
      refine cx_getI h (tw_F24 H) q2414 dX10_steer_142 (fun v11 h => ?_)
      refine cx_iload_n 0 dX10_steer_145 rfl ?_
      refine cx_imul dX10_steer_146 ?_
      refine cx_aload_n 1 dX10_steer_147 rfl ?_
      refine cx_getR (tw_R8 H) q2398 dX10_steer_148 ?_
      refine cx_bipush 10 dX10_steer_151 cx_bp_10 ?_
      refine cx_ldC h (tw_A8 H) cx_cl_10 cx_vin_10_665 dX10_steer_153 (fun v12 h => ?_)
      refine cx_iadd dX10_steer_154 ?_
      refine cx_bipush 16 dX10_steer_155 cx_bp_16 ?_
      refine cx_idivC cx_ne_16 dX10_steer_157 ?_
      refine cx_sipush (-200) dX10_steer_158 cx_sp_m200 ?_
      refine cx_sipush 200 dX10_steer_161 cx_sp_200 ?_
      refine cx_cSi [.int (((v11 * v5) + v12) / 16), .int (-200), .int 200] [.int 9, .ref (adr 8)] h (fun rs' h' => tw_within_m H M10 (((v11 * v5) + v12) / 16) (-200) 200 rs' h') dX10_steer_164 g_X10_308 hg_X10_308 ⟨cx_le rfl, cx_le rfl⟩ rfl ⟨rfl, rfl⟩ ⟨cx_le rfl, cx_le rfl⟩ rfl (cx_le rfl) (fun M13 v14 h => ?_)
      refine cx_stC h (tw_A8 H) cx_cl_9 cx_vin_9_665 dX10_steer_167 (fun M15 h => ?_)
      refine cx_aload_n 1 dX10_steer_168 rfl ?_
      refine cx_getR (tw_R8 H) q2398 dX10_steer_169 ?_
      refine cx_sipush 281 dX10_steer_172 cx_sp_281 ?_
      refine cx_aload_n 1 dX10_steer_175 rfl ?_
      refine cx_getR (tw_R8 H) q2398 dX10_steer_176 ?_
      refine cx_bipush 32 dX10_steer_179 cx_bp_32 ?_
      refine cx_ldC h (tw_A8 H) cx_cl_32 cx_vin_32_665 dX10_steer_181 (fun v16 h => ?_)
      refine cx_sipush 128 dX10_steer_182 cx_sp_128 ?_
      refine cx_iremC cx_ne_128 dX10_steer_185 ?_
      refine cx_iadd dX10_steer_186 ?_
      refine cx_aload_n 1 dX10_steer_187 rfl ?_
      refine cx_getR (tw_R8 H) q2398 dX10_steer_188 ?_
      refine cx_bipush 11 dX10_steer_191 cx_bp_11 ?_
      refine cx_ldC h (tw_A8 H) cx_cl_11 cx_vin_11_665 dX10_steer_193 (fun v17 h => ?_)
      refine cx_stI h (tw_A8 H) dX10_steer_194 (fun M18 h => ?_)
      refine cx_aload_n 1 dX10_steer_195 rfl ?_
      refine cx_getR (tw_R8 H) q2398 dX10_steer_196 ?_
      refine cx_bipush 32 dX10_steer_199 cx_bp_32 ?_
      refine cx_dup2 dX10_steer_201 rfl rfl ?_
      refine cx_ldC h (tw_A8 H) cx_cl_32 cx_vin_32_665 dX10_steer_202 (fun v19 h => ?_)
      refine cx_iconst 1 dX10_steer_203 cx_ic_1 ?_
      refine cx_iadd dX10_steer_204 ?_
      refine cx_stC h (tw_A8 H) cx_cl_32 cx_vin_32_665 dX10_steer_205 (fun M20 h => ?_)
      exact cx_vret h rfl rfl (cx_le rfl) (cx_le rfl) dX10_steer_206
    · exact cx_vret h rfl rfl (cx_le rfl) (cx_le rfl) dX10_steer_94
noncomputable def tw_steer_0 (N : Nat) (M : cx_M) : Option cx_R :=
  cx_cal (tw_levelNow N M) fun M1 v2 =>
  cx_get M1 8 8 fun v3 =>
  if v3 = 1 then (
    cx_get M1 8 29 fun v4 =>
    if v2 < v4 then (
      tw_steer_67 N M1 v2)
    else (
      cx_put M1 8 8 2 fun M5 =>
      cx_put M5 8 23 0 fun M6 =>
      cx_put M6 8 10 0 fun M7 =>
      cx_put M7 8 9 0 fun M8 =>
      cx_put M8 8 11 0 fun M9 =>
      tw_steer_67 N M9 v2))
  else (
    tw_steer_67 N M1 v2)
set_option maxRecDepth 100000 in
theorem tw_steer_0_v {l : Launch} {g : cx_G} {adr : Nat → Nat} {X : cx_X} {N : Nat} (H : tw_H g adr) (M : cx_M) (rs : cx_R) (h : tw_steer_0 N M = some rs) : cx_V l (g) X sX10_steer cX10_steer 0 [(0, .ref (adr 60))] [] M 0 0 rs := by
  unfold tw_steer_0 at h
  refine cx_aload_n 0 dX10_steer_0 rfl ?_
  refine cx_cVi [] [] h (fun rs' h' => tw_levelNow_m H M rs' h') (tw_rc H) dX10_steer_1 g_X10_325 hg_X10_325 ⟨cx_le rfl, cx_le rfl⟩ rfl ⟨rfl, rfl⟩ ⟨cx_le rfl, cx_le rfl⟩ rfl (cx_le rfl) (fun M1 v2 h => ?_)
  refine cx_istore_n [(1, .int v2), (0, .ref (adr 60))] dX10_steer_4 (cx_lt rfl) rfl ?_
  refine cx_aload_n 1 dX10_steer_5 rfl ?_
  refine cx_getR (tw_R8 H) q2398 dX10_steer_6 ?_
  refine cx_bipush 8 dX10_steer_9 cx_bp_8 ?_
  refine cx_ldC h (tw_A8 H) cx_cl_8 cx_vin_8_665 dX10_steer_11 (fun v3 h => ?_)
  refine cx_iconst 1 dX10_steer_12 cx_ic_1 ?_
  refine cx_icmp_ne 67 h dX10_steer_13 rfl (fun h => ?_) (fun h => ?_)
  · refine cx_sub (lv' := [(0, .ref (adr 60)), (1, .int v2)]) [1, 0] rfl ?_
    exact tw_steer_67_v H M1 v2 _ h
  · refine cx_iload_n 0 dX10_steer_16 rfl ?_
    refine cx_aload_n 1 dX10_steer_17 rfl ?_
    refine cx_getR (tw_R8 H) q2398 dX10_steer_18 ?_
    refine cx_bipush 29 dX10_steer_21 cx_bp_29 ?_
    refine cx_ldC h (tw_A8 H) cx_cl_29 cx_vin_29_665 dX10_steer_23 (fun v4 h => ?_)
    refine cx_icmp_lt 67 h dX10_steer_24 rfl (fun h => ?_) (fun h => ?_)
    · refine cx_sub (lv' := [(0, .ref (adr 60)), (1, .int v2)]) [1, 0] rfl ?_
      exact tw_steer_67_v H M1 v2 _ h
    · refine cx_aload_n 1 dX10_steer_27 rfl ?_
      refine cx_getR (tw_R8 H) q2398 dX10_steer_28 ?_
      refine cx_bipush 8 dX10_steer_31 cx_bp_8 ?_
      refine cx_iconst 2 dX10_steer_33 cx_ic_2 ?_
      refine cx_stC h (tw_A8 H) cx_cl_8 cx_vin_8_665 dX10_steer_34 (fun M5 h => ?_)
      refine cx_aload_n 1 dX10_steer_35 rfl ?_
      refine cx_getR (tw_R8 H) q2398 dX10_steer_36 ?_
      refine cx_bipush 23 dX10_steer_39 cx_bp_23 ?_
      refine cx_iconst 0 dX10_steer_41 cx_ic_0 ?_
      refine cx_stC h (tw_A8 H) cx_cl_23 cx_vin_23_665 dX10_steer_42 (fun M6 h => ?_)
      refine cx_aload_n 1 dX10_steer_43 rfl ?_
      refine cx_getR (tw_R8 H) q2398 dX10_steer_44 ?_
      refine cx_bipush 10 dX10_steer_47 cx_bp_10 ?_
      refine cx_iconst 0 dX10_steer_49 cx_ic_0 ?_
      refine cx_stC h (tw_A8 H) cx_cl_10 cx_vin_10_665 dX10_steer_50 (fun M7 h => ?_)
      refine cx_aload_n 1 dX10_steer_51 rfl ?_
      refine cx_getR (tw_R8 H) q2398 dX10_steer_52 ?_
      refine cx_bipush 9 dX10_steer_55 cx_bp_9 ?_
      refine cx_iconst 0 dX10_steer_57 cx_ic_0 ?_
      refine cx_stC h (tw_A8 H) cx_cl_9 cx_vin_9_665 dX10_steer_58 (fun M8 h => ?_)
      refine cx_aload_n 1 dX10_steer_59 rfl ?_
      refine cx_getR (tw_R8 H) q2398 dX10_steer_60 ?_
      refine cx_bipush 11 dX10_steer_63 cx_bp_11 ?_
      refine cx_iconst 0 dX10_steer_65 cx_ic_0 ?_
      refine cx_stC h (tw_A8 H) cx_cl_11 cx_vin_11_665 dX10_steer_66 (fun M9 h => ?_)
      refine cx_sub (lv' := [(0, .ref (adr 60)), (1, .int v2)]) [1, 0] rfl ?_
      exact tw_steer_67_v H M9 v2 _ h
noncomputable def tw_steer (N : Nat) (M : cx_M) : Option cx_R := tw_steer_0 N M
theorem tw_steer_m {l : Launch} {g : cx_G} {adr : Nat → Nat} {N : Nat} (H : tw_H g adr) (M : cx_M) (rs : cx_R) (h : tw_steer N M = some rs) : cx_Met l (g) yX10_steer cX10_steer sX10_steer [.ref (adr 60)] M rs :=
  cx_met (by decide +kernel) rfl rfl (lv := [(0, .ref (adr 60))]) rfl (cx_le rfl) (fun X => cx_sub (lv' := [(0, .ref (adr 60))]) [0] rfl (tw_steer_0_v H M rs h))

abbrev sX10_octetOf : cx_S := (2, RX10, cx_rI, { frames := 0, cells := 0, slots := 0, locals := 0 }, some .int, false)
noncomputable def tw_octetOf_0 (N : Nat) (M : cx_M) (x1 : Int32) : Option cx_R :=
  cx_get M 3 7 fun v1 =>
  cx_nz v1 <|
  cx_ld M 4 32 (cx_rem x1 v1) fun v2 =>
  some (M, (v2 + x1) &&& 255, 0)
set_option maxRecDepth 100000 in
theorem tw_octetOf_0_v {l : Launch} {g : cx_G} {adr : Nat → Nat} {X : cx_X} {N : Nat} (H : tw_H g adr) (M : cx_M) (x1 : Int32) (rs : cx_R) (h : tw_octetOf_0 N M x1 = some rs) : cx_V l (g) X sX10_octetOf cX10_octetOf 0 [(0, .ref (adr 60)), (1, .int x1)] [] M 0 0 rs := by
  unfold tw_octetOf_0 at h
  refine cx_aload_n 0 dX10_octetOf_0 rfl ?_
  refine cx_getR (tw_R4 H) q2394 dX10_octetOf_1 ?_
  refine cx_iload_n 1 dX10_octetOf_4 rfl ?_
  refine cx_aload_n 0 dX10_octetOf_5 rfl ?_
  refine cx_getR (tw_R3 H) q2393 dX10_octetOf_6 ?_
  refine cx_bipush 7 dX10_octetOf_9 cx_bp_7 ?_
  refine cx_ldC h (tw_A3 H) cx_cl_7 cx_vin_7_20 dX10_octetOf_11 (fun v1 h => ?_)
  refine cx_irem h dX10_octetOf_12 (fun h => ?_)
  refine cx_ldI h (tw_A4 H) dX10_octetOf_13 (fun v2 h => ?_)
  refine cx_iload_n 1 dX10_octetOf_14 rfl ?_
  refine cx_iadd dX10_octetOf_15 ?_
  refine cx_sipush 255 dX10_octetOf_16 cx_sp_255 ?_
  refine cx_iand dX10_octetOf_19 ?_
  exact cx_iret h rfl rfl (cx_le rfl) (cx_le rfl) dX10_octetOf_20
noncomputable def tw_octetOf (N : Nat) (M : cx_M) (x1 : Int32) : Option cx_R := tw_octetOf_0 N M x1
theorem tw_octetOf_m {l : Launch} {g : cx_G} {adr : Nat → Nat} {N : Nat} (H : tw_H g adr) (M : cx_M) (x1 : Int32) (rs : cx_R) (h : tw_octetOf N M x1 = some rs) : cx_Met l (g) yX10_octetOf cX10_octetOf sX10_octetOf [.ref (adr 60), .int x1] M rs :=
  cx_met (by decide +kernel) rfl rfl (lv := [(0, .ref (adr 60)), (1, .int x1)]) rfl (cx_le rfl) (fun X => cx_sub (lv' := [(0, .ref (adr 60)), (1, .int x1)]) [0, 1] rfl (tw_octetOf_0_v H M x1 rs h))

abbrev sX10_playedBack : cx_S := (2, RX10, cx_rI, { frames := 0, cells := 0, slots := 0, locals := 0 }, some .int, false)
noncomputable def tw_playedBack_0 (N : Nat) (M : cx_M) (x1 : Int32) : Option cx_R :=
  cx_get M 8 6 fun v1 =>
  if x1 ≤ v1 then (
    cx_get M 8 6 fun v2 =>
    cx_ld M 8 665 ((409 : Int32) + (cx_rem (v2 - x1) 128)) fun v3 =>
    some (M, v3, 0))
  else (
    some (M, 126, 0))
set_option maxRecDepth 100000 in
theorem tw_playedBack_0_v {l : Launch} {g : cx_G} {adr : Nat → Nat} {X : cx_X} {N : Nat} (H : tw_H g adr) (M : cx_M) (x1 : Int32) (rs : cx_R) (h : tw_playedBack_0 N M x1 = some rs) : cx_V l (g) X sX10_playedBack cX10_playedBack 0 [(0, .ref (adr 60)), (1, .int x1)] [] M 0 0 rs := by
  unfold tw_playedBack_0 at h
  refine cx_aload_n 0 dX10_playedBack_0 rfl ?_
  refine cx_getR (tw_R8 H) q2398 dX10_playedBack_1 ?_
  refine cx_bipush 6 dX10_playedBack_4 cx_bp_6 ?_
  refine cx_ldC h (tw_A8 H) cx_cl_6 cx_vin_6_665 dX10_playedBack_6 (fun v1 h => ?_)
  refine cx_iload_n 1 dX10_playedBack_7 rfl ?_
  refine cx_icmp_ge 16 h dX10_playedBack_8 rfl (fun h => ?_) (fun h => ?_)
  · refine cx_aload_n 0 dX10_playedBack_16 rfl ?_
    refine cx_getR (tw_R8 H) q2398 dX10_playedBack_17 ?_
    refine cx_sipush 409 dX10_playedBack_20 cx_sp_409 ?_
    refine cx_aload_n 0 dX10_playedBack_23 rfl ?_
    refine cx_getR (tw_R8 H) q2398 dX10_playedBack_24 ?_
    refine cx_bipush 6 dX10_playedBack_27 cx_bp_6 ?_
    refine cx_ldC h (tw_A8 H) cx_cl_6 cx_vin_6_665 dX10_playedBack_29 (fun v2 h => ?_)
    refine cx_iload_n 1 dX10_playedBack_30 rfl ?_
    refine cx_isub dX10_playedBack_31 ?_
    refine cx_sipush 128 dX10_playedBack_32 cx_sp_128 ?_
    refine cx_iremC cx_ne_128 dX10_playedBack_35 ?_
    refine cx_iadd dX10_playedBack_36 ?_
    refine cx_ldI h (tw_A8 H) dX10_playedBack_37 (fun v3 h => ?_)
    exact cx_iret h rfl rfl (cx_le rfl) (cx_le rfl) dX10_playedBack_38
  · refine cx_bipush 126 dX10_playedBack_11 cx_bp_126 ?_
    refine cx_goto 38 dX10_playedBack_13 rfl ?_
    exact cx_iret h rfl rfl (cx_le rfl) (cx_le rfl) dX10_playedBack_38
noncomputable def tw_playedBack (N : Nat) (M : cx_M) (x1 : Int32) : Option cx_R := tw_playedBack_0 N M x1
theorem tw_playedBack_m {l : Launch} {g : cx_G} {adr : Nat → Nat} {N : Nat} (H : tw_H g adr) (M : cx_M) (x1 : Int32) (rs : cx_R) (h : tw_playedBack N M x1 = some rs) : cx_Met l (g) yX10_playedBack cX10_playedBack sX10_playedBack [.ref (adr 60), .int x1] M rs :=
  cx_met (by decide +kernel) rfl rfl (lv := [(0, .ref (adr 60)), (1, .int x1)]) rfl (cx_le rfl) (fun X => cx_sub (lv' := [(0, .ref (adr 60)), (1, .int x1)]) [0, 1] rfl (tw_playedBack_0_v H M x1 rs h))

abbrev sX10_filler : cx_S := (1, RX10, cx_rI, { frames := 1, cells := 0, slots := 0, locals := 21 }, some .int, false)
noncomputable def tw_filler_36 (N : Nat) (M : cx_M) (z1 : Int32) : Option cx_R :=
  cx_cal (tw_playedBack N M z1) fun M1 v2 =>
  some (M1, v2, 0)
set_option maxRecDepth 100000 in
theorem tw_filler_36_v {l : Launch} {g : cx_G} {adr : Nat → Nat} {X : cx_X} {N : Nat} (H : tw_H g adr) (M : cx_M) (z1 : Int32) (rs : cx_R) (h : tw_filler_36 N M z1 = some rs) : cx_V l (g) X sX10_filler cX10_filler 36 [] [.int z1, .ref (adr 60)] M 0 0 rs := by
  unfold tw_filler_36 at h
  refine cx_cVi [.int z1] [] h (fun rs' h' => tw_playedBack_m H M z1 rs' h') (tw_rc H) dX10_filler_36 g_X10_328 hg_X10_328 ⟨cx_le rfl, cx_le rfl⟩ rfl ⟨rfl, rfl⟩ ⟨cx_le rfl, cx_le rfl⟩ rfl (cx_le rfl) (fun M1 v2 h => ?_)
  exact cx_iret h rfl rfl (cx_le rfl) (cx_le rfl) dX10_filler_39
noncomputable def tw_filler_0 (N : Nat) (M : cx_M) : Option cx_R :=
  cx_get M 8 28 fun v1 =>
  if v1 = 1 then (
    some (M, 126, 0))
  else (
    cx_get M 8 28 fun v2 =>
    if v2 = 0 then (
      tw_filler_36 N M 1)
    else (
      cx_get M 3 6 fun v3 =>
      tw_filler_36 N M v3))
set_option maxRecDepth 100000 in
theorem tw_filler_0_v {l : Launch} {g : cx_G} {adr : Nat → Nat} {X : cx_X} {N : Nat} (H : tw_H g adr) (M : cx_M) (rs : cx_R) (h : tw_filler_0 N M = some rs) : cx_V l (g) X sX10_filler cX10_filler 0 [(0, .ref (adr 60))] [] M 0 0 rs := by
  unfold tw_filler_0 at h
  refine cx_aload_n 0 dX10_filler_0 rfl ?_
  refine cx_getR (tw_R8 H) q2398 dX10_filler_1 ?_
  refine cx_bipush 28 dX10_filler_4 cx_bp_28 ?_
  refine cx_ldC h (tw_A8 H) cx_cl_28 cx_vin_28_665 dX10_filler_6 (fun v1 h => ?_)
  refine cx_iconst 1 dX10_filler_7 cx_ic_1 ?_
  refine cx_icmp_ne 14 h dX10_filler_8 rfl (fun h => ?_) (fun h => ?_)
  · refine cx_aload_n 0 dX10_filler_14 rfl ?_
    refine cx_aload_n 0 dX10_filler_15 rfl ?_
    refine cx_getR (tw_R8 H) q2398 dX10_filler_16 ?_
    refine cx_bipush 28 dX10_filler_19 cx_bp_28 ?_
    refine cx_ldC h (tw_A8 H) cx_cl_28 cx_vin_28_665 dX10_filler_21 (fun v2 h => ?_)
    refine cx_if_ne 29 h dX10_filler_22 rfl (fun h => ?_) (fun h => ?_)
    · refine cx_aload_n 0 dX10_filler_29 rfl ?_
      refine cx_getR (tw_R3 H) q2393 dX10_filler_30 ?_
      refine cx_bipush 6 dX10_filler_33 cx_bp_6 ?_
      refine cx_ldC h (tw_A3 H) cx_cl_6 cx_vin_6_20 dX10_filler_35 (fun v3 h => ?_)
      refine cx_sub (lv' := []) [] rfl ?_
      exact tw_filler_36_v H M v3 _ h
    · refine cx_iconst 1 dX10_filler_25 cx_ic_1 ?_
      refine cx_goto 36 dX10_filler_26 rfl ?_
      refine cx_sub (lv' := []) [] rfl ?_
      exact tw_filler_36_v H M 1 _ h
  · refine cx_bipush 126 dX10_filler_11 cx_bp_126 ?_
    exact cx_iret h rfl rfl (cx_le rfl) (cx_le rfl) dX10_filler_13
noncomputable def tw_filler (N : Nat) (M : cx_M) : Option cx_R := tw_filler_0 N M
theorem tw_filler_m {l : Launch} {g : cx_G} {adr : Nat → Nat} {N : Nat} (H : tw_H g adr) (M : cx_M) (rs : cx_R) (h : tw_filler N M = some rs) : cx_Met l (g) yX10_filler cX10_filler sX10_filler [.ref (adr 60)] M rs :=
  cx_met (by decide +kernel) rfl rfl (lv := [(0, .ref (adr 60))]) rfl (cx_le rfl) (fun X => cx_sub (lv' := [(0, .ref (adr 60))]) [0] rfl (tw_filler_0_v H M rs h))

abbrev sX10_emptySlots : cx_S := (2, RX10, cx_rV, { frames := 0, cells := 0, slots := 0, locals := 0 }, none, false)
noncomputable def tw_emptySlots_2b (N : Nat) (r_2 : cx_M → Int32 → Option cx_R) (M : cx_M) (x1 : Int32) : Option cx_R :=
  if 64 ≤ x1 then (
    some (M, 0, 0))
  else (
    cx_st M 8 665 ((153 : Int32) + x1) (-1) fun M1 =>
    cx_st M1 8 665 ((217 : Int32) + x1) (-1) fun M2 =>
    cx_let (x1 + 1) fun v3 =>
    r_2 M2 v3)
set_option maxRecDepth 100000 in
theorem tw_emptySlots_2b_v {l : Launch} {g : cx_G} {adr : Nat → Nat} {X : cx_X} {N : Nat} {r_2 : cx_M → Int32 → Option cx_R} (H : tw_H g adr) (hr_2 : ∀ (M : cx_M) (x1 : Int32) (rs : cx_R), r_2 M x1 = some rs → cx_V l (g) X sX10_emptySlots cX10_emptySlots 2 [(0, .ref (adr 60)), (1, .int x1)] [] M 0 0 rs) (M : cx_M) (x1 : Int32) (rs : cx_R) (h : tw_emptySlots_2b N r_2 M x1 = some rs) : cx_V l (g) X sX10_emptySlots cX10_emptySlots 2 [(0, .ref (adr 60)), (1, .int x1)] [] M 0 0 rs := by
  unfold tw_emptySlots_2b at h
  refine cx_iload_n 1 dX10_emptySlots_2 rfl ?_
  refine cx_bipush 64 dX10_emptySlots_3 cx_bp_64 ?_
  refine cx_icmp_ge 36 h dX10_emptySlots_5 rfl (fun h => ?_) (fun h => ?_)
  · exact cx_vret h rfl rfl (cx_le rfl) (cx_le rfl) dX10_emptySlots_36
  · refine cx_aload_n 0 dX10_emptySlots_8 rfl ?_
    refine cx_getR (tw_R8 H) q2398 dX10_emptySlots_9 ?_
    refine cx_sipush 153 dX10_emptySlots_12 cx_sp_153 ?_
    refine cx_iload_n 1 dX10_emptySlots_15 rfl ?_
    refine cx_iadd dX10_emptySlots_16 ?_
    refine cx_iconst (-1) dX10_emptySlots_17 cx_ic_m1 ?_
    refine cx_stI h (tw_A8 H) dX10_emptySlots_18 (fun M1 h => ?_)
    refine cx_aload_n 0 dX10_emptySlots_19 rfl ?_
    refine cx_getR (tw_R8 H) q2398 dX10_emptySlots_20 ?_
    refine cx_sipush 217 dX10_emptySlots_23 cx_sp_217 ?_
    refine cx_iload_n 1 dX10_emptySlots_26 rfl ?_
    refine cx_iadd dX10_emptySlots_27 ?_
    refine cx_iconst (-1) dX10_emptySlots_28 cx_ic_m1 ?_
    refine cx_stI h (tw_A8 H) dX10_emptySlots_29 (fun M2 h => ?_)
    refine cx_iinc 1 1 (fun v3 => [(1, .int v3), (0, .ref (adr 60))]) h dX10_emptySlots_30 rfl cx_ic_1 (cx_lt rfl) (fun _ => rfl) (fun v3 h => ?_)
    refine cx_goto 2 dX10_emptySlots_33 rfl ?_
    refine cx_sub (lv' := [(0, .ref (adr 60)), (1, .int v3)]) [1, 0] rfl ?_
    exact hr_2 M2 v3 _ h
noncomputable def tw_emptySlots_2 (N : Nat) : Nat → cx_M → Int32 → Option cx_R :=
  cx_fix (fun _ _ => none) (fun r_2 => tw_emptySlots_2b N r_2)
theorem tw_emptySlots_2_v {l : Launch} {g : cx_G} {adr : Nat → Nat} {X : cx_X} {N : Nat} (H : tw_H g adr) : ∀ (n : Nat) (M : cx_M) (x1 : Int32) (rs : cx_R), tw_emptySlots_2 N n M x1 = some rs → cx_V l (g) X sX10_emptySlots cX10_emptySlots 2 [(0, .ref (adr 60)), (1, .int x1)] [] M 0 0 rs :=
  cx_fixI (fun (r : cx_M → Int32 → Option cx_R) => ∀ (M : cx_M) (x1 : Int32) (rs : cx_R), r M x1 = some rs → cx_V l (g) X sX10_emptySlots cX10_emptySlots 2 [(0, .ref (adr 60)), (1, .int x1)] [] M 0 0 rs) (fun _ _ _ h => by cases h) (fun r hr M x1 rs h => tw_emptySlots_2b_v H hr M x1 rs h)
noncomputable def tw_emptySlots_0 (N : Nat) (M : cx_M) : Option cx_R :=
  tw_emptySlots_2 N N M 0
set_option maxRecDepth 100000 in
theorem tw_emptySlots_0_v {l : Launch} {g : cx_G} {adr : Nat → Nat} {X : cx_X} {N : Nat} (H : tw_H g adr) (M : cx_M) (rs : cx_R) (h : tw_emptySlots_0 N M = some rs) : cx_V l (g) X sX10_emptySlots cX10_emptySlots 0 [(0, .ref (adr 60))] [] M 0 0 rs := by
  unfold tw_emptySlots_0 at h
  refine cx_iconst 0 dX10_emptySlots_0 cx_ic_0 ?_
  refine cx_istore_n [(1, .int 0), (0, .ref (adr 60))] dX10_emptySlots_1 (cx_lt rfl) rfl ?_
  refine cx_sub (lv' := [(0, .ref (adr 60)), (1, .int 0)]) [1, 0] rfl ?_
  exact tw_emptySlots_2_v H N M 0 _ h
noncomputable def tw_emptySlots (N : Nat) (M : cx_M) : Option cx_R := tw_emptySlots_0 N M
theorem tw_emptySlots_m {l : Launch} {g : cx_G} {adr : Nat → Nat} {N : Nat} (H : tw_H g adr) (M : cx_M) (rs : cx_R) (h : tw_emptySlots N M = some rs) : cx_Met l (g) yX10_emptySlots cX10_emptySlots sX10_emptySlots [.ref (adr 60)] M rs :=
  cx_met (by decide +kernel) rfl rfl (lv := [(0, .ref (adr 60))]) rfl (cx_le rfl) (fun X => cx_sub (lv' := [(0, .ref (adr 60))]) [0] rfl (tw_emptySlots_0_v H M rs h))

abbrev sX10_play : cx_S := (5, RX10, cx_rV, { frames := 2, cells := 0, slots := 0, locals := 41 }, none, false)
noncomputable def tw_play_246 (N : Nat) (M : cx_M) (z1 : Int32) (z2 : Int32) : Option cx_R :=
  cx_st M 8 665 z1 z2 fun M1 =>
  cx_get M1 8 6 fun v2 =>
  cx_put M1 8 6 (v2 + 1) fun M3 =>
  cx_get M3 8 14 fun v4 =>
  cx_put M3 8 14 (v4 + 1) fun M5 =>
  cx_get M5 8 30 fun v6 =>
  if 64 ≤ v6 then (
    cx_put M5 8 30 0 fun M7 =>
    cx_put M7 8 8 0 fun M8 =>
    cx_get M8 8 12 fun v9 =>
    cx_put M8 8 12 (v9 + 1) fun M10 =>
    cx_cal (tw_emptySlots N M10) fun M11 _ =>
    some (M11, 0, 0))
  else (
    some (M5, 0, 0))
set_option maxRecDepth 100000 in
theorem tw_play_246_v {l : Launch} {g : cx_G} {adr : Nat → Nat} {X : cx_X} {N : Nat} (H : tw_H g adr) (M : cx_M) (z1 : Int32) (z2 : Int32) (rs : cx_R) (h : tw_play_246 N M z1 z2 = some rs) : cx_V l (g) X sX10_play cX10_play 246 [(0, .ref (adr 60))] [.int z2, .int z1, .ref (adr 8)] M 0 0 rs := by
  unfold tw_play_246 at h
  refine cx_stI h (tw_A8 H) dX10_play_246 (fun M1 h => ?_)
  refine cx_aload_n 0 dX10_play_247 rfl ?_
  refine cx_getR (tw_R8 H) q2398 dX10_play_248 ?_
  refine cx_bipush 6 dX10_play_251 cx_bp_6 ?_
  refine cx_dup2 dX10_play_253 rfl rfl ?_
  refine cx_ldC h (tw_A8 H) cx_cl_6 cx_vin_6_665 dX10_play_254 (fun v2 h => ?_)
  refine cx_iconst 1 dX10_play_255 cx_ic_1 ?_
  refine cx_iadd dX10_play_256 ?_
  refine cx_stC h (tw_A8 H) cx_cl_6 cx_vin_6_665 dX10_play_257 (fun M3 h => ?_)
  refine cx_aload_n 0 dX10_play_258 rfl ?_
  refine cx_getR (tw_R8 H) q2398 dX10_play_259 ?_
  refine cx_bipush 14 dX10_play_262 cx_bp_14 ?_
  refine cx_dup2 dX10_play_264 rfl rfl ?_
  refine cx_ldC h (tw_A8 H) cx_cl_14 cx_vin_14_665 dX10_play_265 (fun v4 h => ?_)
  refine cx_iconst 1 dX10_play_266 cx_ic_1 ?_
  refine cx_iadd dX10_play_267 ?_
  refine cx_stC h (tw_A8 H) cx_cl_14 cx_vin_14_665 dX10_play_268 (fun M5 h => ?_)
  refine cx_aload_n 0 dX10_play_269 rfl ?_
  refine cx_getR (tw_R8 H) q2398 dX10_play_270 ?_
  refine cx_bipush 30 dX10_play_273 cx_bp_30 ?_
  refine cx_ldC h (tw_A8 H) cx_cl_30 cx_vin_30_665 dX10_play_275 (fun v6 h => ?_)
  refine cx_bipush 64 dX10_play_276 cx_bp_64 ?_
  refine cx_icmp_ge 282 h dX10_play_278 rfl (fun h => ?_) (fun h => ?_)
  · refine cx_aload_n 0 dX10_play_282 rfl ?_
    refine cx_getR (tw_R8 H) q2398 dX10_play_283 ?_
    refine cx_bipush 30 dX10_play_286 cx_bp_30 ?_
    refine cx_iconst 0 dX10_play_288 cx_ic_0 ?_
    refine cx_stC h (tw_A8 H) cx_cl_30 cx_vin_30_665 dX10_play_289 (fun M7 h => ?_)
    refine cx_aload_n 0 dX10_play_290 rfl ?_
    refine cx_getR (tw_R8 H) q2398 dX10_play_291 ?_
    refine cx_bipush 8 dX10_play_294 cx_bp_8 ?_
    refine cx_iconst 0 dX10_play_296 cx_ic_0 ?_
    refine cx_stC h (tw_A8 H) cx_cl_8 cx_vin_8_665 dX10_play_297 (fun M8 h => ?_)
    refine cx_aload_n 0 dX10_play_298 rfl ?_
    refine cx_getR (tw_R8 H) q2398 dX10_play_299 ?_
    refine cx_bipush 12 dX10_play_302 cx_bp_12 ?_
    refine cx_dup2 dX10_play_304 rfl rfl ?_
    refine cx_ldC h (tw_A8 H) cx_cl_12 cx_vin_12_665 dX10_play_305 (fun v9 h => ?_)
    refine cx_iconst 1 dX10_play_306 cx_ic_1 ?_
    refine cx_iadd dX10_play_307 ?_
    refine cx_stC h (tw_A8 H) cx_cl_12 cx_vin_12_665 dX10_play_308 (fun M10 h => ?_)
    refine cx_aload_n 0 dX10_play_309 rfl ?_
    refine cx_cVv [] [] h (fun rs' h' => tw_emptySlots_m H M10 rs' h') (tw_rc H) dX10_play_310 g_X10_275 hg_X10_275 ⟨cx_le rfl, cx_le rfl⟩ rfl ⟨rfl, rfl⟩ ⟨cx_le rfl, cx_le rfl⟩ rfl (cx_le rfl) (fun M11 _ h => ?_)
    exact cx_vret h rfl rfl (cx_le rfl) (cx_le rfl) dX10_play_313
  · exact cx_vret h rfl rfl (cx_le rfl) (cx_le rfl) dX10_play_281
noncomputable def tw_play_196 (N : Nat) (M : cx_M) (x2 : Int32) (x3 : Int32) (z1 : Int32) (z2 : Int32) : Option cx_R :=
  cx_st M 8 665 z1 z2 fun M1 =>
  cx_get M1 8 6 fun v2 =>
  cx_st M1 8 665 ((409 : Int32) + (cx_rem v2 128)) x3 fun M3 =>
  cx_get M3 8 6 fun v4 =>
  if x2 = 0 then (
    tw_play_246 N M3 ((537 : Int32) + (cx_rem v4 128)) 1)
  else (
    tw_play_246 N M3 ((537 : Int32) + (cx_rem v4 128)) 0)
set_option maxRecDepth 100000 in
theorem tw_play_196_v {l : Launch} {g : cx_G} {adr : Nat → Nat} {X : cx_X} {N : Nat} (H : tw_H g adr) (M : cx_M) (x2 : Int32) (x3 : Int32) (z1 : Int32) (z2 : Int32) (rs : cx_R) (h : tw_play_196 N M x2 x3 z1 z2 = some rs) : cx_V l (g) X sX10_play cX10_play 196 [(0, .ref (adr 60)), (2, .int x2), (3, .int x3)] [.int z2, .int z1, .ref (adr 8)] M 0 0 rs := by
  unfold tw_play_196 at h
  refine cx_stI h (tw_A8 H) dX10_play_196 (fun M1 h => ?_)
  refine cx_aload_n 0 dX10_play_197 rfl ?_
  refine cx_getR (tw_R8 H) q2398 dX10_play_198 ?_
  refine cx_sipush 409 dX10_play_201 cx_sp_409 ?_
  refine cx_aload_n 0 dX10_play_204 rfl ?_
  refine cx_getR (tw_R8 H) q2398 dX10_play_205 ?_
  refine cx_bipush 6 dX10_play_208 cx_bp_6 ?_
  refine cx_ldC h (tw_A8 H) cx_cl_6 cx_vin_6_665 dX10_play_210 (fun v2 h => ?_)
  refine cx_sipush 128 dX10_play_211 cx_sp_128 ?_
  refine cx_iremC cx_ne_128 dX10_play_214 ?_
  refine cx_iadd dX10_play_215 ?_
  refine cx_iload_n 2 dX10_play_216 rfl ?_
  refine cx_stI h (tw_A8 H) dX10_play_217 (fun M3 h => ?_)
  refine cx_aload_n 0 dX10_play_218 rfl ?_
  refine cx_getR (tw_R8 H) q2398 dX10_play_219 ?_
  refine cx_sipush 537 dX10_play_222 cx_sp_537 ?_
  refine cx_aload_n 0 dX10_play_225 rfl ?_
  refine cx_getR (tw_R8 H) q2398 dX10_play_226 ?_
  refine cx_bipush 6 dX10_play_229 cx_bp_6 ?_
  refine cx_ldC h (tw_A8 H) cx_cl_6 cx_vin_6_665 dX10_play_231 (fun v4 h => ?_)
  refine cx_sipush 128 dX10_play_232 cx_sp_128 ?_
  refine cx_iremC cx_ne_128 dX10_play_235 ?_
  refine cx_iadd dX10_play_236 ?_
  refine cx_iload_n 1 dX10_play_237 rfl ?_
  refine cx_if_eq 245 h dX10_play_238 rfl (fun h => ?_) (fun h => ?_)
  · refine cx_iconst 1 dX10_play_245 cx_ic_1 ?_
    refine cx_sub (lv' := [(0, .ref (adr 60))]) [0] rfl ?_
    exact tw_play_246_v H M3 ((537 : Int32) + (cx_rem v4 128)) 1 _ h
  · refine cx_iconst 0 dX10_play_241 cx_ic_0 ?_
    refine cx_goto 246 dX10_play_242 rfl ?_
    refine cx_sub (lv' := [(0, .ref (adr 60))]) [0] rfl ?_
    exact tw_play_246_v H M3 ((537 : Int32) + (cx_rem v4 128)) 0 _ h
noncomputable def tw_play_171 (N : Nat) (M : cx_M) (x2 : Int32) (x3 : Int32) (z1 : Int32) (z2 : Int32) (z3 : Int32) : Option cx_R :=
  cx_st M 8 665 z1 (z2 + z3) fun M1 =>
  if x2 = 0 then (
    cx_get M1 8 30 fun v2 =>
    tw_play_196 N M1 x2 x3 30 (v2 + 1))
  else (
    tw_play_196 N M1 x2 x3 30 0)
set_option maxRecDepth 100000 in
theorem tw_play_171_v {l : Launch} {g : cx_G} {adr : Nat → Nat} {X : cx_X} {N : Nat} (H : tw_H g adr) (M : cx_M) (x2 : Int32) (x3 : Int32) (z1 : Int32) (z2 : Int32) (z3 : Int32) (rs : cx_R) (h : tw_play_171 N M x2 x3 z1 z2 z3 = some rs) : cx_V l (g) X sX10_play cX10_play 171 [(0, .ref (adr 60)), (2, .int x2), (3, .int x3)] [.int z3, .int z2, .int z1, .ref (adr 8)] M 0 0 rs := by
  unfold tw_play_171 at h
  refine cx_iadd dX10_play_171 ?_
  refine cx_stI h (tw_A8 H) dX10_play_172 (fun M1 h => ?_)
  refine cx_aload_n 0 dX10_play_173 rfl ?_
  refine cx_getR (tw_R8 H) q2398 dX10_play_174 ?_
  refine cx_bipush 30 dX10_play_177 cx_bp_30 ?_
  refine cx_iload_n 1 dX10_play_179 rfl ?_
  refine cx_if_eq 187 h dX10_play_180 rfl (fun h => ?_) (fun h => ?_)
  · refine cx_aload_n 0 dX10_play_187 rfl ?_
    refine cx_getR (tw_R8 H) q2398 dX10_play_188 ?_
    refine cx_bipush 30 dX10_play_191 cx_bp_30 ?_
    refine cx_ldC h (tw_A8 H) cx_cl_30 cx_vin_30_665 dX10_play_193 (fun v2 h => ?_)
    refine cx_iconst 1 dX10_play_194 cx_ic_1 ?_
    refine cx_iadd dX10_play_195 ?_
    exact tw_play_196_v H M1 x2 x3 30 (v2 + 1) _ h
  · refine cx_iconst 0 dX10_play_183 cx_ic_0 ?_
    refine cx_goto 196 dX10_play_184 rfl ?_
    exact tw_play_196_v H M1 x2 x3 30 0 _ h
noncomputable def tw_play_152 (N : Nat) (M : cx_M) (x2 : Int32) (x3 : Int32) (z1 : Int32) (z2 : Int32) (z3 : Int32) : Option cx_R :=
  cx_st M 8 665 z1 (z2 + z3) fun M1 =>
  cx_get M1 8 7 fun v2 =>
  if x2 = 0 then (
    tw_play_171 N M1 x2 x3 7 v2 1)
  else (
    tw_play_171 N M1 x2 x3 7 v2 0)
set_option maxRecDepth 100000 in
theorem tw_play_152_v {l : Launch} {g : cx_G} {adr : Nat → Nat} {X : cx_X} {N : Nat} (H : tw_H g adr) (M : cx_M) (x2 : Int32) (x3 : Int32) (z1 : Int32) (z2 : Int32) (z3 : Int32) (rs : cx_R) (h : tw_play_152 N M x2 x3 z1 z2 z3 = some rs) : cx_V l (g) X sX10_play cX10_play 152 [(0, .ref (adr 60)), (2, .int x2), (3, .int x3)] [.int z3, .int z2, .int z1, .ref (adr 8)] M 0 0 rs := by
  unfold tw_play_152 at h
  refine cx_iadd dX10_play_152 ?_
  refine cx_stI h (tw_A8 H) dX10_play_153 (fun M1 h => ?_)
  refine cx_aload_n 0 dX10_play_154 rfl ?_
  refine cx_getR (tw_R8 H) q2398 dX10_play_155 ?_
  refine cx_bipush 7 dX10_play_158 cx_bp_7 ?_
  refine cx_dup2 dX10_play_160 rfl rfl ?_
  refine cx_ldC h (tw_A8 H) cx_cl_7 cx_vin_7_665 dX10_play_161 (fun v2 h => ?_)
  refine cx_iload_n 1 dX10_play_162 rfl ?_
  refine cx_if_eq 170 h dX10_play_163 rfl (fun h => ?_) (fun h => ?_)
  · refine cx_iconst 1 dX10_play_170 cx_ic_1 ?_
    exact tw_play_171_v H M1 x2 x3 7 v2 1 _ h
  · refine cx_iconst 0 dX10_play_166 cx_ic_0 ?_
    refine cx_goto 171 dX10_play_167 rfl ?_
    exact tw_play_171_v H M1 x2 x3 7 v2 0 _ h
noncomputable def tw_play_151 (N : Nat) (M : cx_M) (x2 : Int32) (x3 : Int32) (z1 : Int32) (z2 : Int32) : Option cx_R :=
  tw_play_152 N M x2 x3 z1 z2 0
set_option maxRecDepth 100000 in
theorem tw_play_151_v {l : Launch} {g : cx_G} {adr : Nat → Nat} {X : cx_X} {N : Nat} (H : tw_H g adr) (M : cx_M) (x2 : Int32) (x3 : Int32) (z1 : Int32) (z2 : Int32) (rs : cx_R) (h : tw_play_151 N M x2 x3 z1 z2 = some rs) : cx_V l (g) X sX10_play cX10_play 151 [(0, .ref (adr 60)), (2, .int x2), (3, .int x3)] [.int z2, .int z1, .ref (adr 8)] M 0 0 rs := by
  unfold tw_play_151 at h
  refine cx_iconst 0 dX10_play_151 cx_ic_0 ?_
  exact tw_play_152_v H M x2 x3 z1 z2 0 _ h
noncomputable def tw_play_92 (N : Nat) (M : cx_M) (x2 : Int32) (z0 : Int32) : Option cx_R :=
  cx_get M 8 16 fun v1 =>
  cx_get M 3 0 fun v2 =>
  cx_get M 8 14 fun v3 =>
  cx_get M 8 15 fun v4 =>
  cx_cal (tw_octetOf N M (((v1 * v2) + v3) - v4)) fun M5 v6 =>
  cx_get M5 8 13 fun v7 =>
  if x2 = 0 then (
    tw_play_151 N M5 x2 z0 13 v7)
  else (
    if z0 = v6 then (
      tw_play_151 N M5 x2 z0 13 v7)
    else (
      tw_play_152 N M5 x2 z0 13 v7 1))
set_option maxRecDepth 100000 in
theorem tw_play_92_v {l : Launch} {g : cx_G} {adr : Nat → Nat} {X : cx_X} {N : Nat} (H : tw_H g adr) (M : cx_M) (x2 : Int32) (z0 : Int32) (rs : cx_R) (h : tw_play_92 N M x2 z0 = some rs) : cx_V l (g) X sX10_play cX10_play 92 [(0, .ref (adr 60)), (2, .int x2)] [.int z0] M 0 0 rs := by
  unfold tw_play_92 at h
  refine cx_istore_n [(3, .int z0), (0, .ref (adr 60)), (2, .int x2)] dX10_play_92 (cx_lt rfl) rfl ?_
  refine cx_aload_n 1 dX10_play_93 rfl ?_
  refine cx_aload_n 1 dX10_play_94 rfl ?_
  refine cx_getR (tw_R8 H) q2398 dX10_play_95 ?_
  refine cx_bipush 16 dX10_play_98 cx_bp_16 ?_
  refine cx_ldC h (tw_A8 H) cx_cl_16 cx_vin_16_665 dX10_play_100 (fun v1 h => ?_)
  refine cx_aload_n 1 dX10_play_101 rfl ?_
  refine cx_getR (tw_R3 H) q2393 dX10_play_102 ?_
  refine cx_iconst 0 dX10_play_105 cx_ic_0 ?_
  refine cx_ldC h (tw_A3 H) cx_cl_0 cx_vin_0_20 dX10_play_106 (fun v2 h => ?_)
  refine cx_imul dX10_play_107 ?_
  refine cx_aload_n 1 dX10_play_108 rfl ?_
  refine cx_getR (tw_R8 H) q2398 dX10_play_109 ?_
  refine cx_bipush 14 dX10_play_112 cx_bp_14 ?_
  refine cx_ldC h (tw_A8 H) cx_cl_14 cx_vin_14_665 dX10_play_114 (fun v3 h => ?_)
  refine cx_iadd dX10_play_115 ?_
  refine cx_aload_n 1 dX10_play_116 rfl ?_
  refine cx_getR (tw_R8 H) q2398 dX10_play_117 ?_
  refine cx_bipush 15 dX10_play_120 cx_bp_15 ?_
  refine cx_ldC h (tw_A8 H) cx_cl_15 cx_vin_15_665 dX10_play_122 (fun v4 h => ?_)
  refine cx_isub dX10_play_123 ?_
  refine cx_cVi [.int (((v1 * v2) + v3) - v4)] [] h (fun rs' h' => tw_octetOf_m H M (((v1 * v2) + v3) - v4) rs' h') (tw_rc H) dX10_play_124 g_X10_331 hg_X10_331 ⟨cx_le rfl, cx_le rfl⟩ rfl ⟨rfl, rfl⟩ ⟨cx_le rfl, cx_le rfl⟩ rfl (cx_le rfl) (fun M5 v6 h => ?_)
  refine cx_istore [(4, .int v6), (3, .int z0), (0, .ref (adr 60)), (2, .int x2)] dX10_play_127 (cx_lt rfl) rfl ?_
  refine cx_aload_n 2 dX10_play_129 rfl ?_
  refine cx_getR (tw_R8 H) q2398 dX10_play_130 ?_
  refine cx_bipush 13 dX10_play_133 cx_bp_13 ?_
  refine cx_dup2 dX10_play_135 rfl rfl ?_
  refine cx_ldC h (tw_A8 H) cx_cl_13 cx_vin_13_665 dX10_play_136 (fun v7 h => ?_)
  refine cx_iload_n 3 dX10_play_137 rfl ?_
  refine cx_if_eq 151 h dX10_play_138 rfl (fun h => ?_) (fun h => ?_)
  · refine cx_sub (lv' := [(0, .ref (adr 60)), (2, .int x2), (3, .int z0)]) [2, 3, 1] rfl ?_
    exact tw_play_151_v H M5 x2 z0 13 v7 _ h
  · refine cx_iload_n 1 dX10_play_141 rfl ?_
    refine cx_iload 0 dX10_play_142 rfl ?_
    refine cx_icmp_eq 151 h dX10_play_144 rfl (fun h => ?_) (fun h => ?_)
    · refine cx_sub (lv' := [(0, .ref (adr 60)), (2, .int x2), (3, .int z0)]) [2, 3, 1] rfl ?_
      exact tw_play_151_v H M5 x2 z0 13 v7 _ h
    · refine cx_iconst 1 dX10_play_147 cx_ic_1 ?_
      refine cx_goto 152 dX10_play_148 rfl ?_
      refine cx_sub (lv' := [(0, .ref (adr 60)), (2, .int x2), (3, .int z0)]) [2, 3, 1] rfl ?_
      exact tw_play_152_v H M5 x2 z0 13 v7 1 _ h
noncomputable def tw_play_44 (N : Nat) (M : cx_M) (x1 : Int32) (z0 : Int32) : Option cx_R :=
  if z0 = 0 then (
    cx_cal (tw_filler N M) fun M1 v2 =>
    tw_play_92 N M1 z0 v2)
  else (
    cx_ld M 8 665 ((153 : Int32) + x1) fun v3 =>
    cx_get M 3 0 fun v4 =>
    cx_get M 8 14 fun v5 =>
    cx_get M 3 0 fun v6 =>
    cx_nz v6 <|
    cx_cal (tw_octetOf N M ((v3 * v4) + (cx_rem v5 v6))) fun M7 v8 =>
    tw_play_92 N M7 z0 v8)
set_option maxRecDepth 100000 in
theorem tw_play_44_v {l : Launch} {g : cx_G} {adr : Nat → Nat} {X : cx_X} {N : Nat} (H : tw_H g adr) (M : cx_M) (x1 : Int32) (z0 : Int32) (rs : cx_R) (h : tw_play_44 N M x1 z0 = some rs) : cx_V l (g) X sX10_play cX10_play 44 [(0, .ref (adr 60)), (1, .int x1)] [.int z0] M 0 0 rs := by
  unfold tw_play_44 at h
  refine cx_istore_n [(2, .int z0), (0, .ref (adr 60)), (1, .int x1)] dX10_play_44 (cx_lt rfl) rfl ?_
  refine cx_iload_n 0 dX10_play_45 rfl ?_
  refine cx_if_eq 88 h dX10_play_46 rfl (fun h => ?_) (fun h => ?_)
  · refine cx_aload_n 1 dX10_play_88 rfl ?_
    refine cx_cVi [] [] h (fun rs' h' => tw_filler_m H M rs' h') (tw_rc H) dX10_play_89 g_X10_334 hg_X10_334 ⟨cx_le rfl, cx_le rfl⟩ rfl ⟨rfl, rfl⟩ ⟨cx_le rfl, cx_le rfl⟩ rfl (cx_le rfl) (fun M1 v2 h => ?_)
    refine cx_sub (lv' := [(0, .ref (adr 60)), (2, .int z0)]) [1, 0] rfl ?_
    exact tw_play_92_v H M1 z0 v2 _ h
  · refine cx_aload_n 1 dX10_play_49 rfl ?_
    refine cx_aload_n 1 dX10_play_50 rfl ?_
    refine cx_getR (tw_R8 H) q2398 dX10_play_51 ?_
    refine cx_sipush 153 dX10_play_54 cx_sp_153 ?_
    refine cx_iload_n 2 dX10_play_57 rfl ?_
    refine cx_iadd dX10_play_58 ?_
    refine cx_ldI h (tw_A8 H) dX10_play_59 (fun v3 h => ?_)
    refine cx_aload_n 1 dX10_play_60 rfl ?_
    refine cx_getR (tw_R3 H) q2393 dX10_play_61 ?_
    refine cx_iconst 0 dX10_play_64 cx_ic_0 ?_
    refine cx_ldC h (tw_A3 H) cx_cl_0 cx_vin_0_20 dX10_play_65 (fun v4 h => ?_)
    refine cx_imul dX10_play_66 ?_
    refine cx_aload_n 1 dX10_play_67 rfl ?_
    refine cx_getR (tw_R8 H) q2398 dX10_play_68 ?_
    refine cx_bipush 14 dX10_play_71 cx_bp_14 ?_
    refine cx_ldC h (tw_A8 H) cx_cl_14 cx_vin_14_665 dX10_play_73 (fun v5 h => ?_)
    refine cx_aload_n 1 dX10_play_74 rfl ?_
    refine cx_getR (tw_R3 H) q2393 dX10_play_75 ?_
    refine cx_iconst 0 dX10_play_78 cx_ic_0 ?_
    refine cx_ldC h (tw_A3 H) cx_cl_0 cx_vin_0_20 dX10_play_79 (fun v6 h => ?_)
    refine cx_irem h dX10_play_80 (fun h => ?_)
    refine cx_iadd dX10_play_81 ?_
    refine cx_cVi [.int ((v3 * v4) + (cx_rem v5 v6))] [] h (fun rs' h' => tw_octetOf_m H M ((v3 * v4) + (cx_rem v5 v6)) rs' h') (tw_rc H) dX10_play_82 g_X10_331 hg_X10_331 ⟨cx_le rfl, cx_le rfl⟩ rfl ⟨rfl, rfl⟩ ⟨cx_le rfl, cx_le rfl⟩ rfl (cx_le rfl) (fun M7 v8 h => ?_)
    refine cx_goto 92 dX10_play_85 rfl ?_
    refine cx_sub (lv' := [(0, .ref (adr 60)), (2, .int z0)]) [1, 0] rfl ?_
    exact tw_play_92_v H M7 z0 v8 _ h
noncomputable def tw_play_43 (N : Nat) (M : cx_M) (x1 : Int32) : Option cx_R :=
  tw_play_44 N M x1 0
set_option maxRecDepth 100000 in
theorem tw_play_43_v {l : Launch} {g : cx_G} {adr : Nat → Nat} {X : cx_X} {N : Nat} (H : tw_H g adr) (M : cx_M) (x1 : Int32) (rs : cx_R) (h : tw_play_43 N M x1 = some rs) : cx_V l (g) X sX10_play cX10_play 43 [(0, .ref (adr 60)), (1, .int x1)] [] M 0 0 rs := by
  unfold tw_play_43 at h
  refine cx_iconst 0 dX10_play_43 cx_ic_0 ?_
  exact tw_play_44_v H M x1 0 _ h
noncomputable def tw_play_0 (N : Nat) (M : cx_M) : Option cx_R :=
  cx_cal (tw_spotNow N M) fun M1 v2 =>
  cx_let (cx_rem v2 64) fun v3 =>
  cx_ld M1 8 665 ((153 : Int32) + v3) fun v4 =>
  if v4 = (-1) then (
    tw_play_43 N M1 v3)
  else (
    cx_ld M1 8 665 ((217 : Int32) + v3) fun v5 =>
    cx_cal (tw_spotNow N M1) fun M6 v7 =>
    if v5 = v7 then (
      tw_play_44 N M6 v3 1)
    else (
      tw_play_43 N M6 v3))
set_option maxRecDepth 100000 in
theorem tw_play_0_v {l : Launch} {g : cx_G} {adr : Nat → Nat} {X : cx_X} {N : Nat} (H : tw_H g adr) (M : cx_M) (rs : cx_R) (h : tw_play_0 N M = some rs) : cx_V l (g) X sX10_play cX10_play 0 [(0, .ref (adr 60))] [] M 0 0 rs := by
  unfold tw_play_0 at h
  refine cx_aload_n 0 dX10_play_0 rfl ?_
  refine cx_cVi [] [] h (fun rs' h' => tw_spotNow_m H M rs' h') (tw_rc H) dX10_play_1 g_X10_318 hg_X10_318 ⟨cx_le rfl, cx_le rfl⟩ rfl ⟨rfl, rfl⟩ ⟨cx_le rfl, cx_le rfl⟩ rfl (cx_le rfl) (fun M1 v2 h => ?_)
  refine cx_bipush 64 dX10_play_4 cx_bp_64 ?_
  refine cx_iremC cx_ne_64 dX10_play_6 ?_
  refine cx_letI h (fun v3 h => ?_)
  refine cx_istore_n [(1, .int v3), (0, .ref (adr 60))] dX10_play_7 (cx_lt rfl) rfl ?_
  refine cx_aload_n 1 dX10_play_8 rfl ?_
  refine cx_getR (tw_R8 H) q2398 dX10_play_9 ?_
  refine cx_sipush 153 dX10_play_12 cx_sp_153 ?_
  refine cx_iload_n 0 dX10_play_15 rfl ?_
  refine cx_iadd dX10_play_16 ?_
  refine cx_ldI h (tw_A8 H) dX10_play_17 (fun v4 h => ?_)
  refine cx_iconst (-1) dX10_play_18 cx_ic_m1 ?_
  refine cx_icmp_eq 43 h dX10_play_19 rfl (fun h => ?_) (fun h => ?_)
  · refine cx_sub (lv' := [(0, .ref (adr 60)), (1, .int v3)]) [1, 0] rfl ?_
    exact tw_play_43_v H M1 v3 _ h
  · refine cx_aload_n 1 dX10_play_22 rfl ?_
    refine cx_getR (tw_R8 H) q2398 dX10_play_23 ?_
    refine cx_sipush 217 dX10_play_26 cx_sp_217 ?_
    refine cx_iload_n 0 dX10_play_29 rfl ?_
    refine cx_iadd dX10_play_30 ?_
    refine cx_ldI h (tw_A8 H) dX10_play_31 (fun v5 h => ?_)
    refine cx_aload_n 1 dX10_play_32 rfl ?_
    refine cx_cVi [] [.int v5] h (fun rs' h' => tw_spotNow_m H M1 rs' h') (tw_rc H) dX10_play_33 g_X10_318 hg_X10_318 ⟨cx_le rfl, cx_le rfl⟩ rfl ⟨rfl, rfl⟩ ⟨cx_le rfl, cx_le rfl⟩ rfl (cx_le rfl) (fun M6 v7 h => ?_)
    refine cx_icmp_ne 43 h dX10_play_36 rfl (fun h => ?_) (fun h => ?_)
    · refine cx_sub (lv' := [(0, .ref (adr 60)), (1, .int v3)]) [1, 0] rfl ?_
      exact tw_play_43_v H M6 v3 _ h
    · refine cx_iconst 1 dX10_play_39 cx_ic_1 ?_
      refine cx_goto 44 dX10_play_40 rfl ?_
      refine cx_sub (lv' := [(0, .ref (adr 60)), (1, .int v3)]) [1, 0] rfl ?_
      exact tw_play_44_v H M6 v3 1 _ h
noncomputable def tw_play (N : Nat) (M : cx_M) : Option cx_R := tw_play_0 N M
theorem tw_play_m {l : Launch} {g : cx_G} {adr : Nat → Nat} {N : Nat} (H : tw_H g adr) (M : cx_M) (rs : cx_R) (h : tw_play N M = some rs) : cx_Met l (g) yX10_play cX10_play sX10_play [.ref (adr 60)] M rs :=
  cx_met (by decide +kernel) rfl rfl (lv := [(0, .ref (adr 60))]) rfl (cx_le rfl) (fun X => cx_sub (lv' := [(0, .ref (adr 60))]) [0] rfl (tw_play_0_v H M rs h))

abbrev sX10_aStep : cx_S := (1, RX10, cx_rV, { frames := 6, cells := 0, slots := 0, locals := 133 }, none, false)
noncomputable def tw_aStep_113 (N : Nat) (M : cx_M) : Option cx_R :=
  cx_get M 8 0 fun v1 =>
  cx_put M 8 0 (v1 + 1) fun M2 =>
  some (M2, 0, 0)
set_option maxRecDepth 100000 in
theorem tw_aStep_113_v {l : Launch} {g : cx_G} {adr : Nat → Nat} {X : cx_X} {N : Nat} (H : tw_H g adr) (M : cx_M) (rs : cx_R) (h : tw_aStep_113 N M = some rs) : cx_V l (g) X sX10_aStep cX10_aStep 113 [(0, .ref (adr 60))] [] M 0 0 rs := by
  unfold tw_aStep_113 at h
  refine cx_aload_n 0 dX10_aStep_113 rfl ?_
  refine cx_getR (tw_R8 H) q2398 dX10_aStep_114 ?_
  refine cx_iconst 0 dX10_aStep_117 cx_ic_0 ?_
  refine cx_dup2 dX10_aStep_118 rfl rfl ?_
  refine cx_ldC h (tw_A8 H) cx_cl_0 cx_vin_0_665 dX10_aStep_119 (fun v1 h => ?_)
  refine cx_iconst 1 dX10_aStep_120 cx_ic_1 ?_
  refine cx_iadd dX10_aStep_121 ?_
  refine cx_stC h (tw_A8 H) cx_cl_0 cx_vin_0_665 dX10_aStep_122 (fun M2 h => ?_)
  exact cx_vret h rfl rfl (cx_le rfl) (cx_le rfl) dX10_aStep_123
noncomputable def tw_aStep_69b (N : Nat) (r_69 : cx_M → Option cx_R) (M : cx_M) : Option cx_R :=
  cx_get M 8 23 fun v1 =>
  if v1 < 1000 then (
    tw_aStep_113 N M)
  else (
    cx_get M 8 8 fun v2 =>
    if v2 = 2 then (
      cx_get M 8 23 fun v3 =>
      cx_put M 8 23 (v3 - 1000) fun M4 =>
      cx_cal (tw_play N M4) fun M5 _ =>
      r_69 M5)
    else (
      tw_aStep_113 N M))
set_option maxRecDepth 100000 in
theorem tw_aStep_69b_v {l : Launch} {g : cx_G} {adr : Nat → Nat} {X : cx_X} {N : Nat} {r_69 : cx_M → Option cx_R} (H : tw_H g adr) (hr_69 : ∀ (M : cx_M) (rs : cx_R), r_69 M = some rs → cx_V l (g) X sX10_aStep cX10_aStep 69 [(0, .ref (adr 60))] [] M 0 0 rs) (M : cx_M) (rs : cx_R) (h : tw_aStep_69b N r_69 M = some rs) : cx_V l (g) X sX10_aStep cX10_aStep 69 [(0, .ref (adr 60))] [] M 0 0 rs := by
  unfold tw_aStep_69b at h
  refine cx_aload_n 0 dX10_aStep_69 rfl ?_
  refine cx_getR (tw_R8 H) q2398 dX10_aStep_70 ?_
  refine cx_bipush 23 dX10_aStep_73 cx_bp_23 ?_
  refine cx_ldC h (tw_A8 H) cx_cl_23 cx_vin_23_665 dX10_aStep_75 (fun v1 h => ?_)
  refine cx_sipush 1000 dX10_aStep_76 cx_sp_1000 ?_
  refine cx_icmp_lt 113 h dX10_aStep_79 rfl (fun h => ?_) (fun h => ?_)
  · exact tw_aStep_113_v H M _ h
  · refine cx_aload_n 0 dX10_aStep_82 rfl ?_
    refine cx_getR (tw_R8 H) q2398 dX10_aStep_83 ?_
    refine cx_bipush 8 dX10_aStep_86 cx_bp_8 ?_
    refine cx_ldC h (tw_A8 H) cx_cl_8 cx_vin_8_665 dX10_aStep_88 (fun v2 h => ?_)
    refine cx_iconst 2 dX10_aStep_89 cx_ic_2 ?_
    refine cx_icmp_ne 113 h dX10_aStep_90 rfl (fun h => ?_) (fun h => ?_)
    · exact tw_aStep_113_v H M _ h
    · refine cx_aload_n 0 dX10_aStep_93 rfl ?_
      refine cx_getR (tw_R8 H) q2398 dX10_aStep_94 ?_
      refine cx_bipush 23 dX10_aStep_97 cx_bp_23 ?_
      refine cx_dup2 dX10_aStep_99 rfl rfl ?_
      refine cx_ldC h (tw_A8 H) cx_cl_23 cx_vin_23_665 dX10_aStep_100 (fun v3 h => ?_)
      refine cx_sipush 1000 dX10_aStep_101 cx_sp_1000 ?_
      refine cx_isub dX10_aStep_104 ?_
      refine cx_stC h (tw_A8 H) cx_cl_23 cx_vin_23_665 dX10_aStep_105 (fun M4 h => ?_)
      refine cx_aload_n 0 dX10_aStep_106 rfl ?_
      refine cx_cVv [] [] h (fun rs' h' => tw_play_m H M4 rs' h') (tw_rc H) dX10_aStep_107 g_X10_346 hg_X10_346 ⟨cx_le rfl, cx_le rfl⟩ rfl ⟨rfl, rfl⟩ ⟨cx_le rfl, cx_le rfl⟩ rfl (cx_le rfl) (fun M5 _ h => ?_)
      refine cx_goto 69 dX10_aStep_110 rfl ?_
      exact hr_69 M5 _ h
noncomputable def tw_aStep_69 (N : Nat) : Nat → cx_M → Option cx_R :=
  cx_fix (fun _ => none) (fun r_69 => tw_aStep_69b N r_69)
theorem tw_aStep_69_v {l : Launch} {g : cx_G} {adr : Nat → Nat} {X : cx_X} {N : Nat} (H : tw_H g adr) : ∀ (n : Nat) (M : cx_M) (rs : cx_R), tw_aStep_69 N n M = some rs → cx_V l (g) X sX10_aStep cX10_aStep 69 [(0, .ref (adr 60))] [] M 0 0 rs :=
  cx_fixI (fun (r : cx_M → Option cx_R) => ∀ (M : cx_M) (rs : cx_R), r M = some rs → cx_V l (g) X sX10_aStep cX10_aStep 69 [(0, .ref (adr 60))] [] M 0 0 rs) (fun _ _ h => by cases h) (fun r hr M rs h => tw_aStep_69b_v H hr M rs h)
noncomputable def tw_aStep_0 (N : Nat) (M : cx_M) : Option cx_R :=
  cx_cal (tw_makeOctets N M) fun M1 _ =>
  cx_cal (tw_receive N M1) fun M2 _ =>
  cx_cal (tw_steer N M2) fun M3 _ =>
  cx_get M3 8 8 fun v4 =>
  if v4 = 2 then (
    cx_get M3 8 23 fun v5 =>
    cx_get M3 8 9 fun v6 =>
    cx_put M3 8 23 (v5 + ((1000 : Int32) + v6)) fun M7 =>
    cx_get M7 8 11 fun v8 =>
    cx_get M7 8 27 fun v9 =>
    cx_get M7 8 9 fun v10 =>
    cx_put M7 8 11 (v8 + (v9 - v10)) fun M11 =>
    tw_aStep_69 N N M11)
  else (
    tw_aStep_113 N M3)
set_option maxRecDepth 100000 in
theorem tw_aStep_0_v {l : Launch} {g : cx_G} {adr : Nat → Nat} {X : cx_X} {N : Nat} (H : tw_H g adr) (M : cx_M) (rs : cx_R) (h : tw_aStep_0 N M = some rs) : cx_V l (g) X sX10_aStep cX10_aStep 0 [(0, .ref (adr 60))] [] M 0 0 rs := by
  unfold tw_aStep_0 at h
  refine cx_aload_n 0 dX10_aStep_0 rfl ?_
  refine cx_cVv [] [] h (fun rs' h' => tw_makeOctets_m H M rs' h') (tw_rc H) dX10_aStep_1 g_X10_337 hg_X10_337 ⟨cx_le rfl, cx_le rfl⟩ rfl ⟨rfl, rfl⟩ ⟨cx_le rfl, cx_le rfl⟩ rfl (cx_le rfl) (fun M1 _ h => ?_)
  refine cx_aload_n 0 dX10_aStep_4 rfl ?_
  refine cx_cVv [] [] h (fun rs' h' => tw_receive_m H M1 rs' h') (tw_rc H) dX10_aStep_5 g_X10_340 hg_X10_340 ⟨cx_le rfl, cx_le rfl⟩ rfl ⟨rfl, rfl⟩ ⟨cx_le rfl, cx_le rfl⟩ rfl (cx_le rfl) (fun M2 _ h => ?_)
  refine cx_aload_n 0 dX10_aStep_8 rfl ?_
  refine cx_cVv [] [] h (fun rs' h' => tw_steer_m H M2 rs' h') (tw_rc H) dX10_aStep_9 g_X10_343 hg_X10_343 ⟨cx_le rfl, cx_le rfl⟩ rfl ⟨rfl, rfl⟩ ⟨cx_le rfl, cx_le rfl⟩ rfl (cx_le rfl) (fun M3 _ h => ?_)
  refine cx_aload_n 0 dX10_aStep_12 rfl ?_
  refine cx_getR (tw_R8 H) q2398 dX10_aStep_13 ?_
  refine cx_bipush 8 dX10_aStep_16 cx_bp_8 ?_
  refine cx_ldC h (tw_A8 H) cx_cl_8 cx_vin_8_665 dX10_aStep_18 (fun v4 h => ?_)
  refine cx_iconst 2 dX10_aStep_19 cx_ic_2 ?_
  refine cx_icmp_ne 113 h dX10_aStep_20 rfl (fun h => ?_) (fun h => ?_)
  · exact tw_aStep_113_v H M3 _ h
  · refine cx_aload_n 0 dX10_aStep_23 rfl ?_
    refine cx_getR (tw_R8 H) q2398 dX10_aStep_24 ?_
    refine cx_bipush 23 dX10_aStep_27 cx_bp_23 ?_
    refine cx_dup2 dX10_aStep_29 rfl rfl ?_
    refine cx_ldC h (tw_A8 H) cx_cl_23 cx_vin_23_665 dX10_aStep_30 (fun v5 h => ?_)
    refine cx_sipush 1000 dX10_aStep_31 cx_sp_1000 ?_
    refine cx_aload_n 0 dX10_aStep_34 rfl ?_
    refine cx_getR (tw_R8 H) q2398 dX10_aStep_35 ?_
    refine cx_bipush 9 dX10_aStep_38 cx_bp_9 ?_
    refine cx_ldC h (tw_A8 H) cx_cl_9 cx_vin_9_665 dX10_aStep_40 (fun v6 h => ?_)
    refine cx_iadd dX10_aStep_41 ?_
    refine cx_iadd dX10_aStep_42 ?_
    refine cx_stC h (tw_A8 H) cx_cl_23 cx_vin_23_665 dX10_aStep_43 (fun M7 h => ?_)
    refine cx_aload_n 0 dX10_aStep_44 rfl ?_
    refine cx_getR (tw_R8 H) q2398 dX10_aStep_45 ?_
    refine cx_bipush 11 dX10_aStep_48 cx_bp_11 ?_
    refine cx_dup2 dX10_aStep_50 rfl rfl ?_
    refine cx_ldC h (tw_A8 H) cx_cl_11 cx_vin_11_665 dX10_aStep_51 (fun v8 h => ?_)
    refine cx_aload_n 0 dX10_aStep_52 rfl ?_
    refine cx_getR (tw_R8 H) q2398 dX10_aStep_53 ?_
    refine cx_bipush 27 dX10_aStep_56 cx_bp_27 ?_
    refine cx_ldC h (tw_A8 H) cx_cl_27 cx_vin_27_665 dX10_aStep_58 (fun v9 h => ?_)
    refine cx_aload_n 0 dX10_aStep_59 rfl ?_
    refine cx_getR (tw_R8 H) q2398 dX10_aStep_60 ?_
    refine cx_bipush 9 dX10_aStep_63 cx_bp_9 ?_
    refine cx_ldC h (tw_A8 H) cx_cl_9 cx_vin_9_665 dX10_aStep_65 (fun v10 h => ?_)
    refine cx_isub dX10_aStep_66 ?_
    refine cx_iadd dX10_aStep_67 ?_
    refine cx_stC h (tw_A8 H) cx_cl_11 cx_vin_11_665 dX10_aStep_68 (fun M11 h => ?_)
    exact tw_aStep_69_v H N M11 _ h
noncomputable def tw_aStep (N : Nat) (M : cx_M) : Option cx_R := tw_aStep_0 N M
theorem tw_aStep_m {l : Launch} {g : cx_G} {adr : Nat → Nat} {N : Nat} (H : tw_H g adr) (M : cx_M) (rs : cx_R) (h : tw_aStep N M = some rs) : cx_Met l (g) yX10_aStep cX10_aStep sX10_aStep [.ref (adr 60)] M rs :=
  cx_met (by decide +kernel) rfl rfl (lv := [(0, .ref (adr 60))]) rfl (cx_le rfl) (fun X => cx_sub (lv' := [(0, .ref (adr 60))]) [0] rfl (tw_aStep_0_v H M rs h))

abbrev sX10_copyTo : cx_S := (3, RX10, cx_rV, { frames := 0, cells := 0, slots := 0, locals := 0 }, none, false)
noncomputable def tw_copyTo_2b (N : Nat) (c0 : Nat) (c1 : Nat) (r_2 : cx_M → Int32 → Option cx_R) (M : cx_M) (x2 : Int32) : Option cx_R :=
  if (nI (twLen c0)) ≤ x2 then (
    some (M, 0, 0))
  else (
    cx_ld M c1 (twLen c1) x2 fun v1 =>
    cx_st M c0 (twLen c0) x2 v1 fun M2 =>
    cx_let (x2 + 1) fun v3 =>
    r_2 M2 v3)
set_option maxRecDepth 100000 in
theorem tw_copyTo_2b_v {l : Launch} {g : cx_G} {adr : Nat → Nat} {X : cx_X} {N : Nat} {c0 : Nat} {c1 : Nat} {r_2 : cx_M → Int32 → Option cx_R} (H : tw_H g adr) (hc0 : twIA c0 = true) (hc1 : twIA c1 = true) (hr_2 : ∀ (M : cx_M) (x2 : Int32) (rs : cx_R), r_2 M x2 = some rs → cx_V l (g) X sX10_copyTo cX10_copyTo 2 [(0, .ref (adr c0)), (1, .ref (adr c1)), (2, .int x2)] [] M 0 0 rs) (M : cx_M) (x2 : Int32) (rs : cx_R) (h : tw_copyTo_2b N c0 c1 r_2 M x2 = some rs) : cx_V l (g) X sX10_copyTo cX10_copyTo 2 [(0, .ref (adr c0)), (1, .ref (adr c1)), (2, .int x2)] [] M 0 0 rs := by
  unfold tw_copyTo_2b at h
  refine cx_iload_n 2 dX10_copyTo_2 rfl ?_
  refine cx_aload_n 0 dX10_copyTo_3 rfl ?_
  refine cx_alen (nI (twLen c0)) (tw_A H hc0) rfl dX10_copyTo_4 ?_
  refine cx_icmp_ge 20 h dX10_copyTo_5 rfl (fun h => ?_) (fun h => ?_)
  · exact cx_vret h rfl rfl (cx_le rfl) (cx_le rfl) dX10_copyTo_20
  · refine cx_aload_n 0 dX10_copyTo_8 rfl ?_
    refine cx_iload_n 2 dX10_copyTo_9 rfl ?_
    refine cx_aload_n 1 dX10_copyTo_10 rfl ?_
    refine cx_iload_n 2 dX10_copyTo_11 rfl ?_
    refine cx_ldI h (tw_A H hc1) dX10_copyTo_12 (fun v1 h => ?_)
    refine cx_stI h (tw_A H hc0) dX10_copyTo_13 (fun M2 h => ?_)
    refine cx_iinc 2 1 (fun v3 => [(2, .int v3), (0, .ref (adr c0)), (1, .ref (adr c1))]) h dX10_copyTo_14 rfl cx_ic_1 (cx_lt rfl) (fun _ => rfl) (fun v3 h => ?_)
    refine cx_goto 2 dX10_copyTo_17 rfl ?_
    refine cx_sub (lv' := [(0, .ref (adr c0)), (1, .ref (adr c1)), (2, .int v3)]) [1, 2, 0] rfl ?_
    exact hr_2 M2 v3 _ h
noncomputable def tw_copyTo_2 (N : Nat) (c0 : Nat) (c1 : Nat) : Nat → cx_M → Int32 → Option cx_R :=
  cx_fix (fun _ _ => none) (fun r_2 => tw_copyTo_2b N c0 c1 r_2)
theorem tw_copyTo_2_v {l : Launch} {g : cx_G} {adr : Nat → Nat} {X : cx_X} {N : Nat} {c0 : Nat} {c1 : Nat} (H : tw_H g adr) (hc0 : twIA c0 = true) (hc1 : twIA c1 = true) : ∀ (n : Nat) (M : cx_M) (x2 : Int32) (rs : cx_R), tw_copyTo_2 N c0 c1 n M x2 = some rs → cx_V l (g) X sX10_copyTo cX10_copyTo 2 [(0, .ref (adr c0)), (1, .ref (adr c1)), (2, .int x2)] [] M 0 0 rs :=
  cx_fixI (fun (r : cx_M → Int32 → Option cx_R) => ∀ (M : cx_M) (x2 : Int32) (rs : cx_R), r M x2 = some rs → cx_V l (g) X sX10_copyTo cX10_copyTo 2 [(0, .ref (adr c0)), (1, .ref (adr c1)), (2, .int x2)] [] M 0 0 rs) (fun _ _ _ h => by cases h) (fun r hr M x2 rs h => tw_copyTo_2b_v H hc0 hc1 hr M x2 rs h)
noncomputable def tw_copyTo_0 (N : Nat) (c0 : Nat) (c1 : Nat) (M : cx_M) : Option cx_R :=
  tw_copyTo_2 N c0 c1 N M 0
set_option maxRecDepth 100000 in
theorem tw_copyTo_0_v {l : Launch} {g : cx_G} {adr : Nat → Nat} {X : cx_X} {N : Nat} {c0 : Nat} {c1 : Nat} (H : tw_H g adr) (hc0 : twIA c0 = true) (hc1 : twIA c1 = true) (M : cx_M) (rs : cx_R) (h : tw_copyTo_0 N c0 c1 M = some rs) : cx_V l (g) X sX10_copyTo cX10_copyTo 0 [(0, .ref (adr c0)), (1, .ref (adr c1))] [] M 0 0 rs := by
  unfold tw_copyTo_0 at h
  refine cx_iconst 0 dX10_copyTo_0 cx_ic_0 ?_
  refine cx_istore_n [(2, .int 0), (0, .ref (adr c0)), (1, .ref (adr c1))] dX10_copyTo_1 (cx_lt rfl) rfl ?_
  refine cx_sub (lv' := [(0, .ref (adr c0)), (1, .ref (adr c1)), (2, .int 0)]) [1, 2, 0] rfl ?_
  exact tw_copyTo_2_v H hc0 hc1 N M 0 _ h
noncomputable def tw_copyTo (N : Nat) (c0 : Nat) (c1 : Nat) (M : cx_M) : Option cx_R := tw_copyTo_0 N c0 c1 M
theorem tw_copyTo_m {l : Launch} {g : cx_G} {adr : Nat → Nat} {N : Nat} {c0 : Nat} {c1 : Nat} (H : tw_H g adr) (hc0 : twIA c0 = true) (hc1 : twIA c1 = true) (M : cx_M) (rs : cx_R) (h : tw_copyTo N c0 c1 M = some rs) : cx_Met l (g) yX10_copyTo cX10_copyTo sX10_copyTo [.ref (adr c0), .ref (adr c1)] M rs :=
  cx_met (by decide +kernel) rfl rfl (lv := [(0, .ref (adr c0)), (1, .ref (adr c1))]) rfl (cx_le rfl) (fun X => cx_sub (lv' := [(0, .ref (adr c0)), (1, .ref (adr c1))]) [0, 1] rfl (tw_copyTo_0_v H hc0 hc1 M rs h))

abbrev sX10_back : cx_S := (2, RX10, cx_rI, { frames := 1, cells := 0, slots := 0, locals := 22 }, some .int, false)
noncomputable def tw_back_0 (N : Nat) (M : cx_M) (x1 : Int32) : Option cx_R :=
  cx_cal (tw_copyTo N 8 34 M) fun M1 _ =>
  some (M1, x1, 0)
set_option maxRecDepth 100000 in
theorem tw_back_0_v {l : Launch} {g : cx_G} {adr : Nat → Nat} {X : cx_X} {N : Nat} (H : tw_H g adr) (M : cx_M) (x1 : Int32) (rs : cx_R) (h : tw_back_0 N M x1 = some rs) : cx_V l (g) X sX10_back cX10_back 0 [(0, .ref (adr 60)), (1, .int x1)] [] M 0 0 rs := by
  unfold tw_back_0 at h
  refine cx_aload_n 0 dX10_back_0 rfl ?_
  refine cx_getR (tw_R8 H) q2398 dX10_back_1 ?_
  refine cx_aload_n 0 dX10_back_4 rfl ?_
  refine cx_getR (tw_R34 H) q2424 dX10_back_5 ?_
  refine cx_cSv [.ref (adr 8), .ref (adr 34)] [] h (fun rs' h' => tw_copyTo_m H (rfl : twIA 8 = true) (rfl : twIA 34 = true) M rs' h') dX10_back_8 g_X10_394 hg_X10_394 ⟨cx_le rfl, cx_le rfl⟩ rfl ⟨rfl, rfl⟩ ⟨cx_le rfl, cx_le rfl⟩ rfl (cx_le rfl) (fun M1 _ h => ?_)
  refine cx_iload_n 1 dX10_back_11 rfl ?_
  exact cx_iret h rfl rfl (cx_le rfl) (cx_le rfl) dX10_back_12
noncomputable def tw_back (N : Nat) (M : cx_M) (x1 : Int32) : Option cx_R := tw_back_0 N M x1
theorem tw_back_m {l : Launch} {g : cx_G} {adr : Nat → Nat} {N : Nat} (H : tw_H g adr) (M : cx_M) (x1 : Int32) (rs : cx_R) (h : tw_back N M x1 = some rs) : cx_Met l (g) yX10_back cX10_back sX10_back [.ref (adr 60), .int x1] M rs :=
  cx_met (by decide +kernel) rfl rfl (lv := [(0, .ref (adr 60)), (1, .int x1)]) rfl (cx_le rfl) (fun X => cx_sub (lv' := [(0, .ref (adr 60)), (1, .int x1)]) [0, 1] rfl (tw_back_0_v H M x1 rs h))

abbrev sX10_beginTold : cx_S := (1, RX10, cx_rV, { frames := 0, cells := 0, slots := 0, locals := 0 }, none, false)
noncomputable def tw_beginTold_0 (N : Nat) (M : cx_M) : Option cx_R :=
  cx_put M 3 10 4 fun M1 =>
  cx_put M1 3 11 12 fun M2 =>
  cx_put M2 3 12 4 fun M3 =>
  cx_put M3 3 13 1 fun M4 =>
  cx_put M4 3 14 8 fun M5 =>
  cx_put M5 3 15 0 fun M6 =>
  cx_put M6 3 16 1 fun M7 =>
  cx_put M7 3 17 1 fun M8 =>
  cx_put M8 3 18 0 fun M9 =>
  cx_put M9 3 19 0 fun M10 =>
  cx_put M10 4 16 85 fun M11 =>
  some (M11, 0, 0)
set_option maxRecDepth 100000 in
theorem tw_beginTold_0_v {l : Launch} {g : cx_G} {adr : Nat → Nat} {X : cx_X} {N : Nat} (H : tw_H g adr) (M : cx_M) (rs : cx_R) (h : tw_beginTold_0 N M = some rs) : cx_V l (g) X sX10_beginTold cX10_beginTold 0 [(0, .ref (adr 60))] [] M 0 0 rs := by
  unfold tw_beginTold_0 at h
  refine cx_aload_n 0 dX10_beginTold_0 rfl ?_
  refine cx_getR (tw_R3 H) q2393 dX10_beginTold_1 ?_
  refine cx_bipush 10 dX10_beginTold_4 cx_bp_10 ?_
  refine cx_iconst 4 dX10_beginTold_6 cx_ic_4 ?_
  refine cx_stC h (tw_A3 H) cx_cl_10 cx_vin_10_20 dX10_beginTold_7 (fun M1 h => ?_)
  refine cx_aload_n 0 dX10_beginTold_8 rfl ?_
  refine cx_getR (tw_R3 H) q2393 dX10_beginTold_9 ?_
  refine cx_bipush 11 dX10_beginTold_12 cx_bp_11 ?_
  refine cx_bipush 12 dX10_beginTold_14 cx_bp_12 ?_
  refine cx_stC h (tw_A3 H) cx_cl_11 cx_vin_11_20 dX10_beginTold_16 (fun M2 h => ?_)
  refine cx_aload_n 0 dX10_beginTold_17 rfl ?_
  refine cx_getR (tw_R3 H) q2393 dX10_beginTold_18 ?_
  refine cx_bipush 12 dX10_beginTold_21 cx_bp_12 ?_
  refine cx_iconst 4 dX10_beginTold_23 cx_ic_4 ?_
  refine cx_stC h (tw_A3 H) cx_cl_12 cx_vin_12_20 dX10_beginTold_24 (fun M3 h => ?_)
  refine cx_aload_n 0 dX10_beginTold_25 rfl ?_
  refine cx_getR (tw_R3 H) q2393 dX10_beginTold_26 ?_
  refine cx_bipush 13 dX10_beginTold_29 cx_bp_13 ?_
  refine cx_iconst 1 dX10_beginTold_31 cx_ic_1 ?_
  refine cx_stC h (tw_A3 H) cx_cl_13 cx_vin_13_20 dX10_beginTold_32 (fun M4 h => ?_)
  refine cx_aload_n 0 dX10_beginTold_33 rfl ?_
  refine cx_getR (tw_R3 H) q2393 dX10_beginTold_34 ?_
  refine cx_bipush 14 dX10_beginTold_37 cx_bp_14 ?_
  refine cx_bipush 8 dX10_beginTold_39 cx_bp_8 ?_
  refine cx_stC h (tw_A3 H) cx_cl_14 cx_vin_14_20 dX10_beginTold_41 (fun M5 h => ?_)
  refine cx_aload_n 0 dX10_beginTold_42 rfl ?_
  refine cx_getR (tw_R3 H) q2393 dX10_beginTold_43 ?_
  refine cx_bipush 15 dX10_beginTold_46 cx_bp_15 ?_
  refine cx_iconst 0 dX10_beginTold_48 cx_ic_0 ?_
  refine cx_stC h (tw_A3 H) cx_cl_15 cx_vin_15_20 dX10_beginTold_49 (fun M6 h => ?_)
  refine cx_aload_n 0 dX10_beginTold_50 rfl ?_
  refine cx_getR (tw_R3 H) q2393 dX10_beginTold_51 ?_
  refine cx_bipush 16 dX10_beginTold_54 cx_bp_16 ?_
  refine cx_iconst 1 dX10_beginTold_56 cx_ic_1 ?_
  refine cx_stC h (tw_A3 H) cx_cl_16 cx_vin_16_20 dX10_beginTold_57 (fun M7 h => ?_)
  refine cx_aload_n 0 dX10_beginTold_58 rfl ?_
  refine cx_getR (tw_R3 H) q2393 dX10_beginTold_59 ?_
  refine cx_bipush 17 dX10_beginTold_62 cx_bp_17 ?_
  refine cx_iconst 1 dX10_beginTold_64 cx_ic_1 ?_
  refine cx_stC h (tw_A3 H) cx_cl_17 cx_vin_17_20 dX10_beginTold_65 (fun M8 h => ?_)
  refine cx_aload_n 0 dX10_beginTold_66 rfl ?_
  refine cx_getR (tw_R3 H) q2393 dX10_beginTold_67 ?_
  refine cx_bipush 18 dX10_beginTold_70 cx_bp_18 ?_
  refine cx_iconst 0 dX10_beginTold_72 cx_ic_0 ?_
  refine cx_stC h (tw_A3 H) cx_cl_18 cx_vin_18_20 dX10_beginTold_73 (fun M9 h => ?_)
  refine cx_aload_n 0 dX10_beginTold_74 rfl ?_
  refine cx_getR (tw_R3 H) q2393 dX10_beginTold_75 ?_
  refine cx_bipush 19 dX10_beginTold_78 cx_bp_19 ?_
  refine cx_iconst 0 dX10_beginTold_80 cx_ic_0 ?_
  refine cx_stC h (tw_A3 H) cx_cl_19 cx_vin_19_20 dX10_beginTold_81 (fun M10 h => ?_)
  refine cx_aload_n 0 dX10_beginTold_82 rfl ?_
  refine cx_getR (tw_R4 H) q2394 dX10_beginTold_83 ?_
  refine cx_bipush 16 dX10_beginTold_86 cx_bp_16 ?_
  refine cx_bipush 85 dX10_beginTold_88 cx_bp_85 ?_
  refine cx_stC h (tw_A4 H) cx_cl_16 cx_vin_16_32 dX10_beginTold_90 (fun M11 h => ?_)
  exact cx_vret h rfl rfl (cx_le rfl) (cx_le rfl) dX10_beginTold_91
noncomputable def tw_beginTold (N : Nat) (M : cx_M) : Option cx_R := tw_beginTold_0 N M
theorem tw_beginTold_m {l : Launch} {g : cx_G} {adr : Nat → Nat} {N : Nat} (H : tw_H g adr) (M : cx_M) (rs : cx_R) (h : tw_beginTold N M = some rs) : cx_Met l (g) yX10_beginTold cX10_beginTold sX10_beginTold [.ref (adr 60)] M rs :=
  cx_met (by decide +kernel) rfl rfl (lv := [(0, .ref (adr 60))]) rfl (cx_le rfl) (fun X => cx_sub (lv' := [(0, .ref (adr 60))]) [0] rfl (tw_beginTold_0_v H M rs h))

abbrev sX10_byteAt : cx_S := (2, RX10, cx_rI, { frames := 0, cells := 0, slots := 0, locals := 0 }, some .int, false)
noncomputable def tw_byteAt_0 (N : Nat) (M : cx_M) (x1 : Int32) : Option cx_R :=
  cx_get M 60 14 fun v1 =>
  if v1 ≤ x1 then (
    some (M, (-1), 0))
  else (
    cx_ld M 11 700 x1 fun v2 =>
    some (M, v2, 0))
set_option maxRecDepth 100000 in
theorem tw_byteAt_0_v {l : Launch} {g : cx_G} {adr : Nat → Nat} {X : cx_X} {N : Nat} (H : tw_H g adr) (M : cx_M) (x1 : Int32) (rs : cx_R) (h : tw_byteAt_0 N M x1 = some rs) : cx_V l (g) X sX10_byteAt cX10_byteAt 0 [(0, .ref (adr 60)), (1, .int x1)] [] M 0 0 rs := by
  unfold tw_byteAt_0 at h
  refine cx_iload_n 1 dX10_byteAt_0 rfl ?_
  refine cx_aload_n 0 dX10_byteAt_1 rfl ?_
  refine cx_getI h (tw_F14 H) q2404 dX10_byteAt_2 (fun v1 h => ?_)
  refine cx_icmp_ge 17 h dX10_byteAt_5 rfl (fun h => ?_) (fun h => ?_)
  · refine cx_iconst (-1) dX10_byteAt_17 cx_ic_m1 ?_
    exact cx_iret h rfl rfl (cx_le rfl) (cx_le rfl) dX10_byteAt_18
  · refine cx_aload_n 0 dX10_byteAt_8 rfl ?_
    refine cx_getR (tw_R11 H) q2401 dX10_byteAt_9 ?_
    refine cx_iload_n 1 dX10_byteAt_12 rfl ?_
    refine cx_ldI h (tw_A11 H) dX10_byteAt_13 (fun v2 h => ?_)
    refine cx_goto 18 dX10_byteAt_14 rfl ?_
    exact cx_iret h rfl rfl (cx_le rfl) (cx_le rfl) dX10_byteAt_18
noncomputable def tw_byteAt (N : Nat) (M : cx_M) (x1 : Int32) : Option cx_R := tw_byteAt_0 N M x1
theorem tw_byteAt_m {l : Launch} {g : cx_G} {adr : Nat → Nat} {N : Nat} (H : tw_H g adr) (M : cx_M) (x1 : Int32) (rs : cx_R) (h : tw_byteAt N M x1 = some rs) : cx_Met l (g) yX10_byteAt cX10_byteAt sX10_byteAt [.ref (adr 60), .int x1] M rs :=
  cx_met (by decide +kernel) rfl rfl (lv := [(0, .ref (adr 60)), (1, .int x1)]) rfl (cx_le rfl) (fun X => cx_sub (lv' := [(0, .ref (adr 60)), (1, .int x1)]) [0, 1] rfl (tw_byteAt_0_v H M x1 rs h))

abbrev sX10_takeHalf : cx_S := (2, RX10, cx_rV, { frames := 0, cells := 0, slots := 0, locals := 0 }, none, false)
noncomputable def tw_takeHalf_2b (N : Nat) (c0 : Nat) (r_2 : cx_M → Int32 → Option cx_R) (M : cx_M) (x1 : Int32) : Option cx_R :=
  if ((nI (twLen c0)) / 2) ≤ x1 then (
    some (M, 0, 0))
  else (
    cx_ld M c0 (twLen c0) (((nI (twLen c0)) / 2) + x1) fun v1 =>
    cx_st M c0 (twLen c0) x1 v1 fun M2 =>
    cx_let (x1 + 1) fun v3 =>
    r_2 M2 v3)
set_option maxRecDepth 100000 in
theorem tw_takeHalf_2b_v {l : Launch} {g : cx_G} {adr : Nat → Nat} {X : cx_X} {N : Nat} {c0 : Nat} {r_2 : cx_M → Int32 → Option cx_R} (H : tw_H g adr) (hc0 : twIA c0 = true) (hr_2 : ∀ (M : cx_M) (x1 : Int32) (rs : cx_R), r_2 M x1 = some rs → cx_V l (g) X sX10_takeHalf cX10_takeHalf 2 [(0, .ref (adr c0)), (1, .int x1)] [] M 0 0 rs) (M : cx_M) (x1 : Int32) (rs : cx_R) (h : tw_takeHalf_2b N c0 r_2 M x1 = some rs) : cx_V l (g) X sX10_takeHalf cX10_takeHalf 2 [(0, .ref (adr c0)), (1, .int x1)] [] M 0 0 rs := by
  unfold tw_takeHalf_2b at h
  refine cx_iload_n 1 dX10_takeHalf_2 rfl ?_
  refine cx_aload_n 0 dX10_takeHalf_3 rfl ?_
  refine cx_alen (nI (twLen c0)) (tw_A H hc0) rfl dX10_takeHalf_4 ?_
  refine cx_iconst 2 dX10_takeHalf_5 cx_ic_2 ?_
  refine cx_idivC cx_ne_2 dX10_takeHalf_6 ?_
  refine cx_icmp_ge 27 h dX10_takeHalf_7 rfl (fun h => ?_) (fun h => ?_)
  · exact cx_vret h rfl rfl (cx_le rfl) (cx_le rfl) dX10_takeHalf_27
  · refine cx_aload_n 0 dX10_takeHalf_10 rfl ?_
    refine cx_iload_n 1 dX10_takeHalf_11 rfl ?_
    refine cx_aload_n 0 dX10_takeHalf_12 rfl ?_
    refine cx_aload_n 0 dX10_takeHalf_13 rfl ?_
    refine cx_alen (nI (twLen c0)) (tw_A H hc0) rfl dX10_takeHalf_14 ?_
    refine cx_iconst 2 dX10_takeHalf_15 cx_ic_2 ?_
    refine cx_idivC cx_ne_2 dX10_takeHalf_16 ?_
    refine cx_iload_n 1 dX10_takeHalf_17 rfl ?_
    refine cx_iadd dX10_takeHalf_18 ?_
    refine cx_ldI h (tw_A H hc0) dX10_takeHalf_19 (fun v1 h => ?_)
    refine cx_stI h (tw_A H hc0) dX10_takeHalf_20 (fun M2 h => ?_)
    refine cx_iinc 1 1 (fun v3 => [(1, .int v3), (0, .ref (adr c0))]) h dX10_takeHalf_21 rfl cx_ic_1 (cx_lt rfl) (fun _ => rfl) (fun v3 h => ?_)
    refine cx_goto 2 dX10_takeHalf_24 rfl ?_
    refine cx_sub (lv' := [(0, .ref (adr c0)), (1, .int v3)]) [1, 0] rfl ?_
    exact hr_2 M2 v3 _ h
noncomputable def tw_takeHalf_2 (N : Nat) (c0 : Nat) : Nat → cx_M → Int32 → Option cx_R :=
  cx_fix (fun _ _ => none) (fun r_2 => tw_takeHalf_2b N c0 r_2)
theorem tw_takeHalf_2_v {l : Launch} {g : cx_G} {adr : Nat → Nat} {X : cx_X} {N : Nat} {c0 : Nat} (H : tw_H g adr) (hc0 : twIA c0 = true) : ∀ (n : Nat) (M : cx_M) (x1 : Int32) (rs : cx_R), tw_takeHalf_2 N c0 n M x1 = some rs → cx_V l (g) X sX10_takeHalf cX10_takeHalf 2 [(0, .ref (adr c0)), (1, .int x1)] [] M 0 0 rs :=
  cx_fixI (fun (r : cx_M → Int32 → Option cx_R) => ∀ (M : cx_M) (x1 : Int32) (rs : cx_R), r M x1 = some rs → cx_V l (g) X sX10_takeHalf cX10_takeHalf 2 [(0, .ref (adr c0)), (1, .int x1)] [] M 0 0 rs) (fun _ _ _ h => by cases h) (fun r hr M x1 rs h => tw_takeHalf_2b_v H hc0 hr M x1 rs h)
noncomputable def tw_takeHalf_0 (N : Nat) (c0 : Nat) (M : cx_M) : Option cx_R :=
  tw_takeHalf_2 N c0 N M 0
set_option maxRecDepth 100000 in
theorem tw_takeHalf_0_v {l : Launch} {g : cx_G} {adr : Nat → Nat} {X : cx_X} {N : Nat} {c0 : Nat} (H : tw_H g adr) (hc0 : twIA c0 = true) (M : cx_M) (rs : cx_R) (h : tw_takeHalf_0 N c0 M = some rs) : cx_V l (g) X sX10_takeHalf cX10_takeHalf 0 [(0, .ref (adr c0))] [] M 0 0 rs := by
  unfold tw_takeHalf_0 at h
  refine cx_iconst 0 dX10_takeHalf_0 cx_ic_0 ?_
  refine cx_istore_n [(1, .int 0), (0, .ref (adr c0))] dX10_takeHalf_1 (cx_lt rfl) rfl ?_
  refine cx_sub (lv' := [(0, .ref (adr c0)), (1, .int 0)]) [1, 0] rfl ?_
  exact tw_takeHalf_2_v H hc0 N M 0 _ h
noncomputable def tw_takeHalf (N : Nat) (c0 : Nat) (M : cx_M) : Option cx_R := tw_takeHalf_0 N c0 M
theorem tw_takeHalf_m {l : Launch} {g : cx_G} {adr : Nat → Nat} {N : Nat} {c0 : Nat} (H : tw_H g adr) (hc0 : twIA c0 = true) (M : cx_M) (rs : cx_R) (h : tw_takeHalf N c0 M = some rs) : cx_Met l (g) yX10_takeHalf cX10_takeHalf sX10_takeHalf [.ref (adr c0)] M rs :=
  cx_met (by decide +kernel) rfl rfl (lv := [(0, .ref (adr c0))]) rfl (cx_le rfl) (fun X => cx_sub (lv' := [(0, .ref (adr c0))]) [0] rfl (tw_takeHalf_0_v H hc0 M rs h))

abbrev sX10_forgetGiven : cx_S := (2, RX10, cx_rV, { frames := 0, cells := 0, slots := 0, locals := 0 }, none, false)
noncomputable def tw_forgetGiven_2b (N : Nat) (r_2 : cx_M → Int32 → Option cx_R) (M : cx_M) (x1 : Int32) : Option cx_R :=
  if 2048 ≤ x1 then (
    some (M, 0, 0))
  else (
    cx_st M 28 2048 x1 0 fun M1 =>
    cx_let (x1 + 1) fun v2 =>
    r_2 M1 v2)
set_option maxRecDepth 100000 in
theorem tw_forgetGiven_2b_v {l : Launch} {g : cx_G} {adr : Nat → Nat} {X : cx_X} {N : Nat} {r_2 : cx_M → Int32 → Option cx_R} (H : tw_H g adr) (hr_2 : ∀ (M : cx_M) (x1 : Int32) (rs : cx_R), r_2 M x1 = some rs → cx_V l (g) X sX10_forgetGiven cX10_forgetGiven 2 [(0, .ref (adr 60)), (1, .int x1)] [] M 0 0 rs) (M : cx_M) (x1 : Int32) (rs : cx_R) (h : tw_forgetGiven_2b N r_2 M x1 = some rs) : cx_V l (g) X sX10_forgetGiven cX10_forgetGiven 2 [(0, .ref (adr 60)), (1, .int x1)] [] M 0 0 rs := by
  unfold tw_forgetGiven_2b at h
  refine cx_iload_n 1 dX10_forgetGiven_2 rfl ?_
  refine cx_sipush 2048 dX10_forgetGiven_3 cx_sp_2048 ?_
  refine cx_icmp_ge 22 h dX10_forgetGiven_6 rfl (fun h => ?_) (fun h => ?_)
  · exact cx_vret h rfl rfl (cx_le rfl) (cx_le rfl) dX10_forgetGiven_22
  · refine cx_aload_n 0 dX10_forgetGiven_9 rfl ?_
    refine cx_getR (tw_R28 H) q2418 dX10_forgetGiven_10 ?_
    refine cx_iload_n 1 dX10_forgetGiven_13 rfl ?_
    refine cx_iconst 0 dX10_forgetGiven_14 cx_ic_0 ?_
    refine cx_stZ h (tw_Z28 H) cx_v_0 dX10_forgetGiven_15 (fun M1 h => ?_)
    refine cx_iinc 1 1 (fun v2 => [(1, .int v2), (0, .ref (adr 60))]) h dX10_forgetGiven_16 rfl cx_ic_1 (cx_lt rfl) (fun _ => rfl) (fun v2 h => ?_)
    refine cx_goto 2 dX10_forgetGiven_19 rfl ?_
    refine cx_sub (lv' := [(0, .ref (adr 60)), (1, .int v2)]) [1, 0] rfl ?_
    exact hr_2 M1 v2 _ h
noncomputable def tw_forgetGiven_2 (N : Nat) : Nat → cx_M → Int32 → Option cx_R :=
  cx_fix (fun _ _ => none) (fun r_2 => tw_forgetGiven_2b N r_2)
theorem tw_forgetGiven_2_v {l : Launch} {g : cx_G} {adr : Nat → Nat} {X : cx_X} {N : Nat} (H : tw_H g adr) : ∀ (n : Nat) (M : cx_M) (x1 : Int32) (rs : cx_R), tw_forgetGiven_2 N n M x1 = some rs → cx_V l (g) X sX10_forgetGiven cX10_forgetGiven 2 [(0, .ref (adr 60)), (1, .int x1)] [] M 0 0 rs :=
  cx_fixI (fun (r : cx_M → Int32 → Option cx_R) => ∀ (M : cx_M) (x1 : Int32) (rs : cx_R), r M x1 = some rs → cx_V l (g) X sX10_forgetGiven cX10_forgetGiven 2 [(0, .ref (adr 60)), (1, .int x1)] [] M 0 0 rs) (fun _ _ _ h => by cases h) (fun r hr M x1 rs h => tw_forgetGiven_2b_v H hr M x1 rs h)
noncomputable def tw_forgetGiven_0 (N : Nat) (M : cx_M) : Option cx_R :=
  tw_forgetGiven_2 N N M 0
set_option maxRecDepth 100000 in
theorem tw_forgetGiven_0_v {l : Launch} {g : cx_G} {adr : Nat → Nat} {X : cx_X} {N : Nat} (H : tw_H g adr) (M : cx_M) (rs : cx_R) (h : tw_forgetGiven_0 N M = some rs) : cx_V l (g) X sX10_forgetGiven cX10_forgetGiven 0 [(0, .ref (adr 60))] [] M 0 0 rs := by
  unfold tw_forgetGiven_0 at h
  refine cx_iconst 0 dX10_forgetGiven_0 cx_ic_0 ?_
  refine cx_istore_n [(1, .int 0), (0, .ref (adr 60))] dX10_forgetGiven_1 (cx_lt rfl) rfl ?_
  refine cx_sub (lv' := [(0, .ref (adr 60)), (1, .int 0)]) [1, 0] rfl ?_
  exact tw_forgetGiven_2_v H N M 0 _ h
noncomputable def tw_forgetGiven (N : Nat) (M : cx_M) : Option cx_R := tw_forgetGiven_0 N M
theorem tw_forgetGiven_m {l : Launch} {g : cx_G} {adr : Nat → Nat} {N : Nat} (H : tw_H g adr) (M : cx_M) (rs : cx_R) (h : tw_forgetGiven N M = some rs) : cx_Met l (g) yX10_forgetGiven cX10_forgetGiven sX10_forgetGiven [.ref (adr 60)] M rs :=
  cx_met (by decide +kernel) rfl rfl (lv := [(0, .ref (adr 60))]) rfl (cx_le rfl) (fun X => cx_sub (lv' := [(0, .ref (adr 60))]) [0] rfl (tw_forgetGiven_0_v H M rs h))

abbrev sX10_takeOver : cx_S := (2, RX10, cx_rV, { frames := 1, cells := 0, slots := 0, locals := 21 }, none, false)
noncomputable def tw_takeOver_54b (N : Nat) (r_54 : cx_M → Int32 → Option cx_R) (M : cx_M) (x1 : Int32) : Option cx_R :=
  if 665 ≤ x1 then (
    cx_cal (tw_emptySlots N M) fun M1 _ =>
    cx_get M1 3 1 fun v2 =>
    cx_put M1 8 29 v2 fun M3 =>
    cx_get M3 3 5 fun v4 =>
    cx_put M3 8 27 v4 fun M5 =>
    cx_put M5 60 31 0 fun M6 =>
    cx_put M6 60 32 0 fun M7 =>
    cx_put M7 60 44 0 fun M8 =>
    some (M8, 0, 0))
  else (
    cx_st M 8 665 x1 0 fun M9 =>
    cx_let (x1 + 1) fun v10 =>
    r_54 M9 v10)
set_option maxRecDepth 100000 in
theorem tw_takeOver_54b_v {l : Launch} {g : cx_G} {adr : Nat → Nat} {X : cx_X} {N : Nat} {r_54 : cx_M → Int32 → Option cx_R} (H : tw_H g adr) (hr_54 : ∀ (M : cx_M) (x1 : Int32) (rs : cx_R), r_54 M x1 = some rs → cx_V l (g) X sX10_takeOver cX10_takeOver 54 [(0, .ref (adr 60)), (1, .int x1)] [] M 0 0 rs) (M : cx_M) (x1 : Int32) (rs : cx_R) (h : tw_takeOver_54b N r_54 M x1 = some rs) : cx_V l (g) X sX10_takeOver cX10_takeOver 54 [(0, .ref (adr 60)), (1, .int x1)] [] M 0 0 rs := by
  unfold tw_takeOver_54b at h
  refine cx_iload_n 1 dX10_takeOver_54 rfl ?_
  refine cx_sipush 665 dX10_takeOver_55 cx_sp_665 ?_
  refine cx_icmp_ge 74 h dX10_takeOver_58 rfl (fun h => ?_) (fun h => ?_)
  · refine cx_aload_n 0 dX10_takeOver_74 rfl ?_
    refine cx_cVv [] [] h (fun rs' h' => tw_emptySlots_m H M rs' h') (tw_rc H) dX10_takeOver_75 g_X10_275 hg_X10_275 ⟨cx_le rfl, cx_le rfl⟩ rfl ⟨rfl, rfl⟩ ⟨cx_le rfl, cx_le rfl⟩ rfl (cx_le rfl) (fun M1 _ h => ?_)
    refine cx_aload_n 0 dX10_takeOver_78 rfl ?_
    refine cx_getR (tw_R8 H) q2398 dX10_takeOver_79 ?_
    refine cx_bipush 29 dX10_takeOver_82 cx_bp_29 ?_
    refine cx_aload_n 0 dX10_takeOver_84 rfl ?_
    refine cx_getR (tw_R3 H) q2393 dX10_takeOver_85 ?_
    refine cx_iconst 1 dX10_takeOver_88 cx_ic_1 ?_
    refine cx_ldC h (tw_A3 H) cx_cl_1 cx_vin_1_20 dX10_takeOver_89 (fun v2 h => ?_)
    refine cx_stC h (tw_A8 H) cx_cl_29 cx_vin_29_665 dX10_takeOver_90 (fun M3 h => ?_)
    refine cx_aload_n 0 dX10_takeOver_91 rfl ?_
    refine cx_getR (tw_R8 H) q2398 dX10_takeOver_92 ?_
    refine cx_bipush 27 dX10_takeOver_95 cx_bp_27 ?_
    refine cx_aload_n 0 dX10_takeOver_97 rfl ?_
    refine cx_getR (tw_R3 H) q2393 dX10_takeOver_98 ?_
    refine cx_iconst 5 dX10_takeOver_101 cx_ic_5 ?_
    refine cx_ldC h (tw_A3 H) cx_cl_5 cx_vin_5_20 dX10_takeOver_102 (fun v4 h => ?_)
    refine cx_stC h (tw_A8 H) cx_cl_27 cx_vin_27_665 dX10_takeOver_103 (fun M5 h => ?_)
    refine cx_aload_n 0 dX10_takeOver_104 rfl ?_
    refine cx_iconst 0 dX10_takeOver_105 cx_ic_0 ?_
    refine cx_putI h (tw_F31 H) rfl rfl rfl q2421 dX10_takeOver_106 (fun M6 h => ?_)
    refine cx_aload_n 0 dX10_takeOver_109 rfl ?_
    refine cx_iconst 0 dX10_takeOver_110 cx_ic_0 ?_
    refine cx_putI h (tw_F32 H) rfl rfl rfl q2422 dX10_takeOver_111 (fun M7 h => ?_)
    refine cx_aload_n 0 dX10_takeOver_114 rfl ?_
    refine cx_iconst 0 dX10_takeOver_115 cx_ic_0 ?_
    refine cx_putI h (tw_F44 H) cx_z_0 cx_f_0 rfl q2434 dX10_takeOver_116 (fun M8 h => ?_)
    exact cx_vret h rfl rfl (cx_le rfl) (cx_le rfl) dX10_takeOver_119
  · refine cx_aload_n 0 dX10_takeOver_61 rfl ?_
    refine cx_getR (tw_R8 H) q2398 dX10_takeOver_62 ?_
    refine cx_iload_n 1 dX10_takeOver_65 rfl ?_
    refine cx_iconst 0 dX10_takeOver_66 cx_ic_0 ?_
    refine cx_stI h (tw_A8 H) dX10_takeOver_67 (fun M9 h => ?_)
    refine cx_iinc 1 1 (fun v10 => [(1, .int v10), (0, .ref (adr 60))]) h dX10_takeOver_68 rfl cx_ic_1 (cx_lt rfl) (fun _ => rfl) (fun v10 h => ?_)
    refine cx_goto 54 dX10_takeOver_71 rfl ?_
    refine cx_sub (lv' := [(0, .ref (adr 60)), (1, .int v10)]) [1, 0] rfl ?_
    exact hr_54 M9 v10 _ h
noncomputable def tw_takeOver_54 (N : Nat) : Nat → cx_M → Int32 → Option cx_R :=
  cx_fix (fun _ _ => none) (fun r_54 => tw_takeOver_54b N r_54)
theorem tw_takeOver_54_v {l : Launch} {g : cx_G} {adr : Nat → Nat} {X : cx_X} {N : Nat} (H : tw_H g adr) : ∀ (n : Nat) (M : cx_M) (x1 : Int32) (rs : cx_R), tw_takeOver_54 N n M x1 = some rs → cx_V l (g) X sX10_takeOver cX10_takeOver 54 [(0, .ref (adr 60)), (1, .int x1)] [] M 0 0 rs :=
  cx_fixI (fun (r : cx_M → Int32 → Option cx_R) => ∀ (M : cx_M) (x1 : Int32) (rs : cx_R), r M x1 = some rs → cx_V l (g) X sX10_takeOver cX10_takeOver 54 [(0, .ref (adr 60)), (1, .int x1)] [] M 0 0 rs) (fun _ _ _ h => by cases h) (fun r hr M x1 rs h => tw_takeOver_54b_v H hr M x1 rs h)
noncomputable def tw_takeOver_0 (N : Nat) (M : cx_M) : Option cx_R :=
  cx_cal (tw_takeHalf N 3 M) fun M1 _ =>
  cx_cal (tw_takeHalf N 4 M1) fun M2 _ =>
  cx_cal (tw_takeHalf N 5 M2) fun M3 _ =>
  cx_cal (tw_takeHalf N 6 M3) fun M4 _ =>
  cx_get M4 3 2 fun v5 =>
  cx_put M4 60 24 v5 fun M6 =>
  cx_get M6 3 3 fun v7 =>
  cx_put M6 60 25 v7 fun M8 =>
  cx_cal (tw_forgetGiven N M8) fun M9 _ =>
  tw_takeOver_54 N N M9 0
set_option maxRecDepth 100000 in
theorem tw_takeOver_0_v {l : Launch} {g : cx_G} {adr : Nat → Nat} {X : cx_X} {N : Nat} (H : tw_H g adr) (M : cx_M) (rs : cx_R) (h : tw_takeOver_0 N M = some rs) : cx_V l (g) X sX10_takeOver cX10_takeOver 0 [(0, .ref (adr 60))] [] M 0 0 rs := by
  unfold tw_takeOver_0 at h
  refine cx_aload_n 0 dX10_takeOver_0 rfl ?_
  refine cx_getR (tw_R3 H) q2393 dX10_takeOver_1 ?_
  refine cx_cSv [.ref (adr 3)] [] h (fun rs' h' => tw_takeHalf_m H (rfl : twIA 3 = true) M rs' h') dX10_takeOver_4 g_X10_262 hg_X10_262 ⟨cx_le rfl, cx_le rfl⟩ rfl ⟨rfl, rfl⟩ ⟨cx_le rfl, cx_le rfl⟩ rfl (cx_le rfl) (fun M1 _ h => ?_)
  refine cx_aload_n 0 dX10_takeOver_7 rfl ?_
  refine cx_getR (tw_R4 H) q2394 dX10_takeOver_8 ?_
  refine cx_cSv [.ref (adr 4)] [] h (fun rs' h' => tw_takeHalf_m H (rfl : twIA 4 = true) M1 rs' h') dX10_takeOver_11 g_X10_262 hg_X10_262 ⟨cx_le rfl, cx_le rfl⟩ rfl ⟨rfl, rfl⟩ ⟨cx_le rfl, cx_le rfl⟩ rfl (cx_le rfl) (fun M2 _ h => ?_)
  refine cx_aload_n 0 dX10_takeOver_14 rfl ?_
  refine cx_getR (tw_R5 H) q2395 dX10_takeOver_15 ?_
  refine cx_cSv [.ref (adr 5)] [] h (fun rs' h' => tw_takeHalf_m H (rfl : twIA 5 = true) M2 rs' h') dX10_takeOver_18 g_X10_262 hg_X10_262 ⟨cx_le rfl, cx_le rfl⟩ rfl ⟨rfl, rfl⟩ ⟨cx_le rfl, cx_le rfl⟩ rfl (cx_le rfl) (fun M3 _ h => ?_)
  refine cx_aload_n 0 dX10_takeOver_21 rfl ?_
  refine cx_getR (tw_R6 H) q2396 dX10_takeOver_22 ?_
  refine cx_cSv [.ref (adr 6)] [] h (fun rs' h' => tw_takeHalf_m H (rfl : twIA 6 = true) M3 rs' h') dX10_takeOver_25 g_X10_262 hg_X10_262 ⟨cx_le rfl, cx_le rfl⟩ rfl ⟨rfl, rfl⟩ ⟨cx_le rfl, cx_le rfl⟩ rfl (cx_le rfl) (fun M4 _ h => ?_)
  refine cx_aload_n 0 dX10_takeOver_28 rfl ?_
  refine cx_aload_n 0 dX10_takeOver_29 rfl ?_
  refine cx_getR (tw_R3 H) q2393 dX10_takeOver_30 ?_
  refine cx_iconst 2 dX10_takeOver_33 cx_ic_2 ?_
  refine cx_ldC h (tw_A3 H) cx_cl_2 cx_vin_2_20 dX10_takeOver_34 (fun v5 h => ?_)
  refine cx_putI h (tw_F24 H) rfl rfl rfl q2414 dX10_takeOver_35 (fun M6 h => ?_)
  refine cx_aload_n 0 dX10_takeOver_38 rfl ?_
  refine cx_aload_n 0 dX10_takeOver_39 rfl ?_
  refine cx_getR (tw_R3 H) q2393 dX10_takeOver_40 ?_
  refine cx_iconst 3 dX10_takeOver_43 cx_ic_3 ?_
  refine cx_ldC h (tw_A3 H) cx_cl_3 cx_vin_3_20 dX10_takeOver_44 (fun v7 h => ?_)
  refine cx_putI h (tw_F25 H) rfl rfl rfl q2415 dX10_takeOver_45 (fun M8 h => ?_)
  refine cx_aload_n 0 dX10_takeOver_48 rfl ?_
  refine cx_cVv [] [] h (fun rs' h' => tw_forgetGiven_m H M8 rs' h') (tw_rc H) dX10_takeOver_49 g_X10_272 hg_X10_272 ⟨cx_le rfl, cx_le rfl⟩ rfl ⟨rfl, rfl⟩ ⟨cx_le rfl, cx_le rfl⟩ rfl (cx_le rfl) (fun M9 _ h => ?_)
  refine cx_iconst 0 dX10_takeOver_52 cx_ic_0 ?_
  refine cx_istore_n [(1, .int 0), (0, .ref (adr 60))] dX10_takeOver_53 (cx_lt rfl) rfl ?_
  refine cx_sub (lv' := [(0, .ref (adr 60)), (1, .int 0)]) [1, 0] rfl ?_
  exact tw_takeOver_54_v H N M9 0 _ h
noncomputable def tw_takeOver (N : Nat) (M : cx_M) : Option cx_R := tw_takeOver_0 N M
theorem tw_takeOver_m {l : Launch} {g : cx_G} {adr : Nat → Nat} {N : Nat} (H : tw_H g adr) (M : cx_M) (rs : cx_R) (h : tw_takeOver N M = some rs) : cx_Met l (g) yX10_takeOver cX10_takeOver sX10_takeOver [.ref (adr 60)] M rs :=
  cx_met (by decide +kernel) rfl rfl (lv := [(0, .ref (adr 60))]) rfl (cx_le rfl) (fun X => cx_sub (lv' := [(0, .ref (adr 60))]) [0] rfl (tw_takeOver_0_v H M rs h))

abbrev sX10_ready : cx_S := (1, RX10, cx_rV, { frames := 2, cells := 0, slots := 0, locals := 42 }, none, false)
noncomputable def tw_ready_0 (N : Nat) (M : cx_M) : Option cx_R :=
  cx_put M 60 2 0 fun M1 =>
  cx_get M1 60 9 fun v2 =>
  if v2 = 0 then (
    cx_put M1 60 9 1 fun M3 =>
    cx_cal (tw_beginTold N M3) fun M4 _ =>
    cx_cal (tw_takeOver N M4) fun M5 _ =>
    some (M5, 0, 0))
  else (
    some (M1, 0, 0))
set_option maxRecDepth 100000 in
theorem tw_ready_0_v {l : Launch} {g : cx_G} {adr : Nat → Nat} {X : cx_X} {N : Nat} (H : tw_H g adr) (M : cx_M) (rs : cx_R) (h : tw_ready_0 N M = some rs) : cx_V l (g) X sX10_ready cX10_ready 0 [(0, .ref (adr 60))] [] M 0 0 rs := by
  unfold tw_ready_0 at h
  refine cx_aload_n 0 dX10_ready_0 rfl ?_
  refine cx_iconst 0 dX10_ready_1 cx_ic_0 ?_
  refine cx_putI h (tw_F2 H) rfl rfl rfl q2392 dX10_ready_2 (fun M1 h => ?_)
  refine cx_aload_n 0 dX10_ready_5 rfl ?_
  refine cx_getI h (tw_F9 H) q2399 dX10_ready_6 (fun v2 h => ?_)
  refine cx_if_eq 13 h dX10_ready_9 rfl (fun h => ?_) (fun h => ?_)
  · refine cx_aload_n 0 dX10_ready_13 rfl ?_
    refine cx_iconst 1 dX10_ready_14 cx_ic_1 ?_
    refine cx_putI h (tw_F9 H) cx_z_1 cx_f_1 rfl q2399 dX10_ready_15 (fun M3 h => ?_)
    refine cx_aload_n 0 dX10_ready_18 rfl ?_
    refine cx_cVv [] [] h (fun rs' h' => tw_beginTold_m H M3 rs' h') (tw_rc H) dX10_ready_19 g_X10_253 hg_X10_253 ⟨cx_le rfl, cx_le rfl⟩ rfl ⟨rfl, rfl⟩ ⟨cx_le rfl, cx_le rfl⟩ rfl (cx_le rfl) (fun M4 _ h => ?_)
    refine cx_aload_n 0 dX10_ready_22 rfl ?_
    refine cx_cVv [] [] h (fun rs' h' => tw_takeOver_m H M4 rs' h') (tw_rc H) dX10_ready_23 g_X10_259 hg_X10_259 ⟨cx_le rfl, cx_le rfl⟩ rfl ⟨rfl, rfl⟩ ⟨cx_le rfl, cx_le rfl⟩ rfl (cx_le rfl) (fun M5 _ h => ?_)
    exact cx_vret h rfl rfl (cx_le rfl) (cx_le rfl) dX10_ready_26
  · exact cx_vret h rfl rfl (cx_le rfl) (cx_le rfl) dX10_ready_12
noncomputable def tw_ready (N : Nat) (M : cx_M) : Option cx_R := tw_ready_0 N M
theorem tw_ready_m {l : Launch} {g : cx_G} {adr : Nat → Nat} {N : Nat} (H : tw_H g adr) (M : cx_M) (rs : cx_R) (h : tw_ready N M = some rs) : cx_Met l (g) yX10_ready cX10_ready sX10_ready [.ref (adr 60)] M rs :=
  cx_met (by decide +kernel) rfl rfl (lv := [(0, .ref (adr 60))]) rfl (cx_le rfl) (fun X => cx_sub (lv' := [(0, .ref (adr 60))]) [0] rfl (tw_ready_0_v H M rs h))
