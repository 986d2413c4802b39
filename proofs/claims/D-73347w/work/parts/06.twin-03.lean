abbrev sX10_isMarked : cx_S := (2, RX10, cx_rI, { frames := 0, cells := 0, slots := 0, locals := 0 }, some .boolean, false)
noncomputable def tw_isMarked_0 (N : Nat) (M : cx_M) (x1 : Int32) : Option cx_R :=
  cx_get M 60 19 fun v1 =>
  if v1 = 0 then (
    cx_get M 60 15 fun v2 =>
    if v2 = 3 then (
      cx_get M 60 17 fun v3 =>
      cx_ld M 11 700 v3 fun v4 =>
      if v4 = x1 then (
        some (M, 1, 0))
      else (
        some (M, 0, 0)))
    else (
      some (M, 0, 0)))
  else (
    some (M, 0, 0))
set_option maxRecDepth 100000 in
theorem tw_isMarked_0_v {l : Launch} {g : cx_G} {adr : Nat → Nat} {X : cx_X} {N : Nat} (H : tw_H g adr) (M : cx_M) (x1 : Int32) (rs : cx_R) (h : tw_isMarked_0 N M x1 = some rs) : cx_V l (g) X sX10_isMarked cX10_isMarked 0 [(0, .ref (adr 60)), (1, .int x1)] [] M 0 0 rs := by
  unfold tw_isMarked_0 at h
  refine cx_aload_n 0 dX10_isMarked_0 rfl ?_
  refine cx_getI h (tw_F19 H) q2409 dX10_isMarked_1 (fun v1 h => ?_)
  refine cx_if_ne 32 h dX10_isMarked_4 rfl (fun h => ?_) (fun h => ?_)
  · refine cx_iconst 0 dX10_isMarked_32 cx_ic_0 ?_
    exact cx_zret h cx_z_0 rfl rfl (cx_le rfl) (cx_le rfl) dX10_isMarked_33
  · refine cx_aload_n 0 dX10_isMarked_7 rfl ?_
    refine cx_getI h (tw_F15 H) q2405 dX10_isMarked_8 (fun v2 h => ?_)
    refine cx_iconst 3 dX10_isMarked_11 cx_ic_3 ?_
    refine cx_icmp_ne 32 h dX10_isMarked_12 rfl (fun h => ?_) (fun h => ?_)
    · refine cx_iconst 0 dX10_isMarked_32 cx_ic_0 ?_
      exact cx_zret h cx_z_0 rfl rfl (cx_le rfl) (cx_le rfl) dX10_isMarked_33
    · refine cx_aload_n 0 dX10_isMarked_15 rfl ?_
      refine cx_getR (tw_R11 H) q2401 dX10_isMarked_16 ?_
      refine cx_aload_n 0 dX10_isMarked_19 rfl ?_
      refine cx_getI h (tw_F17 H) q2407 dX10_isMarked_20 (fun v3 h => ?_)
      refine cx_ldI h (tw_A11 H) dX10_isMarked_23 (fun v4 h => ?_)
      refine cx_iload_n 1 dX10_isMarked_24 rfl ?_
      refine cx_icmp_ne 32 h dX10_isMarked_25 rfl (fun h => ?_) (fun h => ?_)
      · refine cx_iconst 0 dX10_isMarked_32 cx_ic_0 ?_
        exact cx_zret h cx_z_0 rfl rfl (cx_le rfl) (cx_le rfl) dX10_isMarked_33
      · refine cx_iconst 1 dX10_isMarked_28 cx_ic_1 ?_
        refine cx_goto 33 dX10_isMarked_29 rfl ?_
        exact cx_zret h cx_z_1 rfl rfl (cx_le rfl) (cx_le rfl) dX10_isMarked_33
noncomputable def tw_isMarked (N : Nat) (M : cx_M) (x1 : Int32) : Option cx_R := tw_isMarked_0 N M x1
theorem tw_isMarked_m {l : Launch} {g : cx_G} {adr : Nat → Nat} {N : Nat} (H : tw_H g adr) (M : cx_M) (x1 : Int32) (rs : cx_R) (h : tw_isMarked N M x1 = some rs) : cx_Met l (g) yX10_isMarked cX10_isMarked sX10_isMarked [.ref (adr 60), .int x1] M rs :=
  cx_met (by decide +kernel) rfl rfl (lv := [(0, .ref (adr 60)), (1, .int x1)]) rfl (cx_le rfl) (fun X => cx_sub (lv' := [(0, .ref (adr 60)), (1, .int x1)]) [0, 1] rfl (tw_isMarked_0_v H M x1 rs h))

abbrev sX10_isNear : cx_S := (1, RX10, cx_rI, { frames := 2, cells := 0, slots := 0, locals := 43 }, some .boolean, false)
noncomputable def tw_isNear_0 (N : Nat) (M : cx_M) : Option cx_R :=
  cx_cal (tw_levelNow N M) fun M1 v2 =>
  cx_get M1 8 29 fun v3 =>
  if 2 < (cx_abs (v2 - v3)) then (
    some (M1, 0, 0))
  else (
    some (M1, 1, 0))
set_option maxRecDepth 100000 in
theorem tw_isNear_0_v {l : Launch} {g : cx_G} {adr : Nat → Nat} {X : cx_X} {N : Nat} (H : tw_H g adr) (M : cx_M) (rs : cx_R) (h : tw_isNear_0 N M = some rs) : cx_V l (g) X sX10_isNear cX10_isNear 0 [(0, .ref (adr 60))] [] M 0 0 rs := by
  unfold tw_isNear_0 at h
  refine cx_aload_n 0 dX10_isNear_0 rfl ?_
  refine cx_cVi [] [] h (fun rs' h' => tw_levelNow_m H M rs' h') (tw_rc H) dX10_isNear_1 g_X10_325 hg_X10_325 ⟨cx_le rfl, cx_le rfl⟩ rfl ⟨rfl, rfl⟩ ⟨cx_le rfl, cx_le rfl⟩ rfl (cx_le rfl) (fun M1 v2 h => ?_)
  refine cx_aload_n 0 dX10_isNear_4 rfl ?_
  refine cx_getR (tw_R8 H) q2398 dX10_isNear_5 ?_
  refine cx_bipush 29 dX10_isNear_8 cx_bp_29 ?_
  refine cx_ldC h (tw_A8 H) cx_cl_29 cx_vin_29_665 dX10_isNear_10 (fun v3 h => ?_)
  refine cx_isub dX10_isNear_11 ?_
  refine cx_mabs dX10_isNear_12 q2880 (cx_le rfl) (cx_le rfl) (cx_le rfl) (cx_le rfl) ?_
  refine cx_iconst 2 dX10_isNear_15 cx_ic_2 ?_
  refine cx_icmp_gt 23 h dX10_isNear_16 rfl (fun h => ?_) (fun h => ?_)
  · refine cx_iconst 0 dX10_isNear_23 cx_ic_0 ?_
    exact cx_zret h cx_z_0 rfl rfl (cx_le rfl) (cx_le rfl) dX10_isNear_24
  · refine cx_iconst 1 dX10_isNear_19 cx_ic_1 ?_
    refine cx_goto 24 dX10_isNear_20 rfl ?_
    exact cx_zret h cx_z_1 rfl rfl (cx_le rfl) (cx_le rfl) dX10_isNear_24
noncomputable def tw_isNear (N : Nat) (M : cx_M) : Option cx_R := tw_isNear_0 N M
theorem tw_isNear_m {l : Launch} {g : cx_G} {adr : Nat → Nat} {N : Nat} (H : tw_H g adr) (M : cx_M) (rs : cx_R) (h : tw_isNear N M = some rs) : cx_Met l (g) yX10_isNear cX10_isNear sX10_isNear [.ref (adr 60)] M rs :=
  cx_met (by decide +kernel) rfl rfl (lv := [(0, .ref (adr 60))]) rfl (cx_le rfl) (fun X => cx_sub (lv' := [(0, .ref (adr 60))]) [0] rfl (tw_isNear_0_v H M rs h))

abbrev sX10_isOnce : cx_S := (2, RX10, cx_rI, { frames := 0, cells := 0, slots := 0, locals := 0 }, some .boolean, false)
noncomputable def tw_isOnce_0 (N : Nat) (M : cx_M) (x1 : Int32) : Option cx_R :=
  if x1 = 0 then (
    cx_get M 8 8 fun v9 =>
    if v9 = 2 then (
      some (M, 1, 0))
    else (
      some (M, 0, 0)))
  else (
    if x1 = 1 then (
      cx_get M 8 7 fun v7 =>
      cx_get M 34 7 fun v8 =>
      if v7 ≤ v8 then (
        some (M, 0, 0))
      else (
        some (M, 1, 0)))
    else (
      if x1 = 2 then (
        cx_get M 8 4 fun v3 =>
        cx_get M 8 5 fun v4 =>
        cx_get M 34 4 fun v5 =>
        cx_get M 34 5 fun v6 =>
        if (v3 + v4) ≤ (v5 + v6) then (
          some (M, 0, 0))
        else (
          some (M, 1, 0)))
      else (
        cx_get M 8 12 fun v1 =>
        cx_get M 34 12 fun v2 =>
        if v1 ≤ v2 then (
          some (M, 0, 0))
        else (
          some (M, 1, 0)))))
set_option maxRecDepth 100000 in
theorem tw_isOnce_0_v {l : Launch} {g : cx_G} {adr : Nat → Nat} {X : cx_X} {N : Nat} (H : tw_H g adr) (M : cx_M) (x1 : Int32) (rs : cx_R) (h : tw_isOnce_0 N M x1 = some rs) : cx_V l (g) X sX10_isOnce cX10_isOnce 0 [(0, .ref (adr 60)), (1, .int x1)] [] M 0 0 rs := by
  unfold tw_isOnce_0 at h
  refine cx_iload_n 1 dX10_isOnce_0 rfl ?_
  refine cx_if_ne 21 h dX10_isOnce_1 rfl (fun h => ?_) (fun h => ?_)
  · refine cx_iload_n 1 dX10_isOnce_21 rfl ?_
    refine cx_iconst 1 dX10_isOnce_22 cx_ic_1 ?_
    refine cx_icmp_ne 49 h dX10_isOnce_23 rfl (fun h => ?_) (fun h => ?_)
    · refine cx_iload_n 1 dX10_isOnce_49 rfl ?_
      refine cx_iconst 2 dX10_isOnce_50 cx_ic_2 ?_
      refine cx_icmp_ne 91 h dX10_isOnce_51 rfl (fun h => ?_) (fun h => ?_)
      · refine cx_aload_n 0 dX10_isOnce_91 rfl ?_
        refine cx_getR (tw_R8 H) q2398 dX10_isOnce_92 ?_
        refine cx_bipush 12 dX10_isOnce_95 cx_bp_12 ?_
        refine cx_ldC h (tw_A8 H) cx_cl_12 cx_vin_12_665 dX10_isOnce_97 (fun v1 h => ?_)
        refine cx_aload_n 0 dX10_isOnce_98 rfl ?_
        refine cx_getR (tw_R34 H) q2424 dX10_isOnce_99 ?_
        refine cx_bipush 12 dX10_isOnce_102 cx_bp_12 ?_
        refine cx_ldC h (tw_A34 H) cx_cl_12 cx_vin_12_665 dX10_isOnce_104 (fun v2 h => ?_)
        refine cx_icmp_le 112 h dX10_isOnce_105 rfl (fun h => ?_) (fun h => ?_)
        · refine cx_iconst 0 dX10_isOnce_112 cx_ic_0 ?_
          exact cx_zret h cx_z_0 rfl rfl (cx_le rfl) (cx_le rfl) dX10_isOnce_113
        · refine cx_iconst 1 dX10_isOnce_108 cx_ic_1 ?_
          refine cx_goto 113 dX10_isOnce_109 rfl ?_
          exact cx_zret h cx_z_1 rfl rfl (cx_le rfl) (cx_le rfl) dX10_isOnce_113
      · refine cx_aload_n 0 dX10_isOnce_54 rfl ?_
        refine cx_getR (tw_R8 H) q2398 dX10_isOnce_55 ?_
        refine cx_iconst 4 dX10_isOnce_58 cx_ic_4 ?_
        refine cx_ldC h (tw_A8 H) cx_cl_4 cx_vin_4_665 dX10_isOnce_59 (fun v3 h => ?_)
        refine cx_aload_n 0 dX10_isOnce_60 rfl ?_
        refine cx_getR (tw_R8 H) q2398 dX10_isOnce_61 ?_
        refine cx_iconst 5 dX10_isOnce_64 cx_ic_5 ?_
        refine cx_ldC h (tw_A8 H) cx_cl_5 cx_vin_5_665 dX10_isOnce_65 (fun v4 h => ?_)
        refine cx_iadd dX10_isOnce_66 ?_
        refine cx_aload_n 0 dX10_isOnce_67 rfl ?_
        refine cx_getR (tw_R34 H) q2424 dX10_isOnce_68 ?_
        refine cx_iconst 4 dX10_isOnce_71 cx_ic_4 ?_
        refine cx_ldC h (tw_A34 H) cx_cl_4 cx_vin_4_665 dX10_isOnce_72 (fun v5 h => ?_)
        refine cx_aload_n 0 dX10_isOnce_73 rfl ?_
        refine cx_getR (tw_R34 H) q2424 dX10_isOnce_74 ?_
        refine cx_iconst 5 dX10_isOnce_77 cx_ic_5 ?_
        refine cx_ldC h (tw_A34 H) cx_cl_5 cx_vin_5_665 dX10_isOnce_78 (fun v6 h => ?_)
        refine cx_iadd dX10_isOnce_79 ?_
        refine cx_icmp_le 87 h dX10_isOnce_80 rfl (fun h => ?_) (fun h => ?_)
        · refine cx_iconst 0 dX10_isOnce_87 cx_ic_0 ?_
          refine cx_goto 113 dX10_isOnce_88 rfl ?_
          exact cx_zret h cx_z_0 rfl rfl (cx_le rfl) (cx_le rfl) dX10_isOnce_113
        · refine cx_iconst 1 dX10_isOnce_83 cx_ic_1 ?_
          refine cx_goto 113 dX10_isOnce_84 rfl ?_
          exact cx_zret h cx_z_1 rfl rfl (cx_le rfl) (cx_le rfl) dX10_isOnce_113
    · refine cx_aload_n 0 dX10_isOnce_26 rfl ?_
      refine cx_getR (tw_R8 H) q2398 dX10_isOnce_27 ?_
      refine cx_bipush 7 dX10_isOnce_30 cx_bp_7 ?_
      refine cx_ldC h (tw_A8 H) cx_cl_7 cx_vin_7_665 dX10_isOnce_32 (fun v7 h => ?_)
      refine cx_aload_n 0 dX10_isOnce_33 rfl ?_
      refine cx_getR (tw_R34 H) q2424 dX10_isOnce_34 ?_
      refine cx_bipush 7 dX10_isOnce_37 cx_bp_7 ?_
      refine cx_ldC h (tw_A34 H) cx_cl_7 cx_vin_7_665 dX10_isOnce_39 (fun v8 h => ?_)
      refine cx_icmp_le 47 h dX10_isOnce_40 rfl (fun h => ?_) (fun h => ?_)
      · refine cx_iconst 0 dX10_isOnce_47 cx_ic_0 ?_
        exact cx_zret h cx_z_0 rfl rfl (cx_le rfl) (cx_le rfl) dX10_isOnce_48
      · refine cx_iconst 1 dX10_isOnce_43 cx_ic_1 ?_
        refine cx_goto 48 dX10_isOnce_44 rfl ?_
        exact cx_zret h cx_z_1 rfl rfl (cx_le rfl) (cx_le rfl) dX10_isOnce_48
  · refine cx_aload_n 0 dX10_isOnce_4 rfl ?_
    refine cx_getR (tw_R8 H) q2398 dX10_isOnce_5 ?_
    refine cx_bipush 8 dX10_isOnce_8 cx_bp_8 ?_
    refine cx_ldC h (tw_A8 H) cx_cl_8 cx_vin_8_665 dX10_isOnce_10 (fun v9 h => ?_)
    refine cx_iconst 2 dX10_isOnce_11 cx_ic_2 ?_
    refine cx_icmp_ne 19 h dX10_isOnce_12 rfl (fun h => ?_) (fun h => ?_)
    · refine cx_iconst 0 dX10_isOnce_19 cx_ic_0 ?_
      exact cx_zret h cx_z_0 rfl rfl (cx_le rfl) (cx_le rfl) dX10_isOnce_20
    · refine cx_iconst 1 dX10_isOnce_15 cx_ic_1 ?_
      refine cx_goto 20 dX10_isOnce_16 rfl ?_
      exact cx_zret h cx_z_1 rfl rfl (cx_le rfl) (cx_le rfl) dX10_isOnce_20
noncomputable def tw_isOnce (N : Nat) (M : cx_M) (x1 : Int32) : Option cx_R := tw_isOnce_0 N M x1
theorem tw_isOnce_m {l : Launch} {g : cx_G} {adr : Nat → Nat} {N : Nat} (H : tw_H g adr) (M : cx_M) (x1 : Int32) (rs : cx_R) (h : tw_isOnce N M x1 = some rs) : cx_Met l (g) yX10_isOnce cX10_isOnce sX10_isOnce [.ref (adr 60), .int x1] M rs :=
  cx_met (by decide +kernel) rfl rfl (lv := [(0, .ref (adr 60)), (1, .int x1)]) rfl (cx_le rfl) (fun X => cx_sub (lv' := [(0, .ref (adr 60)), (1, .int x1)]) [0, 1] rfl (tw_isOnce_0_v H M x1 rs h))

abbrev sX10_keep : cx_S := (2, RX10, cx_rV, { frames := 0, cells := 0, slots := 0, locals := 0 }, none, false)
noncomputable def tw_keep_56b (N : Nat) (r_56 : cx_M → Int32 → Option cx_R) (M : cx_M) (x1 : Int32) : Option cx_R :=
  if 665 ≤ x1 then (
    cx_get M 60 31 fun v1 =>
    cx_put M 60 31 (v1 + 1) fun M2 =>
    some (M2, 0, 0))
  else (
    cx_get M 60 31 fun v3 =>
    cx_ld M 8 665 x1 fun v4 =>
    cx_st M 33 26600 (((665 : Int32) * v3) + x1) v4 fun M5 =>
    cx_let (x1 + 1) fun v6 =>
    r_56 M5 v6)
set_option maxRecDepth 100000 in
theorem tw_keep_56b_v {l : Launch} {g : cx_G} {adr : Nat → Nat} {X : cx_X} {N : Nat} {r_56 : cx_M → Int32 → Option cx_R} (H : tw_H g adr) (hr_56 : ∀ (M : cx_M) (x1 : Int32) (rs : cx_R), r_56 M x1 = some rs → cx_V l (g) X sX10_keep cX10_keep 56 [(0, .ref (adr 60)), (1, .int x1)] [] M 0 0 rs) (M : cx_M) (x1 : Int32) (rs : cx_R) (h : tw_keep_56b N r_56 M x1 = some rs) : cx_V l (g) X sX10_keep cX10_keep 56 [(0, .ref (adr 60)), (1, .int x1)] [] M 0 0 rs := by
  unfold tw_keep_56b at h
  refine cx_iload_n 1 dX10_keep_56 rfl ?_
  refine cx_sipush 665 dX10_keep_57 cx_sp_665 ?_
  refine cx_icmp_ge 90 h dX10_keep_60 rfl (fun h => ?_) (fun h => ?_)
  · refine cx_aload_n 0 dX10_keep_90 rfl ?_
    refine cx_dup dX10_keep_91 rfl ?_
    refine cx_getI h (tw_F31 H) q2421 dX10_keep_92 (fun v1 h => ?_)
    refine cx_iconst 1 dX10_keep_95 cx_ic_1 ?_
    refine cx_iadd dX10_keep_96 ?_
    refine cx_putI h (tw_F31 H) rfl rfl rfl q2421 dX10_keep_97 (fun M2 h => ?_)
    exact cx_vret h rfl rfl (cx_le rfl) (cx_le rfl) dX10_keep_100
  · refine cx_aload_n 0 dX10_keep_63 rfl ?_
    refine cx_getR (tw_R33 H) q2423 dX10_keep_64 ?_
    refine cx_sipush 665 dX10_keep_67 cx_sp_665 ?_
    refine cx_aload_n 0 dX10_keep_70 rfl ?_
    refine cx_getI h (tw_F31 H) q2421 dX10_keep_71 (fun v3 h => ?_)
    refine cx_imul dX10_keep_74 ?_
    refine cx_iload_n 1 dX10_keep_75 rfl ?_
    refine cx_iadd dX10_keep_76 ?_
    refine cx_aload_n 0 dX10_keep_77 rfl ?_
    refine cx_getR (tw_R8 H) q2398 dX10_keep_78 ?_
    refine cx_iload_n 1 dX10_keep_81 rfl ?_
    refine cx_ldI h (tw_A8 H) dX10_keep_82 (fun v4 h => ?_)
    refine cx_stI h (tw_A33 H) dX10_keep_83 (fun M5 h => ?_)
    refine cx_iinc 1 1 (fun v6 => [(1, .int v6), (0, .ref (adr 60))]) h dX10_keep_84 rfl cx_ic_1 (cx_lt rfl) (fun _ => rfl) (fun v6 h => ?_)
    refine cx_goto 56 dX10_keep_87 rfl ?_
    refine cx_sub (lv' := [(0, .ref (adr 60)), (1, .int v6)]) [1, 0] rfl ?_
    exact hr_56 M5 v6 _ h
noncomputable def tw_keep_56 (N : Nat) : Nat → cx_M → Int32 → Option cx_R :=
  cx_fix (fun _ _ => none) (fun r_56 => tw_keep_56b N r_56)
theorem tw_keep_56_v {l : Launch} {g : cx_G} {adr : Nat → Nat} {X : cx_X} {N : Nat} (H : tw_H g adr) : ∀ (n : Nat) (M : cx_M) (x1 : Int32) (rs : cx_R), tw_keep_56 N n M x1 = some rs → cx_V l (g) X sX10_keep cX10_keep 56 [(0, .ref (adr 60)), (1, .int x1)] [] M 0 0 rs :=
  cx_fixI (fun (r : cx_M → Int32 → Option cx_R) => ∀ (M : cx_M) (x1 : Int32) (rs : cx_R), r M x1 = some rs → cx_V l (g) X sX10_keep cX10_keep 56 [(0, .ref (adr 60)), (1, .int x1)] [] M 0 0 rs) (fun _ _ _ h => by cases h) (fun r hr M x1 rs h => tw_keep_56b_v H hr M x1 rs h)
noncomputable def tw_keep_54 (N : Nat) (M : cx_M) : Option cx_R :=
  tw_keep_56 N N M 0
set_option maxRecDepth 100000 in
theorem tw_keep_54_v {l : Launch} {g : cx_G} {adr : Nat → Nat} {X : cx_X} {N : Nat} (H : tw_H g adr) (M : cx_M) (rs : cx_R) (h : tw_keep_54 N M = some rs) : cx_V l (g) X sX10_keep cX10_keep 54 [(0, .ref (adr 60))] [] M 0 0 rs := by
  unfold tw_keep_54 at h
  refine cx_iconst 0 dX10_keep_54 cx_ic_0 ?_
  refine cx_istore_n [(1, .int 0), (0, .ref (adr 60))] dX10_keep_55 (cx_lt rfl) rfl ?_
  refine cx_sub (lv' := [(0, .ref (adr 60)), (1, .int 0)]) [1, 0] rfl ?_
  exact tw_keep_56_v H N M 0 _ h
noncomputable def tw_keep_13b (N : Nat) (r_13 : cx_M → Int32 → Option cx_R) (M : cx_M) (x1 : Int32) : Option cx_R :=
  if 26600 ≤ x1 then (
    cx_get M 60 31 fun v1 =>
    cx_put M 60 31 (v1 - 1) fun M2 =>
    tw_keep_54 N M2)
  else (
    cx_ld M 33 26600 x1 fun v3 =>
    cx_st M 33 26600 (x1 - 665) v3 fun M4 =>
    cx_let (x1 + 1) fun v5 =>
    r_13 M4 v5)
set_option maxRecDepth 100000 in
theorem tw_keep_13b_v {l : Launch} {g : cx_G} {adr : Nat → Nat} {X : cx_X} {N : Nat} {r_13 : cx_M → Int32 → Option cx_R} (H : tw_H g adr) (hr_13 : ∀ (M : cx_M) (x1 : Int32) (rs : cx_R), r_13 M x1 = some rs → cx_V l (g) X sX10_keep cX10_keep 13 [(0, .ref (adr 60)), (1, .int x1)] [] M 0 0 rs) (M : cx_M) (x1 : Int32) (rs : cx_R) (h : tw_keep_13b N r_13 M x1 = some rs) : cx_V l (g) X sX10_keep cX10_keep 13 [(0, .ref (adr 60)), (1, .int x1)] [] M 0 0 rs := by
  unfold tw_keep_13b at h
  refine cx_iload_n 1 dX10_keep_13 rfl ?_
  refine cx_aload_n 0 dX10_keep_14 rfl ?_
  refine cx_getR (tw_R33 H) q2423 dX10_keep_15 ?_
  refine cx_alen 26600 (tw_A33 H) cx_nI_26600 dX10_keep_18 ?_
  refine cx_icmp_ge 44 h dX10_keep_19 rfl (fun h => ?_) (fun h => ?_)
  · refine cx_aload_n 0 dX10_keep_44 rfl ?_
    refine cx_dup dX10_keep_45 rfl ?_
    refine cx_getI h (tw_F31 H) q2421 dX10_keep_46 (fun v1 h => ?_)
    refine cx_iconst 1 dX10_keep_49 cx_ic_1 ?_
    refine cx_isub dX10_keep_50 ?_
    refine cx_putI h (tw_F31 H) rfl rfl rfl q2421 dX10_keep_51 (fun M2 h => ?_)
    refine cx_sub (lv' := [(0, .ref (adr 60))]) [0] rfl ?_
    exact tw_keep_54_v H M2 _ h
  · refine cx_aload_n 0 dX10_keep_22 rfl ?_
    refine cx_getR (tw_R33 H) q2423 dX10_keep_23 ?_
    refine cx_iload_n 1 dX10_keep_26 rfl ?_
    refine cx_sipush 665 dX10_keep_27 cx_sp_665 ?_
    refine cx_isub dX10_keep_30 ?_
    refine cx_aload_n 0 dX10_keep_31 rfl ?_
    refine cx_getR (tw_R33 H) q2423 dX10_keep_32 ?_
    refine cx_iload_n 1 dX10_keep_35 rfl ?_
    refine cx_ldI h (tw_A33 H) dX10_keep_36 (fun v3 h => ?_)
    refine cx_stI h (tw_A33 H) dX10_keep_37 (fun M4 h => ?_)
    refine cx_iinc 1 1 (fun v5 => [(1, .int v5), (0, .ref (adr 60))]) h dX10_keep_38 rfl cx_ic_1 (cx_lt rfl) (fun _ => rfl) (fun v5 h => ?_)
    refine cx_goto 13 dX10_keep_41 rfl ?_
    refine cx_sub (lv' := [(0, .ref (adr 60)), (1, .int v5)]) [1, 0] rfl ?_
    exact hr_13 M4 v5 _ h
noncomputable def tw_keep_13 (N : Nat) : Nat → cx_M → Int32 → Option cx_R :=
  cx_fix (fun _ _ => none) (fun r_13 => tw_keep_13b N r_13)
theorem tw_keep_13_v {l : Launch} {g : cx_G} {adr : Nat → Nat} {X : cx_X} {N : Nat} (H : tw_H g adr) : ∀ (n : Nat) (M : cx_M) (x1 : Int32) (rs : cx_R), tw_keep_13 N n M x1 = some rs → cx_V l (g) X sX10_keep cX10_keep 13 [(0, .ref (adr 60)), (1, .int x1)] [] M 0 0 rs :=
  cx_fixI (fun (r : cx_M → Int32 → Option cx_R) => ∀ (M : cx_M) (x1 : Int32) (rs : cx_R), r M x1 = some rs → cx_V l (g) X sX10_keep cX10_keep 13 [(0, .ref (adr 60)), (1, .int x1)] [] M 0 0 rs) (fun _ _ _ h => by cases h) (fun r hr M x1 rs h => tw_keep_13b_v H hr M x1 rs h)
noncomputable def tw_keep_0 (N : Nat) (M : cx_M) : Option cx_R :=
  cx_get M 60 31 fun v1 =>
  if v1 = 40 then (
    tw_keep_13 N N M 665)
  else (
    tw_keep_54 N M)
set_option maxRecDepth 100000 in
theorem tw_keep_0_v {l : Launch} {g : cx_G} {adr : Nat → Nat} {X : cx_X} {N : Nat} (H : tw_H g adr) (M : cx_M) (rs : cx_R) (h : tw_keep_0 N M = some rs) : cx_V l (g) X sX10_keep cX10_keep 0 [(0, .ref (adr 60))] [] M 0 0 rs := by
  unfold tw_keep_0 at h
  refine cx_aload_n 0 dX10_keep_0 rfl ?_
  refine cx_getI h (tw_F31 H) q2421 dX10_keep_1 (fun v1 h => ?_)
  refine cx_bipush 40 dX10_keep_4 cx_bp_40 ?_
  refine cx_icmp_ne 54 h dX10_keep_6 rfl (fun h => ?_) (fun h => ?_)
  · exact tw_keep_54_v H M _ h
  · refine cx_sipush 665 dX10_keep_9 cx_sp_665 ?_
    refine cx_istore_n [(1, .int 665), (0, .ref (adr 60))] dX10_keep_12 (cx_lt rfl) rfl ?_
    refine cx_sub (lv' := [(0, .ref (adr 60)), (1, .int 665)]) [1, 0] rfl ?_
    exact tw_keep_13_v H N M 665 _ h
noncomputable def tw_keep (N : Nat) (M : cx_M) : Option cx_R := tw_keep_0 N M
theorem tw_keep_m {l : Launch} {g : cx_G} {adr : Nat → Nat} {N : Nat} (H : tw_H g adr) (M : cx_M) (rs : cx_R) (h : tw_keep N M = some rs) : cx_Met l (g) yX10_keep cX10_keep sX10_keep [.ref (adr 60)] M rs :=
  cx_met (by decide +kernel) rfl rfl (lv := [(0, .ref (adr 60))]) rfl (cx_le rfl) (fun X => cx_sub (lv' := [(0, .ref (adr 60))]) [0] rfl (tw_keep_0_v H M rs h))

abbrev sX10_lay : cx_S := (3, RX10, cx_rV, { frames := 0, cells := 0, slots := 0, locals := 0 }, none, false)
noncomputable def tw_lay_68 (N : Nat) (M : cx_M) (x2 : Int32) : Option cx_R :=
  cx_ld M 3 20 x2 fun v1 =>
  cx_st M 3 20 x2 (v1 + 1) fun M2 =>
  some (M2, 0, 0)
set_option maxRecDepth 100000 in
theorem tw_lay_68_v {l : Launch} {g : cx_G} {adr : Nat → Nat} {X : cx_X} {N : Nat} (H : tw_H g adr) (M : cx_M) (x2 : Int32) (rs : cx_R) (h : tw_lay_68 N M x2 = some rs) : cx_V l (g) X sX10_lay cX10_lay 68 [(0, .ref (adr 60)), (2, .int x2)] [] M 0 0 rs := by
  unfold tw_lay_68 at h
  refine cx_aload_n 0 dX10_lay_68 rfl ?_
  refine cx_getR (tw_R3 H) q2393 dX10_lay_69 ?_
  refine cx_iload_n 1 dX10_lay_72 rfl ?_
  refine cx_dup2 dX10_lay_73 rfl rfl ?_
  refine cx_ldI h (tw_A3 H) dX10_lay_74 (fun v1 h => ?_)
  refine cx_iconst 1 dX10_lay_75 cx_ic_1 ?_
  refine cx_iadd dX10_lay_76 ?_
  refine cx_stI h (tw_A3 H) dX10_lay_77 (fun M2 h => ?_)
  exact cx_vret h rfl rfl (cx_le rfl) (cx_le rfl) dX10_lay_78
noncomputable def tw_lay_24 (N : Nat) (M : cx_M) (x1 : Int32) (z0 : Int32) (z1 : Int32) : Option cx_R :=
  cx_let (z0 + z1) fun v1 =>
  cx_get M 60 10 fun v2 =>
  if v2 = 0 then (
    cx_ld M 3 20 v1 fun v3 =>
    cx_st M 5 1400 ((700 : Int32) + v3) x1 fun M4 =>
    tw_lay_68 N M4 v1)
  else (
    cx_ld M 3 20 v1 fun v5 =>
    cx_st M 6 1400 ((700 : Int32) + v5) x1 fun M6 =>
    tw_lay_68 N M6 v1)
set_option maxRecDepth 100000 in
theorem tw_lay_24_v {l : Launch} {g : cx_G} {adr : Nat → Nat} {X : cx_X} {N : Nat} (H : tw_H g adr) (M : cx_M) (x1 : Int32) (z0 : Int32) (z1 : Int32) (rs : cx_R) (h : tw_lay_24 N M x1 z0 z1 = some rs) : cx_V l (g) X sX10_lay cX10_lay 24 [(0, .ref (adr 60)), (1, .int x1)] [.int z1, .int z0] M 0 0 rs := by
  unfold tw_lay_24 at h
  refine cx_iadd dX10_lay_24 ?_
  refine cx_letI h (fun v1 h => ?_)
  refine cx_istore_n [(2, .int v1), (0, .ref (adr 60)), (1, .int x1)] dX10_lay_25 (cx_lt rfl) rfl ?_
  refine cx_aload_n 1 dX10_lay_26 rfl ?_
  refine cx_getI h (tw_F10 H) q2400 dX10_lay_27 (fun v2 h => ?_)
  refine cx_if_eq 52 h dX10_lay_30 rfl (fun h => ?_) (fun h => ?_)
  · refine cx_aload_n 1 dX10_lay_52 rfl ?_
    refine cx_getR (tw_R5 H) q2395 dX10_lay_53 ?_
    refine cx_sipush 700 dX10_lay_56 cx_sp_700 ?_
    refine cx_aload_n 1 dX10_lay_59 rfl ?_
    refine cx_getR (tw_R3 H) q2393 dX10_lay_60 ?_
    refine cx_iload_n 0 dX10_lay_63 rfl ?_
    refine cx_ldI h (tw_A3 H) dX10_lay_64 (fun v3 h => ?_)
    refine cx_iadd dX10_lay_65 ?_
    refine cx_iload_n 2 dX10_lay_66 rfl ?_
    refine cx_stI h (tw_A5 H) dX10_lay_67 (fun M4 h => ?_)
    refine cx_sub (lv' := [(0, .ref (adr 60)), (2, .int v1)]) [1, 0] rfl ?_
    exact tw_lay_68_v H M4 v1 _ h
  · refine cx_aload_n 1 dX10_lay_33 rfl ?_
    refine cx_getR (tw_R6 H) q2396 dX10_lay_34 ?_
    refine cx_sipush 700 dX10_lay_37 cx_sp_700 ?_
    refine cx_aload_n 1 dX10_lay_40 rfl ?_
    refine cx_getR (tw_R3 H) q2393 dX10_lay_41 ?_
    refine cx_iload_n 0 dX10_lay_44 rfl ?_
    refine cx_ldI h (tw_A3 H) dX10_lay_45 (fun v5 h => ?_)
    refine cx_iadd dX10_lay_46 ?_
    refine cx_iload_n 2 dX10_lay_47 rfl ?_
    refine cx_stI h (tw_A6 H) dX10_lay_48 (fun M6 h => ?_)
    refine cx_goto 68 dX10_lay_49 rfl ?_
    refine cx_sub (lv' := [(0, .ref (adr 60)), (2, .int v1)]) [1, 0] rfl ?_
    exact tw_lay_68_v H M6 v1 _ h
noncomputable def tw_lay_0 (N : Nat) (M : cx_M) (x1 : Int32) : Option cx_R :=
  cx_get M 60 19 fun v1 =>
  if v1 = 0 then (
    cx_get M 60 10 fun v2 =>
    if v2 = 0 then (
      tw_lay_24 N M x1 10 8)
    else (
      tw_lay_24 N M x1 10 9))
  else (
    some (M, 0, 0))
set_option maxRecDepth 100000 in
theorem tw_lay_0_v {l : Launch} {g : cx_G} {adr : Nat → Nat} {X : cx_X} {N : Nat} (H : tw_H g adr) (M : cx_M) (x1 : Int32) (rs : cx_R) (h : tw_lay_0 N M x1 = some rs) : cx_V l (g) X sX10_lay cX10_lay 0 [(0, .ref (adr 60)), (1, .int x1)] [] M 0 0 rs := by
  unfold tw_lay_0 at h
  refine cx_aload_n 0 dX10_lay_0 rfl ?_
  refine cx_getI h (tw_F19 H) q2409 dX10_lay_1 (fun v1 h => ?_)
  refine cx_if_eq 8 h dX10_lay_4 rfl (fun h => ?_) (fun h => ?_)
  · refine cx_bipush 10 dX10_lay_8 cx_bp_10 ?_
    refine cx_aload_n 0 dX10_lay_10 rfl ?_
    refine cx_getI h (tw_F10 H) q2400 dX10_lay_11 (fun v2 h => ?_)
    refine cx_if_eq 22 h dX10_lay_14 rfl (fun h => ?_) (fun h => ?_)
    · refine cx_bipush 8 dX10_lay_22 cx_bp_8 ?_
      exact tw_lay_24_v H M x1 10 8 _ h
    · refine cx_bipush 9 dX10_lay_17 cx_bp_9 ?_
      refine cx_goto 24 dX10_lay_19 rfl ?_
      exact tw_lay_24_v H M x1 10 9 _ h
  · exact cx_vret h rfl rfl (cx_le rfl) (cx_le rfl) dX10_lay_7
noncomputable def tw_lay (N : Nat) (M : cx_M) (x1 : Int32) : Option cx_R := tw_lay_0 N M x1
theorem tw_lay_m {l : Launch} {g : cx_G} {adr : Nat → Nat} {N : Nat} (H : tw_H g adr) (M : cx_M) (x1 : Int32) (rs : cx_R) (h : tw_lay N M x1 = some rs) : cx_Met l (g) yX10_lay cX10_lay sX10_lay [.ref (adr 60), .int x1] M rs :=
  cx_met (by decide +kernel) rfl rfl (lv := [(0, .ref (adr 60)), (1, .int x1)]) rfl (cx_le rfl) (fun X => cx_sub (lv' := [(0, .ref (adr 60)), (1, .int x1)]) [0, 1] rfl (tw_lay_0_v H M x1 rs h))

abbrev sX10_stepOn : cx_S := (2, RX10, cx_rV, { frames := 1, cells := 0, slots := 0, locals := 21 }, none, false)
noncomputable def tw_stepOn_26 (N : Nat) (r_0 : cx_M → Option cx_R) (M : cx_M) : Option cx_R :=
  cx_get M 60 13 fun v1 =>
  cx_put M 60 13 (v1 + 1) fun M2 =>
  r_0 M2
set_option maxRecDepth 100000 in
theorem tw_stepOn_26_v {l : Launch} {g : cx_G} {adr : Nat → Nat} {X : cx_X} {N : Nat} {r_0 : cx_M → Option cx_R} (H : tw_H g adr) (hr_0 : ∀ (M : cx_M) (rs : cx_R), r_0 M = some rs → cx_V l (g) X sX10_stepOn cX10_stepOn 0 [(0, .ref (adr 60))] [] M 0 0 rs) (M : cx_M) (rs : cx_R) (h : tw_stepOn_26 N r_0 M = some rs) : cx_V l (g) X sX10_stepOn cX10_stepOn 26 [(0, .ref (adr 60))] [] M 0 0 rs := by
  unfold tw_stepOn_26 at h
  refine cx_aload_n 0 dX10_stepOn_26 rfl ?_
  refine cx_dup dX10_stepOn_27 rfl ?_
  refine cx_getI h (tw_F13 H) q2403 dX10_stepOn_28 (fun v1 h => ?_)
  refine cx_iconst 1 dX10_stepOn_31 cx_ic_1 ?_
  refine cx_iadd dX10_stepOn_32 ?_
  refine cx_putI h (tw_F13 H) rfl rfl rfl q2403 dX10_stepOn_33 (fun M2 h => ?_)
  refine cx_goto 0 dX10_stepOn_36 rfl ?_
  exact hr_0 M2 _ h
noncomputable def tw_stepOn_76b (N : Nat) (r_76 : cx_M → Option cx_R) (M : cx_M) : Option cx_R :=
  cx_get M 60 13 fun v1 =>
  cx_cal (tw_byteAt N M v1) fun M2 v3 =>
  cx_cal (tw_isLetter N M2 v3) fun M4 v5 =>
  if v5 = 0 then (
    cx_put M4 60 15 1 fun M6 =>
    cx_get M6 60 13 fun v7 =>
    cx_put M6 60 18 v7 fun M8 =>
    some (M8, 0, 0))
  else (
    cx_get M4 60 13 fun v9 =>
    cx_put M4 60 13 (v9 + 1) fun M10 =>
    r_76 M10)
set_option maxRecDepth 100000 in
theorem tw_stepOn_76b_v {l : Launch} {g : cx_G} {adr : Nat → Nat} {X : cx_X} {N : Nat} {r_76 : cx_M → Option cx_R} (H : tw_H g adr) (hr_76 : ∀ (M : cx_M) (rs : cx_R), r_76 M = some rs → cx_V l (g) X sX10_stepOn cX10_stepOn 76 [(0, .ref (adr 60))] [] M 0 0 rs) (M : cx_M) (rs : cx_R) (h : tw_stepOn_76b N r_76 M = some rs) : cx_V l (g) X sX10_stepOn cX10_stepOn 76 [(0, .ref (adr 60))] [] M 0 0 rs := by
  unfold tw_stepOn_76b at h
  refine cx_aload_n 0 dX10_stepOn_76 rfl ?_
  refine cx_aload_n 0 dX10_stepOn_77 rfl ?_
  refine cx_getI h (tw_F13 H) q2403 dX10_stepOn_78 (fun v1 h => ?_)
  refine cx_cVi [.int v1] [] h (fun rs' h' => tw_byteAt_m H M v1 rs' h') (tw_rc H) dX10_stepOn_81 g_X10_141 hg_X10_141 ⟨cx_le rfl, cx_le rfl⟩ rfl ⟨rfl, rfl⟩ ⟨cx_le rfl, cx_le rfl⟩ rfl (cx_le rfl) (fun M2 v3 h => ?_)
  refine cx_cSi [.int v3] [] h (fun rs' h' => tw_isLetter_m H M2 v3 rs' h') dX10_stepOn_84 g_X10_151 hg_X10_151 ⟨cx_le rfl, cx_le rfl⟩ rfl ⟨rfl, rfl⟩ ⟨cx_le rfl, cx_le rfl⟩ rfl (cx_le rfl) (fun M4 v5 h => ?_)
  refine cx_if_eq 103 h dX10_stepOn_87 rfl (fun h => ?_) (fun h => ?_)
  · refine cx_aload_n 0 dX10_stepOn_103 rfl ?_
    refine cx_iconst 1 dX10_stepOn_104 cx_ic_1 ?_
    refine cx_putI h (tw_F15 H) rfl rfl rfl q2405 dX10_stepOn_105 (fun M6 h => ?_)
    refine cx_goto 212 dX10_stepOn_108 rfl ?_
    refine cx_aload_n 0 dX10_stepOn_212 rfl ?_
    refine cx_aload_n 0 dX10_stepOn_213 rfl ?_
    refine cx_getI h (tw_F13 H) q2403 dX10_stepOn_214 (fun v7 h => ?_)
    refine cx_putI h (tw_F18 H) rfl rfl rfl q2408 dX10_stepOn_217 (fun M8 h => ?_)
    exact cx_vret h rfl rfl (cx_le rfl) (cx_le rfl) dX10_stepOn_220
  · refine cx_aload_n 0 dX10_stepOn_90 rfl ?_
    refine cx_dup dX10_stepOn_91 rfl ?_
    refine cx_getI h (tw_F13 H) q2403 dX10_stepOn_92 (fun v9 h => ?_)
    refine cx_iconst 1 dX10_stepOn_95 cx_ic_1 ?_
    refine cx_iadd dX10_stepOn_96 ?_
    refine cx_putI h (tw_F13 H) rfl rfl rfl q2403 dX10_stepOn_97 (fun M10 h => ?_)
    refine cx_goto 76 dX10_stepOn_100 rfl ?_
    exact hr_76 M10 _ h
noncomputable def tw_stepOn_76 (N : Nat) : Nat → cx_M → Option cx_R :=
  cx_fix (fun _ => none) (fun r_76 => tw_stepOn_76b N r_76)
theorem tw_stepOn_76_v {l : Launch} {g : cx_G} {adr : Nat → Nat} {X : cx_X} {N : Nat} (H : tw_H g adr) : ∀ (n : Nat) (M : cx_M) (rs : cx_R), tw_stepOn_76 N n M = some rs → cx_V l (g) X sX10_stepOn cX10_stepOn 76 [(0, .ref (adr 60))] [] M 0 0 rs :=
  cx_fixI (fun (r : cx_M → Option cx_R) => ∀ (M : cx_M) (rs : cx_R), r M = some rs → cx_V l (g) X sX10_stepOn cX10_stepOn 76 [(0, .ref (adr 60))] [] M 0 0 rs) (fun _ _ h => by cases h) (fun r hr M rs h => tw_stepOn_76b_v H hr M rs h)
noncomputable def tw_stepOn_123b (N : Nat) (r_123 : cx_M → Option cx_R) (M : cx_M) : Option cx_R :=
  cx_get M 60 13 fun v1 =>
  cx_cal (tw_byteAt N M v1) fun M2 v3 =>
  cx_cal (tw_isDigit N M2 v3) fun M4 v5 =>
  if v5 = 0 then (
    cx_put M4 60 15 2 fun M6 =>
    cx_get M6 60 13 fun v7 =>
    cx_put M6 60 18 v7 fun M8 =>
    some (M8, 0, 0))
  else (
    cx_get M4 60 16 fun v9 =>
    cx_get M4 60 13 fun v10 =>
    cx_cal (tw_byteAt N M4 v10) fun M11 v12 =>
    cx_put M11 60 16 (cx_min 100000 ((((10 : Int32) * v9) + v12) - 48)) fun M13 =>
    cx_get M13 60 13 fun v14 =>
    cx_put M13 60 13 (v14 + 1) fun M15 =>
    r_123 M15)
set_option maxRecDepth 100000 in
theorem tw_stepOn_123b_v {l : Launch} {g : cx_G} {adr : Nat → Nat} {X : cx_X} {N : Nat} {r_123 : cx_M → Option cx_R} (H : tw_H g adr) (hr_123 : ∀ (M : cx_M) (rs : cx_R), r_123 M = some rs → cx_V l (g) X sX10_stepOn cX10_stepOn 123 [(0, .ref (adr 60))] [] M 0 0 rs) (M : cx_M) (rs : cx_R) (h : tw_stepOn_123b N r_123 M = some rs) : cx_V l (g) X sX10_stepOn cX10_stepOn 123 [(0, .ref (adr 60))] [] M 0 0 rs := by
  unfold tw_stepOn_123b at h
  refine cx_aload_n 0 dX10_stepOn_123 rfl ?_
  refine cx_aload_n 0 dX10_stepOn_124 rfl ?_
  refine cx_getI h (tw_F13 H) q2403 dX10_stepOn_125 (fun v1 h => ?_)
  refine cx_cVi [.int v1] [] h (fun rs' h' => tw_byteAt_m H M v1 rs' h') (tw_rc H) dX10_stepOn_128 g_X10_141 hg_X10_141 ⟨cx_le rfl, cx_le rfl⟩ rfl ⟨rfl, rfl⟩ ⟨cx_le rfl, cx_le rfl⟩ rfl (cx_le rfl) (fun M2 v3 h => ?_)
  refine cx_cSi [.int v3] [] h (fun rs' h' => tw_isDigit_m H M2 v3 rs' h') dX10_stepOn_131 g_X10_155 hg_X10_155 ⟨cx_le rfl, cx_le rfl⟩ rfl ⟨rfl, rfl⟩ ⟨cx_le rfl, cx_le rfl⟩ rfl (cx_le rfl) (fun M4 v5 h => ?_)
  refine cx_if_eq 178 h dX10_stepOn_134 rfl (fun h => ?_) (fun h => ?_)
  · refine cx_aload_n 0 dX10_stepOn_178 rfl ?_
    refine cx_iconst 2 dX10_stepOn_179 cx_ic_2 ?_
    refine cx_putI h (tw_F15 H) rfl rfl rfl q2405 dX10_stepOn_180 (fun M6 h => ?_)
    refine cx_goto 212 dX10_stepOn_183 rfl ?_
    refine cx_aload_n 0 dX10_stepOn_212 rfl ?_
    refine cx_aload_n 0 dX10_stepOn_213 rfl ?_
    refine cx_getI h (tw_F13 H) q2403 dX10_stepOn_214 (fun v7 h => ?_)
    refine cx_putI h (tw_F18 H) rfl rfl rfl q2408 dX10_stepOn_217 (fun M8 h => ?_)
    exact cx_vret h rfl rfl (cx_le rfl) (cx_le rfl) dX10_stepOn_220
  · refine cx_aload_n 0 dX10_stepOn_137 rfl ?_
    refine cx_ldc 100000 dX10_stepOn_138 q2601 ?_
    refine cx_bipush 10 dX10_stepOn_140 cx_bp_10 ?_
    refine cx_aload_n 0 dX10_stepOn_142 rfl ?_
    refine cx_getI h (tw_F16 H) q2406 dX10_stepOn_143 (fun v9 h => ?_)
    refine cx_imul dX10_stepOn_146 ?_
    refine cx_aload_n 0 dX10_stepOn_147 rfl ?_
    refine cx_aload_n 0 dX10_stepOn_148 rfl ?_
    refine cx_getI h (tw_F13 H) q2403 dX10_stepOn_149 (fun v10 h => ?_)
    refine cx_cVi [.int v10] [.int ((10 : Int32) * v9), .int 100000, .ref (adr 60)] h (fun rs' h' => tw_byteAt_m H M4 v10 rs' h') (tw_rc H) dX10_stepOn_152 g_X10_141 hg_X10_141 ⟨cx_le rfl, cx_le rfl⟩ rfl ⟨rfl, rfl⟩ ⟨cx_le rfl, cx_le rfl⟩ rfl (cx_le rfl) (fun M11 v12 h => ?_)
    refine cx_iadd dX10_stepOn_155 ?_
    refine cx_bipush 48 dX10_stepOn_156 cx_bp_48 ?_
    refine cx_isub dX10_stepOn_158 ?_
    refine cx_mmin dX10_stepOn_159 q2602 (cx_le rfl) (cx_le rfl) (cx_le rfl) (cx_le rfl) ?_
    refine cx_putI h (tw_F16 H) rfl rfl rfl q2406 dX10_stepOn_162 (fun M13 h => ?_)
    refine cx_aload_n 0 dX10_stepOn_165 rfl ?_
    refine cx_dup dX10_stepOn_166 rfl ?_
    refine cx_getI h (tw_F13 H) q2403 dX10_stepOn_167 (fun v14 h => ?_)
    refine cx_iconst 1 dX10_stepOn_170 cx_ic_1 ?_
    refine cx_iadd dX10_stepOn_171 ?_
    refine cx_putI h (tw_F13 H) rfl rfl rfl q2403 dX10_stepOn_172 (fun M15 h => ?_)
    refine cx_goto 123 dX10_stepOn_175 rfl ?_
    exact hr_123 M15 _ h
noncomputable def tw_stepOn_123 (N : Nat) : Nat → cx_M → Option cx_R :=
  cx_fix (fun _ => none) (fun r_123 => tw_stepOn_123b N r_123)
theorem tw_stepOn_123_v {l : Launch} {g : cx_G} {adr : Nat → Nat} {X : cx_X} {N : Nat} (H : tw_H g adr) : ∀ (n : Nat) (M : cx_M) (rs : cx_R), tw_stepOn_123 N n M = some rs → cx_V l (g) X sX10_stepOn cX10_stepOn 123 [(0, .ref (adr 60))] [] M 0 0 rs :=
  cx_fixI (fun (r : cx_M → Option cx_R) => ∀ (M : cx_M) (rs : cx_R), r M = some rs → cx_V l (g) X sX10_stepOn cX10_stepOn 123 [(0, .ref (adr 60))] [] M 0 0 rs) (fun _ _ h => by cases h) (fun r hr M rs h => tw_stepOn_123b_v H hr M rs h)
noncomputable def tw_stepOn_209 (N : Nat) (M : cx_M) (z1 : Int32) : Option cx_R :=
  cx_put M 60 15 z1 fun M1 =>
  cx_get M1 60 13 fun v2 =>
  cx_put M1 60 18 v2 fun M3 =>
  some (M3, 0, 0)
set_option maxRecDepth 100000 in
theorem tw_stepOn_209_v {l : Launch} {g : cx_G} {adr : Nat → Nat} {X : cx_X} {N : Nat} (H : tw_H g adr) (M : cx_M) (z1 : Int32) (rs : cx_R) (h : tw_stepOn_209 N M z1 = some rs) : cx_V l (g) X sX10_stepOn cX10_stepOn 209 [(0, .ref (adr 60))] [.int z1, .ref (adr 60)] M 0 0 rs := by
  unfold tw_stepOn_209 at h
  refine cx_putI h (tw_F15 H) rfl rfl rfl q2405 dX10_stepOn_209 (fun M1 h => ?_)
  refine cx_aload_n 0 dX10_stepOn_212 rfl ?_
  refine cx_aload_n 0 dX10_stepOn_213 rfl ?_
  refine cx_getI h (tw_F13 H) q2403 dX10_stepOn_214 (fun v2 h => ?_)
  refine cx_putI h (tw_F18 H) rfl rfl rfl q2408 dX10_stepOn_217 (fun M3 h => ?_)
  exact cx_vret h rfl rfl (cx_le rfl) (cx_le rfl) dX10_stepOn_220
noncomputable def tw_stepOn_0b (N : Nat) (r_0 : cx_M → Option cx_R) (M : cx_M) : Option cx_R :=
  cx_get M 60 13 fun v1 =>
  cx_cal (tw_byteAt N M v1) fun M2 v3 =>
  if v3 = 32 then (
    tw_stepOn_26 N r_0 M2)
  else (
    cx_get M2 60 13 fun v4 =>
    cx_cal (tw_byteAt N M2 v4) fun M5 v6 =>
    if v6 = 10 then (
      tw_stepOn_26 N r_0 M5)
    else (
      cx_get M5 60 13 fun v7 =>
      cx_put M5 60 17 v7 fun M8 =>
      cx_get M8 60 13 fun v9 =>
      cx_cal (tw_byteAt N M8 v9) fun M10 v11 =>
      if v11 = (-1) then (
        cx_put M10 60 15 0 fun M21 =>
        cx_get M21 60 13 fun v22 =>
        cx_put M21 60 18 v22 fun M23 =>
        some (M23, 0, 0))
      else (
        cx_cal (tw_isLetter N M10 v11) fun M12 v13 =>
        if v13 = 0 then (
          cx_cal (tw_isDigit N M12 v11) fun M14 v15 =>
          if v15 = 0 then (
            cx_get M14 60 13 fun v16 =>
            cx_put M14 60 13 (v16 + 1) fun M17 =>
            cx_cal (tw_isMark N M17 v11) fun M18 v19 =>
            if v19 = 0 then (
              tw_stepOn_209 N M18 4)
            else (
              tw_stepOn_209 N M18 3))
          else (
            cx_put M14 60 16 0 fun M20 =>
            tw_stepOn_123 N N M20))
        else (
          tw_stepOn_76 N N M12))))
set_option maxRecDepth 100000 in
theorem tw_stepOn_0b_v {l : Launch} {g : cx_G} {adr : Nat → Nat} {X : cx_X} {N : Nat} {r_0 : cx_M → Option cx_R} (H : tw_H g adr) (hr_0 : ∀ (M : cx_M) (rs : cx_R), r_0 M = some rs → cx_V l (g) X sX10_stepOn cX10_stepOn 0 [(0, .ref (adr 60))] [] M 0 0 rs) (M : cx_M) (rs : cx_R) (h : tw_stepOn_0b N r_0 M = some rs) : cx_V l (g) X sX10_stepOn cX10_stepOn 0 [(0, .ref (adr 60))] [] M 0 0 rs := by
  unfold tw_stepOn_0b at h
  refine cx_aload_n 0 dX10_stepOn_0 rfl ?_
  refine cx_aload_n 0 dX10_stepOn_1 rfl ?_
  refine cx_getI h (tw_F13 H) q2403 dX10_stepOn_2 (fun v1 h => ?_)
  refine cx_cVi [.int v1] [] h (fun rs' h' => tw_byteAt_m H M v1 rs' h') (tw_rc H) dX10_stepOn_5 g_X10_141 hg_X10_141 ⟨cx_le rfl, cx_le rfl⟩ rfl ⟨rfl, rfl⟩ ⟨cx_le rfl, cx_le rfl⟩ rfl (cx_le rfl) (fun M2 v3 h => ?_)
  refine cx_bipush 32 dX10_stepOn_8 cx_bp_32 ?_
  refine cx_icmp_eq 26 h dX10_stepOn_10 rfl (fun h => ?_) (fun h => ?_)
  · exact tw_stepOn_26_v H hr_0 M2 _ h
  · refine cx_aload_n 0 dX10_stepOn_13 rfl ?_
    refine cx_aload_n 0 dX10_stepOn_14 rfl ?_
    refine cx_getI h (tw_F13 H) q2403 dX10_stepOn_15 (fun v4 h => ?_)
    refine cx_cVi [.int v4] [] h (fun rs' h' => tw_byteAt_m H M2 v4 rs' h') (tw_rc H) dX10_stepOn_18 g_X10_141 hg_X10_141 ⟨cx_le rfl, cx_le rfl⟩ rfl ⟨rfl, rfl⟩ ⟨cx_le rfl, cx_le rfl⟩ rfl (cx_le rfl) (fun M5 v6 h => ?_)
    refine cx_bipush 10 dX10_stepOn_21 cx_bp_10 ?_
    refine cx_icmp_ne 39 h dX10_stepOn_23 rfl (fun h => ?_) (fun h => ?_)
    · refine cx_aload_n 0 dX10_stepOn_39 rfl ?_
      refine cx_aload_n 0 dX10_stepOn_40 rfl ?_
      refine cx_getI h (tw_F13 H) q2403 dX10_stepOn_41 (fun v7 h => ?_)
      refine cx_putI h (tw_F17 H) rfl rfl rfl q2407 dX10_stepOn_44 (fun M8 h => ?_)
      refine cx_aload_n 0 dX10_stepOn_47 rfl ?_
      refine cx_aload_n 0 dX10_stepOn_48 rfl ?_
      refine cx_getI h (tw_F13 H) q2403 dX10_stepOn_49 (fun v9 h => ?_)
      refine cx_cVi [.int v9] [] h (fun rs' h' => tw_byteAt_m H M8 v9 rs' h') (tw_rc H) dX10_stepOn_52 g_X10_141 hg_X10_141 ⟨cx_le rfl, cx_le rfl⟩ rfl ⟨rfl, rfl⟩ ⟨cx_le rfl, cx_le rfl⟩ rfl (cx_le rfl) (fun M10 v11 h => ?_)
      refine cx_istore_n [(1, .int v11), (0, .ref (adr 60))] dX10_stepOn_55 (cx_lt rfl) rfl ?_
      refine cx_iload_n 0 dX10_stepOn_56 rfl ?_
      refine cx_iconst (-1) dX10_stepOn_57 cx_ic_m1 ?_
      refine cx_icmp_ne 69 h dX10_stepOn_58 rfl (fun h => ?_) (fun h => ?_)
      · refine cx_iload_n 0 dX10_stepOn_69 rfl ?_
        refine cx_cSi [.int v11] [] h (fun rs' h' => tw_isLetter_m H M10 v11 rs' h') dX10_stepOn_70 g_X10_151 hg_X10_151 ⟨cx_le rfl, cx_le rfl⟩ rfl ⟨rfl, rfl⟩ ⟨cx_le rfl, cx_le rfl⟩ rfl (cx_le rfl) (fun M12 v13 h => ?_)
        refine cx_if_eq 111 h dX10_stepOn_73 rfl (fun h => ?_) (fun h => ?_)
        · refine cx_iload_n 0 dX10_stepOn_111 rfl ?_
          refine cx_cSi [.int v11] [] h (fun rs' h' => tw_isDigit_m H M12 v11 rs' h') dX10_stepOn_112 g_X10_155 hg_X10_155 ⟨cx_le rfl, cx_le rfl⟩ rfl ⟨rfl, rfl⟩ ⟨cx_le rfl, cx_le rfl⟩ rfl (cx_le rfl) (fun M14 v15 h => ?_)
          refine cx_if_eq 186 h dX10_stepOn_115 rfl (fun h => ?_) (fun h => ?_)
          · refine cx_aload_n 1 dX10_stepOn_186 rfl ?_
            refine cx_dup dX10_stepOn_187 rfl ?_
            refine cx_getI h (tw_F13 H) q2403 dX10_stepOn_188 (fun v16 h => ?_)
            refine cx_iconst 1 dX10_stepOn_191 cx_ic_1 ?_
            refine cx_iadd dX10_stepOn_192 ?_
            refine cx_putI h (tw_F13 H) rfl rfl rfl q2403 dX10_stepOn_193 (fun M17 h => ?_)
            refine cx_aload_n 1 dX10_stepOn_196 rfl ?_
            refine cx_iload_n 0 dX10_stepOn_197 rfl ?_
            refine cx_cSi [.int v11] [.ref (adr 60)] h (fun rs' h' => tw_isMark_m H M17 v11 rs' h') dX10_stepOn_198 g_X10_162 hg_X10_162 ⟨cx_le rfl, cx_le rfl⟩ rfl ⟨rfl, rfl⟩ ⟨cx_le rfl, cx_le rfl⟩ rfl (cx_le rfl) (fun M18 v19 h => ?_)
            refine cx_if_eq 208 h dX10_stepOn_201 rfl (fun h => ?_) (fun h => ?_)
            · refine cx_iconst 4 dX10_stepOn_208 cx_ic_4 ?_
              refine cx_sub (lv' := [(0, .ref (adr 60))]) [1] rfl ?_
              exact tw_stepOn_209_v H M18 4 _ h
            · refine cx_iconst 3 dX10_stepOn_204 cx_ic_3 ?_
              refine cx_goto 209 dX10_stepOn_205 rfl ?_
              refine cx_sub (lv' := [(0, .ref (adr 60))]) [1] rfl ?_
              exact tw_stepOn_209_v H M18 3 _ h
          · refine cx_aload_n 1 dX10_stepOn_118 rfl ?_
            refine cx_iconst 0 dX10_stepOn_119 cx_ic_0 ?_
            refine cx_putI h (tw_F16 H) rfl rfl rfl q2406 dX10_stepOn_120 (fun M20 h => ?_)
            refine cx_sub (lv' := [(0, .ref (adr 60))]) [1] rfl ?_
            exact tw_stepOn_123_v H N M20 _ h
        · refine cx_sub (lv' := [(0, .ref (adr 60))]) [1] rfl ?_
          exact tw_stepOn_76_v H N M12 _ h
      · refine cx_aload_n 1 dX10_stepOn_61 rfl ?_
        refine cx_iconst 0 dX10_stepOn_62 cx_ic_0 ?_
        refine cx_putI h (tw_F15 H) rfl rfl rfl q2405 dX10_stepOn_63 (fun M21 h => ?_)
        refine cx_goto 212 dX10_stepOn_66 rfl ?_
        refine cx_aload_n 1 dX10_stepOn_212 rfl ?_
        refine cx_aload_n 1 dX10_stepOn_213 rfl ?_
        refine cx_getI h (tw_F13 H) q2403 dX10_stepOn_214 (fun v22 h => ?_)
        refine cx_putI h (tw_F18 H) rfl rfl rfl q2408 dX10_stepOn_217 (fun M23 h => ?_)
        exact cx_vret h rfl rfl (cx_le rfl) (cx_le rfl) dX10_stepOn_220
    · exact tw_stepOn_26_v H hr_0 M5 _ h
noncomputable def tw_stepOn_0 (N : Nat) : Nat → cx_M → Option cx_R :=
  cx_fix (fun _ => none) (fun r_0 => tw_stepOn_0b N r_0)
theorem tw_stepOn_0_v {l : Launch} {g : cx_G} {adr : Nat → Nat} {X : cx_X} {N : Nat} (H : tw_H g adr) : ∀ (n : Nat) (M : cx_M) (rs : cx_R), tw_stepOn_0 N n M = some rs → cx_V l (g) X sX10_stepOn cX10_stepOn 0 [(0, .ref (adr 60))] [] M 0 0 rs :=
  cx_fixI (fun (r : cx_M → Option cx_R) => ∀ (M : cx_M) (rs : cx_R), r M = some rs → cx_V l (g) X sX10_stepOn cX10_stepOn 0 [(0, .ref (adr 60))] [] M 0 0 rs) (fun _ _ h => by cases h) (fun r hr M rs h => tw_stepOn_0b_v H hr M rs h)
noncomputable def tw_stepOn (N : Nat) (M : cx_M) : Option cx_R := tw_stepOn_0 N N M
theorem tw_stepOn_m {l : Launch} {g : cx_G} {adr : Nat → Nat} {N : Nat} (H : tw_H g adr) (M : cx_M) (rs : cx_R) (h : tw_stepOn N M = some rs) : cx_Met l (g) yX10_stepOn cX10_stepOn sX10_stepOn [.ref (adr 60)] M rs :=
  cx_met (by decide +kernel) rfl rfl (lv := [(0, .ref (adr 60))]) rfl (cx_le rfl) (fun X => cx_sub (lv' := [(0, .ref (adr 60))]) [0] rfl (tw_stepOn_0_v H N M rs h))

abbrev sX10_which : cx_S := (3, RX10, cx_rI, { frames := 5, cells := 0, slots := 0, locals := 108 }, some .int, false)
noncomputable def tw_which_2b (N : Nat) (w : Nat) (r_2 : cx_M → Int32 → Option cx_R) (M : cx_M) (x2 : Int32) : Option cx_R :=
  if (nI (twQn w)) ≤ x2 then (
    some (M, (-1), 0))
  else (
    cx_ix x2 (twQn w) fun j1 =>
    cx_cal (tw_is N (4 * w + j1) M) fun M2 v3 =>
    if v3 = 0 then (
      cx_let (x2 + 1) fun v4 =>
      r_2 M2 v4)
    else (
      some (M2, x2, 0)))
set_option maxRecDepth 100000 in
theorem tw_which_2b_v {l : Launch} {g : cx_G} {adr : Nat → Nat} {X : cx_X} {N : Nat} {w : Nat} {r_2 : cx_M → Int32 → Option cx_R} (H : tw_H g adr) (hw : w < 2) (hr_2 : ∀ (M : cx_M) (x2 : Int32) (rs : cx_R), r_2 M x2 = some rs → cx_V l (g) X sX10_which cX10_which 2 [(0, .ref (adr 60)), (1, .ref (adr w)), (2, .int x2)] [] M 0 0 rs) (M : cx_M) (x2 : Int32) (rs : cx_R) (h : tw_which_2b N w r_2 M x2 = some rs) : cx_V l (g) X sX10_which cX10_which 2 [(0, .ref (adr 60)), (1, .ref (adr w)), (2, .int x2)] [] M 0 0 rs := by
  unfold tw_which_2b at h
  refine cx_iload_n 2 dX10_which_2 rfl ?_
  refine cx_aload_n 1 dX10_which_3 rfl ?_
  refine cx_alenQ (nI (twQn w)) (tw_Q H w hw) rfl dX10_which_4 ?_
  refine cx_icmp_ge 26 h dX10_which_5 rfl (fun h => ?_) (fun h => ?_)
  · refine cx_iconst (-1) dX10_which_26 cx_ic_m1 ?_
    exact cx_iret h rfl rfl (cx_le rfl) (cx_le rfl) dX10_which_27
  · refine cx_aload_n 0 dX10_which_8 rfl ?_
    refine cx_aload_n 1 dX10_which_9 rfl ?_
    refine cx_iload_n 2 dX10_which_10 rfl ?_
    refine cx_ldQ h (tw_Q H w hw) dX10_which_11 (fun j1 hj1 h => ?_)
    refine cx_cVi [.ref (adr (1000000 + (4 * w + j1)))] [] h (fun rs' h' => tw_is_m H (tw_q16 hw hj1) M rs' h') (tw_rc H) dX10_which_12 g_X10_182 hg_X10_182 ⟨cx_le rfl, cx_le rfl⟩ rfl ⟨rfl, rfl⟩ ⟨cx_le rfl, cx_le rfl⟩ rfl (cx_le rfl) (fun M2 v3 h => ?_)
    refine cx_if_eq 20 h dX10_which_15 rfl (fun h => ?_) (fun h => ?_)
    · refine cx_iinc 2 1 (fun v4 => [(2, .int v4), (0, .ref (adr 60)), (1, .ref (adr w))]) h dX10_which_20 rfl cx_ic_1 (cx_lt rfl) (fun _ => rfl) (fun v4 h => ?_)
      refine cx_goto 2 dX10_which_23 rfl ?_
      refine cx_sub (lv' := [(0, .ref (adr 60)), (1, .ref (adr w)), (2, .int v4)]) [1, 2, 0] rfl ?_
      exact hr_2 M2 v4 _ h
    · refine cx_iload_n 2 dX10_which_18 rfl ?_
      exact cx_iret h rfl rfl (cx_le rfl) (cx_le rfl) dX10_which_19
noncomputable def tw_which_2 (N : Nat) (w : Nat) : Nat → cx_M → Int32 → Option cx_R :=
  cx_fix (fun _ _ => none) (fun r_2 => tw_which_2b N w r_2)
theorem tw_which_2_v {l : Launch} {g : cx_G} {adr : Nat → Nat} {X : cx_X} {N : Nat} {w : Nat} (H : tw_H g adr) (hw : w < 2) : ∀ (n : Nat) (M : cx_M) (x2 : Int32) (rs : cx_R), tw_which_2 N w n M x2 = some rs → cx_V l (g) X sX10_which cX10_which 2 [(0, .ref (adr 60)), (1, .ref (adr w)), (2, .int x2)] [] M 0 0 rs :=
  cx_fixI (fun (r : cx_M → Int32 → Option cx_R) => ∀ (M : cx_M) (x2 : Int32) (rs : cx_R), r M x2 = some rs → cx_V l (g) X sX10_which cX10_which 2 [(0, .ref (adr 60)), (1, .ref (adr w)), (2, .int x2)] [] M 0 0 rs) (fun _ _ _ h => by cases h) (fun r hr M x2 rs h => tw_which_2b_v H hw hr M x2 rs h)
noncomputable def tw_which_0 (N : Nat) (w : Nat) (M : cx_M) : Option cx_R :=
  tw_which_2 N w N M 0
set_option maxRecDepth 100000 in
theorem tw_which_0_v {l : Launch} {g : cx_G} {adr : Nat → Nat} {X : cx_X} {N : Nat} {w : Nat} (H : tw_H g adr) (hw : w < 2) (M : cx_M) (rs : cx_R) (h : tw_which_0 N w M = some rs) : cx_V l (g) X sX10_which cX10_which 0 [(0, .ref (adr 60)), (1, .ref (adr w))] [] M 0 0 rs := by
  unfold tw_which_0 at h
  refine cx_iconst 0 dX10_which_0 cx_ic_0 ?_
  refine cx_istore_n [(2, .int 0), (0, .ref (adr 60)), (1, .ref (adr w))] dX10_which_1 (cx_lt rfl) rfl ?_
  refine cx_sub (lv' := [(0, .ref (adr 60)), (1, .ref (adr w)), (2, .int 0)]) [1, 2, 0] rfl ?_
  exact tw_which_2_v H hw N M 0 _ h
noncomputable def tw_which (N : Nat) (w : Nat) (M : cx_M) : Option cx_R := tw_which_0 N w M
theorem tw_which_m {l : Launch} {g : cx_G} {adr : Nat → Nat} {N : Nat} {w : Nat} (H : tw_H g adr) (hw : w < 2) (M : cx_M) (rs : cx_R) (h : tw_which N w M = some rs) : cx_Met l (g) yX10_which cX10_which sX10_which [.ref (adr 60), .ref (adr w)] M rs :=
  cx_met (by decide +kernel) rfl rfl (lv := [(0, .ref (adr 60)), (1, .ref (adr w))]) rfl (cx_le rfl) (fun X => cx_sub (lv' := [(0, .ref (adr 60)), (1, .ref (adr w))]) [0, 1] rfl (tw_which_0_v H hw M rs h))

abbrev sX10_wrong : cx_S := (2, RX10, cx_rV, { frames := 0, cells := 0, slots := 0, locals := 0 }, none, false)
noncomputable def tw_wrong_0 (N : Nat) (M : cx_M) (x1 : Int32) : Option cx_R :=
  cx_get M 60 19 fun v1 =>
  if v1 = 0 then (
    cx_put M 60 19 x1 fun M2 =>
    cx_get M2 60 17 fun v3 =>
    cx_put M2 60 20 v3 fun M4 =>
    some (M4, 0, 0))
  else (
    some (M, 0, 0))
set_option maxRecDepth 100000 in
theorem tw_wrong_0_v {l : Launch} {g : cx_G} {adr : Nat → Nat} {X : cx_X} {N : Nat} (H : tw_H g adr) (M : cx_M) (x1 : Int32) (rs : cx_R) (h : tw_wrong_0 N M x1 = some rs) : cx_V l (g) X sX10_wrong cX10_wrong 0 [(0, .ref (adr 60)), (1, .int x1)] [] M 0 0 rs := by
  unfold tw_wrong_0 at h
  refine cx_aload_n 0 dX10_wrong_0 rfl ?_
  refine cx_getI h (tw_F19 H) q2409 dX10_wrong_1 (fun v1 h => ?_)
  refine cx_if_eq 8 h dX10_wrong_4 rfl (fun h => ?_) (fun h => ?_)
  · refine cx_aload_n 0 dX10_wrong_8 rfl ?_
    refine cx_iload_n 1 dX10_wrong_9 rfl ?_
    refine cx_putI h (tw_F19 H) rfl rfl rfl q2409 dX10_wrong_10 (fun M2 h => ?_)
    refine cx_aload_n 0 dX10_wrong_13 rfl ?_
    refine cx_aload_n 0 dX10_wrong_14 rfl ?_
    refine cx_getI h (tw_F17 H) q2407 dX10_wrong_15 (fun v3 h => ?_)
    refine cx_putI h (tw_F20 H) rfl rfl rfl q2410 dX10_wrong_18 (fun M4 h => ?_)
    exact cx_vret h rfl rfl (cx_le rfl) (cx_le rfl) dX10_wrong_21
  · exact cx_vret h rfl rfl (cx_le rfl) (cx_le rfl) dX10_wrong_7
noncomputable def tw_wrong (N : Nat) (M : cx_M) (x1 : Int32) : Option cx_R := tw_wrong_0 N M x1
theorem tw_wrong_m {l : Launch} {g : cx_G} {adr : Nat → Nat} {N : Nat} (H : tw_H g adr) (M : cx_M) (x1 : Int32) (rs : cx_R) (h : tw_wrong N M x1 = some rs) : cx_Met l (g) yX10_wrong cX10_wrong sX10_wrong [.ref (adr 60), .int x1] M rs :=
  cx_met (by decide +kernel) rfl rfl (lv := [(0, .ref (adr 60)), (1, .int x1)]) rfl (cx_le rfl) (fun X => cx_sub (lv' := [(0, .ref (adr 60)), (1, .int x1)]) [0, 1] rfl (tw_wrong_0_v H M x1 rs h))

abbrev sX10_readNumber : cx_S := (4, RX10, cx_rI, { frames := 2, cells := 0, slots := 0, locals := 42 }, some .int, false)
noncomputable def tw_readNumber_74 (N : Nat) (M : cx_M) (z0 : Int32) : Option cx_R :=
  cx_get M 60 19 fun v1 =>
  if v1 = 0 then (
    cx_cal (tw_stepOn N M) fun M2 _ =>
    some (M2, z0, 0))
  else (
    some (M, z0, 0))
set_option maxRecDepth 100000 in
theorem tw_readNumber_74_v {l : Launch} {g : cx_G} {adr : Nat → Nat} {X : cx_X} {N : Nat} (H : tw_H g adr) (M : cx_M) (z0 : Int32) (rs : cx_R) (h : tw_readNumber_74 N M z0 = some rs) : cx_V l (g) X sX10_readNumber cX10_readNumber 74 [(0, .ref (adr 60))] [.int z0] M 0 0 rs := by
  unfold tw_readNumber_74 at h
  refine cx_istore_n [(3, .int z0), (0, .ref (adr 60))] dX10_readNumber_74 (cx_lt rfl) rfl ?_
  refine cx_aload_n 1 dX10_readNumber_75 rfl ?_
  refine cx_getI h (tw_F19 H) q2409 dX10_readNumber_76 (fun v1 h => ?_)
  refine cx_if_ne 86 h dX10_readNumber_79 rfl (fun h => ?_) (fun h => ?_)
  · refine cx_iload_n 0 dX10_readNumber_86 rfl ?_
    exact cx_iret h rfl rfl (cx_le rfl) (cx_le rfl) dX10_readNumber_87
  · refine cx_aload_n 1 dX10_readNumber_82 rfl ?_
    refine cx_cVv [] [] h (fun rs' h' => tw_stepOn_m H M rs' h') (tw_rc H) dX10_readNumber_83 g_X10_193 hg_X10_193 ⟨cx_le rfl, cx_le rfl⟩ rfl ⟨rfl, rfl⟩ ⟨cx_le rfl, cx_le rfl⟩ rfl (cx_le rfl) (fun M2 _ h => ?_)
    refine cx_iload_n 0 dX10_readNumber_86 rfl ?_
    exact cx_iret h rfl rfl (cx_le rfl) (cx_le rfl) dX10_readNumber_87
noncomputable def tw_readNumber_59 (N : Nat) (M : cx_M) : Option cx_R :=
  cx_get M 60 19 fun v1 =>
  if v1 = 0 then (
    cx_get M 60 16 fun v2 =>
    tw_readNumber_74 N M v2)
  else (
    tw_readNumber_74 N M 0)
set_option maxRecDepth 100000 in
theorem tw_readNumber_59_v {l : Launch} {g : cx_G} {adr : Nat → Nat} {X : cx_X} {N : Nat} (H : tw_H g adr) (M : cx_M) (rs : cx_R) (h : tw_readNumber_59 N M = some rs) : cx_V l (g) X sX10_readNumber cX10_readNumber 59 [(0, .ref (adr 60))] [] M 0 0 rs := by
  unfold tw_readNumber_59 at h
  refine cx_aload_n 0 dX10_readNumber_59 rfl ?_
  refine cx_getI h (tw_F19 H) q2409 dX10_readNumber_60 (fun v1 h => ?_)
  refine cx_if_ne 73 h dX10_readNumber_63 rfl (fun h => ?_) (fun h => ?_)
  · refine cx_iconst 0 dX10_readNumber_73 cx_ic_0 ?_
    exact tw_readNumber_74_v H M 0 _ h
  · refine cx_aload_n 0 dX10_readNumber_66 rfl ?_
    refine cx_getI h (tw_F16 H) q2406 dX10_readNumber_67 (fun v2 h => ?_)
    refine cx_goto 74 dX10_readNumber_70 rfl ?_
    exact tw_readNumber_74_v H M v2 _ h
noncomputable def tw_readNumber_54 (N : Nat) (M : cx_M) : Option cx_R :=
  cx_cal (tw_wrong N M 2) fun M1 _ =>
  tw_readNumber_59 N M1
set_option maxRecDepth 100000 in
theorem tw_readNumber_54_v {l : Launch} {g : cx_G} {adr : Nat → Nat} {X : cx_X} {N : Nat} (H : tw_H g adr) (M : cx_M) (rs : cx_R) (h : tw_readNumber_54 N M = some rs) : cx_V l (g) X sX10_readNumber cX10_readNumber 54 [(0, .ref (adr 60))] [] M 0 0 rs := by
  unfold tw_readNumber_54 at h
  refine cx_aload_n 0 dX10_readNumber_54 rfl ?_
  refine cx_iconst 2 dX10_readNumber_55 cx_ic_2 ?_
  refine cx_cVv [.int 2] [] h (fun rs' h' => tw_wrong_m H M 2 rs' h') (tw_rc H) dX10_readNumber_56 g_X10_189 hg_X10_189 ⟨cx_le rfl, cx_le rfl⟩ rfl ⟨rfl, rfl⟩ ⟨cx_le rfl, cx_le rfl⟩ rfl (cx_le rfl) (fun M1 _ h => ?_)
  exact tw_readNumber_59_v H M1 _ h
noncomputable def tw_readNumber_0 (N : Nat) (M : cx_M) (x1 : Int32) (x2 : Int32) : Option cx_R :=
  cx_get M 60 19 fun v1 =>
  if v1 = 0 then (
    cx_get M 60 15 fun v2 =>
    if v2 = 2 then (
      cx_get M 60 18 fun v3 =>
      cx_get M 60 17 fun v4 =>
      if 4 < (v3 - v4) then (
        tw_readNumber_54 N M)
      else (
        cx_get M 60 16 fun v5 =>
        if v5 < x1 then (
          tw_readNumber_54 N M)
        else (
          cx_get M 60 16 fun v6 =>
          if v6 ≤ x2 then (
            tw_readNumber_59 N M)
          else (
            tw_readNumber_54 N M))))
    else (
      cx_cal (tw_wrong N M 1) fun M7 _ =>
      tw_readNumber_59 N M7))
  else (
    some (M, 0, 0))
set_option maxRecDepth 100000 in
theorem tw_readNumber_0_v {l : Launch} {g : cx_G} {adr : Nat → Nat} {X : cx_X} {N : Nat} (H : tw_H g adr) (M : cx_M) (x1 : Int32) (x2 : Int32) (rs : cx_R) (h : tw_readNumber_0 N M x1 x2 = some rs) : cx_V l (g) X sX10_readNumber cX10_readNumber 0 [(0, .ref (adr 60)), (1, .int x1), (2, .int x2)] [] M 0 0 rs := by
  unfold tw_readNumber_0 at h
  refine cx_aload_n 0 dX10_readNumber_0 rfl ?_
  refine cx_getI h (tw_F19 H) q2409 dX10_readNumber_1 (fun v1 h => ?_)
  refine cx_if_eq 9 h dX10_readNumber_4 rfl (fun h => ?_) (fun h => ?_)
  · refine cx_aload_n 0 dX10_readNumber_9 rfl ?_
    refine cx_getI h (tw_F15 H) q2405 dX10_readNumber_10 (fun v2 h => ?_)
    refine cx_iconst 2 dX10_readNumber_13 cx_ic_2 ?_
    refine cx_icmp_eq 25 h dX10_readNumber_14 rfl (fun h => ?_) (fun h => ?_)
    · refine cx_aload_n 0 dX10_readNumber_25 rfl ?_
      refine cx_getI h (tw_F18 H) q2408 dX10_readNumber_26 (fun v3 h => ?_)
      refine cx_aload_n 0 dX10_readNumber_29 rfl ?_
      refine cx_getI h (tw_F17 H) q2407 dX10_readNumber_30 (fun v4 h => ?_)
      refine cx_isub dX10_readNumber_33 ?_
      refine cx_iconst 4 dX10_readNumber_34 cx_ic_4 ?_
      refine cx_icmp_gt 54 h dX10_readNumber_35 rfl (fun h => ?_) (fun h => ?_)
      · refine cx_sub (lv' := [(0, .ref (adr 60))]) [0] rfl ?_
        exact tw_readNumber_54_v H M _ h
      · refine cx_aload_n 0 dX10_readNumber_38 rfl ?_
        refine cx_getI h (tw_F16 H) q2406 dX10_readNumber_39 (fun v5 h => ?_)
        refine cx_iload_n 1 dX10_readNumber_42 rfl ?_
        refine cx_icmp_lt 54 h dX10_readNumber_43 rfl (fun h => ?_) (fun h => ?_)
        · refine cx_sub (lv' := [(0, .ref (adr 60))]) [0] rfl ?_
          exact tw_readNumber_54_v H M _ h
        · refine cx_aload_n 0 dX10_readNumber_46 rfl ?_
          refine cx_getI h (tw_F16 H) q2406 dX10_readNumber_47 (fun v6 h => ?_)
          refine cx_iload_n 2 dX10_readNumber_50 rfl ?_
          refine cx_icmp_le 59 h dX10_readNumber_51 rfl (fun h => ?_) (fun h => ?_)
          · refine cx_sub (lv' := [(0, .ref (adr 60))]) [0] rfl ?_
            exact tw_readNumber_59_v H M _ h
          · refine cx_sub (lv' := [(0, .ref (adr 60))]) [0] rfl ?_
            exact tw_readNumber_54_v H M _ h
    · refine cx_aload_n 0 dX10_readNumber_17 rfl ?_
      refine cx_iconst 1 dX10_readNumber_18 cx_ic_1 ?_
      refine cx_cVv [.int 1] [] h (fun rs' h' => tw_wrong_m H M 1 rs' h') (tw_rc H) dX10_readNumber_19 g_X10_189 hg_X10_189 ⟨cx_le rfl, cx_le rfl⟩ rfl ⟨rfl, rfl⟩ ⟨cx_le rfl, cx_le rfl⟩ rfl (cx_le rfl) (fun M7 _ h => ?_)
      refine cx_goto 59 dX10_readNumber_22 rfl ?_
      refine cx_sub (lv' := [(0, .ref (adr 60))]) [0] rfl ?_
      exact tw_readNumber_59_v H M7 _ h
  · refine cx_iconst 0 dX10_readNumber_7 cx_ic_0 ?_
    exact cx_iret h rfl rfl (cx_le rfl) (cx_le rfl) dX10_readNumber_8
noncomputable def tw_readNumber (N : Nat) (M : cx_M) (x1 : Int32) (x2 : Int32) : Option cx_R := tw_readNumber_0 N M x1 x2
theorem tw_readNumber_m {l : Launch} {g : cx_G} {adr : Nat → Nat} {N : Nat} (H : tw_H g adr) (M : cx_M) (x1 : Int32) (x2 : Int32) (rs : cx_R) (h : tw_readNumber N M x1 x2 = some rs) : cx_Met l (g) yX10_readNumber cX10_readNumber sX10_readNumber [.ref (adr 60), .int x1, .int x2] M rs :=
  cx_met (by decide +kernel) rfl rfl (lv := [(0, .ref (adr 60)), (1, .int x1), (2, .int x2)]) rfl (cx_le rfl) (fun X => cx_sub (lv' := [(0, .ref (adr 60)), (1, .int x1), (2, .int x2)]) [0, 1, 2] rfl (tw_readNumber_0_v H M x1 x2 rs h))

abbrev sX10_readWord : cx_S := (2, RX10, cx_rV, { frames := 3, cells := 0, slots := 0, locals := 65 }, none, false)
noncomputable def tw_readWord_83 (N : Nat) (r_8 : cx_M → Option cx_R) (M : cx_M) : Option cx_R :=
  cx_get M 60 19 fun v1 =>
  if v1 = 0 then (
    cx_get M 60 15 fun v2 =>
    if v2 = 2 then (
      r_8 M)
    else (
      some (M, 0, 0)))
  else (
    some (M, 0, 0))
set_option maxRecDepth 100000 in
theorem tw_readWord_83_v {l : Launch} {g : cx_G} {adr : Nat → Nat} {X : cx_X} {N : Nat} {r_8 : cx_M → Option cx_R} (H : tw_H g adr) (hr_8 : ∀ (M : cx_M) (rs : cx_R), r_8 M = some rs → cx_V l (g) X sX10_readWord cX10_readWord 8 [(0, .ref (adr 60))] [] M 0 0 rs) (M : cx_M) (rs : cx_R) (h : tw_readWord_83 N r_8 M = some rs) : cx_V l (g) X sX10_readWord cX10_readWord 83 [(0, .ref (adr 60))] [] M 0 0 rs := by
  unfold tw_readWord_83 at h
  refine cx_aload_n 0 dX10_readWord_83 rfl ?_
  refine cx_getI h (tw_F19 H) q2409 dX10_readWord_84 (fun v1 h => ?_)
  refine cx_if_ne 98 h dX10_readWord_87 rfl (fun h => ?_) (fun h => ?_)
  · exact cx_vret h rfl rfl (cx_le rfl) (cx_le rfl) dX10_readWord_98
  · refine cx_aload_n 0 dX10_readWord_90 rfl ?_
    refine cx_getI h (tw_F15 H) q2405 dX10_readWord_91 (fun v2 h => ?_)
    refine cx_iconst 2 dX10_readWord_94 cx_ic_2 ?_
    refine cx_icmp_eq 8 h dX10_readWord_95 rfl (fun h => ?_) (fun h => ?_)
    · exact hr_8 M _ h
    · exact cx_vret h rfl rfl (cx_le rfl) (cx_le rfl) dX10_readWord_98
noncomputable def tw_readWord_40 (N : Nat) (r_8 : cx_M → Option cx_R) (M : cx_M) : Option cx_R :=
  cx_cal (tw_readNumber N M 0 255) fun M1 v2 =>
  cx_get M1 60 19 fun v3 =>
  if v3 = 0 then (
    cx_get M1 3 17 fun v4 =>
    cx_st M1 4 32 ((16 : Int32) + v4) v2 fun M5 =>
    cx_get M5 3 17 fun v6 =>
    cx_put M5 3 17 (v6 + 1) fun M7 =>
    tw_readWord_83 N r_8 M7)
  else (
    tw_readWord_83 N r_8 M1)
set_option maxRecDepth 100000 in
theorem tw_readWord_40_v {l : Launch} {g : cx_G} {adr : Nat → Nat} {X : cx_X} {N : Nat} {r_8 : cx_M → Option cx_R} (H : tw_H g adr) (hr_8 : ∀ (M : cx_M) (rs : cx_R), r_8 M = some rs → cx_V l (g) X sX10_readWord cX10_readWord 8 [(0, .ref (adr 60))] [] M 0 0 rs) (M : cx_M) (rs : cx_R) (h : tw_readWord_40 N r_8 M = some rs) : cx_V l (g) X sX10_readWord cX10_readWord 40 [(0, .ref (adr 60))] [] M 0 0 rs := by
  unfold tw_readWord_40 at h
  refine cx_aload_n 0 dX10_readWord_40 rfl ?_
  refine cx_iconst 0 dX10_readWord_41 cx_ic_0 ?_
  refine cx_sipush 255 dX10_readWord_42 cx_sp_255 ?_
  refine cx_cVi [.int 0, .int 255] [] h (fun rs' h' => tw_readNumber_m H M 0 255 rs' h') (tw_rc H) dX10_readWord_45 g_X10_200 hg_X10_200 ⟨cx_le rfl, cx_le rfl⟩ rfl ⟨rfl, rfl⟩ ⟨cx_le rfl, cx_le rfl⟩ rfl (cx_le rfl) (fun M1 v2 h => ?_)
  refine cx_istore_n [(1, .int v2), (0, .ref (adr 60))] dX10_readWord_48 (cx_lt rfl) rfl ?_
  refine cx_aload_n 1 dX10_readWord_49 rfl ?_
  refine cx_getI h (tw_F19 H) q2409 dX10_readWord_50 (fun v3 h => ?_)
  refine cx_if_ne 83 h dX10_readWord_53 rfl (fun h => ?_) (fun h => ?_)
  · refine cx_sub (lv' := [(0, .ref (adr 60))]) [1] rfl ?_
    exact tw_readWord_83_v H hr_8 M1 _ h
  · refine cx_aload_n 1 dX10_readWord_56 rfl ?_
    refine cx_getR (tw_R4 H) q2394 dX10_readWord_57 ?_
    refine cx_bipush 16 dX10_readWord_60 cx_bp_16 ?_
    refine cx_aload_n 1 dX10_readWord_62 rfl ?_
    refine cx_getR (tw_R3 H) q2393 dX10_readWord_63 ?_
    refine cx_bipush 17 dX10_readWord_66 cx_bp_17 ?_
    refine cx_ldC h (tw_A3 H) cx_cl_17 cx_vin_17_20 dX10_readWord_68 (fun v4 h => ?_)
    refine cx_iadd dX10_readWord_69 ?_
    refine cx_iload_n 0 dX10_readWord_70 rfl ?_
    refine cx_stI h (tw_A4 H) dX10_readWord_71 (fun M5 h => ?_)
    refine cx_aload_n 1 dX10_readWord_72 rfl ?_
    refine cx_getR (tw_R3 H) q2393 dX10_readWord_73 ?_
    refine cx_bipush 17 dX10_readWord_76 cx_bp_17 ?_
    refine cx_dup2 dX10_readWord_78 rfl rfl ?_
    refine cx_ldC h (tw_A3 H) cx_cl_17 cx_vin_17_20 dX10_readWord_79 (fun v6 h => ?_)
    refine cx_iconst 1 dX10_readWord_80 cx_ic_1 ?_
    refine cx_iadd dX10_readWord_81 ?_
    refine cx_stC h (tw_A3 H) cx_cl_17 cx_vin_17_20 dX10_readWord_82 (fun M7 h => ?_)
    refine cx_sub (lv' := [(0, .ref (adr 60))]) [1] rfl ?_
    exact tw_readWord_83_v H hr_8 M7 _ h
noncomputable def tw_readWord_8b (N : Nat) (r_8 : cx_M → Option cx_R) (M : cx_M) : Option cx_R :=
  cx_get M 60 19 fun v1 =>
  if v1 = 0 then (
    cx_get M 60 15 fun v2 =>
    if v2 = 2 then (
      cx_get M 3 17 fun v3 =>
      if v3 = 16 then (
        cx_cal (tw_wrong N M 2) fun M4 _ =>
        tw_readWord_40 N r_8 M4)
      else (
        tw_readWord_40 N r_8 M))
    else (
      tw_readWord_40 N r_8 M))
  else (
    tw_readWord_40 N r_8 M)
set_option maxRecDepth 100000 in
theorem tw_readWord_8b_v {l : Launch} {g : cx_G} {adr : Nat → Nat} {X : cx_X} {N : Nat} {r_8 : cx_M → Option cx_R} (H : tw_H g adr) (hr_8 : ∀ (M : cx_M) (rs : cx_R), r_8 M = some rs → cx_V l (g) X sX10_readWord cX10_readWord 8 [(0, .ref (adr 60))] [] M 0 0 rs) (M : cx_M) (rs : cx_R) (h : tw_readWord_8b N r_8 M = some rs) : cx_V l (g) X sX10_readWord cX10_readWord 8 [(0, .ref (adr 60))] [] M 0 0 rs := by
  unfold tw_readWord_8b at h
  refine cx_aload_n 0 dX10_readWord_8 rfl ?_
  refine cx_getI h (tw_F19 H) q2409 dX10_readWord_9 (fun v1 h => ?_)
  refine cx_if_ne 40 h dX10_readWord_12 rfl (fun h => ?_) (fun h => ?_)
  · exact tw_readWord_40_v H hr_8 M _ h
  · refine cx_aload_n 0 dX10_readWord_15 rfl ?_
    refine cx_getI h (tw_F15 H) q2405 dX10_readWord_16 (fun v2 h => ?_)
    refine cx_iconst 2 dX10_readWord_19 cx_ic_2 ?_
    refine cx_icmp_ne 40 h dX10_readWord_20 rfl (fun h => ?_) (fun h => ?_)
    · exact tw_readWord_40_v H hr_8 M _ h
    · refine cx_aload_n 0 dX10_readWord_23 rfl ?_
      refine cx_getR (tw_R3 H) q2393 dX10_readWord_24 ?_
      refine cx_bipush 17 dX10_readWord_27 cx_bp_17 ?_
      refine cx_ldC h (tw_A3 H) cx_cl_17 cx_vin_17_20 dX10_readWord_29 (fun v3 h => ?_)
      refine cx_bipush 16 dX10_readWord_30 cx_bp_16 ?_
      refine cx_icmp_ne 40 h dX10_readWord_32 rfl (fun h => ?_) (fun h => ?_)
      · exact tw_readWord_40_v H hr_8 M _ h
      · refine cx_aload_n 0 dX10_readWord_35 rfl ?_
        refine cx_iconst 2 dX10_readWord_36 cx_ic_2 ?_
        refine cx_cVv [.int 2] [] h (fun rs' h' => tw_wrong_m H M 2 rs' h') (tw_rc H) dX10_readWord_37 g_X10_189 hg_X10_189 ⟨cx_le rfl, cx_le rfl⟩ rfl ⟨rfl, rfl⟩ ⟨cx_le rfl, cx_le rfl⟩ rfl (cx_le rfl) (fun M4 _ h => ?_)
        exact tw_readWord_40_v H hr_8 M4 _ h
noncomputable def tw_readWord_8 (N : Nat) : Nat → cx_M → Option cx_R :=
  cx_fix (fun _ => none) (fun r_8 => tw_readWord_8b N r_8)
theorem tw_readWord_8_v {l : Launch} {g : cx_G} {adr : Nat → Nat} {X : cx_X} {N : Nat} (H : tw_H g adr) : ∀ (n : Nat) (M : cx_M) (rs : cx_R), tw_readWord_8 N n M = some rs → cx_V l (g) X sX10_readWord cX10_readWord 8 [(0, .ref (adr 60))] [] M 0 0 rs :=
  cx_fixI (fun (r : cx_M → Option cx_R) => ∀ (M : cx_M) (rs : cx_R), r M = some rs → cx_V l (g) X sX10_readWord cX10_readWord 8 [(0, .ref (adr 60))] [] M 0 0 rs) (fun _ _ h => by cases h) (fun r hr M rs h => tw_readWord_8b_v H hr M rs h)
noncomputable def tw_readWord_0 (N : Nat) (M : cx_M) : Option cx_R :=
  cx_put M 3 17 0 fun M1 =>
  tw_readWord_8 N N M1
set_option maxRecDepth 100000 in
theorem tw_readWord_0_v {l : Launch} {g : cx_G} {adr : Nat → Nat} {X : cx_X} {N : Nat} (H : tw_H g adr) (M : cx_M) (rs : cx_R) (h : tw_readWord_0 N M = some rs) : cx_V l (g) X sX10_readWord cX10_readWord 0 [(0, .ref (adr 60))] [] M 0 0 rs := by
  unfold tw_readWord_0 at h
  refine cx_aload_n 0 dX10_readWord_0 rfl ?_
  refine cx_getR (tw_R3 H) q2393 dX10_readWord_1 ?_
  refine cx_bipush 17 dX10_readWord_4 cx_bp_17 ?_
  refine cx_iconst 0 dX10_readWord_6 cx_ic_0 ?_
  refine cx_stC h (tw_A3 H) cx_cl_17 cx_vin_17_20 dX10_readWord_7 (fun M1 h => ?_)
  exact tw_readWord_8_v H N M1 _ h
noncomputable def tw_readWord (N : Nat) (M : cx_M) : Option cx_R := tw_readWord_0 N M
theorem tw_readWord_m {l : Launch} {g : cx_G} {adr : Nat → Nat} {N : Nat} (H : tw_H g adr) (M : cx_M) (rs : cx_R) (h : tw_readWord N M = some rs) : cx_Met l (g) yX10_readWord cX10_readWord sX10_readWord [.ref (adr 60)] M rs :=
  cx_met (by decide +kernel) rfl rfl (lv := [(0, .ref (adr 60))]) rfl (cx_le rfl) (fun X => cx_sub (lv' := [(0, .ref (adr 60))]) [0] rfl (tw_readWord_0_v H M rs h))

abbrev sX10_mark : cx_S := (2, RX10, cx_rV, { frames := 2, cells := 0, slots := 0, locals := 42 }, none, false)
noncomputable def tw_mark_20 (N : Nat) (M : cx_M) : Option cx_R :=
  cx_get M 60 19 fun v1 =>
  if v1 = 0 then (
    cx_cal (tw_stepOn N M) fun M2 _ =>
    some (M2, 0, 0))
  else (
    some (M, 0, 0))
set_option maxRecDepth 100000 in
theorem tw_mark_20_v {l : Launch} {g : cx_G} {adr : Nat → Nat} {X : cx_X} {N : Nat} (H : tw_H g adr) (M : cx_M) (rs : cx_R) (h : tw_mark_20 N M = some rs) : cx_V l (g) X sX10_mark cX10_mark 20 [(0, .ref (adr 60))] [] M 0 0 rs := by
  unfold tw_mark_20 at h
  refine cx_aload_n 0 dX10_mark_20 rfl ?_
  refine cx_getI h (tw_F19 H) q2409 dX10_mark_21 (fun v1 h => ?_)
  refine cx_if_ne 31 h dX10_mark_24 rfl (fun h => ?_) (fun h => ?_)
  · exact cx_vret h rfl rfl (cx_le rfl) (cx_le rfl) dX10_mark_31
  · refine cx_aload_n 0 dX10_mark_27 rfl ?_
    refine cx_cVv [] [] h (fun rs' h' => tw_stepOn_m H M rs' h') (tw_rc H) dX10_mark_28 g_X10_193 hg_X10_193 ⟨cx_le rfl, cx_le rfl⟩ rfl ⟨rfl, rfl⟩ ⟨cx_le rfl, cx_le rfl⟩ rfl (cx_le rfl) (fun M2 _ h => ?_)
    exact cx_vret h rfl rfl (cx_le rfl) (cx_le rfl) dX10_mark_31
noncomputable def tw_mark_0 (N : Nat) (M : cx_M) (x1 : Int32) : Option cx_R :=
  cx_get M 60 19 fun v1 =>
  if v1 = 0 then (
    cx_cal (tw_isMarked N M x1) fun M2 v3 =>
    if v3 = 0 then (
      cx_cal (tw_wrong N M2 1) fun M4 _ =>
      tw_mark_20 N M4)
    else (
      tw_mark_20 N M2))
  else (
    tw_mark_20 N M)
set_option maxRecDepth 100000 in
theorem tw_mark_0_v {l : Launch} {g : cx_G} {adr : Nat → Nat} {X : cx_X} {N : Nat} (H : tw_H g adr) (M : cx_M) (x1 : Int32) (rs : cx_R) (h : tw_mark_0 N M x1 = some rs) : cx_V l (g) X sX10_mark cX10_mark 0 [(0, .ref (adr 60)), (1, .int x1)] [] M 0 0 rs := by
  unfold tw_mark_0 at h
  refine cx_aload_n 0 dX10_mark_0 rfl ?_
  refine cx_getI h (tw_F19 H) q2409 dX10_mark_1 (fun v1 h => ?_)
  refine cx_if_ne 20 h dX10_mark_4 rfl (fun h => ?_) (fun h => ?_)
  · refine cx_sub (lv' := [(0, .ref (adr 60))]) [0] rfl ?_
    exact tw_mark_20_v H M _ h
  · refine cx_aload_n 0 dX10_mark_7 rfl ?_
    refine cx_iload_n 1 dX10_mark_8 rfl ?_
    refine cx_cVi [.int x1] [] h (fun rs' h' => tw_isMarked_m H M x1 rs' h') (tw_rc H) dX10_mark_9 g_X10_186 hg_X10_186 ⟨cx_le rfl, cx_le rfl⟩ rfl ⟨rfl, rfl⟩ ⟨cx_le rfl, cx_le rfl⟩ rfl (cx_le rfl) (fun M2 v3 h => ?_)
    refine cx_if_ne 20 h dX10_mark_12 rfl (fun h => ?_) (fun h => ?_)
    · refine cx_sub (lv' := [(0, .ref (adr 60))]) [0] rfl ?_
      exact tw_mark_20_v H M2 _ h
    · refine cx_aload_n 0 dX10_mark_15 rfl ?_
      refine cx_iconst 1 dX10_mark_16 cx_ic_1 ?_
      refine cx_cVv [.int 1] [] h (fun rs' h' => tw_wrong_m H M2 1 rs' h') (tw_rc H) dX10_mark_17 g_X10_189 hg_X10_189 ⟨cx_le rfl, cx_le rfl⟩ rfl ⟨rfl, rfl⟩ ⟨cx_le rfl, cx_le rfl⟩ rfl (cx_le rfl) (fun M4 _ h => ?_)
      refine cx_sub (lv' := [(0, .ref (adr 60))]) [0] rfl ?_
      exact tw_mark_20_v H M4 _ h
noncomputable def tw_mark (N : Nat) (M : cx_M) (x1 : Int32) : Option cx_R := tw_mark_0 N M x1
theorem tw_mark_m {l : Launch} {g : cx_G} {adr : Nat → Nat} {N : Nat} (H : tw_H g adr) (M : cx_M) (x1 : Int32) (rs : cx_R) (h : tw_mark N M x1 = some rs) : cx_Met l (g) yX10_mark cX10_mark sX10_mark [.ref (adr 60), .int x1] M rs :=
  cx_met (by decide +kernel) rfl rfl (lv := [(0, .ref (adr 60)), (1, .int x1)]) rfl (cx_le rfl) (fun X => cx_sub (lv' := [(0, .ref (adr 60)), (1, .int x1)]) [0, 1] rfl (tw_mark_0_v H M x1 rs h))

abbrev sX10_readPart (d : Nat) : cx_S := (3, RX10, cx_rV, { frames := 24 * d + 6, cells := 0, slots := 0, locals := 800 * d + 130 }, none, false)
noncomputable def tw_readPart_56 (N : Nat) (rE : cx_M → Int32 → Option cx_R) (M : cx_M) (x2 : Int32) : Option cx_R :=
  cx_cal (tw_lay N M ((-1 : Int32) - x2)) fun M1 _ =>
  cx_get M1 60 19 fun v2 =>
  if v2 = 0 then (
    cx_cal (tw_stepOn N M1) fun M3 _ =>
    some (M3, 0, 0))
  else (
    some (M1, 0, 0))
set_option maxRecDepth 100000 in
theorem tw_readPart_56_v {l : Launch} {g : cx_G} {adr : Nat → Nat} {d : Nat} {X : cx_X} {N : Nat} {rE : cx_M → Int32 → Option cx_R} (H : tw_H g adr) (hrE : ∀ (M : cx_M) (x : Int32) (rs : cx_R), rE M x = some rs → cx_Met l g yX10_readExpression cX10_readExpression (sX10_readExpression d) [.ref (adr 60), .int x] M rs) (M : cx_M) (x2 : Int32) (rs : cx_R) (h : tw_readPart_56 N rE M x2 = some rs) : cx_V l (g) X (sX10_readPart d) cX10_readPart 56 [(0, .ref (adr 60)), (2, .int x2)] [] M 0 0 rs := by
  unfold tw_readPart_56 at h
  refine cx_aload_n 0 dX10_readPart_56 rfl ?_
  refine cx_iconst (-1) dX10_readPart_57 cx_ic_m1 ?_
  refine cx_iload_n 1 dX10_readPart_58 rfl ?_
  refine cx_isub dX10_readPart_59 ?_
  refine cx_cVv [.int ((-1 : Int32) - x2)] [] h (fun rs' h' => tw_lay_m H M ((-1 : Int32) - x2) rs' h') (tw_rc H) dX10_readPart_60 g_X10_203 hg_X10_203 (by refine ⟨?_, ?_⟩ <;> (dsimp only [sX10_readPart, sX10_lay]; omega)) rfl ⟨rfl, rfl⟩ ⟨cx_le rfl, cx_le rfl⟩ rfl (cx_le rfl) (fun M1 _ h => ?_)
  refine cx_aload_n 0 dX10_readPart_63 rfl ?_
  refine cx_getI h (tw_F19 H) q2409 dX10_readPart_64 (fun v2 h => ?_)
  refine cx_if_ne 74 h dX10_readPart_67 rfl (fun h => ?_) (fun h => ?_)
  · exact cx_vret h rfl rfl (cx_le rfl) (cx_le rfl) dX10_readPart_74
  · refine cx_aload_n 0 dX10_readPart_70 rfl ?_
    refine cx_cVv [] [] h (fun rs' h' => tw_stepOn_m H M1 rs' h') (tw_rc H) dX10_readPart_71 g_X10_193 hg_X10_193 (by refine ⟨?_, ?_⟩ <;> (dsimp only [sX10_readPart, sX10_stepOn]; omega)) rfl ⟨rfl, rfl⟩ ⟨cx_le rfl, cx_le rfl⟩ rfl (cx_le rfl) (fun M3 _ h => ?_)
    exact cx_vret h rfl rfl (cx_le rfl) (cx_le rfl) dX10_readPart_74
noncomputable def tw_readPart_0 (N : Nat) (rE : cx_M → Int32 → Option cx_R) (M : cx_M) (x1 : Int32) : Option cx_R :=
  cx_get M 60 19 fun v1 =>
  if v1 = 0 then (
    cx_get M 60 15 fun v2 =>
    if v2 = 2 then (
      cx_cal (tw_readNumber N M 0 9999) fun M10 v11 =>
      cx_cal (tw_lay N M10 v11) fun M12 _ =>
      some (M12, 0, 0))
    else (
      cx_get M 60 15 fun v3 =>
      if v3 = 1 then (
        cx_cal (tw_which N 0 M) fun M7 v8 =>
        if v8 = (-1) then (
          cx_cal (tw_wrong N M7 3) fun M9 _ =>
          tw_readPart_56 N rE M9 v8)
        else (
          tw_readPart_56 N rE M7 v8))
      else (
        cx_cal (tw_mark N M 40) fun M4 _ =>
        cx_cal (rE M4 (x1 + 1)) fun M5 _ =>
        cx_cal (tw_mark N M5 41) fun M6 _ =>
        some (M6, 0, 0))))
  else (
    some (M, 0, 0))
set_option maxRecDepth 100000 in
theorem tw_readPart_0_v {l : Launch} {g : cx_G} {adr : Nat → Nat} {d : Nat} {X : cx_X} {N : Nat} {rE : cx_M → Int32 → Option cx_R} (H : tw_H g adr) (hrE : ∀ (M : cx_M) (x : Int32) (rs : cx_R), rE M x = some rs → cx_Met l g yX10_readExpression cX10_readExpression (sX10_readExpression d) [.ref (adr 60), .int x] M rs) (M : cx_M) (x1 : Int32) (rs : cx_R) (h : tw_readPart_0 N rE M x1 = some rs) : cx_V l (g) X (sX10_readPart d) cX10_readPart 0 [(0, .ref (adr 60)), (1, .int x1)] [] M 0 0 rs := by
  unfold tw_readPart_0 at h
  refine cx_aload_n 0 dX10_readPart_0 rfl ?_
  refine cx_getI h (tw_F19 H) q2409 dX10_readPart_1 (fun v1 h => ?_)
  refine cx_if_eq 8 h dX10_readPart_4 rfl (fun h => ?_) (fun h => ?_)
  · refine cx_aload_n 0 dX10_readPart_8 rfl ?_
    refine cx_getI h (tw_F15 H) q2405 dX10_readPart_9 (fun v2 h => ?_)
    refine cx_iconst 2 dX10_readPart_12 cx_ic_2 ?_
    refine cx_icmp_ne 29 h dX10_readPart_13 rfl (fun h => ?_) (fun h => ?_)
    · refine cx_aload_n 0 dX10_readPart_29 rfl ?_
      refine cx_getI h (tw_F15 H) q2405 dX10_readPart_30 (fun v3 h => ?_)
      refine cx_iconst 1 dX10_readPart_33 cx_ic_1 ?_
      refine cx_icmp_ne 75 h dX10_readPart_34 rfl (fun h => ?_) (fun h => ?_)
      · refine cx_aload_n 0 dX10_readPart_75 rfl ?_
        refine cx_bipush 40 dX10_readPart_76 cx_bp_40 ?_
        refine cx_cVv [.int 40] [] h (fun rs' h' => tw_mark_m H M 40 rs' h') (tw_rc H) dX10_readPart_78 g_X10_210 hg_X10_210 (by refine ⟨?_, ?_⟩ <;> (dsimp only [sX10_readPart, sX10_mark]; omega)) rfl ⟨rfl, rfl⟩ ⟨cx_le rfl, cx_le rfl⟩ rfl (cx_le rfl) (fun M4 _ h => ?_)
        refine cx_aload_n 0 dX10_readPart_81 rfl ?_
        refine cx_iload_n 1 dX10_readPart_82 rfl ?_
        refine cx_iconst 1 dX10_readPart_83 cx_ic_1 ?_
        refine cx_iadd dX10_readPart_84 ?_
        refine cx_cVv [.int (x1 + 1)] [] h (fun rs' h' => hrE M4 (x1 + 1) rs' h') (tw_rc H) dX10_readPart_85 g_X10_213 hg_X10_213 (by refine ⟨?_, ?_⟩ <;> (dsimp only [sX10_readPart, sX10_readExpression]; omega)) rfl ⟨rfl, rfl⟩ ⟨cx_le rfl, cx_le rfl⟩ rfl (cx_le rfl) (fun M5 _ h => ?_)
        refine cx_aload_n 0 dX10_readPart_88 rfl ?_
        refine cx_bipush 41 dX10_readPart_89 cx_bp_41 ?_
        refine cx_cVv [.int 41] [] h (fun rs' h' => tw_mark_m H M5 41 rs' h') (tw_rc H) dX10_readPart_91 g_X10_210 hg_X10_210 (by refine ⟨?_, ?_⟩ <;> (dsimp only [sX10_readPart, sX10_mark]; omega)) rfl ⟨rfl, rfl⟩ ⟨cx_le rfl, cx_le rfl⟩ rfl (cx_le rfl) (fun M6 _ h => ?_)
        exact cx_vret h rfl rfl (cx_le rfl) (cx_le rfl) dX10_readPart_94
      · refine cx_aload_n 0 dX10_readPart_37 rfl ?_
        refine cx_aload_n 0 dX10_readPart_38 rfl ?_
        refine cx_getR (tw_R0 H) q2390 dX10_readPart_39 ?_
        refine cx_cVi [.ref (adr 0)] [] h (fun rs' h' => tw_which_m H (by decide) M rs' h') (tw_rc H) dX10_readPart_42 g_X10_206 hg_X10_206 (by refine ⟨?_, ?_⟩ <;> (dsimp only [sX10_readPart, sX10_which]; omega)) rfl ⟨rfl, rfl⟩ ⟨cx_le rfl, cx_le rfl⟩ rfl (cx_le rfl) (fun M7 v8 h => ?_)
        refine cx_istore_n [(2, .int v8), (0, .ref (adr 60)), (1, .int x1)] dX10_readPart_45 (cx_lt rfl) rfl ?_
        refine cx_iload_n 0 dX10_readPart_46 rfl ?_
        refine cx_iconst (-1) dX10_readPart_47 cx_ic_m1 ?_
        refine cx_icmp_ne 56 h dX10_readPart_48 rfl (fun h => ?_) (fun h => ?_)
        · refine cx_sub (lv' := [(0, .ref (adr 60)), (2, .int v8)]) [1, 0] rfl ?_
          exact tw_readPart_56_v H hrE M7 v8 _ h
        · refine cx_aload_n 1 dX10_readPart_51 rfl ?_
          refine cx_iconst 3 dX10_readPart_52 cx_ic_3 ?_
          refine cx_cVv [.int 3] [] h (fun rs' h' => tw_wrong_m H M7 3 rs' h') (tw_rc H) dX10_readPart_53 g_X10_189 hg_X10_189 (by refine ⟨?_, ?_⟩ <;> (dsimp only [sX10_readPart, sX10_wrong]; omega)) rfl ⟨rfl, rfl⟩ ⟨cx_le rfl, cx_le rfl⟩ rfl (cx_le rfl) (fun M9 _ h => ?_)
          refine cx_sub (lv' := [(0, .ref (adr 60)), (2, .int v8)]) [1, 0] rfl ?_
          exact tw_readPart_56_v H hrE M9 v8 _ h
    · refine cx_aload_n 0 dX10_readPart_16 rfl ?_
      refine cx_aload_n 0 dX10_readPart_17 rfl ?_
      refine cx_iconst 0 dX10_readPart_18 cx_ic_0 ?_
      refine cx_sipush 9999 dX10_readPart_19 cx_sp_9999 ?_
      refine cx_cVi [.int 0, .int 9999] [.ref (adr 60)] h (fun rs' h' => tw_readNumber_m H M 0 9999 rs' h') (tw_rc H) dX10_readPart_22 g_X10_200 hg_X10_200 (by refine ⟨?_, ?_⟩ <;> (dsimp only [sX10_readPart, sX10_readNumber]; omega)) rfl ⟨rfl, rfl⟩ ⟨cx_le rfl, cx_le rfl⟩ rfl (cx_le rfl) (fun M10 v11 h => ?_)
      refine cx_cVv [.int v11] [] h (fun rs' h' => tw_lay_m H M10 v11 rs' h') (tw_rc H) dX10_readPart_25 g_X10_203 hg_X10_203 (by refine ⟨?_, ?_⟩ <;> (dsimp only [sX10_readPart, sX10_lay]; omega)) rfl ⟨rfl, rfl⟩ ⟨cx_le rfl, cx_le rfl⟩ rfl (cx_le rfl) (fun M12 _ h => ?_)
      exact cx_vret h rfl rfl (cx_le rfl) (cx_le rfl) dX10_readPart_28
  · exact cx_vret h rfl rfl (cx_le rfl) (cx_le rfl) dX10_readPart_7
noncomputable def tw_readPart (N : Nat) (rE : cx_M → Int32 → Option cx_R) (M : cx_M) (x1 : Int32) : Option cx_R := tw_readPart_0 N rE M x1
theorem tw_readPart_m {l : Launch} {g : cx_G} {adr : Nat → Nat} {d : Nat} {N : Nat} {rE : cx_M → Int32 → Option cx_R} (H : tw_H g adr) (hrE : ∀ (M : cx_M) (x : Int32) (rs : cx_R), rE M x = some rs → cx_Met l g yX10_readExpression cX10_readExpression (sX10_readExpression d) [.ref (adr 60), .int x] M rs) (M : cx_M) (x1 : Int32) (rs : cx_R) (h : tw_readPart N rE M x1 = some rs) : cx_Met l (g) yX10_readPart cX10_readPart (sX10_readPart d) [.ref (adr 60), .int x1] M rs :=
  cx_met (by decide +kernel) rfl rfl (lv := [(0, .ref (adr 60)), (1, .int x1)]) rfl (cx_le rfl) (fun X => cx_sub (lv' := [(0, .ref (adr 60)), (1, .int x1)]) [0, 1] rfl (tw_readPart_0_v H hrE M x1 rs h))

abbrev sX10_readProduct (d : Nat) : cx_S := (3, RX10, cx_rV, { frames := 24 * d + 7, cells := 0, slots := 0, locals := 800 * d + 152 }, none, false)
noncomputable def tw_readProduct_39 (N : Nat) (rE : cx_M → Int32 → Option cx_R) (r_5 : cx_M → Int32 → Option cx_R) (M : cx_M) (x1 : Int32) (z0 : Int32) : Option cx_R :=
  cx_cal (tw_stepOn N M) fun M1 _ =>
  cx_cal (tw_readPart N rE M1 x1) fun M2 _ =>
  cx_cal (tw_lay N M2 z0) fun M3 _ =>
  r_5 M3 x1
set_option maxRecDepth 100000 in
theorem tw_readProduct_39_v {l : Launch} {g : cx_G} {adr : Nat → Nat} {d : Nat} {X : cx_X} {N : Nat} {rE : cx_M → Int32 → Option cx_R} {r_5 : cx_M → Int32 → Option cx_R} (H : tw_H g adr) (hrE : ∀ (M : cx_M) (x : Int32) (rs : cx_R), rE M x = some rs → cx_Met l g yX10_readExpression cX10_readExpression (sX10_readExpression d) [.ref (adr 60), .int x] M rs) (hr_5 : ∀ (M : cx_M) (x1 : Int32) (rs : cx_R), r_5 M x1 = some rs → cx_V l (g) X (sX10_readProduct d) cX10_readProduct 5 [(0, .ref (adr 60)), (1, .int x1)] [] M 0 0 rs) (M : cx_M) (x1 : Int32) (z0 : Int32) (rs : cx_R) (h : tw_readProduct_39 N rE r_5 M x1 z0 = some rs) : cx_V l (g) X (sX10_readProduct d) cX10_readProduct 39 [(0, .ref (adr 60)), (1, .int x1)] [.int z0] M 0 0 rs := by
  unfold tw_readProduct_39 at h
  refine cx_istore_n [(2, .int z0), (0, .ref (adr 60)), (1, .int x1)] dX10_readProduct_39 (cx_lt rfl) rfl ?_
  refine cx_aload_n 1 dX10_readProduct_40 rfl ?_
  refine cx_cVv [] [] h (fun rs' h' => tw_stepOn_m H M rs' h') (tw_rc H) dX10_readProduct_41 g_X10_193 hg_X10_193 (by refine ⟨?_, ?_⟩ <;> (dsimp only [sX10_readProduct, sX10_stepOn]; omega)) rfl ⟨rfl, rfl⟩ ⟨cx_le rfl, cx_le rfl⟩ rfl (cx_le rfl) (fun M1 _ h => ?_)
  refine cx_aload_n 1 dX10_readProduct_44 rfl ?_
  refine cx_iload_n 2 dX10_readProduct_45 rfl ?_
  refine cx_cVv [.int x1] [] h (fun rs' h' => tw_readPart_m H hrE M1 x1 rs' h') (tw_rc H) dX10_readProduct_46 g_X10_216 hg_X10_216 (by refine ⟨?_, ?_⟩ <;> (dsimp only [sX10_readProduct, sX10_readPart]; omega)) rfl ⟨rfl, rfl⟩ ⟨cx_le rfl, cx_le rfl⟩ rfl (cx_le rfl) (fun M2 _ h => ?_)
  refine cx_aload_n 1 dX10_readProduct_49 rfl ?_
  refine cx_iload_n 0 dX10_readProduct_50 rfl ?_
  refine cx_cVv [.int z0] [] h (fun rs' h' => tw_lay_m H M2 z0 rs' h') (tw_rc H) dX10_readProduct_51 g_X10_203 hg_X10_203 (by refine ⟨?_, ?_⟩ <;> (dsimp only [sX10_readProduct, sX10_lay]; omega)) rfl ⟨rfl, rfl⟩ ⟨cx_le rfl, cx_le rfl⟩ rfl (cx_le rfl) (fun M3 _ h => ?_)
  refine cx_goto 5 dX10_readProduct_54 rfl ?_
  refine cx_sub (lv' := [(0, .ref (adr 60)), (1, .int x1)]) [1, 2] rfl ?_
  exact hr_5 M3 x1 _ h
noncomputable def tw_readProduct_23 (N : Nat) (rE : cx_M → Int32 → Option cx_R) (r_5 : cx_M → Int32 → Option cx_R) (M : cx_M) (x1 : Int32) : Option cx_R :=
  cx_cal (tw_isMarked N M 42) fun M1 v2 =>
  if v2 = 0 then (
    tw_readProduct_39 N rE r_5 M1 x1 (-23))
  else (
    tw_readProduct_39 N rE r_5 M1 x1 (-22))
set_option maxRecDepth 100000 in
theorem tw_readProduct_23_v {l : Launch} {g : cx_G} {adr : Nat → Nat} {d : Nat} {X : cx_X} {N : Nat} {rE : cx_M → Int32 → Option cx_R} {r_5 : cx_M → Int32 → Option cx_R} (H : tw_H g adr) (hrE : ∀ (M : cx_M) (x : Int32) (rs : cx_R), rE M x = some rs → cx_Met l g yX10_readExpression cX10_readExpression (sX10_readExpression d) [.ref (adr 60), .int x] M rs) (hr_5 : ∀ (M : cx_M) (x1 : Int32) (rs : cx_R), r_5 M x1 = some rs → cx_V l (g) X (sX10_readProduct d) cX10_readProduct 5 [(0, .ref (adr 60)), (1, .int x1)] [] M 0 0 rs) (M : cx_M) (x1 : Int32) (rs : cx_R) (h : tw_readProduct_23 N rE r_5 M x1 = some rs) : cx_V l (g) X (sX10_readProduct d) cX10_readProduct 23 [(0, .ref (adr 60)), (1, .int x1)] [] M 0 0 rs := by
  unfold tw_readProduct_23 at h
  refine cx_aload_n 0 dX10_readProduct_23 rfl ?_
  refine cx_bipush 42 dX10_readProduct_24 cx_bp_42 ?_
  refine cx_cVi [.int 42] [] h (fun rs' h' => tw_isMarked_m H M 42 rs' h') (tw_rc H) dX10_readProduct_26 g_X10_186 hg_X10_186 (by refine ⟨?_, ?_⟩ <;> (dsimp only [sX10_readProduct, sX10_isMarked]; omega)) rfl ⟨rfl, rfl⟩ ⟨cx_le rfl, cx_le rfl⟩ rfl (cx_le rfl) (fun M1 v2 h => ?_)
  refine cx_if_eq 37 h dX10_readProduct_29 rfl (fun h => ?_) (fun h => ?_)
  · refine cx_bipush (-23) dX10_readProduct_37 cx_bp_m23 ?_
    exact tw_readProduct_39_v H hrE hr_5 M1 x1 (-23) _ h
  · refine cx_bipush (-22) dX10_readProduct_32 cx_bp_m22 ?_
    refine cx_goto 39 dX10_readProduct_34 rfl ?_
    exact tw_readProduct_39_v H hrE hr_5 M1 x1 (-22) _ h
noncomputable def tw_readProduct_5b (N : Nat) (rE : cx_M → Int32 → Option cx_R) (r_5 : cx_M → Int32 → Option cx_R) (M : cx_M) (x1 : Int32) : Option cx_R :=
  cx_cal (tw_isMarked N M 42) fun M1 v2 =>
  if v2 = 0 then (
    cx_cal (tw_isMarked N M1 47) fun M3 v4 =>
    if v4 = 0 then (
      some (M3, 0, 0))
    else (
      tw_readProduct_23 N rE r_5 M3 x1))
  else (
    tw_readProduct_23 N rE r_5 M1 x1)
set_option maxRecDepth 100000 in
theorem tw_readProduct_5b_v {l : Launch} {g : cx_G} {adr : Nat → Nat} {d : Nat} {X : cx_X} {N : Nat} {rE : cx_M → Int32 → Option cx_R} {r_5 : cx_M → Int32 → Option cx_R} (H : tw_H g adr) (hrE : ∀ (M : cx_M) (x : Int32) (rs : cx_R), rE M x = some rs → cx_Met l g yX10_readExpression cX10_readExpression (sX10_readExpression d) [.ref (adr 60), .int x] M rs) (hr_5 : ∀ (M : cx_M) (x1 : Int32) (rs : cx_R), r_5 M x1 = some rs → cx_V l (g) X (sX10_readProduct d) cX10_readProduct 5 [(0, .ref (adr 60)), (1, .int x1)] [] M 0 0 rs) (M : cx_M) (x1 : Int32) (rs : cx_R) (h : tw_readProduct_5b N rE r_5 M x1 = some rs) : cx_V l (g) X (sX10_readProduct d) cX10_readProduct 5 [(0, .ref (adr 60)), (1, .int x1)] [] M 0 0 rs := by
  unfold tw_readProduct_5b at h
  refine cx_aload_n 0 dX10_readProduct_5 rfl ?_
  refine cx_bipush 42 dX10_readProduct_6 cx_bp_42 ?_
  refine cx_cVi [.int 42] [] h (fun rs' h' => tw_isMarked_m H M 42 rs' h') (tw_rc H) dX10_readProduct_8 g_X10_186 hg_X10_186 (by refine ⟨?_, ?_⟩ <;> (dsimp only [sX10_readProduct, sX10_isMarked]; omega)) rfl ⟨rfl, rfl⟩ ⟨cx_le rfl, cx_le rfl⟩ rfl (cx_le rfl) (fun M1 v2 h => ?_)
  refine cx_if_ne 23 h dX10_readProduct_11 rfl (fun h => ?_) (fun h => ?_)
  · exact tw_readProduct_23_v H hrE hr_5 M1 x1 _ h
  · refine cx_aload_n 0 dX10_readProduct_14 rfl ?_
    refine cx_bipush 47 dX10_readProduct_15 cx_bp_47 ?_
    refine cx_cVi [.int 47] [] h (fun rs' h' => tw_isMarked_m H M1 47 rs' h') (tw_rc H) dX10_readProduct_17 g_X10_186 hg_X10_186 (by refine ⟨?_, ?_⟩ <;> (dsimp only [sX10_readProduct, sX10_isMarked]; omega)) rfl ⟨rfl, rfl⟩ ⟨cx_le rfl, cx_le rfl⟩ rfl (cx_le rfl) (fun M3 v4 h => ?_)
    refine cx_if_eq 57 h dX10_readProduct_20 rfl (fun h => ?_) (fun h => ?_)
    · exact cx_vret h rfl rfl (cx_le rfl) (cx_le rfl) dX10_readProduct_57
    · exact tw_readProduct_23_v H hrE hr_5 M3 x1 _ h
noncomputable def tw_readProduct_5 (N : Nat) (rE : cx_M → Int32 → Option cx_R) : Nat → cx_M → Int32 → Option cx_R :=
  cx_fix (fun _ _ => none) (fun r_5 => tw_readProduct_5b N rE r_5)
theorem tw_readProduct_5_v {l : Launch} {g : cx_G} {adr : Nat → Nat} {d : Nat} {X : cx_X} {N : Nat} {rE : cx_M → Int32 → Option cx_R} (H : tw_H g adr) (hrE : ∀ (M : cx_M) (x : Int32) (rs : cx_R), rE M x = some rs → cx_Met l g yX10_readExpression cX10_readExpression (sX10_readExpression d) [.ref (adr 60), .int x] M rs) : ∀ (n : Nat) (M : cx_M) (x1 : Int32) (rs : cx_R), tw_readProduct_5 N rE n M x1 = some rs → cx_V l (g) X (sX10_readProduct d) cX10_readProduct 5 [(0, .ref (adr 60)), (1, .int x1)] [] M 0 0 rs :=
  cx_fixI (fun (r : cx_M → Int32 → Option cx_R) => ∀ (M : cx_M) (x1 : Int32) (rs : cx_R), r M x1 = some rs → cx_V l (g) X (sX10_readProduct d) cX10_readProduct 5 [(0, .ref (adr 60)), (1, .int x1)] [] M 0 0 rs) (fun _ _ _ h => by cases h) (fun r hr M x1 rs h => tw_readProduct_5b_v H hrE hr M x1 rs h)
noncomputable def tw_readProduct_0 (N : Nat) (rE : cx_M → Int32 → Option cx_R) (M : cx_M) (x1 : Int32) : Option cx_R :=
  cx_cal (tw_readPart N rE M x1) fun M1 _ =>
  tw_readProduct_5 N rE N M1 x1
set_option maxRecDepth 100000 in
theorem tw_readProduct_0_v {l : Launch} {g : cx_G} {adr : Nat → Nat} {d : Nat} {X : cx_X} {N : Nat} {rE : cx_M → Int32 → Option cx_R} (H : tw_H g adr) (hrE : ∀ (M : cx_M) (x : Int32) (rs : cx_R), rE M x = some rs → cx_Met l g yX10_readExpression cX10_readExpression (sX10_readExpression d) [.ref (adr 60), .int x] M rs) (M : cx_M) (x1 : Int32) (rs : cx_R) (h : tw_readProduct_0 N rE M x1 = some rs) : cx_V l (g) X (sX10_readProduct d) cX10_readProduct 0 [(0, .ref (adr 60)), (1, .int x1)] [] M 0 0 rs := by
  unfold tw_readProduct_0 at h
  refine cx_aload_n 0 dX10_readProduct_0 rfl ?_
  refine cx_iload_n 1 dX10_readProduct_1 rfl ?_
  refine cx_cVv [.int x1] [] h (fun rs' h' => tw_readPart_m H hrE M x1 rs' h') (tw_rc H) dX10_readProduct_2 g_X10_216 hg_X10_216 (by refine ⟨?_, ?_⟩ <;> (dsimp only [sX10_readProduct, sX10_readPart]; omega)) rfl ⟨rfl, rfl⟩ ⟨cx_le rfl, cx_le rfl⟩ rfl (cx_le rfl) (fun M1 _ h => ?_)
  exact tw_readProduct_5_v H hrE N M1 x1 _ h
noncomputable def tw_readProduct (N : Nat) (rE : cx_M → Int32 → Option cx_R) (M : cx_M) (x1 : Int32) : Option cx_R := tw_readProduct_0 N rE M x1
theorem tw_readProduct_m {l : Launch} {g : cx_G} {adr : Nat → Nat} {d : Nat} {N : Nat} {rE : cx_M → Int32 → Option cx_R} (H : tw_H g adr) (hrE : ∀ (M : cx_M) (x : Int32) (rs : cx_R), rE M x = some rs → cx_Met l g yX10_readExpression cX10_readExpression (sX10_readExpression d) [.ref (adr 60), .int x] M rs) (M : cx_M) (x1 : Int32) (rs : cx_R) (h : tw_readProduct N rE M x1 = some rs) : cx_Met l (g) yX10_readProduct cX10_readProduct (sX10_readProduct d) [.ref (adr 60), .int x1] M rs :=
  cx_met (by decide +kernel) rfl rfl (lv := [(0, .ref (adr 60)), (1, .int x1)]) rfl (cx_le rfl) (fun X => cx_sub (lv' := [(0, .ref (adr 60)), (1, .int x1)]) [0, 1] rfl (tw_readProduct_0_v H hrE M x1 rs h))

abbrev sX10_readSum (d : Nat) : cx_S := (3, RX10, cx_rV, { frames := 24 * d + 8, cells := 0, slots := 0, locals := 800 * d + 174 }, none, false)
noncomputable def tw_readSum_39 (N : Nat) (rE : cx_M → Int32 → Option cx_R) (r_5 : cx_M → Int32 → Option cx_R) (M : cx_M) (x1 : Int32) (z0 : Int32) : Option cx_R :=
  cx_cal (tw_stepOn N M) fun M1 _ =>
  cx_cal (tw_readProduct N rE M1 x1) fun M2 _ =>
  cx_cal (tw_lay N M2 z0) fun M3 _ =>
  r_5 M3 x1
set_option maxRecDepth 100000 in
theorem tw_readSum_39_v {l : Launch} {g : cx_G} {adr : Nat → Nat} {d : Nat} {X : cx_X} {N : Nat} {rE : cx_M → Int32 → Option cx_R} {r_5 : cx_M → Int32 → Option cx_R} (H : tw_H g adr) (hrE : ∀ (M : cx_M) (x : Int32) (rs : cx_R), rE M x = some rs → cx_Met l g yX10_readExpression cX10_readExpression (sX10_readExpression d) [.ref (adr 60), .int x] M rs) (hr_5 : ∀ (M : cx_M) (x1 : Int32) (rs : cx_R), r_5 M x1 = some rs → cx_V l (g) X (sX10_readSum d) cX10_readSum 5 [(0, .ref (adr 60)), (1, .int x1)] [] M 0 0 rs) (M : cx_M) (x1 : Int32) (z0 : Int32) (rs : cx_R) (h : tw_readSum_39 N rE r_5 M x1 z0 = some rs) : cx_V l (g) X (sX10_readSum d) cX10_readSum 39 [(0, .ref (adr 60)), (1, .int x1)] [.int z0] M 0 0 rs := by
  unfold tw_readSum_39 at h
  refine cx_istore_n [(2, .int z0), (0, .ref (adr 60)), (1, .int x1)] dX10_readSum_39 (cx_lt rfl) rfl ?_
  refine cx_aload_n 1 dX10_readSum_40 rfl ?_
  refine cx_cVv [] [] h (fun rs' h' => tw_stepOn_m H M rs' h') (tw_rc H) dX10_readSum_41 g_X10_193 hg_X10_193 (by refine ⟨?_, ?_⟩ <;> (dsimp only [sX10_readSum, sX10_stepOn]; omega)) rfl ⟨rfl, rfl⟩ ⟨cx_le rfl, cx_le rfl⟩ rfl (cx_le rfl) (fun M1 _ h => ?_)
  refine cx_aload_n 1 dX10_readSum_44 rfl ?_
  refine cx_iload_n 2 dX10_readSum_45 rfl ?_
  refine cx_cVv [.int x1] [] h (fun rs' h' => tw_readProduct_m H hrE M1 x1 rs' h') (tw_rc H) dX10_readSum_46 g_X10_219 hg_X10_219 (by refine ⟨?_, ?_⟩ <;> (dsimp only [sX10_readSum, sX10_readProduct]; omega)) rfl ⟨rfl, rfl⟩ ⟨cx_le rfl, cx_le rfl⟩ rfl (cx_le rfl) (fun M2 _ h => ?_)
  refine cx_aload_n 1 dX10_readSum_49 rfl ?_
  refine cx_iload_n 0 dX10_readSum_50 rfl ?_
  refine cx_cVv [.int z0] [] h (fun rs' h' => tw_lay_m H M2 z0 rs' h') (tw_rc H) dX10_readSum_51 g_X10_203 hg_X10_203 (by refine ⟨?_, ?_⟩ <;> (dsimp only [sX10_readSum, sX10_lay]; omega)) rfl ⟨rfl, rfl⟩ ⟨cx_le rfl, cx_le rfl⟩ rfl (cx_le rfl) (fun M3 _ h => ?_)
  refine cx_goto 5 dX10_readSum_54 rfl ?_
  refine cx_sub (lv' := [(0, .ref (adr 60)), (1, .int x1)]) [1, 2] rfl ?_
  exact hr_5 M3 x1 _ h
noncomputable def tw_readSum_23 (N : Nat) (rE : cx_M → Int32 → Option cx_R) (r_5 : cx_M → Int32 → Option cx_R) (M : cx_M) (x1 : Int32) : Option cx_R :=
  cx_cal (tw_isMarked N M 43) fun M1 v2 =>
  if v2 = 0 then (
    tw_readSum_39 N rE r_5 M1 x1 (-21))
  else (
    tw_readSum_39 N rE r_5 M1 x1 (-20))
set_option maxRecDepth 100000 in
theorem tw_readSum_23_v {l : Launch} {g : cx_G} {adr : Nat → Nat} {d : Nat} {X : cx_X} {N : Nat} {rE : cx_M → Int32 → Option cx_R} {r_5 : cx_M → Int32 → Option cx_R} (H : tw_H g adr) (hrE : ∀ (M : cx_M) (x : Int32) (rs : cx_R), rE M x = some rs → cx_Met l g yX10_readExpression cX10_readExpression (sX10_readExpression d) [.ref (adr 60), .int x] M rs) (hr_5 : ∀ (M : cx_M) (x1 : Int32) (rs : cx_R), r_5 M x1 = some rs → cx_V l (g) X (sX10_readSum d) cX10_readSum 5 [(0, .ref (adr 60)), (1, .int x1)] [] M 0 0 rs) (M : cx_M) (x1 : Int32) (rs : cx_R) (h : tw_readSum_23 N rE r_5 M x1 = some rs) : cx_V l (g) X (sX10_readSum d) cX10_readSum 23 [(0, .ref (adr 60)), (1, .int x1)] [] M 0 0 rs := by
  unfold tw_readSum_23 at h
  refine cx_aload_n 0 dX10_readSum_23 rfl ?_
  refine cx_bipush 43 dX10_readSum_24 cx_bp_43 ?_
  refine cx_cVi [.int 43] [] h (fun rs' h' => tw_isMarked_m H M 43 rs' h') (tw_rc H) dX10_readSum_26 g_X10_186 hg_X10_186 (by refine ⟨?_, ?_⟩ <;> (dsimp only [sX10_readSum, sX10_isMarked]; omega)) rfl ⟨rfl, rfl⟩ ⟨cx_le rfl, cx_le rfl⟩ rfl (cx_le rfl) (fun M1 v2 h => ?_)
  refine cx_if_eq 37 h dX10_readSum_29 rfl (fun h => ?_) (fun h => ?_)
  · refine cx_bipush (-21) dX10_readSum_37 cx_bp_m21 ?_
    exact tw_readSum_39_v H hrE hr_5 M1 x1 (-21) _ h
  · refine cx_bipush (-20) dX10_readSum_32 cx_bp_m20 ?_
    refine cx_goto 39 dX10_readSum_34 rfl ?_
    exact tw_readSum_39_v H hrE hr_5 M1 x1 (-20) _ h
noncomputable def tw_readSum_5b (N : Nat) (rE : cx_M → Int32 → Option cx_R) (r_5 : cx_M → Int32 → Option cx_R) (M : cx_M) (x1 : Int32) : Option cx_R :=
  cx_cal (tw_isMarked N M 43) fun M1 v2 =>
  if v2 = 0 then (
    cx_cal (tw_isMarked N M1 45) fun M3 v4 =>
    if v4 = 0 then (
      some (M3, 0, 0))
    else (
      tw_readSum_23 N rE r_5 M3 x1))
  else (
    tw_readSum_23 N rE r_5 M1 x1)
set_option maxRecDepth 100000 in
theorem tw_readSum_5b_v {l : Launch} {g : cx_G} {adr : Nat → Nat} {d : Nat} {X : cx_X} {N : Nat} {rE : cx_M → Int32 → Option cx_R} {r_5 : cx_M → Int32 → Option cx_R} (H : tw_H g adr) (hrE : ∀ (M : cx_M) (x : Int32) (rs : cx_R), rE M x = some rs → cx_Met l g yX10_readExpression cX10_readExpression (sX10_readExpression d) [.ref (adr 60), .int x] M rs) (hr_5 : ∀ (M : cx_M) (x1 : Int32) (rs : cx_R), r_5 M x1 = some rs → cx_V l (g) X (sX10_readSum d) cX10_readSum 5 [(0, .ref (adr 60)), (1, .int x1)] [] M 0 0 rs) (M : cx_M) (x1 : Int32) (rs : cx_R) (h : tw_readSum_5b N rE r_5 M x1 = some rs) : cx_V l (g) X (sX10_readSum d) cX10_readSum 5 [(0, .ref (adr 60)), (1, .int x1)] [] M 0 0 rs := by
  unfold tw_readSum_5b at h
  refine cx_aload_n 0 dX10_readSum_5 rfl ?_
  refine cx_bipush 43 dX10_readSum_6 cx_bp_43 ?_
  refine cx_cVi [.int 43] [] h (fun rs' h' => tw_isMarked_m H M 43 rs' h') (tw_rc H) dX10_readSum_8 g_X10_186 hg_X10_186 (by refine ⟨?_, ?_⟩ <;> (dsimp only [sX10_readSum, sX10_isMarked]; omega)) rfl ⟨rfl, rfl⟩ ⟨cx_le rfl, cx_le rfl⟩ rfl (cx_le rfl) (fun M1 v2 h => ?_)
  refine cx_if_ne 23 h dX10_readSum_11 rfl (fun h => ?_) (fun h => ?_)
  · exact tw_readSum_23_v H hrE hr_5 M1 x1 _ h
  · refine cx_aload_n 0 dX10_readSum_14 rfl ?_
    refine cx_bipush 45 dX10_readSum_15 cx_bp_45 ?_
    refine cx_cVi [.int 45] [] h (fun rs' h' => tw_isMarked_m H M1 45 rs' h') (tw_rc H) dX10_readSum_17 g_X10_186 hg_X10_186 (by refine ⟨?_, ?_⟩ <;> (dsimp only [sX10_readSum, sX10_isMarked]; omega)) rfl ⟨rfl, rfl⟩ ⟨cx_le rfl, cx_le rfl⟩ rfl (cx_le rfl) (fun M3 v4 h => ?_)
    refine cx_if_eq 57 h dX10_readSum_20 rfl (fun h => ?_) (fun h => ?_)
    · exact cx_vret h rfl rfl (cx_le rfl) (cx_le rfl) dX10_readSum_57
    · exact tw_readSum_23_v H hrE hr_5 M3 x1 _ h
noncomputable def tw_readSum_5 (N : Nat) (rE : cx_M → Int32 → Option cx_R) : Nat → cx_M → Int32 → Option cx_R :=
  cx_fix (fun _ _ => none) (fun r_5 => tw_readSum_5b N rE r_5)
theorem tw_readSum_5_v {l : Launch} {g : cx_G} {adr : Nat → Nat} {d : Nat} {X : cx_X} {N : Nat} {rE : cx_M → Int32 → Option cx_R} (H : tw_H g adr) (hrE : ∀ (M : cx_M) (x : Int32) (rs : cx_R), rE M x = some rs → cx_Met l g yX10_readExpression cX10_readExpression (sX10_readExpression d) [.ref (adr 60), .int x] M rs) : ∀ (n : Nat) (M : cx_M) (x1 : Int32) (rs : cx_R), tw_readSum_5 N rE n M x1 = some rs → cx_V l (g) X (sX10_readSum d) cX10_readSum 5 [(0, .ref (adr 60)), (1, .int x1)] [] M 0 0 rs :=
  cx_fixI (fun (r : cx_M → Int32 → Option cx_R) => ∀ (M : cx_M) (x1 : Int32) (rs : cx_R), r M x1 = some rs → cx_V l (g) X (sX10_readSum d) cX10_readSum 5 [(0, .ref (adr 60)), (1, .int x1)] [] M 0 0 rs) (fun _ _ _ h => by cases h) (fun r hr M x1 rs h => tw_readSum_5b_v H hrE hr M x1 rs h)
noncomputable def tw_readSum_0 (N : Nat) (rE : cx_M → Int32 → Option cx_R) (M : cx_M) (x1 : Int32) : Option cx_R :=
  cx_cal (tw_readProduct N rE M x1) fun M1 _ =>
  tw_readSum_5 N rE N M1 x1
set_option maxRecDepth 100000 in
theorem tw_readSum_0_v {l : Launch} {g : cx_G} {adr : Nat → Nat} {d : Nat} {X : cx_X} {N : Nat} {rE : cx_M → Int32 → Option cx_R} (H : tw_H g adr) (hrE : ∀ (M : cx_M) (x : Int32) (rs : cx_R), rE M x = some rs → cx_Met l g yX10_readExpression cX10_readExpression (sX10_readExpression d) [.ref (adr 60), .int x] M rs) (M : cx_M) (x1 : Int32) (rs : cx_R) (h : tw_readSum_0 N rE M x1 = some rs) : cx_V l (g) X (sX10_readSum d) cX10_readSum 0 [(0, .ref (adr 60)), (1, .int x1)] [] M 0 0 rs := by
  unfold tw_readSum_0 at h
  refine cx_aload_n 0 dX10_readSum_0 rfl ?_
  refine cx_iload_n 1 dX10_readSum_1 rfl ?_
  refine cx_cVv [.int x1] [] h (fun rs' h' => tw_readProduct_m H hrE M x1 rs' h') (tw_rc H) dX10_readSum_2 g_X10_219 hg_X10_219 (by refine ⟨?_, ?_⟩ <;> (dsimp only [sX10_readSum, sX10_readProduct]; omega)) rfl ⟨rfl, rfl⟩ ⟨cx_le rfl, cx_le rfl⟩ rfl (cx_le rfl) (fun M1 _ h => ?_)
  exact tw_readSum_5_v H hrE N M1 x1 _ h
noncomputable def tw_readSum (N : Nat) (rE : cx_M → Int32 → Option cx_R) (M : cx_M) (x1 : Int32) : Option cx_R := tw_readSum_0 N rE M x1
theorem tw_readSum_m {l : Launch} {g : cx_G} {adr : Nat → Nat} {d : Nat} {N : Nat} {rE : cx_M → Int32 → Option cx_R} (H : tw_H g adr) (hrE : ∀ (M : cx_M) (x : Int32) (rs : cx_R), rE M x = some rs → cx_Met l g yX10_readExpression cX10_readExpression (sX10_readExpression d) [.ref (adr 60), .int x] M rs) (M : cx_M) (x1 : Int32) (rs : cx_R) (h : tw_readSum N rE M x1 = some rs) : cx_Met l (g) yX10_readSum cX10_readSum (sX10_readSum d) [.ref (adr 60), .int x1] M rs :=
  cx_met (by decide +kernel) rfl rfl (lv := [(0, .ref (adr 60)), (1, .int x1)]) rfl (cx_le rfl) (fun X => cx_sub (lv' := [(0, .ref (adr 60)), (1, .int x1)]) [0, 1] rfl (tw_readSum_0_v H hrE M x1 rs h))
