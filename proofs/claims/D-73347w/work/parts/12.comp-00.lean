abbrev sX1_within : cx_S := (3, RX1, cx_rI, { frames := 0, cells := 0, slots := 0, locals := 0 }, some .boolean, false)
noncomputable def cCc_within_0 (N : cx_N) (M : cx_M) (x0 : Int32) (x1 : Int32) (x2 : Int32) : Option cx_R :=
  if x0 < x1 then (
    some (M, 0, 0))
  else (
    if x2 < x0 then (
      some (M, 0, 0))
    else (
      some (M, 1, 0)))
set_option maxRecDepth 100000 in
theorem cCc_within_0_v {l : Launch} {g : cx_G} {adr : Nat → Nat} {X : cx_X} {N : cx_N} (H : cCp_H g adr N) (M : cx_M) (x0 : Int32) (x1 : Int32) (x2 : Int32) (rs : cx_R) (h : cCc_within_0 N M x0 x1 x2 = some rs) : cx_V l (g) X sX1_within cX1_within 0 [(0, .int x0), (1, .int x1), (2, .int x2)] [] M 0 0 rs := by
  unfold cCc_within_0 at h
  refine cx_iload_n 0 dX1_within_0 rfl ?_
  refine cx_iload_n 1 dX1_within_1 rfl ?_
  refine cx_icmp_lt 14 h dX1_within_2 rfl (fun h => ?_) (fun h => ?_)
  · refine cx_iconst 0 dX1_within_14 cx_ic_0 ?_
    exact cx_zret h cx_z_0 rfl rfl (cx_le rfl) (cx_le rfl) dX1_within_15
  · refine cx_iload_n 0 dX1_within_5 rfl ?_
    refine cx_iload_n 2 dX1_within_6 rfl ?_
    refine cx_icmp_gt 14 h dX1_within_7 rfl (fun h => ?_) (fun h => ?_)
    · refine cx_iconst 0 dX1_within_14 cx_ic_0 ?_
      exact cx_zret h cx_z_0 rfl rfl (cx_le rfl) (cx_le rfl) dX1_within_15
    · refine cx_iconst 1 dX1_within_10 cx_ic_1 ?_
      refine cx_goto 15 dX1_within_11 rfl ?_
      exact cx_zret h cx_z_1 rfl rfl (cx_le rfl) (cx_le rfl) dX1_within_15
noncomputable def cCc_within (N : cx_N) (M : cx_M) (x0 : Int32) (x1 : Int32) (x2 : Int32) : Option cx_R := cCc_within_0 N M x0 x1 x2
theorem cCc_within_m {l : Launch} {g : cx_G} {adr : Nat → Nat} {N : cx_N} (H : cCp_H g adr N) (M : cx_M) (x0 : Int32) (x1 : Int32) (x2 : Int32) (rs : cx_R) (h : cCc_within N M x0 x1 x2 = some rs) : cx_Met l (g) yX1_within cX1_within sX1_within [.int x0, .int x1, .int x2] M rs :=
  cx_met (by decide +kernel) rfl rfl (lv := [(0, .int x0), (1, .int x1), (2, .int x2)]) rfl (cx_le rfl) (fun X => cx_sub (lv' := [(0, .int x0), (1, .int x1), (2, .int x2)]) [0, 1, 2] rfl (cCc_within_0_v H M x0 x1 x2 rs h))

abbrev sX1_there : cx_S := (1, RX1, cx_rV, { frames := 0, cells := 0, slots := 0, locals := 0 }, none, false)
noncomputable def cCc_there_0 (N : cx_N) (M : cx_M) (x0 : Int32) : Option cx_R :=
  if x0 = 0 then (
    none)
  else (
    some (M, 0, 0))
set_option maxRecDepth 100000 in
theorem cCc_there_0_v {l : Launch} {g : cx_G} {adr : Nat → Nat} {X : cx_X} {N : cx_N} (H : cCp_H g adr N) (M : cx_M) (x0 : Int32) (rs : cx_R) (h : cCc_there_0 N M x0 = some rs) : cx_V l (g) X sX1_there cX1_there 0 [(0, .int x0)] [] M 0 0 rs := by
  unfold cCc_there_0 at h
  refine cx_iload_n 0 dX1_there_0 rfl ?_
  refine cx_if_ne 12 h dX1_there_1 rfl (fun h => ?_) (fun h => ?_)
  · exact cx_vret h rfl rfl (cx_le rfl) (cx_le rfl) dX1_there_12
  · cases h
noncomputable def cCc_there (N : cx_N) (M : cx_M) (x0 : Int32) : Option cx_R := cCc_there_0 N M x0
theorem cCc_there_m {l : Launch} {g : cx_G} {adr : Nat → Nat} {N : cx_N} (H : cCp_H g adr N) (M : cx_M) (x0 : Int32) (rs : cx_R) (h : cCc_there N M x0 = some rs) : cx_Met l (g) yX1_there cX1_there sX1_there [.int x0] M rs :=
  cx_met (by decide +kernel) rfl rfl (lv := [(0, .int x0)]) rfl (cx_le rfl) (fun X => cx_sub (lv' := [(0, .int x0)]) [0] rfl (cCc_there_0_v H M x0 rs h))

abbrev sX6_level : cx_S := (4, RX6, cx_rI, { frames := 1, cells := 0, slots := 0, locals := 13 }, some .int, false)
noncomputable def cSt_level_48 (N : cx_N) (b : Nat) (r_13 : cx_M → Int32 → Int32 → Option cx_R) (M : cx_M) (x2 : Int32) (x3 : Int32) : Option cx_R :=
  cx_let (x3 + 1) fun v1 =>
  r_13 M x2 v1
set_option maxRecDepth 100000 in
theorem cSt_level_48_v {l : Launch} {g : cx_G} {adr : Nat → Nat} {X : cx_X} {N : cx_N} {b : Nat} {r_13 : cx_M → Int32 → Int32 → Option cx_R} (H : cCp_H g adr N) (hb : cSt_H g adr b) (hr_13 : ∀ (M : cx_M) (x2 : Int32) (x3 : Int32) (rs : cx_R), r_13 M x2 x3 = some rs → cx_V l (g) X sX6_level cX6_level 13 [(0, .ref (adr b)), (1, .ref (adr 8000)), (2, .int x2), (3, .int x3)] [] M 0 0 rs) (M : cx_M) (x2 : Int32) (x3 : Int32) (rs : cx_R) (h : cSt_level_48 N b r_13 M x2 x3 = some rs) : cx_V l (g) X sX6_level cX6_level 48 [(0, .ref (adr b)), (1, .ref (adr 8000)), (2, .int x2), (3, .int x3)] [] M 0 0 rs := by
  unfold cSt_level_48 at h
  refine cx_iinc 3 1 (fun v1 => [(3, .int v1), (0, .ref (adr b)), (1, .ref (adr 8000)), (2, .int x2)]) h dX6_level_48 rfl cx_ic_1 (cx_lt rfl) (fun _ => rfl) (fun v1 h => ?_)
  refine cx_goto 13 dX6_level_51 rfl ?_
  refine cx_sub (lv' := [(0, .ref (adr b)), (1, .ref (adr 8000)), (2, .int x2), (3, .int v1)]) [1, 2, 3, 0] rfl ?_
  exact hr_13 M x2 v1 _ h
noncomputable def cSt_level_13b (N : cx_N) (b : Nat) (r_13 : cx_M → Int32 → Int32 → Option cx_R) (M : cx_M) (x2 : Int32) (x3 : Int32) : Option cx_R :=
  if 64 ≤ x3 then (
    if x2 = (-1) then (
      some (M, 0, 0))
    else (
      cx_get M 8000 0 fun v1 =>
      cx_get M b 14 fun v2 =>
      some (M, ((x2 + 1) * v1) - v2, 0)))
  else (
    cx_ld M (b + 38) 64 x3 fun v3 =>
    cx_get M b 14 fun v4 =>
    cx_get M 8000 0 fun v5 =>
    cx_nz v5 <|
    if v3 < (v4 / v5) then (
      cSt_level_48 N b r_13 M x2 x3)
    else (
      cx_ld M (b + 38) 64 x3 fun v6 =>
      cx_let (cx_max x2 v6) fun v7 =>
      cSt_level_48 N b r_13 M v7 x3))
set_option maxRecDepth 100000 in
theorem cSt_level_13b_v {l : Launch} {g : cx_G} {adr : Nat → Nat} {X : cx_X} {N : cx_N} {b : Nat} {r_13 : cx_M → Int32 → Int32 → Option cx_R} (H : cCp_H g adr N) (hb : cSt_H g adr b) (hr_13 : ∀ (M : cx_M) (x2 : Int32) (x3 : Int32) (rs : cx_R), r_13 M x2 x3 = some rs → cx_V l (g) X sX6_level cX6_level 13 [(0, .ref (adr b)), (1, .ref (adr 8000)), (2, .int x2), (3, .int x3)] [] M 0 0 rs) (M : cx_M) (x2 : Int32) (x3 : Int32) (rs : cx_R) (h : cSt_level_13b N b r_13 M x2 x3 = some rs) : cx_V l (g) X sX6_level cX6_level 13 [(0, .ref (adr b)), (1, .ref (adr 8000)), (2, .int x2), (3, .int x3)] [] M 0 0 rs := by
  unfold cSt_level_13b at h
  refine cx_iload_n 3 dX6_level_13 rfl ?_
  refine cx_bipush 64 dX6_level_14 cx_bp_64 ?_
  refine cx_icmp_ge 54 h dX6_level_16 rfl (fun h => ?_) (fun h => ?_)
  · refine cx_iload_n 2 dX6_level_54 rfl ?_
    refine cx_iconst (-1) dX6_level_55 cx_ic_m1 ?_
    refine cx_icmp_ne 63 h dX6_level_56 rfl (fun h => ?_) (fun h => ?_)
    · refine cx_iload_n 2 dX6_level_63 rfl ?_
      refine cx_iconst 1 dX6_level_64 cx_ic_1 ?_
      refine cx_iadd dX6_level_65 ?_
      refine cx_aload_n 1 dX6_level_66 rfl ?_
      refine cx_getIN h (cLn_F0 H) q559 dX6_level_67 (fun v1 h => ?_)
      refine cx_imul dX6_level_70 ?_
      refine cx_aload_n 0 dX6_level_71 rfl ?_
      refine cx_getI h (cSt_F14 hb) q676 dX6_level_72 (fun v2 h => ?_)
      refine cx_isub dX6_level_75 ?_
      exact cx_iret h rfl rfl (cx_le rfl) (cx_le rfl) dX6_level_76
    · refine cx_iconst 0 dX6_level_59 cx_ic_0 ?_
      refine cx_goto 76 dX6_level_60 rfl ?_
      exact cx_iret h rfl rfl (cx_le rfl) (cx_le rfl) dX6_level_76
  · refine cx_aload_n 0 dX6_level_19 rfl ?_
    refine cx_getR (cSt_R37 hb) q716 dX6_level_20 ?_
    refine cx_iload_n 3 dX6_level_23 rfl ?_
    refine cx_ldI h (cSt_A37 hb) dX6_level_24 (fun v3 h => ?_)
    refine cx_aload_n 0 dX6_level_25 rfl ?_
    refine cx_getI h (cSt_F14 hb) q676 dX6_level_26 (fun v4 h => ?_)
    refine cx_aload_n 1 dX6_level_29 rfl ?_
    refine cx_getIN h (cLn_F0 H) q559 dX6_level_30 (fun v5 h => ?_)
    refine cx_idiv h dX6_level_33 (fun h => ?_)
    refine cx_icmp_lt 48 h dX6_level_34 rfl (fun h => ?_) (fun h => ?_)
    · exact cSt_level_48_v H hb hr_13 M x2 x3 _ h
    · refine cx_iload_n 2 dX6_level_37 rfl ?_
      refine cx_aload_n 0 dX6_level_38 rfl ?_
      refine cx_getR (cSt_R37 hb) q716 dX6_level_39 ?_
      refine cx_iload_n 3 dX6_level_42 rfl ?_
      refine cx_ldI h (cSt_A37 hb) dX6_level_43 (fun v6 h => ?_)
      refine cx_mmax dX6_level_44 q989 (cx_le rfl) (cx_le rfl) (cx_le rfl) (cx_le rfl) ?_
      refine cx_letI h (fun v7 h => ?_)
      refine cx_istore_n [(2, .int v7), (0, .ref (adr b)), (1, .ref (adr 8000)), (3, .int x3)] dX6_level_47 (cx_lt rfl) rfl ?_
      refine cx_sub (lv' := [(0, .ref (adr b)), (1, .ref (adr 8000)), (2, .int v7), (3, .int x3)]) [1, 2, 0, 3] rfl ?_
      exact cSt_level_48_v H hb hr_13 M v7 x3 _ h
noncomputable def cSt_level_13 (N : cx_N) (b : Nat) : Nat → cx_M → Int32 → Int32 → Option cx_R :=
  cx_fix (fun _ _ _ => none) (fun r_13 => cSt_level_13b N b r_13)
theorem cSt_level_13_v {l : Launch} {g : cx_G} {adr : Nat → Nat} {X : cx_X} {N : cx_N} {b : Nat} (H : cCp_H g adr N) (hb : cSt_H g adr b) : ∀ (n : Nat) (M : cx_M) (x2 : Int32) (x3 : Int32) (rs : cx_R), cSt_level_13 N b n M x2 x3 = some rs → cx_V l (g) X sX6_level cX6_level 13 [(0, .ref (adr b)), (1, .ref (adr 8000)), (2, .int x2), (3, .int x3)] [] M 0 0 rs :=
  cx_fixI (fun (r : cx_M → Int32 → Int32 → Option cx_R) => ∀ (M : cx_M) (x2 : Int32) (x3 : Int32) (rs : cx_R), r M x2 x3 = some rs → cx_V l (g) X sX6_level cX6_level 13 [(0, .ref (adr b)), (1, .ref (adr 8000)), (2, .int x2), (3, .int x3)] [] M 0 0 rs) (fun _ _ _ _ h => by cases h) (fun r hr M x2 x3 rs h => cSt_level_13b_v H hb hr M x2 x3 rs h)
noncomputable def cSt_level_0 (N : cx_N) (b : Nat) (M : cx_M) : Option cx_R :=
  cx_get M b 8 fun v1 =>
  if v1 = 0 then (
    some (M, 0, 0))
  else (
    cSt_level_13 N b N.1 M (-1) 0)
set_option maxRecDepth 100000 in
theorem cSt_level_0_v {l : Launch} {g : cx_G} {adr : Nat → Nat} {X : cx_X} {N : cx_N} {b : Nat} (H : cCp_H g adr N) (hb : cSt_H g adr b) (M : cx_M) (rs : cx_R) (h : cSt_level_0 N b M = some rs) : cx_V l (g) X sX6_level cX6_level 0 [(0, .ref (adr b)), (1, .ref (adr 8000))] [] M 0 0 rs := by
  unfold cSt_level_0 at h
  refine cx_aload_n 0 dX6_level_0 rfl ?_
  refine cx_getI h (cSt_F8 hb) q664 dX6_level_1 (fun v1 h => ?_)
  refine cx_if_ne 9 h dX6_level_4 rfl (fun h => ?_) (fun h => ?_)
  · refine cx_iconst (-1) dX6_level_9 cx_ic_m1 ?_
    refine cx_istore_n [(2, .int (-1)), (0, .ref (adr b)), (1, .ref (adr 8000))] dX6_level_10 (cx_lt rfl) rfl ?_
    refine cx_iconst 0 dX6_level_11 cx_ic_0 ?_
    refine cx_istore_n [(3, .int 0), (2, .int (-1)), (0, .ref (adr b)), (1, .ref (adr 8000))] dX6_level_12 (cx_lt rfl) rfl ?_
    refine cx_sub (lv' := [(0, .ref (adr b)), (1, .ref (adr 8000)), (2, .int (-1)), (3, .int 0)]) [2, 3, 1, 0] rfl ?_
    exact cSt_level_13_v H hb N.1 M (-1) 0 _ h
  · refine cx_iconst 0 dX6_level_7 cx_ic_0 ?_
    exact cx_iret h rfl rfl (cx_le rfl) (cx_le rfl) dX6_level_8
noncomputable def cSt_level (N : cx_N) (b : Nat) (M : cx_M) : Option cx_R := cSt_level_0 N b M
theorem cSt_level_m {l : Launch} {g : cx_G} {adr : Nat → Nat} {N : cx_N} {b : Nat} (H : cCp_H g adr N) (hb : cSt_H g adr b) (M : cx_M) (rs : cx_R) (h : cSt_level N b M = some rs) : cx_Met l (g) yX6_level cX6_level sX6_level [.ref (adr b), .ref (adr 8000)] M rs :=
  cx_met (by decide +kernel) rfl rfl (lv := [(0, .ref (adr b)), (1, .ref (adr 8000))]) rfl (cx_le rfl) (fun X => cx_sub (lv' := [(0, .ref (adr b)), (1, .ref (adr 8000))]) [0, 1] rfl (cSt_level_0_v H hb M rs h))

abbrev sX1_regained : cx_S := (2, RX1, cx_rI, { frames := 0, cells := 0, slots := 0, locals := 0 }, some .int, false)
noncomputable def cCc_regained_0 (N : cx_N) (b2 : Nat) (M : cx_M) (x1 : Int32) : Option cx_R :=
  cx_get M b2 8 fun v1 =>
  if v1 = 0 then (
    some (M, 10000, 0))
  else (
    cx_get M b2 19 fun v2 =>
    if v2 = 0 then (
      some (M, 10000, 0))
    else (
      cx_get M b2 20 fun v3 =>
      cx_get M b2 19 fun v4 =>
      cx_nz v4 <|
      some (M, ((((1000 : Int32) * x1) * v3) / v4) - 1000, 0)))
set_option maxRecDepth 100000 in
theorem cCc_regained_0_v {l : Launch} {g : cx_G} {adr : Nat → Nat} {X : cx_X} {N : cx_N} {b2 : Nat} (H : cCp_H g adr N) (hb2 : cSt_H g adr b2) (M : cx_M) (x1 : Int32) (rs : cx_R) (h : cCc_regained_0 N b2 M x1 = some rs) : cx_V l (g) X sX1_regained cX1_regained 0 [(0, .ref (adr b2)), (1, .int x1)] [] M 0 0 rs := by
  unfold cCc_regained_0 at h
  refine cx_aload_n 0 dX1_regained_0 rfl ?_
  refine cx_getIN h (cSt_F8 hb2) q665 dX1_regained_1 (fun v1 h => ?_)
  refine cx_if_eq 14 h dX1_regained_4 rfl (fun h => ?_) (fun h => ?_)
  · refine cx_sipush 10000 dX1_regained_14 cx_sp_10000 ?_
    refine cx_goto 39 dX1_regained_17 rfl ?_
    exact cx_iret h rfl rfl (cx_le rfl) (cx_le rfl) dX1_regained_39
  · refine cx_aload_n 0 dX1_regained_7 rfl ?_
    refine cx_getIN h (cSt_F19 hb2) q683 dX1_regained_8 (fun v2 h => ?_)
    refine cx_if_ne 20 h dX1_regained_11 rfl (fun h => ?_) (fun h => ?_)
    · refine cx_sipush 1000 dX1_regained_20 cx_sp_1000 ?_
      refine cx_iload_n 1 dX1_regained_23 rfl ?_
      refine cx_imul dX1_regained_24 ?_
      refine cx_aload_n 0 dX1_regained_25 rfl ?_
      refine cx_getIN h (cSt_F20 hb2) q685 dX1_regained_26 (fun v3 h => ?_)
      refine cx_imul dX1_regained_29 ?_
      refine cx_aload_n 0 dX1_regained_30 rfl ?_
      refine cx_getIN h (cSt_F19 hb2) q683 dX1_regained_31 (fun v4 h => ?_)
      refine cx_idiv h dX1_regained_34 (fun h => ?_)
      refine cx_sipush 1000 dX1_regained_35 cx_sp_1000 ?_
      refine cx_isub dX1_regained_38 ?_
      exact cx_iret h rfl rfl (cx_le rfl) (cx_le rfl) dX1_regained_39
    · refine cx_sipush 10000 dX1_regained_14 cx_sp_10000 ?_
      refine cx_goto 39 dX1_regained_17 rfl ?_
      exact cx_iret h rfl rfl (cx_le rfl) (cx_le rfl) dX1_regained_39
noncomputable def cCc_regained (N : cx_N) (b2 : Nat) (M : cx_M) (x1 : Int32) : Option cx_R := cCc_regained_0 N b2 M x1
theorem cCc_regained_m {l : Launch} {g : cx_G} {adr : Nat → Nat} {N : cx_N} {b2 : Nat} (H : cCp_H g adr N) (hb2 : cSt_H g adr b2) (M : cx_M) (x1 : Int32) (rs : cx_R) (h : cCc_regained N b2 M x1 = some rs) : cx_Met l (g) yX1_regained cX1_regained sX1_regained [.ref (adr b2), .int x1] M rs :=
  cx_met (by decide +kernel) rfl rfl (lv := [(0, .ref (adr b2)), (1, .int x1)]) rfl (cx_le rfl) (fun X => cx_sub (lv' := [(0, .ref (adr b2)), (1, .int x1)]) [0, 1] rfl (cCc_regained_0_v H hb2 M x1 rs h))

abbrev sX6_kept : cx_S := (2, RX6, cx_rI, { frames := 1, cells := 0, slots := 0, locals := 13 }, some .int, false)
noncomputable def cSt_kept_0 (N : cx_N) (b : Nat) (M : cx_M) (x1 : Int32) : Option cx_R :=
  some (M, cx_min 128 x1, 0)
set_option maxRecDepth 100000 in
theorem cSt_kept_0_v {l : Launch} {g : cx_G} {adr : Nat → Nat} {X : cx_X} {N : cx_N} {b : Nat} (H : cCp_H g adr N) (hb : cSt_H g adr b) (M : cx_M) (x1 : Int32) (rs : cx_R) (h : cSt_kept_0 N b M x1 = some rs) : cx_V l (g) X sX6_kept cX6_kept 0 [(1, .int x1)] [] M 0 0 rs := by
  unfold cSt_kept_0 at h
  refine cx_sipush 128 dX6_kept_0 cx_sp_128 ?_
  refine cx_iload_n 0 dX6_kept_3 rfl ?_
  refine cx_mmin dX6_kept_4 q1221 (cx_le rfl) (cx_le rfl) (cx_le rfl) (cx_le rfl) ?_
  exact cx_iret h rfl rfl (cx_le rfl) (cx_le rfl) dX6_kept_7
noncomputable def cSt_kept (N : cx_N) (b : Nat) (M : cx_M) (x1 : Int32) : Option cx_R := cSt_kept_0 N b M x1
theorem cSt_kept_m {l : Launch} {g : cx_G} {adr : Nat → Nat} {N : cx_N} {b : Nat} (H : cCp_H g adr N) (hb : cSt_H g adr b) (M : cx_M) (x1 : Int32) (rs : cx_R) (h : cSt_kept N b M x1 = some rs) : cx_Met l (g) yX6_kept cX6_kept sX6_kept [.ref (adr b), .int x1] M rs :=
  cx_met (by decide +kernel) rfl rfl (lv := [(0, .ref (adr b)), (1, .int x1)]) rfl (cx_le rfl) (fun X => cx_sub (lv' := [(1, .int x1)]) [1] rfl (cSt_kept_0_v H hb M x1 rs h))

abbrev sX1_count : cx_S := (2, RX1, cx_rI, { frames := 2, cells := 0, slots := 0, locals := 36 }, some .int, false)
noncomputable def cCc_count_0 (N : cx_N) (M : cx_M) (x1 : Int32) : Option cx_R :=
  cx_cal (cCc_within N M x1 0 22) fun M1 v2 =>
  cx_cal (cCc_there N M1 v2) fun M3 _ =>
  cx_sw x1 0 [
      (cx_get M3 1000 0 fun v5 =>
      some (M3, v5, 0)),
      (cx_get M3 1000 1 fun v6 =>
      some (M3, v6, 0)),
      (cx_get M3 1000 2 fun v7 =>
      some (M3, v7, 0)),
      (cx_get M3 1000 3 fun v8 =>
      some (M3, v8, 0)),
      (cx_get M3 1000 33 fun v9 =>
      some (M3, v9, 0)),
      (cx_get M3 1000 4 fun v10 =>
      some (M3, v10, 0)),
      (cx_get M3 1000 5 fun v11 =>
      some (M3, v11, 0)),
      (cx_get M3 1000 6 fun v12 =>
      some (M3, v12, 0)),
      (cx_get M3 1000 7 fun v13 =>
      some (M3, v13, 0)),
      (cx_cal (cSt_level N 1000 M3) fun M14 v15 =>
      some (M14, v15, 0)),
      (cx_get M3 1000 8 fun v16 =>
      some (M3, v16, 0)),
      (cx_get M3 1000 12 fun v17 =>
      some (M3, v17, 0)),
      (cx_get M3 1000 11 fun v18 =>
      some (M3, v18, 0)),
      (cx_get M3 8000 0 fun v19 =>
      cx_cal (cCc_regained N 1000 M3 v19) fun M20 v21 =>
      some (M20, v21, 0)),
      (cx_get M3 1000 22 fun v22 =>
      some (M3, v22, 0)),
      (cx_get M3 1000 23 fun v23 =>
      some (M3, v23, 0)),
      (cx_get M3 1000 24 fun v24 =>
      cx_cal (cSt_kept N 1000 M3 v24) fun M25 v26 =>
      some (M25, v26, 0)),
      (cx_get M3 600 5 fun v27 =>
      some (M3, v27, 0)),
      (cx_get M3 600 6 fun v28 =>
      some (M3, v28, 0)),
      (cx_get M3 500 9 fun v29 =>
      some (M3, v29, 0))
    ] (
      cx_ld M3 605 3 (x1 - 20) fun v4 =>
      some (M3, v4, 0))
set_option maxRecDepth 100000 in
theorem cCc_count_0_v {l : Launch} {g : cx_G} {adr : Nat → Nat} {X : cx_X} {N : cx_N} (H : cCp_H g adr N) (M : cx_M) (x1 : Int32) (rs : cx_R) (h : cCc_count_0 N M x1 = some rs) : cx_V l (g) X sX1_count cX1_count 0 [(0, .ref (adr 500)), (1, .int x1)] [] M 0 0 rs := by
  unfold cCc_count_0 at h
  refine cx_iload_n 1 dX1_count_0 rfl ?_
  refine cx_iconst 0 dX1_count_1 cx_ic_0 ?_
  refine cx_bipush 22 dX1_count_2 cx_bp_22 ?_
  refine cx_cSi [.int x1, .int 0, .int 22] [] h (fun rs' h' => cCc_within_m H M x1 0 22 rs' h') dX1_count_4 g_X1_180 hg_X1_180 ⟨cx_le rfl, cx_le rfl⟩ rfl ⟨rfl, rfl⟩ ⟨cx_le rfl, cx_le rfl⟩ rfl (cx_le rfl) (fun M1 v2 h => ?_)
  refine cx_cSv [.int v2] [] h (fun rs' h' => cCc_there_m H M1 v2 rs' h') dX1_count_7 g_X1_184 hg_X1_184 ⟨cx_le rfl, cx_le rfl⟩ rfl ⟨rfl, rfl⟩ ⟨cx_le rfl, cx_le rfl⟩ rfl (cx_le rfl) (fun M3 _ h => ?_)
  refine cx_iload_n 1 dX1_count_10 rfl ?_
  refine cx_table 279 [104, 112, 120, 128, 136, 144, 152, 160, 168, 176, 188, 196, 204, 212, 227, 235, 243, 258, 266, 274] 20 h dX1_count_11 (by decide +kernel) rfl rfl rfl (by decide +kernel) (fun h => ?_) (fun j B hB h => ?_)
  · refine cx_aload_n 0 dX1_count_279 rfl ?_
    refine cx_getR (cCc_R1 H) q1018 dX1_count_280 ?_
    refine cx_getRN (cBk_R4 (cBk_i600 H)) q900 dX1_count_283 ?_
    refine cx_iload_n 1 dX1_count_286 rfl ?_
    refine cx_bipush 20 dX1_count_287 cx_bp_20 ?_
    refine cx_isub dX1_count_289 ?_
    refine cx_ldI h (cBk_A4 (cBk_i600 H)) dX1_count_290 (fun v4 h => ?_)
    exact cx_iret h rfl rfl (cx_le rfl) (cx_le rfl) dX1_count_291
  · match j, hB with
    | 0, hB =>
      cases hB
      refine cx_at (pc2 := 104) rfl ?_
      refine cx_aload_n 0 dX1_count_104 rfl ?_
      refine cx_getR (cCc_R3 H) q1020 dX1_count_105 ?_
      refine cx_getIN h (cSt_F0 (cSt_i1000 H)) q649 dX1_count_108 (fun v5 h => ?_)
      exact cx_iret h rfl rfl (cx_le rfl) (cx_le rfl) dX1_count_111
    | 1, hB =>
      cases hB
      refine cx_at (pc2 := 112) rfl ?_
      refine cx_aload_n 0 dX1_count_112 rfl ?_
      refine cx_getR (cCc_R3 H) q1020 dX1_count_113 ?_
      refine cx_getIN h (cSt_F1 (cSt_i1000 H)) q651 dX1_count_116 (fun v6 h => ?_)
      exact cx_iret h rfl rfl (cx_le rfl) (cx_le rfl) dX1_count_119
    | 2, hB =>
      cases hB
      refine cx_at (pc2 := 120) rfl ?_
      refine cx_aload_n 0 dX1_count_120 rfl ?_
      refine cx_getR (cCc_R3 H) q1020 dX1_count_121 ?_
      refine cx_getIN h (cSt_F2 (cSt_i1000 H)) q653 dX1_count_124 (fun v7 h => ?_)
      exact cx_iret h rfl rfl (cx_le rfl) (cx_le rfl) dX1_count_127
    | 3, hB =>
      cases hB
      refine cx_at (pc2 := 128) rfl ?_
      refine cx_aload_n 0 dX1_count_128 rfl ?_
      refine cx_getR (cCc_R3 H) q1020 dX1_count_129 ?_
      refine cx_getIN h (cSt_F3 (cSt_i1000 H)) q655 dX1_count_132 (fun v8 h => ?_)
      exact cx_iret h rfl rfl (cx_le rfl) (cx_le rfl) dX1_count_135
    | 4, hB =>
      cases hB
      refine cx_at (pc2 := 136) rfl ?_
      refine cx_aload_n 0 dX1_count_136 rfl ?_
      refine cx_getR (cCc_R3 H) q1020 dX1_count_137 ?_
      refine cx_getIN h (cSt_F33 (cSt_i1000 H)) q709 dX1_count_140 (fun v9 h => ?_)
      exact cx_iret h rfl rfl (cx_le rfl) (cx_le rfl) dX1_count_143
    | 5, hB =>
      cases hB
      refine cx_at (pc2 := 144) rfl ?_
      refine cx_aload_n 0 dX1_count_144 rfl ?_
      refine cx_getR (cCc_R3 H) q1020 dX1_count_145 ?_
      refine cx_getIN h (cSt_F4 (cSt_i1000 H)) q657 dX1_count_148 (fun v10 h => ?_)
      exact cx_iret h rfl rfl (cx_le rfl) (cx_le rfl) dX1_count_151
    | 6, hB =>
      cases hB
      refine cx_at (pc2 := 152) rfl ?_
      refine cx_aload_n 0 dX1_count_152 rfl ?_
      refine cx_getR (cCc_R3 H) q1020 dX1_count_153 ?_
      refine cx_getIN h (cSt_F5 (cSt_i1000 H)) q659 dX1_count_156 (fun v11 h => ?_)
      exact cx_iret h rfl rfl (cx_le rfl) (cx_le rfl) dX1_count_159
    | 7, hB =>
      cases hB
      refine cx_at (pc2 := 160) rfl ?_
      refine cx_aload_n 0 dX1_count_160 rfl ?_
      refine cx_getR (cCc_R3 H) q1020 dX1_count_161 ?_
      refine cx_getIN h (cSt_F6 (cSt_i1000 H)) q661 dX1_count_164 (fun v12 h => ?_)
      exact cx_iret h rfl rfl (cx_le rfl) (cx_le rfl) dX1_count_167
    | 8, hB =>
      cases hB
      refine cx_at (pc2 := 168) rfl ?_
      refine cx_aload_n 0 dX1_count_168 rfl ?_
      refine cx_getR (cCc_R3 H) q1020 dX1_count_169 ?_
      refine cx_getIN h (cSt_F7 (cSt_i1000 H)) q663 dX1_count_172 (fun v13 h => ?_)
      exact cx_iret h rfl rfl (cx_le rfl) (cx_le rfl) dX1_count_175
    | 9, hB =>
      cases hB
      refine cx_at (pc2 := 176) rfl ?_
      refine cx_aload_n 0 dX1_count_176 rfl ?_
      refine cx_getR (cCc_R3 H) q1020 dX1_count_177 ?_
      refine cx_aload_n 0 dX1_count_180 rfl ?_
      refine cx_getR (cCc_R0 H) q1017 dX1_count_181 ?_
      refine cx_cVi [.ref (adr 8000)] [] h (fun rs' h' => cSt_level_m H (cSt_i1000 H) M3 rs' h') (cSt_rc (cSt_i1000 H)) dX1_count_184 g_X1_214 hg_X1_214 ⟨cx_le rfl, cx_le rfl⟩ rfl ⟨rfl, rfl⟩ ⟨cx_le rfl, cx_le rfl⟩ rfl (cx_le rfl) (fun M14 v15 h => ?_)
      exact cx_iret h rfl rfl (cx_le rfl) (cx_le rfl) dX1_count_187
    | 10, hB =>
      cases hB
      refine cx_at (pc2 := 188) rfl ?_
      refine cx_aload_n 0 dX1_count_188 rfl ?_
      refine cx_getR (cCc_R3 H) q1020 dX1_count_189 ?_
      refine cx_getIN h (cSt_F8 (cSt_i1000 H)) q665 dX1_count_192 (fun v16 h => ?_)
      exact cx_iret h rfl rfl (cx_le rfl) (cx_le rfl) dX1_count_195
    | 11, hB =>
      cases hB
      refine cx_at (pc2 := 196) rfl ?_
      refine cx_aload_n 0 dX1_count_196 rfl ?_
      refine cx_getR (cCc_R3 H) q1020 dX1_count_197 ?_
      refine cx_getIN h (cSt_F12 (cSt_i1000 H)) q673 dX1_count_200 (fun v17 h => ?_)
      exact cx_iret h rfl rfl (cx_le rfl) (cx_le rfl) dX1_count_203
    | 12, hB =>
      cases hB
      refine cx_at (pc2 := 204) rfl ?_
      refine cx_aload_n 0 dX1_count_204 rfl ?_
      refine cx_getR (cCc_R3 H) q1020 dX1_count_205 ?_
      refine cx_getIN h (cSt_F11 (cSt_i1000 H)) q671 dX1_count_208 (fun v18 h => ?_)
      exact cx_iret h rfl rfl (cx_le rfl) (cx_le rfl) dX1_count_211
    | 13, hB =>
      cases hB
      refine cx_at (pc2 := 212) rfl ?_
      refine cx_aload_n 0 dX1_count_212 rfl ?_
      refine cx_getR (cCc_R3 H) q1020 dX1_count_213 ?_
      refine cx_aload_n 0 dX1_count_216 rfl ?_
      refine cx_getR (cCc_R0 H) q1017 dX1_count_217 ?_
      refine cx_getIN h (cLn_F0 H) q560 dX1_count_220 (fun v19 h => ?_)
      refine cx_cSi [.ref (adr 1000), .int v19] [] h (fun rs' h' => cCc_regained_m H (cSt_i1000 H) M3 v19 rs' h') dX1_count_223 g_X1_227 hg_X1_227 ⟨cx_le rfl, cx_le rfl⟩ rfl ⟨rfl, rfl⟩ ⟨cx_le rfl, cx_le rfl⟩ rfl (cx_le rfl) (fun M20 v21 h => ?_)
      exact cx_iret h rfl rfl (cx_le rfl) (cx_le rfl) dX1_count_226
    | 14, hB =>
      cases hB
      refine cx_at (pc2 := 227) rfl ?_
      refine cx_aload_n 0 dX1_count_227 rfl ?_
      refine cx_getR (cCc_R3 H) q1020 dX1_count_228 ?_
      refine cx_getIN h (cSt_F22 (cSt_i1000 H)) q688 dX1_count_231 (fun v22 h => ?_)
      exact cx_iret h rfl rfl (cx_le rfl) (cx_le rfl) dX1_count_234
    | 15, hB =>
      cases hB
      refine cx_at (pc2 := 235) rfl ?_
      refine cx_aload_n 0 dX1_count_235 rfl ?_
      refine cx_getR (cCc_R3 H) q1020 dX1_count_236 ?_
      refine cx_getIN h (cSt_F23 (cSt_i1000 H)) q690 dX1_count_239 (fun v23 h => ?_)
      exact cx_iret h rfl rfl (cx_le rfl) (cx_le rfl) dX1_count_242
    | 16, hB =>
      cases hB
      refine cx_at (pc2 := 243) rfl ?_
      refine cx_aload_n 0 dX1_count_243 rfl ?_
      refine cx_getR (cCc_R3 H) q1020 dX1_count_244 ?_
      refine cx_aload_n 0 dX1_count_247 rfl ?_
      refine cx_getR (cCc_R3 H) q1020 dX1_count_248 ?_
      refine cx_getIN h (cSt_F24 (cSt_i1000 H)) q692 dX1_count_251 (fun v24 h => ?_)
      refine cx_cVi [.int v24] [] h (fun rs' h' => cSt_kept_m H (cSt_i1000 H) M3 v24 rs' h') (cSt_rc (cSt_i1000 H)) dX1_count_254 g_X1_240 hg_X1_240 ⟨cx_le rfl, cx_le rfl⟩ rfl ⟨rfl, rfl⟩ ⟨cx_le rfl, cx_le rfl⟩ rfl (cx_le rfl) (fun M25 v26 h => ?_)
      exact cx_iret h rfl rfl (cx_le rfl) (cx_le rfl) dX1_count_257
    | 17, hB =>
      cases hB
      refine cx_at (pc2 := 258) rfl ?_
      refine cx_aload_n 0 dX1_count_258 rfl ?_
      refine cx_getR (cCc_R1 H) q1018 dX1_count_259 ?_
      refine cx_getIN h (cBk_F5 (cBk_i600 H)) q902 dX1_count_262 (fun v27 h => ?_)
      exact cx_iret h rfl rfl (cx_le rfl) (cx_le rfl) dX1_count_265
    | 18, hB =>
      cases hB
      refine cx_at (pc2 := 266) rfl ?_
      refine cx_aload_n 0 dX1_count_266 rfl ?_
      refine cx_getR (cCc_R1 H) q1018 dX1_count_267 ?_
      refine cx_getIN h (cBk_F6 (cBk_i600 H)) q904 dX1_count_270 (fun v28 h => ?_)
      exact cx_iret h rfl rfl (cx_le rfl) (cx_le rfl) dX1_count_273
    | 19, hB =>
      cases hB
      refine cx_at (pc2 := 274) rfl ?_
      refine cx_aload_n 0 dX1_count_274 rfl ?_
      refine cx_getI h (cCc_F9 H) q1026 dX1_count_275 (fun v29 h => ?_)
      exact cx_iret h rfl rfl (cx_le rfl) (cx_le rfl) dX1_count_278
    | j + 20, hB => cases hB
noncomputable def cCc_count (N : cx_N) (M : cx_M) (x1 : Int32) : Option cx_R := cCc_count_0 N M x1
theorem cCc_count_m {l : Launch} {g : cx_G} {adr : Nat → Nat} {N : cx_N} (H : cCp_H g adr N) (M : cx_M) (x1 : Int32) (rs : cx_R) (h : cCc_count N M x1 = some rs) : cx_Met l (g) yX1_count cX1_count sX1_count [.ref (adr 500), .int x1] M rs :=
  cx_met (by decide +kernel) rfl rfl (lv := [(0, .ref (adr 500)), (1, .int x1)]) rfl (cx_le rfl) (fun X => cx_sub (lv' := [(0, .ref (adr 500)), (1, .int x1)]) [0, 1] rfl (cCc_count_0_v H M x1 rs h))

abbrev sX6_copies : cx_S := (2, RX6, cx_rV, { frames := 1, cells := 0, slots := 0, locals := 40 }, none, false)
noncomputable def cSt_copies_0 (N : cx_N) (c0 : Nat) (n0 : Nat) (c1 : Nat) (n1 : Nat) (M : cx_M) : Option cx_R :=
  cx_cpy M c0 n0 c1 n1 0 0 (nI (n1)) fun M1 =>
  some (M1, 0, 0)
set_option maxRecDepth 100000 in
theorem cSt_copies_0_v {l : Launch} {g : cx_G} {adr : Nat → Nat} {X : cx_X} {N : cx_N} {c0 : Nat} {n0 : Nat} {c1 : Nat} {n1 : Nat} (H : cCp_H g adr N) (hc0 : cx_AI g c0 n0 (adr c0) 0 .int) (hc1 : cx_AI g c1 n1 (adr c1) 0 .int) (M : cx_M) (rs : cx_R) (h : cSt_copies_0 N c0 n0 c1 n1 M = some rs) : cx_V l (g) X sX6_copies cX6_copies 0 [(0, .ref (adr c0)), (1, .ref (adr c1))] [] M 0 0 rs := by
  unfold cSt_copies_0 at h
  refine cx_aload_n 0 dX6_copies_0 rfl ?_
  refine cx_iconst 0 dX6_copies_1 cx_ic_0 ?_
  refine cx_aload_n 1 dX6_copies_2 rfl ?_
  refine cx_iconst 0 dX6_copies_3 cx_ic_0 ?_
  refine cx_aload_n 1 dX6_copies_4 rfl ?_
  refine cx_alen (nI (n1)) hc1 rfl dX6_copies_5 ?_
  refine cx_copy h hc0 hc1 dX6_copies_6 q1126 (cx_le rfl) (cx_le rfl) (fun M1 h => ?_)
  exact cx_vret h rfl rfl (cx_le rfl) (cx_le rfl) dX6_copies_9
noncomputable def cSt_copies (N : cx_N) (c0 : Nat) (n0 : Nat) (c1 : Nat) (n1 : Nat) (M : cx_M) : Option cx_R := cSt_copies_0 N c0 n0 c1 n1 M
theorem cSt_copies_m {l : Launch} {g : cx_G} {adr : Nat → Nat} {N : cx_N} {c0 : Nat} {n0 : Nat} {c1 : Nat} {n1 : Nat} (H : cCp_H g adr N) (hc0 : cx_AI g c0 n0 (adr c0) 0 .int) (hc1 : cx_AI g c1 n1 (adr c1) 0 .int) (M : cx_M) (rs : cx_R) (h : cSt_copies N c0 n0 c1 n1 M = some rs) : cx_Met l (g) yX6_copies cX6_copies sX6_copies [.ref (adr c0), .ref (adr c1)] M rs :=
  cx_met (by decide +kernel) rfl rfl (lv := [(0, .ref (adr c0)), (1, .ref (adr c1))]) rfl (cx_le rfl) (fun X => cx_sub (lv' := [(0, .ref (adr c0)), (1, .ref (adr c1))]) [0, 1] rfl (cSt_copies_0_v H hc0 hc1 M rs h))

abbrev sJ19_clear : cx_S := (1, RJ19, cx_rV, { frames := 0, cells := 0, slots := 0, locals := 0 }, none, false)
noncomputable def jBs_clear_0b (N : cx_N) (b : Nat) (r_0 : cx_M → Option cx_R) (M : cx_M) : Option cx_R :=
  cx_get M b 1 fun v1 =>
  if v1 ≤ 0 then (
    some (M, 0, 0))
  else (
    cx_get M b 1 fun v2 =>
    cx_let (v2 - 1) fun v3 =>
    cx_put M b 1 v3 fun M4 =>
    cx_stw M4 ((b + 1)) 2 v3 0 fun M5 =>
    r_0 M5)
set_option maxRecDepth 100000 in
theorem jBs_clear_0b_v {l : Launch} {g : cx_G} {adr : Nat → Nat} {X : cx_X} {N : cx_N} {b : Nat} {r_0 : cx_M → Option cx_R} (H : cCp_H g adr N) (hb : jBs_H g adr b) (hr_0 : ∀ (M : cx_M) (rs : cx_R), r_0 M = some rs → cx_V l (g) X sJ19_clear cJ19_clear 0 [(0, .ref (adr b))] [] M 0 0 rs) (M : cx_M) (rs : cx_R) (h : jBs_clear_0b N b r_0 M = some rs) : cx_V l (g) X sJ19_clear cJ19_clear 0 [(0, .ref (adr b))] [] M 0 0 rs := by
  unfold jBs_clear_0b at h
  refine cx_aload_n 0 dJ19_clear_0 rfl ?_
  refine cx_getI h (jBs_F1 hb) q638 dJ19_clear_1 (fun v1 h => ?_)
  refine cx_if_le 27 h dJ19_clear_4 rfl (fun h => ?_) (fun h => ?_)
  · exact cx_vret h rfl rfl (cx_le rfl) (cx_le rfl) dJ19_clear_27
  · refine cx_aload_n 0 dJ19_clear_7 rfl ?_
    refine cx_getR (jBs_R0 hb) q637 dJ19_clear_8 ?_
    refine cx_aload_n 0 dJ19_clear_11 rfl ?_
    refine cx_dup dJ19_clear_12 rfl ?_
    refine cx_getI h (jBs_F1 hb) q638 dJ19_clear_13 (fun v2 h => ?_)
    refine cx_iconst 1 dJ19_clear_16 cx_ic_1 ?_
    refine cx_isub dJ19_clear_17 ?_
    refine cx_letI h (fun v3 h => ?_)
    refine cx_dup_x1 dJ19_clear_18 rfl rfl ?_
    refine cx_putI h (jBs_F1 hb) rfl rfl rfl q638 dJ19_clear_19 (fun M4 h => ?_)
    refine cx_lconst 0 dJ19_clear_22 cx_lc_0 ?_
    refine cx_stW h (jBs_L0 hb) dJ19_clear_23 (fun M5 h => ?_)
    refine cx_goto 0 dJ19_clear_24 rfl ?_
    exact hr_0 M5 _ h
noncomputable def jBs_clear_0 (N : cx_N) (b : Nat) : Nat → cx_M → Option cx_R :=
  cx_fix (fun _ => none) (fun r_0 => jBs_clear_0b N b r_0)
theorem jBs_clear_0_v {l : Launch} {g : cx_G} {adr : Nat → Nat} {X : cx_X} {N : cx_N} {b : Nat} (H : cCp_H g adr N) (hb : jBs_H g adr b) : ∀ (n : Nat) (M : cx_M) (rs : cx_R), jBs_clear_0 N b n M = some rs → cx_V l (g) X sJ19_clear cJ19_clear 0 [(0, .ref (adr b))] [] M 0 0 rs :=
  cx_fixI (fun (r : cx_M → Option cx_R) => ∀ (M : cx_M) (rs : cx_R), r M = some rs → cx_V l (g) X sJ19_clear cJ19_clear 0 [(0, .ref (adr b))] [] M 0 0 rs) (fun _ _ h => by cases h) (fun r hr M rs h => jBs_clear_0b_v H hb hr M rs h)
noncomputable def jBs_clear (N : cx_N) (b : Nat) (M : cx_M) : Option cx_R := jBs_clear_0 N b N.1 M
theorem jBs_clear_m {l : Launch} {g : cx_G} {adr : Nat → Nat} {N : cx_N} {b : Nat} (H : cCp_H g adr N) (hb : jBs_H g adr b) (M : cx_M) (rs : cx_R) (h : jBs_clear N b M = some rs) : cx_Met l (g) yJ19_clear cJ19_clear sJ19_clear [.ref (adr b)] M rs :=
  cx_met (by decide +kernel) rfl rfl (lv := [(0, .ref (adr b))]) rfl (cx_le rfl) (fun X => cx_sub (lv' := [(0, .ref (adr b))]) [0] rfl (jBs_clear_0_v H hb N.1 M rs h))

abbrev sJ19_ensureCapacity : cx_S := (3, RJ19, cx_rV, { frames := 1, cells := 0, slots := 0, locals := 13 }, none, false)
noncomputable def jBs_ensureCapacity_0 (N : cx_N) (b : Nat) (M : cx_M) (x1 : Int32) : Option cx_R :=
  if x1 ≤ (2 : Int32) then (
    some (M, 0, 0))
  else (
    cx_let (cx_max ((2 : Int32) * 2) x1) fun v1 =>
    none)
set_option maxRecDepth 100000 in
theorem jBs_ensureCapacity_0_v {l : Launch} {g : cx_G} {adr : Nat → Nat} {X : cx_X} {N : cx_N} {b : Nat} (H : cCp_H g adr N) (hb : jBs_H g adr b) (M : cx_M) (x1 : Int32) (rs : cx_R) (h : jBs_ensureCapacity_0 N b M x1 = some rs) : cx_V l (g) X sJ19_ensureCapacity cJ19_ensureCapacity 0 [(0, .ref (adr b)), (1, .int x1)] [] M 0 0 rs := by
  unfold jBs_ensureCapacity_0 at h
  refine cx_aload_n 0 dJ19_ensureCapacity_0 rfl ?_
  refine cx_getR (jBs_R0 hb) q637 dJ19_ensureCapacity_1 ?_
  refine cx_alenW 2 (jBs_L0 hb) cx_nI_2 dJ19_ensureCapacity_4 ?_
  refine cx_iload_n 1 dJ19_ensureCapacity_5 rfl ?_
  refine cx_icmp_ge 38 h dJ19_ensureCapacity_6 rfl (fun h => ?_) (fun h => ?_)
  · exact cx_vret h rfl rfl (cx_le rfl) (cx_le rfl) dJ19_ensureCapacity_38
  · refine cx_iconst 2 dJ19_ensureCapacity_9 cx_ic_2 ?_
    refine cx_aload_n 0 dJ19_ensureCapacity_10 rfl ?_
    refine cx_getR (jBs_R0 hb) q637 dJ19_ensureCapacity_11 ?_
    refine cx_alenW 2 (jBs_L0 hb) cx_nI_2 dJ19_ensureCapacity_14 ?_
    refine cx_imul dJ19_ensureCapacity_15 ?_
    refine cx_iload_n 1 dJ19_ensureCapacity_16 rfl ?_
    refine cx_mmax dJ19_ensureCapacity_17 q1140 (cx_le rfl) (cx_le rfl) (cx_le rfl) (cx_le rfl) ?_
    refine cx_letI h (fun v1 h => ?_)
    refine cx_istore_n [(2, .int v1), (0, .ref (adr b)), (1, .int x1)] dJ19_ensureCapacity_20 (cx_lt rfl) rfl ?_
    refine cx_aload_n 1 dJ19_ensureCapacity_21 rfl ?_
    refine cx_aload_n 1 dJ19_ensureCapacity_22 rfl ?_
    refine cx_getR (jBs_R0 hb) q637 dJ19_ensureCapacity_23 ?_
    refine cx_iload_n 0 dJ19_ensureCapacity_26 rfl ?_
    cases h
noncomputable def jBs_ensureCapacity (N : cx_N) (b : Nat) (M : cx_M) (x1 : Int32) : Option cx_R := jBs_ensureCapacity_0 N b M x1
theorem jBs_ensureCapacity_m {l : Launch} {g : cx_G} {adr : Nat → Nat} {N : cx_N} {b : Nat} (H : cCp_H g adr N) (hb : jBs_H g adr b) (M : cx_M) (x1 : Int32) (rs : cx_R) (h : jBs_ensureCapacity N b M x1 = some rs) : cx_Met l (g) yJ19_ensureCapacity cJ19_ensureCapacity sJ19_ensureCapacity [.ref (adr b), .int x1] M rs :=
  cx_met (by decide +kernel) rfl rfl (lv := [(0, .ref (adr b)), (1, .int x1)]) rfl (cx_le rfl) (fun X => cx_sub (lv' := [(0, .ref (adr b)), (1, .int x1)]) [0, 1] rfl (jBs_ensureCapacity_0_v H hb M x1 rs h))

abbrev sJ19_checkInvariants : cx_S := (1, RJ19, cx_rV, { frames := 0, cells := 0, slots := 0, locals := 0 }, none, false)
noncomputable def jBs_checkInvariants_70 (N : cx_N) (b : Nat) (M : cx_M) : Option cx_R :=
  some (M, 0, 0)
set_option maxRecDepth 100000 in
theorem jBs_checkInvariants_70_v {l : Launch} {g : cx_G} {adr : Nat → Nat} {X : cx_X} {N : cx_N} {b : Nat} (H : cCp_H g adr N) (hb : jBs_H g adr b) (M : cx_M) (rs : cx_R) (h : jBs_checkInvariants_70 N b M = some rs) : cx_V l (g) X sJ19_checkInvariants cJ19_checkInvariants 70 [(0, .ref (adr b))] [] M 0 0 rs := by
  unfold jBs_checkInvariants_70 at h
  refine cx_gets (cJB_a H) q1154 dJ19_checkInvariants_70 ?_
  refine cx_if_ne 110 (A := none) (B := _) ((if_neg (by decide)).trans h) dJ19_checkInvariants_73 rfl (fun h => ?_) (fun h => by cases h)
  exact cx_vret h rfl rfl (cx_le rfl) (cx_le rfl) dJ19_checkInvariants_110
noncomputable def jBs_checkInvariants_37 (N : cx_N) (b : Nat) (M : cx_M) : Option cx_R :=
  jBs_checkInvariants_70 N b M
set_option maxRecDepth 100000 in
theorem jBs_checkInvariants_37_v {l : Launch} {g : cx_G} {adr : Nat → Nat} {X : cx_X} {N : cx_N} {b : Nat} (H : cCp_H g adr N) (hb : jBs_H g adr b) (M : cx_M) (rs : cx_R) (h : jBs_checkInvariants_37 N b M = some rs) : cx_V l (g) X sJ19_checkInvariants cJ19_checkInvariants 37 [(0, .ref (adr b))] [] M 0 0 rs := by
  unfold jBs_checkInvariants_37 at h
  refine cx_gets (cJB_a H) q1154 dJ19_checkInvariants_37 ?_
  refine cx_if_ne 70 (A := none) (B := _) ((if_neg (by decide)).trans h) dJ19_checkInvariants_40 rfl (fun h => ?_) (fun h => by cases h)
  exact jBs_checkInvariants_70_v H hb M _ h
noncomputable def jBs_checkInvariants_0 (N : cx_N) (b : Nat) (M : cx_M) : Option cx_R :=
  jBs_checkInvariants_37 N b M
set_option maxRecDepth 100000 in
theorem jBs_checkInvariants_0_v {l : Launch} {g : cx_G} {adr : Nat → Nat} {X : cx_X} {N : cx_N} {b : Nat} (H : cCp_H g adr N) (hb : jBs_H g adr b) (M : cx_M) (rs : cx_R) (h : jBs_checkInvariants_0 N b M = some rs) : cx_V l (g) X sJ19_checkInvariants cJ19_checkInvariants 0 [(0, .ref (adr b))] [] M 0 0 rs := by
  unfold jBs_checkInvariants_0 at h
  refine cx_gets (cJB_a H) q1154 dJ19_checkInvariants_0 ?_
  refine cx_if_ne 37 (A := none) (B := _) ((if_neg (by decide)).trans h) dJ19_checkInvariants_3 rfl (fun h => ?_) (fun h => by cases h)
  exact jBs_checkInvariants_37_v H hb M _ h
noncomputable def jBs_checkInvariants (N : cx_N) (b : Nat) (M : cx_M) : Option cx_R := jBs_checkInvariants_0 N b M
theorem jBs_checkInvariants_m {l : Launch} {g : cx_G} {adr : Nat → Nat} {N : cx_N} {b : Nat} (H : cCp_H g adr N) (hb : jBs_H g adr b) (M : cx_M) (rs : cx_R) (h : jBs_checkInvariants N b M = some rs) : cx_Met l (g) yJ19_checkInvariants cJ19_checkInvariants sJ19_checkInvariants [.ref (adr b)] M rs :=
  cx_met (by decide +kernel) rfl rfl (lv := [(0, .ref (adr b))]) rfl (cx_le rfl) (fun X => cx_sub (lv' := [(0, .ref (adr b))]) [0] rfl (jBs_checkInvariants_0_v H hb M rs h))

abbrev sJ19_or : cx_S := (4, RJ19, cx_rV, { frames := 2, cells := 0, slots := 0, locals := 40 }, none, false)
noncomputable def jBs_or_100 (N : cx_N) (b : Nat) (b2 : Nat) (M : cx_M) : Option cx_R :=
  cx_cal (jBs_checkInvariants N b M) fun M1 _ =>
  some (M1, 0, 0)
set_option maxRecDepth 100000 in
theorem jBs_or_100_v {l : Launch} {g : cx_G} {adr : Nat → Nat} {X : cx_X} {N : cx_N} {b : Nat} {b2 : Nat} (H : cCp_H g adr N) (hb : jBs_H g adr b) (hb2 : jBs_H g adr b2) (M : cx_M) (rs : cx_R) (h : jBs_or_100 N b b2 M = some rs) : cx_V l (g) X sJ19_or cJ19_or 100 [(0, .ref (adr b))] [] M 0 0 rs := by
  unfold jBs_or_100 at h
  refine cx_aload_n 0 dJ19_or_100 rfl ?_
  refine cx_cVv [] [] h (fun rs' h' => jBs_checkInvariants_m H hb M rs' h') (jBs_rc hb) dJ19_or_101 g_J19_56 hg_J19_56 ⟨cx_le rfl, cx_le rfl⟩ rfl ⟨rfl, rfl⟩ ⟨cx_le rfl, cx_le rfl⟩ rfl (cx_le rfl) (fun M1 _ h => ?_)
  exact cx_vret h rfl rfl (cx_le rfl) (cx_le rfl) dJ19_or_104
noncomputable def jBs_or_47b (N : cx_N) (b : Nat) (b2 : Nat) (r_47 : cx_M → Int32 → Int32 → Option cx_R) (M : cx_M) (x2 : Int32) (x3 : Int32) : Option cx_R :=
  if x2 ≤ x3 then (
    cx_get M b2 1 fun v1 =>
    if v1 ≤ x2 then (
      jBs_or_100 N b b2 M)
    else (
      cx_get M b 1 fun v2 =>
      cx_cpyW M (b2 + 1) 2 (b + 1) 2 x2 x2 (v2 - x2) fun M3 =>
      jBs_or_100 N b b2 M3))
  else (
    cx_ldw M ((b + 1)) 2 x3 fun w4 =>
    cx_ldw M ((b2 + 1)) 2 x3 fun w5 =>
    cx_stw M ((b + 1)) 2 x3 (w4 ||| w5) fun M6 =>
    cx_let (x3 + 1) fun v7 =>
    r_47 M6 x2 v7)
set_option maxRecDepth 100000 in
theorem jBs_or_47b_v {l : Launch} {g : cx_G} {adr : Nat → Nat} {X : cx_X} {N : cx_N} {b : Nat} {b2 : Nat} {r_47 : cx_M → Int32 → Int32 → Option cx_R} (H : cCp_H g adr N) (hb : jBs_H g adr b) (hb2 : jBs_H g adr b2) (hr_47 : ∀ (M : cx_M) (x2 : Int32) (x3 : Int32) (rs : cx_R), r_47 M x2 x3 = some rs → cx_V l (g) X sJ19_or cJ19_or 47 [(0, .ref (adr b)), (1, .ref (adr b2)), (2, .int x2), (3, .int x3)] [] M 0 0 rs) (M : cx_M) (x2 : Int32) (x3 : Int32) (rs : cx_R) (h : jBs_or_47b N b b2 r_47 M x2 x3 = some rs) : cx_V l (g) X sJ19_or cJ19_or 47 [(0, .ref (adr b)), (1, .ref (adr b2)), (2, .int x2), (3, .int x3)] [] M 0 0 rs := by
  unfold jBs_or_47b at h
  refine cx_iload_n 3 dJ19_or_47 rfl ?_
  refine cx_iload_n 2 dJ19_or_48 rfl ?_
  refine cx_icmp_ge 73 h dJ19_or_49 rfl (fun h => ?_) (fun h => ?_)
  · refine cx_iload_n 2 dJ19_or_73 rfl ?_
    refine cx_aload_n 1 dJ19_or_74 rfl ?_
    refine cx_getI h (jBs_F1 hb2) q638 dJ19_or_75 (fun v1 h => ?_)
    refine cx_icmp_ge 100 h dJ19_or_78 rfl (fun h => ?_) (fun h => ?_)
    · refine cx_sub (lv' := [(0, .ref (adr b))]) [0] rfl ?_
      exact jBs_or_100_v H hb hb2 M _ h
    · refine cx_aload_n 1 dJ19_or_81 rfl ?_
      refine cx_getR (jBs_R0 hb2) q637 dJ19_or_82 ?_
      refine cx_iload_n 2 dJ19_or_85 rfl ?_
      refine cx_aload_n 0 dJ19_or_86 rfl ?_
      refine cx_getR (jBs_R0 hb) q637 dJ19_or_87 ?_
      refine cx_iload_n 2 dJ19_or_90 rfl ?_
      refine cx_aload_n 0 dJ19_or_91 rfl ?_
      refine cx_getI h (jBs_F1 hb) q638 dJ19_or_92 (fun v2 h => ?_)
      refine cx_iload_n 2 dJ19_or_95 rfl ?_
      refine cx_isub dJ19_or_96 ?_
      refine cx_copyW h (jBs_L0 hb2) (jBs_L0 hb) dJ19_or_97 q1149 (cx_le rfl) (cx_le rfl) (fun M3 h => ?_)
      refine cx_sub (lv' := [(0, .ref (adr b))]) [0] rfl ?_
      exact jBs_or_100_v H hb hb2 M3 _ h
  · refine cx_aload_n 0 dJ19_or_52 rfl ?_
    refine cx_getR (jBs_R0 hb) q637 dJ19_or_53 ?_
    refine cx_iload_n 3 dJ19_or_56 rfl ?_
    refine cx_dup2 dJ19_or_57 rfl rfl ?_
    refine cx_ldW h (jBs_L0 hb) dJ19_or_58 (fun w4 h => ?_)
    refine cx_aload_n 1 dJ19_or_59 rfl ?_
    refine cx_getR (jBs_R0 hb2) q637 dJ19_or_60 ?_
    refine cx_iload_n 3 dJ19_or_63 rfl ?_
    refine cx_ldW h (jBs_L0 hb2) dJ19_or_64 (fun w5 h => ?_)
    refine cx_lor dJ19_or_65 ?_
    refine cx_stW h (jBs_L0 hb) dJ19_or_66 (fun M6 h => ?_)
    refine cx_iinc 3 1 (fun v7 => [(3, .int v7), (0, .ref (adr b)), (1, .ref (adr b2)), (2, .int x2)]) h dJ19_or_67 rfl cx_ic_1 (cx_lt rfl) (fun _ => rfl) (fun v7 h => ?_)
    refine cx_goto 47 dJ19_or_70 rfl ?_
    refine cx_sub (lv' := [(0, .ref (adr b)), (1, .ref (adr b2)), (2, .int x2), (3, .int v7)]) [1, 2, 3, 0] rfl ?_
    exact hr_47 M6 x2 v7 _ h
noncomputable def jBs_or_47 (N : cx_N) (b : Nat) (b2 : Nat) : Nat → cx_M → Int32 → Int32 → Option cx_R :=
  cx_fix (fun _ _ _ => none) (fun r_47 => jBs_or_47b N b b2 r_47)
theorem jBs_or_47_v {l : Launch} {g : cx_G} {adr : Nat → Nat} {X : cx_X} {N : cx_N} {b : Nat} {b2 : Nat} (H : cCp_H g adr N) (hb : jBs_H g adr b) (hb2 : jBs_H g adr b2) : ∀ (n : Nat) (M : cx_M) (x2 : Int32) (x3 : Int32) (rs : cx_R), jBs_or_47 N b b2 n M x2 x3 = some rs → cx_V l (g) X sJ19_or cJ19_or 47 [(0, .ref (adr b)), (1, .ref (adr b2)), (2, .int x2), (3, .int x3)] [] M 0 0 rs :=
  cx_fixI (fun (r : cx_M → Int32 → Int32 → Option cx_R) => ∀ (M : cx_M) (x2 : Int32) (x3 : Int32) (rs : cx_R), r M x2 x3 = some rs → cx_V l (g) X sJ19_or cJ19_or 47 [(0, .ref (adr b)), (1, .ref (adr b2)), (2, .int x2), (3, .int x3)] [] M 0 0 rs) (fun _ _ _ _ h => by cases h) (fun r hr M x2 x3 rs h => jBs_or_47b_v H hb hb2 hr M x2 x3 rs h)
noncomputable def jBs_or_45 (N : cx_N) (b : Nat) (b2 : Nat) (M : cx_M) (x2 : Int32) : Option cx_R :=
  jBs_or_47 N b b2 N.1 M x2 0
set_option maxRecDepth 100000 in
theorem jBs_or_45_v {l : Launch} {g : cx_G} {adr : Nat → Nat} {X : cx_X} {N : cx_N} {b : Nat} {b2 : Nat} (H : cCp_H g adr N) (hb : jBs_H g adr b) (hb2 : jBs_H g adr b2) (M : cx_M) (x2 : Int32) (rs : cx_R) (h : jBs_or_45 N b b2 M x2 = some rs) : cx_V l (g) X sJ19_or cJ19_or 45 [(0, .ref (adr b)), (1, .ref (adr b2)), (2, .int x2)] [] M 0 0 rs := by
  unfold jBs_or_45 at h
  refine cx_iconst 0 dJ19_or_45 cx_ic_0 ?_
  refine cx_istore_n [(3, .int 0), (0, .ref (adr b)), (1, .ref (adr b2)), (2, .int x2)] dJ19_or_46 (cx_lt rfl) rfl ?_
  refine cx_sub (lv' := [(0, .ref (adr b)), (1, .ref (adr b2)), (2, .int x2), (3, .int 0)]) [1, 2, 3, 0] rfl ?_
  exact jBs_or_47_v H hb hb2 N.1 M x2 0 _ h
noncomputable def jBs_or_0 (N : cx_N) (b : Nat) (b2 : Nat) (M : cx_M) : Option cx_R :=
  if b = b2 then (
    some (M, 0, 0))
  else (
    cx_get M b 1 fun v1 =>
    cx_get M b2 1 fun v2 =>
    cx_let (cx_min v1 v2) fun v3 =>
    cx_get M b 1 fun v4 =>
    cx_get M b2 1 fun v5 =>
    if v5 ≤ v4 then (
      jBs_or_45 N b b2 M v3)
    else (
      cx_get M b2 1 fun v6 =>
      cx_cal (jBs_ensureCapacity N b M v6) fun M7 _ =>
      cx_get M7 b2 1 fun v8 =>
      cx_put M7 b 1 v8 fun M9 =>
      jBs_or_45 N b b2 M9 v3))
set_option maxRecDepth 100000 in
theorem jBs_or_0_v {l : Launch} {g : cx_G} {adr : Nat → Nat} {X : cx_X} {N : cx_N} {b : Nat} {b2 : Nat} (H : cCp_H g adr N) (hb : jBs_H g adr b) (hb2 : jBs_H g adr b2) (M : cx_M) (rs : cx_R) (h : jBs_or_0 N b b2 M = some rs) : cx_V l (g) X sJ19_or cJ19_or 0 [(0, .ref (adr b)), (1, .ref (adr b2))] [] M 0 0 rs := by
  unfold jBs_or_0 at h
  refine cx_aload_n 0 dJ19_or_0 rfl ?_
  refine cx_aload_n 1 dJ19_or_1 rfl ?_
  refine cx_acmpne 6 h (jBs_F1 hb) (jBs_F1 hb2) (fun e => by rw [e]) dJ19_or_2 rfl (fun h => ?_) (fun h => ?_)
  · refine cx_aload_n 0 dJ19_or_6 rfl ?_
    refine cx_getI h (jBs_F1 hb) q638 dJ19_or_7 (fun v1 h => ?_)
    refine cx_aload_n 1 dJ19_or_10 rfl ?_
    refine cx_getI h (jBs_F1 hb2) q638 dJ19_or_11 (fun v2 h => ?_)
    refine cx_mmin dJ19_or_14 q1135 (cx_le rfl) (cx_le rfl) (cx_le rfl) (cx_le rfl) ?_
    refine cx_letI h (fun v3 h => ?_)
    refine cx_istore_n [(2, .int v3), (0, .ref (adr b)), (1, .ref (adr b2))] dJ19_or_17 (cx_lt rfl) rfl ?_
    refine cx_aload_n 1 dJ19_or_18 rfl ?_
    refine cx_getI h (jBs_F1 hb) q638 dJ19_or_19 (fun v4 h => ?_)
    refine cx_aload_n 2 dJ19_or_22 rfl ?_
    refine cx_getI h (jBs_F1 hb2) q638 dJ19_or_23 (fun v5 h => ?_)
    refine cx_icmp_ge 45 h dJ19_or_26 rfl (fun h => ?_) (fun h => ?_)
    · refine cx_sub (lv' := [(0, .ref (adr b)), (1, .ref (adr b2)), (2, .int v3)]) [1, 2, 0] rfl ?_
      exact jBs_or_45_v H hb hb2 M v3 _ h
    · refine cx_aload_n 1 dJ19_or_29 rfl ?_
      refine cx_aload_n 2 dJ19_or_30 rfl ?_
      refine cx_getI h (jBs_F1 hb2) q638 dJ19_or_31 (fun v6 h => ?_)
      refine cx_cVv [.int v6] [] h (fun rs' h' => jBs_ensureCapacity_m H hb M v6 rs' h') (jBs_rc hb) dJ19_or_34 g_J19_139 hg_J19_139 ⟨cx_le rfl, cx_le rfl⟩ rfl ⟨rfl, rfl⟩ ⟨cx_le rfl, cx_le rfl⟩ rfl (cx_le rfl) (fun M7 _ h => ?_)
      refine cx_aload_n 1 dJ19_or_37 rfl ?_
      refine cx_aload_n 2 dJ19_or_38 rfl ?_
      refine cx_getI h (jBs_F1 hb2) q638 dJ19_or_39 (fun v8 h => ?_)
      refine cx_putI h (jBs_F1 hb) rfl rfl rfl q638 dJ19_or_42 (fun M9 h => ?_)
      refine cx_sub (lv' := [(0, .ref (adr b)), (1, .ref (adr b2)), (2, .int v3)]) [1, 2, 0] rfl ?_
      exact jBs_or_45_v H hb hb2 M9 v3 _ h
  · exact cx_vret h rfl rfl (cx_le rfl) (cx_le rfl) dJ19_or_5
noncomputable def jBs_or (N : cx_N) (b : Nat) (b2 : Nat) (M : cx_M) : Option cx_R := jBs_or_0 N b b2 M
theorem jBs_or_m {l : Launch} {g : cx_G} {adr : Nat → Nat} {N : cx_N} {b : Nat} {b2 : Nat} (H : cCp_H g adr N) (hb : jBs_H g adr b) (hb2 : jBs_H g adr b2) (M : cx_M) (rs : cx_R) (h : jBs_or N b b2 M = some rs) : cx_Met l (g) yJ19_or cJ19_or sJ19_or [.ref (adr b), .ref (adr b2)] M rs :=
  cx_met (by decide +kernel) rfl rfl (lv := [(0, .ref (adr b)), (1, .ref (adr b2))]) rfl (cx_le rfl) (fun X => cx_sub (lv' := [(0, .ref (adr b)), (1, .ref (adr b2))]) [0, 1] rfl (jBs_or_0_v H hb hb2 M rs h))

abbrev sX6_like : cx_S := (2, RX6, cx_rV, { frames := 3, cells := 0, slots := 0, locals := 63 }, none, false)
noncomputable def cSt_like_0 (N : cx_N) (b : Nat) (b2 : Nat) (M : cx_M) : Option cx_R :=
  cx_get M b2 0 fun v1 =>
  cx_put M b 0 v1 fun M2 =>
  cx_get M2 b2 1 fun v3 =>
  cx_put M2 b 1 v3 fun M4 =>
  cx_get M4 b2 2 fun v5 =>
  cx_put M4 b 2 v5 fun M6 =>
  cx_get M6 b2 3 fun v7 =>
  cx_put M6 b 3 v7 fun M8 =>
  cx_get M8 b2 4 fun v9 =>
  cx_put M8 b 4 v9 fun M10 =>
  cx_get M10 b2 5 fun v11 =>
  cx_put M10 b 5 v11 fun M12 =>
  cx_get M12 b2 6 fun v13 =>
  cx_put M12 b 6 v13 fun M14 =>
  cx_get M14 b2 7 fun v15 =>
  cx_put M14 b 7 v15 fun M16 =>
  cx_get M16 b2 8 fun v17 =>
  cx_put M16 b 8 v17 fun M18 =>
  cx_get M18 b2 9 fun v19 =>
  cx_put M18 b 9 v19 fun M20 =>
  cx_get M20 b2 10 fun v21 =>
  cx_put M20 b 10 v21 fun M22 =>
  cx_get M22 b2 11 fun v23 =>
  cx_put M22 b 11 v23 fun M24 =>
  cx_get M24 b2 12 fun v25 =>
  cx_put M24 b 12 v25 fun M26 =>
  cx_get M26 b2 13 fun v27 =>
  cx_put M26 b 13 v27 fun M28 =>
  cx_get M28 b2 14 fun v29 =>
  cx_put M28 b 14 v29 fun M30 =>
  cx_get M30 b2 15 fun v31 =>
  cx_put M30 b 15 v31 fun M32 =>
  cx_get M32 b2 16 fun v33 =>
  cx_put M32 b 16 v33 fun M34 =>
  cx_get M34 b2 17 fun v35 =>
  cx_put M34 b 17 v35 fun M36 =>
  cx_get M36 b2 18 fun v37 =>
  cx_put M36 b 18 v37 fun M38 =>
  cx_get M38 b2 19 fun v39 =>
  cx_put M38 b 19 v39 fun M40 =>
  cx_get M40 b2 20 fun v41 =>
  cx_put M40 b 20 v41 fun M42 =>
  cx_get M42 b2 21 fun v43 =>
  cx_put M42 b 21 v43 fun M44 =>
  cx_get M44 b2 22 fun v45 =>
  cx_put M44 b 22 v45 fun M46 =>
  cx_get M46 b2 23 fun v47 =>
  cx_put M46 b 23 v47 fun M48 =>
  cx_get M48 b2 24 fun v49 =>
  cx_put M48 b 24 v49 fun M50 =>
  cx_get M50 b2 25 fun v51 =>
  cx_put M50 b 25 v51 fun M52 =>
  cx_get M52 b2 26 fun v53 =>
  cx_put M52 b 26 v53 fun M54 =>
  cx_get M54 b2 27 fun v55 =>
  cx_put M54 b 27 v55 fun M56 =>
  cx_get M56 b2 28 fun v57 =>
  cx_put M56 b 28 v57 fun M58 =>
  cx_get M58 b2 29 fun v59 =>
  cx_put M58 b 29 v59 fun M60 =>
  cx_get M60 b2 30 fun v61 =>
  cx_put M60 b 30 v61 fun M62 =>
  cx_get M62 b2 31 fun v63 =>
  cx_put M62 b 31 v63 fun M64 =>
  cx_get M64 b2 32 fun v65 =>
  cx_put M64 b 32 v65 fun M66 =>
  cx_get M66 b2 33 fun v67 =>
  cx_put M66 b 33 v67 fun M68 =>
  cx_cal (cSt_copies N (b2 + 35) 40 (b + 35) 40 M68) fun M69 _ =>
  cx_cal (cSt_copies N (b2 + 36) 40 (b + 36) 40 M69) fun M70 _ =>
  cx_cal (cSt_copies N (b2 + 37) 40 (b + 37) 40 M70) fun M71 _ =>
  cx_cal (cSt_copies N (b2 + 38) 64 (b + 38) 64 M71) fun M72 _ =>
  cx_cal (cSt_copies N (b2 + 39) 64 (b + 39) 64 M72) fun M73 _ =>
  cx_cal (cSt_copies N (b2 + 40) 128 (b + 40) 128 M73) fun M74 _ =>
  cx_cal (cSt_copies N (b2 + 41) 128 (b + 41) 128 M74) fun M75 _ =>
  cx_cal (jBs_clear N (b + 42) M75) fun M76 _ =>
  cx_cal (jBs_or N (b + 42) (b2 + 42) M76) fun M77 _ =>
  cx_put M77 b 43 0 fun M78 =>
  some (M78, 0, 0)
set_option maxRecDepth 100000 in
theorem cSt_like_0_v {l : Launch} {g : cx_G} {adr : Nat → Nat} {X : cx_X} {N : cx_N} {b : Nat} {b2 : Nat} (H : cCp_H g adr N) (hb : cSt_H g adr b) (hb2 : cSt_H g adr b2) (M : cx_M) (rs : cx_R) (h : cSt_like_0 N b b2 M = some rs) : cx_V l (g) X sX6_like cX6_like 0 [(0, .ref (adr b)), (1, .ref (adr b2))] [] M 0 0 rs := by
  unfold cSt_like_0 at h
  refine cx_aload_n 0 dX6_like_0 rfl ?_
  refine cx_aload_n 1 dX6_like_1 rfl ?_
  refine cx_getI h (cSt_F0 hb2) q648 dX6_like_2 (fun v1 h => ?_)
  refine cx_putI h (cSt_F0 hb) rfl rfl rfl q648 dX6_like_5 (fun M2 h => ?_)
  refine cx_aload_n 0 dX6_like_8 rfl ?_
  refine cx_aload_n 1 dX6_like_9 rfl ?_
  refine cx_getI h (cSt_F1 hb2) q650 dX6_like_10 (fun v3 h => ?_)
  refine cx_putI h (cSt_F1 hb) rfl rfl rfl q650 dX6_like_13 (fun M4 h => ?_)
  refine cx_aload_n 0 dX6_like_16 rfl ?_
  refine cx_aload_n 1 dX6_like_17 rfl ?_
  refine cx_getI h (cSt_F2 hb2) q652 dX6_like_18 (fun v5 h => ?_)
  refine cx_putI h (cSt_F2 hb) rfl rfl rfl q652 dX6_like_21 (fun M6 h => ?_)
  refine cx_aload_n 0 dX6_like_24 rfl ?_
  refine cx_aload_n 1 dX6_like_25 rfl ?_
  refine cx_getI h (cSt_F3 hb2) q654 dX6_like_26 (fun v7 h => ?_)
  refine cx_putI h (cSt_F3 hb) rfl rfl rfl q654 dX6_like_29 (fun M8 h => ?_)
  refine cx_aload_n 0 dX6_like_32 rfl ?_
  refine cx_aload_n 1 dX6_like_33 rfl ?_
  refine cx_getI h (cSt_F4 hb2) q656 dX6_like_34 (fun v9 h => ?_)
  refine cx_putI h (cSt_F4 hb) rfl rfl rfl q656 dX6_like_37 (fun M10 h => ?_)
  refine cx_aload_n 0 dX6_like_40 rfl ?_
  refine cx_aload_n 1 dX6_like_41 rfl ?_
  refine cx_getI h (cSt_F5 hb2) q658 dX6_like_42 (fun v11 h => ?_)
  refine cx_putI h (cSt_F5 hb) rfl rfl rfl q658 dX6_like_45 (fun M12 h => ?_)
  refine cx_aload_n 0 dX6_like_48 rfl ?_
  refine cx_aload_n 1 dX6_like_49 rfl ?_
  refine cx_getI h (cSt_F6 hb2) q660 dX6_like_50 (fun v13 h => ?_)
  refine cx_putI h (cSt_F6 hb) rfl rfl rfl q660 dX6_like_53 (fun M14 h => ?_)
  refine cx_aload_n 0 dX6_like_56 rfl ?_
  refine cx_aload_n 1 dX6_like_57 rfl ?_
  refine cx_getI h (cSt_F7 hb2) q662 dX6_like_58 (fun v15 h => ?_)
  refine cx_putI h (cSt_F7 hb) rfl rfl rfl q662 dX6_like_61 (fun M16 h => ?_)
  refine cx_aload_n 0 dX6_like_64 rfl ?_
  refine cx_aload_n 1 dX6_like_65 rfl ?_
  refine cx_getI h (cSt_F8 hb2) q664 dX6_like_66 (fun v17 h => ?_)
  refine cx_putI h (cSt_F8 hb) rfl rfl rfl q664 dX6_like_69 (fun M18 h => ?_)
  refine cx_aload_n 0 dX6_like_72 rfl ?_
  refine cx_aload_n 1 dX6_like_73 rfl ?_
  refine cx_getI h (cSt_F9 hb2) q666 dX6_like_74 (fun v19 h => ?_)
  refine cx_putI h (cSt_F9 hb) rfl rfl rfl q666 dX6_like_77 (fun M20 h => ?_)
  refine cx_aload_n 0 dX6_like_80 rfl ?_
  refine cx_aload_n 1 dX6_like_81 rfl ?_
  refine cx_getI h (cSt_F10 hb2) q668 dX6_like_82 (fun v21 h => ?_)
  refine cx_putI h (cSt_F10 hb) rfl rfl rfl q668 dX6_like_85 (fun M22 h => ?_)
  refine cx_aload_n 0 dX6_like_88 rfl ?_
  refine cx_aload_n 1 dX6_like_89 rfl ?_
  refine cx_getI h (cSt_F11 hb2) q670 dX6_like_90 (fun v23 h => ?_)
  refine cx_putI h (cSt_F11 hb) rfl rfl rfl q670 dX6_like_93 (fun M24 h => ?_)
  refine cx_aload_n 0 dX6_like_96 rfl ?_
  refine cx_aload_n 1 dX6_like_97 rfl ?_
  refine cx_getI h (cSt_F12 hb2) q672 dX6_like_98 (fun v25 h => ?_)
  refine cx_putI h (cSt_F12 hb) rfl rfl rfl q672 dX6_like_101 (fun M26 h => ?_)
  refine cx_aload_n 0 dX6_like_104 rfl ?_
  refine cx_aload_n 1 dX6_like_105 rfl ?_
  refine cx_getI h (cSt_F13 hb2) q674 dX6_like_106 (fun v27 h => ?_)
  refine cx_putI h (cSt_F13 hb) rfl rfl rfl q674 dX6_like_109 (fun M28 h => ?_)
  refine cx_aload_n 0 dX6_like_112 rfl ?_
  refine cx_aload_n 1 dX6_like_113 rfl ?_
  refine cx_getI h (cSt_F14 hb2) q676 dX6_like_114 (fun v29 h => ?_)
  refine cx_putI h (cSt_F14 hb) rfl rfl rfl q676 dX6_like_117 (fun M30 h => ?_)
  refine cx_aload_n 0 dX6_like_120 rfl ?_
  refine cx_aload_n 1 dX6_like_121 rfl ?_
  refine cx_getI h (cSt_F15 hb2) q678 dX6_like_122 (fun v31 h => ?_)
  refine cx_putI h (cSt_F15 hb) rfl rfl rfl q678 dX6_like_125 (fun M32 h => ?_)
  refine cx_aload_n 0 dX6_like_128 rfl ?_
  refine cx_aload_n 1 dX6_like_129 rfl ?_
  refine cx_getI h (cSt_F16 hb2) q679 dX6_like_130 (fun v33 h => ?_)
  refine cx_putI h (cSt_F16 hb) rfl rfl rfl q679 dX6_like_133 (fun M34 h => ?_)
  refine cx_aload_n 0 dX6_like_136 rfl ?_
  refine cx_aload_n 1 dX6_like_137 rfl ?_
  refine cx_getI h (cSt_F17 hb2) q680 dX6_like_138 (fun v35 h => ?_)
  refine cx_putI h (cSt_F17 hb) rfl rfl rfl q680 dX6_like_141 (fun M36 h => ?_)
  refine cx_aload_n 0 dX6_like_144 rfl ?_
  refine cx_aload_n 1 dX6_like_145 rfl ?_
  refine cx_getI h (cSt_F18 hb2) q681 dX6_like_146 (fun v37 h => ?_)
  refine cx_putI h (cSt_F18 hb) rfl rfl rfl q681 dX6_like_149 (fun M38 h => ?_)
  refine cx_aload_n 0 dX6_like_152 rfl ?_
  refine cx_aload_n 1 dX6_like_153 rfl ?_
  refine cx_getI h (cSt_F19 hb2) q682 dX6_like_154 (fun v39 h => ?_)
  refine cx_putI h (cSt_F19 hb) rfl rfl rfl q682 dX6_like_157 (fun M40 h => ?_)
  refine cx_aload_n 0 dX6_like_160 rfl ?_
  refine cx_aload_n 1 dX6_like_161 rfl ?_
  refine cx_getI h (cSt_F20 hb2) q684 dX6_like_162 (fun v41 h => ?_)
  refine cx_putI h (cSt_F20 hb) rfl rfl rfl q684 dX6_like_165 (fun M42 h => ?_)
  refine cx_aload_n 0 dX6_like_168 rfl ?_
  refine cx_aload_n 1 dX6_like_169 rfl ?_
  refine cx_getI h (cSt_F21 hb2) q686 dX6_like_170 (fun v43 h => ?_)
  refine cx_putI h (cSt_F21 hb) rfl rfl rfl q686 dX6_like_173 (fun M44 h => ?_)
  refine cx_aload_n 0 dX6_like_176 rfl ?_
  refine cx_aload_n 1 dX6_like_177 rfl ?_
  refine cx_getI h (cSt_F22 hb2) q687 dX6_like_178 (fun v45 h => ?_)
  refine cx_putI h (cSt_F22 hb) rfl rfl rfl q687 dX6_like_181 (fun M46 h => ?_)
  refine cx_aload_n 0 dX6_like_184 rfl ?_
  refine cx_aload_n 1 dX6_like_185 rfl ?_
  refine cx_getI h (cSt_F23 hb2) q689 dX6_like_186 (fun v47 h => ?_)
  refine cx_putI h (cSt_F23 hb) rfl rfl rfl q689 dX6_like_189 (fun M48 h => ?_)
  refine cx_aload_n 0 dX6_like_192 rfl ?_
  refine cx_aload_n 1 dX6_like_193 rfl ?_
  refine cx_getI h (cSt_F24 hb2) q691 dX6_like_194 (fun v49 h => ?_)
  refine cx_putI h (cSt_F24 hb) rfl rfl rfl q691 dX6_like_197 (fun M50 h => ?_)
  refine cx_aload_n 0 dX6_like_200 rfl ?_
  refine cx_aload_n 1 dX6_like_201 rfl ?_
  refine cx_getI h (cSt_F25 hb2) q693 dX6_like_202 (fun v51 h => ?_)
  refine cx_putI h (cSt_F25 hb) rfl rfl rfl q693 dX6_like_205 (fun M52 h => ?_)
  refine cx_aload_n 0 dX6_like_208 rfl ?_
  refine cx_aload_n 1 dX6_like_209 rfl ?_
  refine cx_getI h (cSt_F26 hb2) q694 dX6_like_210 (fun v53 h => ?_)
  refine cx_putI h (cSt_F26 hb) rfl rfl rfl q694 dX6_like_213 (fun M54 h => ?_)
  refine cx_aload_n 0 dX6_like_216 rfl ?_
  refine cx_aload_n 1 dX6_like_217 rfl ?_
  refine cx_getI h (cSt_F27 hb2) q696 dX6_like_218 (fun v55 h => ?_)
  refine cx_putI h (cSt_F27 hb) rfl rfl rfl q696 dX6_like_221 (fun M56 h => ?_)
  refine cx_aload_n 0 dX6_like_224 rfl ?_
  refine cx_aload_n 1 dX6_like_225 rfl ?_
  refine cx_getI h (cSt_F28 hb2) q698 dX6_like_226 (fun v57 h => ?_)
  refine cx_putI h (cSt_F28 hb) rfl rfl rfl q698 dX6_like_229 (fun M58 h => ?_)
  refine cx_aload_n 0 dX6_like_232 rfl ?_
  refine cx_aload_n 1 dX6_like_233 rfl ?_
  refine cx_getI h (cSt_F29 hb2) q700 dX6_like_234 (fun v59 h => ?_)
  refine cx_putI h (cSt_F29 hb) rfl rfl rfl q700 dX6_like_237 (fun M60 h => ?_)
  refine cx_aload_n 0 dX6_like_240 rfl ?_
  refine cx_aload_n 1 dX6_like_241 rfl ?_
  refine cx_getI h (cSt_F30 hb2) q702 dX6_like_242 (fun v61 h => ?_)
  refine cx_putI h (cSt_F30 hb) rfl rfl rfl q702 dX6_like_245 (fun M62 h => ?_)
  refine cx_aload_n 0 dX6_like_248 rfl ?_
  refine cx_aload_n 1 dX6_like_249 rfl ?_
  refine cx_getI h (cSt_F31 hb2) q704 dX6_like_250 (fun v63 h => ?_)
  refine cx_putI h (cSt_F31 hb) rfl rfl rfl q704 dX6_like_253 (fun M64 h => ?_)
  refine cx_aload_n 0 dX6_like_256 rfl ?_
  refine cx_aload_n 1 dX6_like_257 rfl ?_
  refine cx_getI h (cSt_F32 hb2) q706 dX6_like_258 (fun v65 h => ?_)
  refine cx_putI h (cSt_F32 hb) rfl rfl rfl q706 dX6_like_261 (fun M66 h => ?_)
  refine cx_aload_n 0 dX6_like_264 rfl ?_
  refine cx_aload_n 1 dX6_like_265 rfl ?_
  refine cx_getI h (cSt_F33 hb2) q708 dX6_like_266 (fun v67 h => ?_)
  refine cx_putI h (cSt_F33 hb) rfl rfl rfl q708 dX6_like_269 (fun M68 h => ?_)
  refine cx_aload_n 1 dX6_like_272 rfl ?_
  refine cx_getR (cSt_R34 hb2) q710 dX6_like_273 ?_
  refine cx_aload_n 0 dX6_like_276 rfl ?_
  refine cx_getR (cSt_R34 hb) q710 dX6_like_277 ?_
  refine cx_cSv [.ref (adr (b2 + 35)), .ref (adr (b + 35))] [] h (fun rs' h' => cSt_copies_m H (cSt_A34 hb2) (cSt_A34 hb) M68 rs' h') dX6_like_280 g_X6_160 hg_X6_160 ⟨cx_le rfl, cx_le rfl⟩ rfl ⟨rfl, rfl⟩ ⟨cx_le rfl, cx_le rfl⟩ rfl (cx_le rfl) (fun M69 _ h => ?_)
  refine cx_aload_n 1 dX6_like_283 rfl ?_
  refine cx_getR (cSt_R35 hb2) q712 dX6_like_284 ?_
  refine cx_aload_n 0 dX6_like_287 rfl ?_
  refine cx_getR (cSt_R35 hb) q712 dX6_like_288 ?_
  refine cx_cSv [.ref (adr (b2 + 36)), .ref (adr (b + 36))] [] h (fun rs' h' => cSt_copies_m H (cSt_A35 hb2) (cSt_A35 hb) M69 rs' h') dX6_like_291 g_X6_160 hg_X6_160 ⟨cx_le rfl, cx_le rfl⟩ rfl ⟨rfl, rfl⟩ ⟨cx_le rfl, cx_le rfl⟩ rfl (cx_le rfl) (fun M70 _ h => ?_)
  refine cx_aload_n 1 dX6_like_294 rfl ?_
  refine cx_getR (cSt_R36 hb2) q714 dX6_like_295 ?_
  refine cx_aload_n 0 dX6_like_298 rfl ?_
  refine cx_getR (cSt_R36 hb) q714 dX6_like_299 ?_
  refine cx_cSv [.ref (adr (b2 + 37)), .ref (adr (b + 37))] [] h (fun rs' h' => cSt_copies_m H (cSt_A36 hb2) (cSt_A36 hb) M70 rs' h') dX6_like_302 g_X6_160 hg_X6_160 ⟨cx_le rfl, cx_le rfl⟩ rfl ⟨rfl, rfl⟩ ⟨cx_le rfl, cx_le rfl⟩ rfl (cx_le rfl) (fun M71 _ h => ?_)
  refine cx_aload_n 1 dX6_like_305 rfl ?_
  refine cx_getR (cSt_R37 hb2) q716 dX6_like_306 ?_
  refine cx_aload_n 0 dX6_like_309 rfl ?_
  refine cx_getR (cSt_R37 hb) q716 dX6_like_310 ?_
  refine cx_cSv [.ref (adr (b2 + 38)), .ref (adr (b + 38))] [] h (fun rs' h' => cSt_copies_m H (cSt_A37 hb2) (cSt_A37 hb) M71 rs' h') dX6_like_313 g_X6_160 hg_X6_160 ⟨cx_le rfl, cx_le rfl⟩ rfl ⟨rfl, rfl⟩ ⟨cx_le rfl, cx_le rfl⟩ rfl (cx_le rfl) (fun M72 _ h => ?_)
  refine cx_aload_n 1 dX6_like_316 rfl ?_
  refine cx_getR (cSt_R38 hb2) q718 dX6_like_317 ?_
  refine cx_aload_n 0 dX6_like_320 rfl ?_
  refine cx_getR (cSt_R38 hb) q718 dX6_like_321 ?_
  refine cx_cSv [.ref (adr (b2 + 39)), .ref (adr (b + 39))] [] h (fun rs' h' => cSt_copies_m H (cSt_A38 hb2) (cSt_A38 hb) M72 rs' h') dX6_like_324 g_X6_160 hg_X6_160 ⟨cx_le rfl, cx_le rfl⟩ rfl ⟨rfl, rfl⟩ ⟨cx_le rfl, cx_le rfl⟩ rfl (cx_le rfl) (fun M73 _ h => ?_)
  refine cx_aload_n 1 dX6_like_327 rfl ?_
  refine cx_getR (cSt_R39 hb2) q720 dX6_like_328 ?_
  refine cx_aload_n 0 dX6_like_331 rfl ?_
  refine cx_getR (cSt_R39 hb) q720 dX6_like_332 ?_
  refine cx_cSv [.ref (adr (b2 + 40)), .ref (adr (b + 40))] [] h (fun rs' h' => cSt_copies_m H (cSt_A39 hb2) (cSt_A39 hb) M73 rs' h') dX6_like_335 g_X6_160 hg_X6_160 ⟨cx_le rfl, cx_le rfl⟩ rfl ⟨rfl, rfl⟩ ⟨cx_le rfl, cx_le rfl⟩ rfl (cx_le rfl) (fun M74 _ h => ?_)
  refine cx_aload_n 1 dX6_like_338 rfl ?_
  refine cx_getR (cSt_R40 hb2) q721 dX6_like_339 ?_
  refine cx_aload_n 0 dX6_like_342 rfl ?_
  refine cx_getR (cSt_R40 hb) q721 dX6_like_343 ?_
  refine cx_cSv [.ref (adr (b2 + 41)), .ref (adr (b + 41))] [] h (fun rs' h' => cSt_copies_m H (cSt_A40 hb2) (cSt_A40 hb) M74 rs' h') dX6_like_346 g_X6_160 hg_X6_160 ⟨cx_le rfl, cx_le rfl⟩ rfl ⟨rfl, rfl⟩ ⟨cx_le rfl, cx_le rfl⟩ rfl (cx_le rfl) (fun M75 _ h => ?_)
  refine cx_aload_n 0 dX6_like_349 rfl ?_
  refine cx_getR (cSt_R41 hb) q722 dX6_like_350 ?_
  refine cx_cVv [] [] h (fun rs' h' => jBs_clear_m H (cSt_B41 hb) M75 rs' h') (jBs_rc (cSt_B41 hb)) dX6_like_353 g_X6_164 hg_X6_164 ⟨cx_le rfl, cx_le rfl⟩ rfl ⟨rfl, rfl⟩ ⟨cx_le rfl, cx_le rfl⟩ rfl (cx_le rfl) (fun M76 _ h => ?_)
  refine cx_aload_n 0 dX6_like_356 rfl ?_
  refine cx_getR (cSt_R41 hb) q722 dX6_like_357 ?_
  refine cx_aload_n 1 dX6_like_360 rfl ?_
  refine cx_getR (cSt_R41 hb2) q722 dX6_like_361 ?_
  refine cx_cVv [.ref (adr (b2 + 42))] [] h (fun rs' h' => jBs_or_m H (cSt_B41 hb) (cSt_B41 hb2) M76 rs' h') (jBs_rc (cSt_B41 hb)) dX6_like_364 g_X6_167 hg_X6_167 ⟨cx_le rfl, cx_le rfl⟩ rfl ⟨rfl, rfl⟩ ⟨cx_le rfl, cx_le rfl⟩ rfl (cx_le rfl) (fun M77 _ h => ?_)
  refine cx_aload_n 0 dX6_like_367 rfl ?_
  refine cx_iconst 0 dX6_like_368 cx_ic_0 ?_
  refine cx_putI h (cSt_F43 hb) rfl rfl rfl q725 dX6_like_369 (fun M78 h => ?_)
  exact cx_vret h rfl rfl (cx_le rfl) (cx_le rfl) dX6_like_372
noncomputable def cSt_like (N : cx_N) (b : Nat) (b2 : Nat) (M : cx_M) : Option cx_R := cSt_like_0 N b b2 M
theorem cSt_like_m {l : Launch} {g : cx_G} {adr : Nat → Nat} {N : cx_N} {b : Nat} {b2 : Nat} (H : cCp_H g adr N) (hb : cSt_H g adr b) (hb2 : cSt_H g adr b2) (M : cx_M) (rs : cx_R) (h : cSt_like N b b2 M = some rs) : cx_Met l (g) yX6_like cX6_like sX6_like [.ref (adr b), .ref (adr b2)] M rs :=
  cx_met (by decide +kernel) rfl rfl (lv := [(0, .ref (adr b)), (1, .ref (adr b2))]) rfl (cx_le rfl) (fun X => cx_sub (lv' := [(0, .ref (adr b)), (1, .ref (adr b2))]) [0, 1] rfl (cSt_like_0_v H hb hb2 M rs h))

abbrev sX5_keeps : cx_S := (1, RX5, cx_rV, { frames := 30, cells := 0, slots := 0, locals := 900 }, none, false)
noncomputable def cBk_keeps_38 (N : cx_N) (b : Nat) (M : cx_M) : Option cx_R :=
  cx_get M b 5 fun v1 =>
  cx_ahd (M ((b + 2))) v1 fun j2 =>
  cx_cal (cSt_like N j2 (cBk_st b) M) fun M3 _ =>
  cx_get M3 b 5 fun v4 =>
  cx_put M3 b 5 (v4 + 1) fun M5 =>
  some (M5, 0, 0)
set_option maxRecDepth 100000 in
theorem cBk_keeps_38_v {l : Launch} {g : cx_G} {adr : Nat → Nat} {X : cx_X} {N : cx_N} {b : Nat} (H : cCp_H g adr N) (hb : cBk_H g adr b) (M : cx_M) (rs : cx_R) (h : cBk_keeps_38 N b M = some rs) : cx_V l (g) X sX5_keeps cX5_keeps 38 [(0, .ref (adr b))] [] M 0 0 rs := by
  unfold cBk_keeps_38 at h
  refine cx_aload_n 0 dX5_keeps_38 rfl ?_
  refine cx_getR (cBk_R1 hb) q893 dX5_keeps_39 ?_
  refine cx_aload_n 0 dX5_keeps_42 rfl ?_
  refine cx_getI h (cBk_F5 hb) q901 dX5_keeps_43 (fun v1 h => ?_)
  refine cLs_ahead H hb h dX5_keeps_46 q1111 (cx_le rfl) (cx_le rfl) (cx_le rfl) (cx_le rfl) (cx_le rfl) (fun j2 hj2 h => ?_)
  refine cx_castR (cSt_rc hj2) q618 dX5_keeps_49 ?_
  refine cx_aload_n 0 dX5_keeps_52 rfl ?_
  refine cx_getR (cBk_R0 hb) q891 dX5_keeps_53 ?_
  refine cx_cVv [.ref (adr (cBk_st b))] [] h (fun rs' h' => cSt_like_m H hj2 (cSt_ibk H hb) M rs' h') (cSt_rc hj2) dX5_keeps_56 g_X5_52 hg_X5_52 ⟨cx_le rfl, cx_le rfl⟩ rfl ⟨rfl, rfl⟩ ⟨cx_le rfl, cx_le rfl⟩ rfl (cx_le rfl) (fun M3 _ h => ?_)
  refine cx_aload_n 0 dX5_keeps_59 rfl ?_
  refine cx_dup dX5_keeps_60 rfl ?_
  refine cx_getI h (cBk_F5 hb) q901 dX5_keeps_61 (fun v4 h => ?_)
  refine cx_iconst 1 dX5_keeps_64 cx_ic_1 ?_
  refine cx_iadd dX5_keeps_65 ?_
  refine cx_putI h (cBk_F5 hb) rfl rfl rfl q901 dX5_keeps_66 (fun M5 h => ?_)
  exact cx_vret h rfl rfl (cx_le rfl) (cx_le rfl) dX5_keeps_69
noncomputable def cBk_keeps_0 (N : cx_N) (b : Nat) (M : cx_M) : Option cx_R :=
  cx_get M b 5 fun v1 =>
  if v1 = 40 then (
    cx_arem M ((b + 2)) 0 fun M3 j2 =>
    cx_aadd M3 ((b + 2)) j2 fun M4 =>
    cx_get M4 b 5 fun v5 =>
    cx_put M4 b 5 (v5 - 1) fun M6 =>
    cBk_keeps_38 N b M6)
  else (
    cBk_keeps_38 N b M)
set_option maxRecDepth 100000 in
theorem cBk_keeps_0_v {l : Launch} {g : cx_G} {adr : Nat → Nat} {X : cx_X} {N : cx_N} {b : Nat} (H : cCp_H g adr N) (hb : cBk_H g adr b) (M : cx_M) (rs : cx_R) (h : cBk_keeps_0 N b M = some rs) : cx_V l (g) X sX5_keeps cX5_keeps 0 [(0, .ref (adr b))] [] M 0 0 rs := by
  unfold cBk_keeps_0 at h
  refine cx_aload_n 0 dX5_keeps_0 rfl ?_
  refine cx_getI h (cBk_F5 hb) q901 dX5_keeps_1 (fun v1 h => ?_)
  refine cx_bipush 40 dX5_keeps_4 cx_bp_40 ?_
  refine cx_icmp_ne 38 h dX5_keeps_6 rfl (fun h => ?_) (fun h => ?_)
  · exact cBk_keeps_38_v H hb M _ h
  · refine cx_aload_n 0 dX5_keeps_9 rfl ?_
    refine cx_getR (cBk_R1 hb) q893 dX5_keeps_10 ?_
    refine cx_aload_n 0 dX5_keeps_13 rfl ?_
    refine cx_getR (cBk_R1 hb) q893 dX5_keeps_14 ?_
    refine cx_iconst 0 dX5_keeps_17 cx_ic_0 ?_
    refine cLs_remove H hb h dX5_keeps_18 q1096 (cx_le rfl) (cx_le rfl) (cx_le rfl) (cx_le rfl) (cx_le rfl) (fun M3 j2 hj2 h => ?_)
    refine cx_castR (cSt_rc hj2) q618 dX5_keeps_21 ?_
    refine cLs_add H hb hj2 h dX5_keeps_24 q826 (cx_le rfl) (cx_le rfl) (cx_le rfl) (cx_le rfl) (cx_le rfl) (fun M4 h => ?_)
    refine cx_pop dX5_keeps_27 rfl ?_
    refine cx_aload_n 0 dX5_keeps_28 rfl ?_
    refine cx_dup dX5_keeps_29 rfl ?_
    refine cx_getI h (cBk_F5 hb) q901 dX5_keeps_30 (fun v5 h => ?_)
    refine cx_iconst 1 dX5_keeps_33 cx_ic_1 ?_
    refine cx_isub dX5_keeps_34 ?_
    refine cx_putI h (cBk_F5 hb) rfl rfl rfl q901 dX5_keeps_35 (fun M6 h => ?_)
    exact cBk_keeps_38_v H hb M6 _ h
noncomputable def cBk_keeps (N : cx_N) (b : Nat) (M : cx_M) : Option cx_R := cBk_keeps_0 N b M
theorem cBk_keeps_m {l : Launch} {g : cx_G} {adr : Nat → Nat} {N : cx_N} {b : Nat} (H : cCp_H g adr N) (hb : cBk_H g adr b) (M : cx_M) (rs : cx_R) (h : cBk_keeps N b M = some rs) : cx_Met l (g) yX5_keeps cX5_keeps sX5_keeps [.ref (adr b)] M rs :=
  cx_met (by decide +kernel) rfl rfl (lv := [(0, .ref (adr b))]) rfl (cx_le rfl) (fun X => cx_sub (lv' := [(0, .ref (adr b))]) [0] rfl (cBk_keeps_0_v H hb M rs h))

abbrev sX1_refuses : cx_S := (2, RX1, cx_rI, { frames := 0, cells := 0, slots := 0, locals := 0 }, some .int, false)
noncomputable def cCc_refuses_0 (N : cx_N) (M : cx_M) (x1 : Int32) : Option cx_R :=
  cx_ld M 605 3 x1 fun v1 =>
  cx_st M 605 3 x1 (v1 + 1) fun M2 =>
  some (M2, (-1), 0)
set_option maxRecDepth 100000 in
theorem cCc_refuses_0_v {l : Launch} {g : cx_G} {adr : Nat → Nat} {X : cx_X} {N : cx_N} (H : cCp_H g adr N) (M : cx_M) (x1 : Int32) (rs : cx_R) (h : cCc_refuses_0 N M x1 = some rs) : cx_V l (g) X sX1_refuses cX1_refuses 0 [(0, .ref (adr 500)), (1, .int x1)] [] M 0 0 rs := by
  unfold cCc_refuses_0 at h
  refine cx_aload_n 0 dX1_refuses_0 rfl ?_
  refine cx_getR (cCc_R1 H) q1018 dX1_refuses_1 ?_
  refine cx_getRN (cBk_R4 (cBk_i600 H)) q900 dX1_refuses_4 ?_
  refine cx_iload_n 1 dX1_refuses_7 rfl ?_
  refine cx_dup2 dX1_refuses_8 rfl rfl ?_
  refine cx_ldI h (cBk_A4 (cBk_i600 H)) dX1_refuses_9 (fun v1 h => ?_)
  refine cx_iconst 1 dX1_refuses_10 cx_ic_1 ?_
  refine cx_iadd dX1_refuses_11 ?_
  refine cx_stI h (cBk_A4 (cBk_i600 H)) dX1_refuses_12 (fun M2 h => ?_)
  refine cx_iconst (-1) dX1_refuses_13 cx_ic_m1 ?_
  exact cx_iret h rfl rfl (cx_le rfl) (cx_le rfl) dX1_refuses_14
noncomputable def cCc_refuses (N : cx_N) (M : cx_M) (x1 : Int32) : Option cx_R := cCc_refuses_0 N M x1
theorem cCc_refuses_m {l : Launch} {g : cx_G} {adr : Nat → Nat} {N : cx_N} (H : cCp_H g adr N) (M : cx_M) (x1 : Int32) (rs : cx_R) (h : cCc_refuses N M x1 = some rs) : cx_Met l (g) yX1_refuses cX1_refuses sX1_refuses [.ref (adr 500), .int x1] M rs :=
  cx_met (by decide +kernel) rfl rfl (lv := [(0, .ref (adr 500)), (1, .int x1)]) rfl (cx_le rfl) (fun X => cx_sub (lv' := [(0, .ref (adr 500)), (1, .int x1)]) [0, 1] rfl (cCc_refuses_0_v H M x1 rs h))

abbrev sX1_does : cx_S := (2, RX1, cx_rI, { frames := 31, cells := 0, slots := 0, locals := 920 }, some .boolean, false)
noncomputable def cCc_does_0 (N : cx_N) (M : cx_M) (x1 : Int32) : Option cx_R :=
  if x1 = 0 then (
    cx_cal (cCc_refuses N M 1) fun M1 v2 =>
    cx_bl x1 (some (M1, x1, 0)))
  else (
    cx_cal (cBk_keeps N 600 M) fun M3 _ =>
    cx_bl x1 (some (M3, x1, 0)))
set_option maxRecDepth 100000 in
theorem cCc_does_0_v {l : Launch} {g : cx_G} {adr : Nat → Nat} {X : cx_X} {N : cx_N} (H : cCp_H g adr N) (M : cx_M) (x1 : Int32) (rs : cx_R) (h : cCc_does_0 N M x1 = some rs) : cx_V l (g) X sX1_does cX1_does 0 [(0, .ref (adr 500)), (1, .int x1)] [] M 0 0 rs := by
  unfold cCc_does_0 at h
  refine cx_iload_n 1 dX1_does_0 rfl ?_
  refine cx_if_eq 14 h dX1_does_1 rfl (fun h => ?_) (fun h => ?_)
  · refine cx_aload_n 0 dX1_does_14 rfl ?_
    refine cx_iconst 1 dX1_does_15 cx_ic_1 ?_
    refine cx_cVi [.int 1] [] h (fun rs' h' => cCc_refuses_m H M 1 rs' h') (cCc_rc H) dX1_does_16 g_X1_382 hg_X1_382 ⟨cx_le rfl, cx_le rfl⟩ rfl ⟨rfl, rfl⟩ ⟨cx_le rfl, cx_le rfl⟩ rfl (cx_le rfl) (fun M1 v2 h => ?_)
    refine cx_pop dX1_does_19 rfl ?_
    refine cx_iload_n 1 dX1_does_20 rfl ?_
    refine cx_blI h (fun hz h => ?_)
    exact cx_zret h hz.1 rfl rfl (cx_le rfl) (cx_le rfl) dX1_does_21
  · refine cx_aload_n 0 dX1_does_4 rfl ?_
    refine cx_getR (cCc_R1 H) q1018 dX1_does_5 ?_
    refine cx_cVv [] [] h (fun rs' h' => cBk_keeps_m H (cBk_i600 H) M rs' h') (cBk_rc (cBk_i600 H)) dX1_does_8 g_X1_379 hg_X1_379 ⟨cx_le rfl, cx_le rfl⟩ rfl ⟨rfl, rfl⟩ ⟨cx_le rfl, cx_le rfl⟩ rfl (cx_le rfl) (fun M3 _ h => ?_)
    refine cx_goto 20 dX1_does_11 rfl ?_
    refine cx_iload_n 1 dX1_does_20 rfl ?_
    refine cx_blI h (fun hz h => ?_)
    exact cx_zret h hz.1 rfl rfl (cx_le rfl) (cx_le rfl) dX1_does_21
noncomputable def cCc_does (N : cx_N) (M : cx_M) (x1 : Int32) : Option cx_R := cCc_does_0 N M x1
theorem cCc_does_m {l : Launch} {g : cx_G} {adr : Nat → Nat} {N : cx_N} (H : cCp_H g adr N) (M : cx_M) (x1 : Int32) (rs : cx_R) (h : cCc_does N M x1 = some rs) : cx_Met l (g) yX1_does cX1_does sX1_does [.ref (adr 500), .int x1] M rs :=
  cx_met (by decide +kernel) rfl rfl (lv := [(0, .ref (adr 500)), (1, .int x1)]) rfl (cx_le rfl) (fun X => cx_sub (lv' := [(0, .ref (adr 500)), (1, .int x1)]) [0, 1] rfl (cCc_does_0_v H M x1 rs h))

abbrev sX1_draw : cx_S := (2, RX1, cx_rI, { frames := 0, cells := 0, slots := 0, locals := 0 }, some .int, false)
noncomputable def cCc_draw_0 (N : cx_N) (M : cx_M) (x1 : Int32) : Option cx_R :=
  cx_get M 500 16 fun v1 =>
  cx_put M 500 16 ((v1 * 1103515245) + 12345) fun M2 =>
  cx_get M2 500 16 fun v3 =>
  cx_nz x1 <|
  some (M2, cx_rem ((v3 >>> (16 &&& 31)) &&& 32767) x1, 0)
set_option maxRecDepth 100000 in
theorem cCc_draw_0_v {l : Launch} {g : cx_G} {adr : Nat → Nat} {X : cx_X} {N : cx_N} (H : cCp_H g adr N) (M : cx_M) (x1 : Int32) (rs : cx_R) (h : cCc_draw_0 N M x1 = some rs) : cx_V l (g) X sX1_draw cX1_draw 0 [(0, .ref (adr 500)), (1, .int x1)] [] M 0 0 rs := by
  unfold cCc_draw_0 at h
  refine cx_aload_n 0 dX1_draw_0 rfl ?_
  refine cx_aload_n 0 dX1_draw_1 rfl ?_
  refine cx_getI h (cCc_F16 H) q1033 dX1_draw_2 (fun v1 h => ?_)
  refine cx_ldcw 1103515245 dX1_draw_5 q2368 ?_
  refine cx_imul dX1_draw_8 ?_
  refine cx_sipush 12345 dX1_draw_9 cx_sp_12345 ?_
  refine cx_iadd dX1_draw_12 ?_
  refine cx_putI h (cCc_F16 H) rfl rfl rfl q1033 dX1_draw_13 (fun M2 h => ?_)
  refine cx_aload_n 0 dX1_draw_16 rfl ?_
  refine cx_getI h (cCc_F16 H) q1033 dX1_draw_17 (fun v3 h => ?_)
  refine cx_bipush 16 dX1_draw_20 cx_bp_16 ?_
  refine cx_ishr dX1_draw_22 ?_
  refine cx_sipush 32767 dX1_draw_23 cx_sp_32767 ?_
  refine cx_iand dX1_draw_26 ?_
  refine cx_iload_n 1 dX1_draw_27 rfl ?_
  refine cx_irem h dX1_draw_28 (fun h => ?_)
  exact cx_iret h rfl rfl (cx_le rfl) (cx_le rfl) dX1_draw_29
noncomputable def cCc_draw (N : cx_N) (M : cx_M) (x1 : Int32) : Option cx_R := cCc_draw_0 N M x1
theorem cCc_draw_m {l : Launch} {g : cx_G} {adr : Nat → Nat} {N : cx_N} (H : cCp_H g adr N) (M : cx_M) (x1 : Int32) (rs : cx_R) (h : cCc_draw N M x1 = some rs) : cx_Met l (g) yX1_draw cX1_draw sX1_draw [.ref (adr 500), .int x1] M rs :=
  cx_met (by decide +kernel) rfl rfl (lv := [(0, .ref (adr 500)), (1, .int x1)]) rfl (cx_le rfl) (fun X => cx_sub (lv' := [(0, .ref (adr 500)), (1, .int x1)]) [0, 1] rfl (cCc_draw_0_v H M x1 rs h))

abbrev sX1_fault : cx_S := (1, RX1, cx_rI, { frames := 0, cells := 0, slots := 0, locals := 0 }, some .int, false)
noncomputable def cCc_fault_0 (N : cx_N) (M : cx_M) : Option cx_R :=
  cx_get M 500 10 fun v1 =>
  some (M, v1, 0)
set_option maxRecDepth 100000 in
theorem cCc_fault_0_v {l : Launch} {g : cx_G} {adr : Nat → Nat} {X : cx_X} {N : cx_N} (H : cCp_H g adr N) (M : cx_M) (rs : cx_R) (h : cCc_fault_0 N M = some rs) : cx_V l (g) X sX1_fault cX1_fault 0 [(0, .ref (adr 500))] [] M 0 0 rs := by
  unfold cCc_fault_0 at h
  refine cx_aload_n 0 dX1_fault_0 rfl ?_
  refine cx_getI h (cCc_F10 H) q1027 dX1_fault_1 (fun v1 h => ?_)
  exact cx_iret h rfl rfl (cx_le rfl) (cx_le rfl) dX1_fault_4
noncomputable def cCc_fault (N : cx_N) (M : cx_M) : Option cx_R := cCc_fault_0 N M
theorem cCc_fault_m {l : Launch} {g : cx_G} {adr : Nat → Nat} {N : cx_N} (H : cCp_H g adr N) (M : cx_M) (rs : cx_R) (h : cCc_fault N M = some rs) : cx_Met l (g) yX1_fault cX1_fault sX1_fault [.ref (adr 500)] M rs :=
  cx_met (by decide +kernel) rfl rfl (lv := [(0, .ref (adr 500))]) rfl (cx_le rfl) (fun X => cx_sub (lv' := [(0, .ref (adr 500))]) [0] rfl (cCc_fault_0_v H M rs h))

abbrev sX1_lay : cx_S := (3, RX1, cx_rV, { frames := 0, cells := 0, slots := 0, locals := 0 }, none, false)
noncomputable def cCc_lay_3b (N : cx_N) (r_3 : cx_M → Int32 → Int32 → Option cx_R) (M : cx_M) (x1 : Int32) (x2 : Int32) : Option cx_R :=
  if x2 < 0 then (
    some (M, 0, 0))
  else (
    cx_get M 500 9 fun v1 =>
    cx_st M 509 700 v1 (cx_nb (cx_byte (x1 >>> (x2 &&& 31)))) fun M2 =>
    cx_get M2 500 9 fun v3 =>
    cx_put M2 500 9 (v3 + 1) fun M4 =>
    cx_let (x2 + (-8)) fun v5 =>
    r_3 M4 x1 v5)
set_option maxRecDepth 100000 in
theorem cCc_lay_3b_v {l : Launch} {g : cx_G} {adr : Nat → Nat} {X : cx_X} {N : cx_N} {r_3 : cx_M → Int32 → Int32 → Option cx_R} (H : cCp_H g adr N) (hr_3 : ∀ (M : cx_M) (x1 : Int32) (x2 : Int32) (rs : cx_R), r_3 M x1 x2 = some rs → cx_V l (g) X sX1_lay cX1_lay 3 [(0, .ref (adr 500)), (1, .int x1), (2, .int x2)] [] M 0 0 rs) (M : cx_M) (x1 : Int32) (x2 : Int32) (rs : cx_R) (h : cCc_lay_3b N r_3 M x1 x2 = some rs) : cx_V l (g) X sX1_lay cX1_lay 3 [(0, .ref (adr 500)), (1, .int x1), (2, .int x2)] [] M 0 0 rs := by
  unfold cCc_lay_3b at h
  refine cx_iload_n 2 dX1_lay_3 rfl ?_
  refine cx_if_lt 36 h dX1_lay_4 rfl (fun h => ?_) (fun h => ?_)
  · exact cx_vret h rfl rfl (cx_le rfl) (cx_le rfl) dX1_lay_36
  · refine cx_aload_n 0 dX1_lay_7 rfl ?_
    refine cx_getR (cCc_R8 H) q1025 dX1_lay_8 ?_
    refine cx_aload_n 0 dX1_lay_11 rfl ?_
    refine cx_getI h (cCc_F9 H) q1026 dX1_lay_12 (fun v1 h => ?_)
    refine cx_iload_n 1 dX1_lay_15 rfl ?_
    refine cx_iload_n 2 dX1_lay_16 rfl ?_
    refine cx_ishr dX1_lay_17 ?_
    refine cx_i2b dX1_lay_18 ?_
    refine cx_stBy h (cCc_A8 H) dX1_lay_19 (fun M2 h => ?_)
    refine cx_aload_n 0 dX1_lay_20 rfl ?_
    refine cx_dup dX1_lay_21 rfl ?_
    refine cx_getI h (cCc_F9 H) q1026 dX1_lay_22 (fun v3 h => ?_)
    refine cx_iconst 1 dX1_lay_25 cx_ic_1 ?_
    refine cx_iadd dX1_lay_26 ?_
    refine cx_putI h (cCc_F9 H) rfl rfl rfl q1026 dX1_lay_27 (fun M4 h => ?_)
    refine cx_iinc 2 (-8) (fun v5 => [(2, .int v5), (0, .ref (adr 500)), (1, .int x1)]) h dX1_lay_30 rfl cx_ic_m8 (cx_lt rfl) (fun _ => rfl) (fun v5 h => ?_)
    refine cx_goto 3 dX1_lay_33 rfl ?_
    refine cx_sub (lv' := [(0, .ref (adr 500)), (1, .int x1), (2, .int v5)]) [1, 2, 0] rfl ?_
    exact hr_3 M4 x1 v5 _ h
noncomputable def cCc_lay_3 (N : cx_N) : Nat → cx_M → Int32 → Int32 → Option cx_R :=
  cx_fix (fun _ _ _ => none) (fun r_3 => cCc_lay_3b N r_3)
theorem cCc_lay_3_v {l : Launch} {g : cx_G} {adr : Nat → Nat} {X : cx_X} {N : cx_N} (H : cCp_H g adr N) : ∀ (n : Nat) (M : cx_M) (x1 : Int32) (x2 : Int32) (rs : cx_R), cCc_lay_3 N n M x1 x2 = some rs → cx_V l (g) X sX1_lay cX1_lay 3 [(0, .ref (adr 500)), (1, .int x1), (2, .int x2)] [] M 0 0 rs :=
  cx_fixI (fun (r : cx_M → Int32 → Int32 → Option cx_R) => ∀ (M : cx_M) (x1 : Int32) (x2 : Int32) (rs : cx_R), r M x1 x2 = some rs → cx_V l (g) X sX1_lay cX1_lay 3 [(0, .ref (adr 500)), (1, .int x1), (2, .int x2)] [] M 0 0 rs) (fun _ _ _ _ h => by cases h) (fun r hr M x1 x2 rs h => cCc_lay_3b_v H hr M x1 x2 rs h)
noncomputable def cCc_lay_0 (N : cx_N) (M : cx_M) (x1 : Int32) : Option cx_R :=
  cCc_lay_3 N N.1 M x1 24
set_option maxRecDepth 100000 in
theorem cCc_lay_0_v {l : Launch} {g : cx_G} {adr : Nat → Nat} {X : cx_X} {N : cx_N} (H : cCp_H g adr N) (M : cx_M) (x1 : Int32) (rs : cx_R) (h : cCc_lay_0 N M x1 = some rs) : cx_V l (g) X sX1_lay cX1_lay 0 [(0, .ref (adr 500)), (1, .int x1)] [] M 0 0 rs := by
  unfold cCc_lay_0 at h
  refine cx_bipush 24 dX1_lay_0 cx_bp_24 ?_
  refine cx_istore_n [(2, .int 24), (0, .ref (adr 500)), (1, .int x1)] dX1_lay_2 (cx_lt rfl) rfl ?_
  refine cx_sub (lv' := [(0, .ref (adr 500)), (1, .int x1), (2, .int 24)]) [1, 2, 0] rfl ?_
  exact cCc_lay_3_v H N.1 M x1 24 _ h
noncomputable def cCc_lay (N : cx_N) (M : cx_M) (x1 : Int32) : Option cx_R := cCc_lay_0 N M x1
theorem cCc_lay_m {l : Launch} {g : cx_G} {adr : Nat → Nat} {N : cx_N} (H : cCp_H g adr N) (M : cx_M) (x1 : Int32) (rs : cx_R) (h : cCc_lay N M x1 = some rs) : cx_Met l (g) yX1_lay cX1_lay sX1_lay [.ref (adr 500), .int x1] M rs :=
  cx_met (by decide +kernel) rfl rfl (lv := [(0, .ref (adr 500)), (1, .int x1)]) rfl (cx_le rfl) (fun X => cx_sub (lv' := [(0, .ref (adr 500)), (1, .int x1)]) [0, 1] rfl (cCc_lay_0_v H M x1 rs h))

abbrev sX1_feed : cx_S := (6, RX1, cx_rI, { frames := 1, cells := 0, slots := 0, locals := 22 }, some .int, false)
noncomputable def cCc_feed_0 (N : cx_N) (M : cx_M) (x1 : Int32) (x2 : Int32) (x3 : Int32) (x4 : Int32) (x5 : Int32) : Option cx_R :=
  cx_get M 500 9 fun v1 =>
  if (v1 + 20) ≤ 700 then (
    cx_cal (cCc_lay N M x1) fun M2 _ =>
    cx_cal (cCc_lay N M2 x2) fun M3 _ =>
    cx_cal (cCc_lay N M3 x3) fun M4 _ =>
    cx_cal (cCc_lay N M4 x4) fun M5 _ =>
    cx_cal (cCc_lay N M5 x5) fun M6 _ =>
    cx_get M6 500 9 fun v7 =>
    some (M6, v7, 0))
  else (
    some (M, (-1), 0))
set_option maxRecDepth 100000 in
theorem cCc_feed_0_v {l : Launch} {g : cx_G} {adr : Nat → Nat} {X : cx_X} {N : cx_N} (H : cCp_H g adr N) (M : cx_M) (x1 : Int32) (x2 : Int32) (x3 : Int32) (x4 : Int32) (x5 : Int32) (rs : cx_R) (h : cCc_feed_0 N M x1 x2 x3 x4 x5 = some rs) : cx_V l (g) X sX1_feed cX1_feed 0 [(0, .ref (adr 500)), (1, .int x1), (2, .int x2), (3, .int x3), (4, .int x4), (5, .int x5)] [] M 0 0 rs := by
  unfold cCc_feed_0 at h
  refine cx_aload_n 0 dX1_feed_0 rfl ?_
  refine cx_getI h (cCc_F9 H) q1026 dX1_feed_1 (fun v1 h => ?_)
  refine cx_bipush 20 dX1_feed_4 cx_bp_20 ?_
  refine cx_iadd dX1_feed_6 ?_
  refine cx_sipush 700 dX1_feed_7 cx_sp_700 ?_
  refine cx_icmp_le 15 h dX1_feed_10 rfl (fun h => ?_) (fun h => ?_)
  · refine cx_aload_n 0 dX1_feed_15 rfl ?_
    refine cx_iload_n 1 dX1_feed_16 rfl ?_
    refine cx_cVv [.int x1] [] h (fun rs' h' => cCc_lay_m H M x1 rs' h') (cCc_rc H) dX1_feed_17 g_X1_134 hg_X1_134 ⟨cx_le rfl, cx_le rfl⟩ rfl ⟨rfl, rfl⟩ ⟨cx_le rfl, cx_le rfl⟩ rfl (cx_le rfl) (fun M2 _ h => ?_)
    refine cx_aload_n 0 dX1_feed_20 rfl ?_
    refine cx_iload_n 2 dX1_feed_21 rfl ?_
    refine cx_cVv [.int x2] [] h (fun rs' h' => cCc_lay_m H M2 x2 rs' h') (cCc_rc H) dX1_feed_22 g_X1_134 hg_X1_134 ⟨cx_le rfl, cx_le rfl⟩ rfl ⟨rfl, rfl⟩ ⟨cx_le rfl, cx_le rfl⟩ rfl (cx_le rfl) (fun M3 _ h => ?_)
    refine cx_aload_n 0 dX1_feed_25 rfl ?_
    refine cx_iload_n 3 dX1_feed_26 rfl ?_
    refine cx_cVv [.int x3] [] h (fun rs' h' => cCc_lay_m H M3 x3 rs' h') (cCc_rc H) dX1_feed_27 g_X1_134 hg_X1_134 ⟨cx_le rfl, cx_le rfl⟩ rfl ⟨rfl, rfl⟩ ⟨cx_le rfl, cx_le rfl⟩ rfl (cx_le rfl) (fun M4 _ h => ?_)
    refine cx_aload_n 0 dX1_feed_30 rfl ?_
    refine cx_iload 4 dX1_feed_31 rfl ?_
    refine cx_cVv [.int x4] [] h (fun rs' h' => cCc_lay_m H M4 x4 rs' h') (cCc_rc H) dX1_feed_33 g_X1_134 hg_X1_134 ⟨cx_le rfl, cx_le rfl⟩ rfl ⟨rfl, rfl⟩ ⟨cx_le rfl, cx_le rfl⟩ rfl (cx_le rfl) (fun M5 _ h => ?_)
    refine cx_aload_n 0 dX1_feed_36 rfl ?_
    refine cx_iload 5 dX1_feed_37 rfl ?_
    refine cx_cVv [.int x5] [] h (fun rs' h' => cCc_lay_m H M5 x5 rs' h') (cCc_rc H) dX1_feed_39 g_X1_134 hg_X1_134 ⟨cx_le rfl, cx_le rfl⟩ rfl ⟨rfl, rfl⟩ ⟨cx_le rfl, cx_le rfl⟩ rfl (cx_le rfl) (fun M6 _ h => ?_)
    refine cx_aload_n 0 dX1_feed_42 rfl ?_
    refine cx_getI h (cCc_F9 H) q1026 dX1_feed_43 (fun v7 h => ?_)
    exact cx_iret h rfl rfl (cx_le rfl) (cx_le rfl) dX1_feed_46
  · refine cx_iconst (-1) dX1_feed_13 cx_ic_m1 ?_
    exact cx_iret h rfl rfl (cx_le rfl) (cx_le rfl) dX1_feed_14
noncomputable def cCc_feed (N : cx_N) (M : cx_M) (x1 : Int32) (x2 : Int32) (x3 : Int32) (x4 : Int32) (x5 : Int32) : Option cx_R := cCc_feed_0 N M x1 x2 x3 x4 x5
theorem cCc_feed_m {l : Launch} {g : cx_G} {adr : Nat → Nat} {N : cx_N} (H : cCp_H g adr N) (M : cx_M) (x1 : Int32) (x2 : Int32) (x3 : Int32) (x4 : Int32) (x5 : Int32) (rs : cx_R) (h : cCc_feed N M x1 x2 x3 x4 x5 = some rs) : cx_Met l (g) yX1_feed cX1_feed sX1_feed [.ref (adr 500), .int x1, .int x2, .int x3, .int x4, .int x5] M rs :=
  cx_met (by decide +kernel) rfl rfl (lv := [(0, .ref (adr 500)), (1, .int x1), (2, .int x2), (3, .int x3), (4, .int x4), (5, .int x5)]) rfl (cx_le rfl) (fun X => cx_sub (lv' := [(0, .ref (adr 500)), (1, .int x1), (2, .int x2), (3, .int x3), (4, .int x4), (5, .int x5)]) [0, 1, 2, 3, 4, 5] rfl (cCc_feed_0_v H M x1 x2 x3 x4 x5 rs h))

abbrev sX1_flying : cx_S := (3, RX1, cx_rI, { frames := 1, cells := 0, slots := 0, locals := 22 }, some .int, false)
noncomputable def cCc_flying_29 (N : cx_N) (M : cx_M) (x1 : Int32) (x2 : Int32) (z0 : Int32) : Option cx_R :=
  cx_cal (cCc_there N M z0) fun M1 _ =>
  if x2 = 0 then (
    cx_ld M1 1035 40 x1 fun v4 =>
    some (M1, v4, 0))
  else (
    if x2 = 1 then (
      cx_ld M1 1036 40 x1 fun v3 =>
      some (M1, v3, 0))
    else (
      cx_ld M1 1037 40 x1 fun v2 =>
      some (M1, v2, 0)))
set_option maxRecDepth 100000 in
theorem cCc_flying_29_v {l : Launch} {g : cx_G} {adr : Nat → Nat} {X : cx_X} {N : cx_N} (H : cCp_H g adr N) (M : cx_M) (x1 : Int32) (x2 : Int32) (z0 : Int32) (rs : cx_R) (h : cCc_flying_29 N M x1 x2 z0 = some rs) : cx_V l (g) X sX1_flying cX1_flying 29 [(0, .ref (adr 500)), (1, .int x1), (2, .int x2)] [.int z0] M 0 0 rs := by
  unfold cCc_flying_29 at h
  refine cx_cSv [.int z0] [] h (fun rs' h' => cCc_there_m H M z0 rs' h') dX1_flying_29 g_X1_184 hg_X1_184 ⟨cx_le rfl, cx_le rfl⟩ rfl ⟨rfl, rfl⟩ ⟨cx_le rfl, cx_le rfl⟩ rfl (cx_le rfl) (fun M1 _ h => ?_)
  refine cx_iload_n 2 dX1_flying_32 rfl ?_
  refine cx_if_ne 48 h dX1_flying_33 rfl (fun h => ?_) (fun h => ?_)
  · refine cx_iload_n 2 dX1_flying_48 rfl ?_
    refine cx_iconst 1 dX1_flying_49 cx_ic_1 ?_
    refine cx_icmp_ne 65 h dX1_flying_50 rfl (fun h => ?_) (fun h => ?_)
    · refine cx_aload_n 0 dX1_flying_65 rfl ?_
      refine cx_getR (cCc_R3 H) q1020 dX1_flying_66 ?_
      refine cx_getRN (cSt_R36 (cSt_i1000 H)) q715 dX1_flying_69 ?_
      refine cx_iload_n 1 dX1_flying_72 rfl ?_
      refine cx_ldI h (cSt_A36 (cSt_i1000 H)) dX1_flying_73 (fun v2 h => ?_)
      exact cx_iret h rfl rfl (cx_le rfl) (cx_le rfl) dX1_flying_74
    · refine cx_aload_n 0 dX1_flying_53 rfl ?_
      refine cx_getR (cCc_R3 H) q1020 dX1_flying_54 ?_
      refine cx_getRN (cSt_R35 (cSt_i1000 H)) q713 dX1_flying_57 ?_
      refine cx_iload_n 1 dX1_flying_60 rfl ?_
      refine cx_ldI h (cSt_A35 (cSt_i1000 H)) dX1_flying_61 (fun v3 h => ?_)
      refine cx_goto 74 dX1_flying_62 rfl ?_
      exact cx_iret h rfl rfl (cx_le rfl) (cx_le rfl) dX1_flying_74
  · refine cx_aload_n 0 dX1_flying_36 rfl ?_
    refine cx_getR (cCc_R3 H) q1020 dX1_flying_37 ?_
    refine cx_getRN (cSt_R34 (cSt_i1000 H)) q711 dX1_flying_40 ?_
    refine cx_iload_n 1 dX1_flying_43 rfl ?_
    refine cx_ldI h (cSt_A34 (cSt_i1000 H)) dX1_flying_44 (fun v4 h => ?_)
    refine cx_goto 74 dX1_flying_45 rfl ?_
    exact cx_iret h rfl rfl (cx_le rfl) (cx_le rfl) dX1_flying_74
noncomputable def cCc_flying_28 (N : cx_N) (M : cx_M) (x1 : Int32) (x2 : Int32) : Option cx_R :=
  cCc_flying_29 N M x1 x2 0
set_option maxRecDepth 100000 in
theorem cCc_flying_28_v {l : Launch} {g : cx_G} {adr : Nat → Nat} {X : cx_X} {N : cx_N} (H : cCp_H g adr N) (M : cx_M) (x1 : Int32) (x2 : Int32) (rs : cx_R) (h : cCc_flying_28 N M x1 x2 = some rs) : cx_V l (g) X sX1_flying cX1_flying 28 [(0, .ref (adr 500)), (1, .int x1), (2, .int x2)] [] M 0 0 rs := by
  unfold cCc_flying_28 at h
  refine cx_iconst 0 dX1_flying_28 cx_ic_0 ?_
  exact cCc_flying_29_v H M x1 x2 0 _ h
noncomputable def cCc_flying_0 (N : cx_N) (M : cx_M) (x1 : Int32) (x2 : Int32) : Option cx_R :=
  if x1 < 0 then (
    cCc_flying_28 N M x1 x2)
  else (
    cx_get M 1000 33 fun v1 =>
    if v1 ≤ x1 then (
      cCc_flying_28 N M x1 x2)
    else (
      cx_cal (cCc_within N M x2 0 2) fun M2 v3 =>
      if v3 = 0 then (
        cCc_flying_28 N M2 x1 x2)
      else (
        cCc_flying_29 N M2 x1 x2 1)))
set_option maxRecDepth 100000 in
theorem cCc_flying_0_v {l : Launch} {g : cx_G} {adr : Nat → Nat} {X : cx_X} {N : cx_N} (H : cCp_H g adr N) (M : cx_M) (x1 : Int32) (x2 : Int32) (rs : cx_R) (h : cCc_flying_0 N M x1 x2 = some rs) : cx_V l (g) X sX1_flying cX1_flying 0 [(0, .ref (adr 500)), (1, .int x1), (2, .int x2)] [] M 0 0 rs := by
  unfold cCc_flying_0 at h
  refine cx_iload_n 1 dX1_flying_0 rfl ?_
  refine cx_if_lt 28 h dX1_flying_1 rfl (fun h => ?_) (fun h => ?_)
  · exact cCc_flying_28_v H M x1 x2 _ h
  · refine cx_iload_n 1 dX1_flying_4 rfl ?_
    refine cx_aload_n 0 dX1_flying_5 rfl ?_
    refine cx_getR (cCc_R3 H) q1020 dX1_flying_6 ?_
    refine cx_getIN h (cSt_F33 (cSt_i1000 H)) q709 dX1_flying_9 (fun v1 h => ?_)
    refine cx_icmp_ge 28 h dX1_flying_12 rfl (fun h => ?_) (fun h => ?_)
    · exact cCc_flying_28_v H M x1 x2 _ h
    · refine cx_iload_n 2 dX1_flying_15 rfl ?_
      refine cx_iconst 0 dX1_flying_16 cx_ic_0 ?_
      refine cx_iconst 2 dX1_flying_17 cx_ic_2 ?_
      refine cx_cSi [.int x2, .int 0, .int 2] [] h (fun rs' h' => cCc_within_m H M x2 0 2 rs' h') dX1_flying_18 g_X1_180 hg_X1_180 ⟨cx_le rfl, cx_le rfl⟩ rfl ⟨rfl, rfl⟩ ⟨cx_le rfl, cx_le rfl⟩ rfl (cx_le rfl) (fun M2 v3 h => ?_)
      refine cx_if_eq 28 h dX1_flying_21 rfl (fun h => ?_) (fun h => ?_)
      · exact cCc_flying_28_v H M2 x1 x2 _ h
      · refine cx_iconst 1 dX1_flying_24 cx_ic_1 ?_
        refine cx_goto 29 dX1_flying_25 rfl ?_
        exact cCc_flying_29_v H M2 x1 x2 1 _ h
noncomputable def cCc_flying (N : cx_N) (M : cx_M) (x1 : Int32) (x2 : Int32) : Option cx_R := cCc_flying_0 N M x1 x2
theorem cCc_flying_m {l : Launch} {g : cx_G} {adr : Nat → Nat} {N : cx_N} (H : cCp_H g adr N) (M : cx_M) (x1 : Int32) (x2 : Int32) (rs : cx_R) (h : cCc_flying N M x1 x2 = some rs) : cx_Met l (g) yX1_flying cX1_flying sX1_flying [.ref (adr 500), .int x1, .int x2] M rs :=
  cx_met (by decide +kernel) rfl rfl (lv := [(0, .ref (adr 500)), (1, .int x1), (2, .int x2)]) rfl (cx_le rfl) (fun X => cx_sub (lv' := [(0, .ref (adr 500)), (1, .int x1), (2, .int x2)]) [0, 1, 2] rfl (cCc_flying_0_v H M x1 x2 rs h))

abbrev sX1_forget : cx_S := (1, RX1, cx_rV, { frames := 0, cells := 0, slots := 0, locals := 0 }, none, false)
noncomputable def cCc_forget_0 (N : cx_N) (M : cx_M) : Option cx_R :=
  cx_put M 600 6 0 fun M1 =>
  some (M1, 0, 0)
set_option maxRecDepth 100000 in
theorem cCc_forget_0_v {l : Launch} {g : cx_G} {adr : Nat → Nat} {X : cx_X} {N : cx_N} (H : cCp_H g adr N) (M : cx_M) (rs : cx_R) (h : cCc_forget_0 N M = some rs) : cx_V l (g) X sX1_forget cX1_forget 0 [(0, .ref (adr 500))] [] M 0 0 rs := by
  unfold cCc_forget_0 at h
  refine cx_aload_n 0 dX1_forget_0 rfl ?_
  refine cx_getR (cCc_R1 H) q1018 dX1_forget_1 ?_
  refine cx_iconst 0 dX1_forget_4 cx_ic_0 ?_
  refine cx_putIN h (cBk_F6 (cBk_i600 H)) rfl rfl rfl q904 dX1_forget_5 (fun M1 h => ?_)
  exact cx_vret h rfl rfl (cx_le rfl) (cx_le rfl) dX1_forget_8
noncomputable def cCc_forget (N : cx_N) (M : cx_M) : Option cx_R := cCc_forget_0 N M
theorem cCc_forget_m {l : Launch} {g : cx_G} {adr : Nat → Nat} {N : cx_N} (H : cCp_H g adr N) (M : cx_M) (rs : cx_R) (h : cCc_forget N M = some rs) : cx_Met l (g) yX1_forget cX1_forget sX1_forget [.ref (adr 500)] M rs :=
  cx_met (by decide +kernel) rfl rfl (lv := [(0, .ref (adr 500))]) rfl (cx_le rfl) (fun X => cx_sub (lv' := [(0, .ref (adr 500))]) [0] rfl (cCc_forget_0_v H M rs h))

abbrev sX1_framed : cx_S := (2, RX1, cx_rI, { frames := 1, cells := 0, slots := 0, locals := 21 }, some .int, false)
noncomputable def cCc_framed_0 (N : cx_N) (b2 : Nat) (M : cx_M) : Option cx_R :=
  cx_get M 8000 6 fun v1 =>
  cx_cal (cSt_back N b2 M v1) fun M2 v3 =>
  some (M2, v3, 0)
set_option maxRecDepth 100000 in
theorem cCc_framed_0_v {l : Launch} {g : cx_G} {adr : Nat → Nat} {X : cx_X} {N : cx_N} {b2 : Nat} (H : cCp_H g adr N) (hb2 : cSt_H g adr b2) (M : cx_M) (rs : cx_R) (h : cCc_framed_0 N b2 M = some rs) : cx_V l (g) X sX1_framed cX1_framed 0 [(0, .ref (adr 500)), (1, .ref (adr b2))] [] M 0 0 rs := by
  unfold cCc_framed_0 at h
  refine cx_aload_n 1 dX1_framed_0 rfl ?_
  refine cx_aload_n 0 dX1_framed_1 rfl ?_
  refine cx_getR (cCc_R0 H) q1017 dX1_framed_2 ?_
  refine cx_getIN h (cLn_F6 H) q578 dX1_framed_5 (fun v1 h => ?_)
  refine cx_cVi [.int v1] [] h (fun rs' h' => cSt_back_m H hb2 M v1 rs' h') (cSt_rc hb2) dX1_framed_8 g_X1_121 hg_X1_121 ⟨cx_le rfl, cx_le rfl⟩ rfl ⟨rfl, rfl⟩ ⟨cx_le rfl, cx_le rfl⟩ rfl (cx_le rfl) (fun M2 v3 h => ?_)
  exact cx_iret h rfl rfl (cx_le rfl) (cx_le rfl) dX1_framed_11
noncomputable def cCc_framed (N : cx_N) (b2 : Nat) (M : cx_M) : Option cx_R := cCc_framed_0 N b2 M
theorem cCc_framed_m {l : Launch} {g : cx_G} {adr : Nat → Nat} {N : cx_N} {b2 : Nat} (H : cCp_H g adr N) (hb2 : cSt_H g adr b2) (M : cx_M) (rs : cx_R) (h : cCc_framed N b2 M = some rs) : cx_Met l (g) yX1_framed cX1_framed sX1_framed [.ref (adr 500), .ref (adr b2)] M rs :=
  cx_met (by decide +kernel) rfl rfl (lv := [(0, .ref (adr 500)), (1, .ref (adr b2))]) rfl (cx_le rfl) (fun X => cx_sub (lv' := [(0, .ref (adr 500)), (1, .ref (adr b2))]) [0, 1] rfl (cCc_framed_0_v H hb2 M rs h))
