abbrev sX1_stall : cx_S := (3, RX1, cx_rI, { frames := 32, cells := 0, slots := 0, locals := 941 }, some .int, false)
noncomputable def cCc_stall_29 (N : cx_N) (M : cx_M) (x1 : Int32) (x2 : Int32) (z1 : Int32) : Option cx_R :=
  cx_cal (cCc_does N M z1) fun M1 v2 =>
  if v2 = 0 then (
    some (M1, (-1), 0))
  else (
    cx_put M1 1000 27 x1 fun M3 =>
    some (M3, x2, 0))
set_option maxRecDepth 100000 in
theorem cCc_stall_29_v {l : Launch} {g : cx_G} {adr : Nat → Nat} {X : cx_X} {N : cx_N} (H : cCp_H g adr N) (M : cx_M) (x1 : Int32) (x2 : Int32) (z1 : Int32) (rs : cx_R) (h : cCc_stall_29 N M x1 x2 z1 = some rs) : cx_V l (g) X sX1_stall cX1_stall 29 [(0, .ref (adr 500)), (1, .int x1), (2, .int x2)] [.int z1, .ref (adr 500)] M 0 0 rs := by
  unfold cCc_stall_29 at h
  refine cx_cVi [.int z1] [] h (fun rs' h' => cCc_does_m H M z1 rs' h') (cCc_rc H) dX1_stall_29 g_X1_393 hg_X1_393 ⟨cx_le rfl, cx_le rfl⟩ rfl ⟨rfl, rfl⟩ ⟨cx_le rfl, cx_le rfl⟩ rfl (cx_le rfl) (fun M1 v2 h => ?_)
  refine cx_if_ne 37 h dX1_stall_32 rfl (fun h => ?_) (fun h => ?_)
  · refine cx_aload_n 0 dX1_stall_37 rfl ?_
    refine cx_getR (cCc_R3 H) q1020 dX1_stall_38 ?_
    refine cx_iload_n 1 dX1_stall_41 rfl ?_
    refine cx_putIN h (cSt_F27 (cSt_i1000 H)) rfl rfl rfl q697 dX1_stall_42 (fun M3 h => ?_)
    refine cx_iload_n 2 dX1_stall_45 rfl ?_
    exact cx_iret h rfl rfl (cx_le rfl) (cx_le rfl) dX1_stall_46
  · refine cx_iconst (-1) dX1_stall_35 cx_ic_m1 ?_
    exact cx_iret h rfl rfl (cx_le rfl) (cx_le rfl) dX1_stall_36
noncomputable def cCc_stall_28 (N : cx_N) (M : cx_M) (x1 : Int32) (x2 : Int32) : Option cx_R :=
  cCc_stall_29 N M x1 x2 0
set_option maxRecDepth 100000 in
theorem cCc_stall_28_v {l : Launch} {g : cx_G} {adr : Nat → Nat} {X : cx_X} {N : cx_N} (H : cCp_H g adr N) (M : cx_M) (x1 : Int32) (x2 : Int32) (rs : cx_R) (h : cCc_stall_28 N M x1 x2 = some rs) : cx_V l (g) X sX1_stall cX1_stall 28 [(0, .ref (adr 500)), (1, .int x1), (2, .int x2)] [.ref (adr 500)] M 0 0 rs := by
  unfold cCc_stall_28 at h
  refine cx_iconst 0 dX1_stall_28 cx_ic_0 ?_
  exact cCc_stall_29_v H M x1 x2 0 _ h
noncomputable def cCc_stall_0 (N : cx_N) (M : cx_M) (x1 : Int32) : Option cx_R :=
  cx_get M 1000 27 fun v1 =>
  cx_cal (cCc_within N M x1 0 30) fun M2 v3 =>
  if v3 = 0 then (
    cCc_stall_28 N M2 x1 v1)
  else (
    if x1 = v1 then (
      cCc_stall_28 N M2 x1 v1)
    else (
      cCc_stall_29 N M2 x1 v1 1))
set_option maxRecDepth 100000 in
theorem cCc_stall_0_v {l : Launch} {g : cx_G} {adr : Nat → Nat} {X : cx_X} {N : cx_N} (H : cCp_H g adr N) (M : cx_M) (x1 : Int32) (rs : cx_R) (h : cCc_stall_0 N M x1 = some rs) : cx_V l (g) X sX1_stall cX1_stall 0 [(0, .ref (adr 500)), (1, .int x1)] [] M 0 0 rs := by
  unfold cCc_stall_0 at h
  refine cx_aload_n 0 dX1_stall_0 rfl ?_
  refine cx_getR (cCc_R3 H) q1020 dX1_stall_1 ?_
  refine cx_getIN h (cSt_F27 (cSt_i1000 H)) q697 dX1_stall_4 (fun v1 h => ?_)
  refine cx_istore_n [(2, .int v1), (0, .ref (adr 500)), (1, .int x1)] dX1_stall_7 (cx_lt rfl) rfl ?_
  refine cx_aload_n 1 dX1_stall_8 rfl ?_
  refine cx_iload_n 2 dX1_stall_9 rfl ?_
  refine cx_iconst 0 dX1_stall_10 cx_ic_0 ?_
  refine cx_bipush 30 dX1_stall_11 cx_bp_30 ?_
  refine cx_cSi [.int x1, .int 0, .int 30] [.ref (adr 500)] h (fun rs' h' => cCc_within_m H M x1 0 30 rs' h') dX1_stall_13 g_X1_180 hg_X1_180 ⟨cx_le rfl, cx_le rfl⟩ rfl ⟨rfl, rfl⟩ ⟨cx_le rfl, cx_le rfl⟩ rfl (cx_le rfl) (fun M2 v3 h => ?_)
  refine cx_if_eq 28 h dX1_stall_16 rfl (fun h => ?_) (fun h => ?_)
  · refine cx_sub (lv' := [(0, .ref (adr 500)), (1, .int x1), (2, .int v1)]) [1, 2, 0] rfl ?_
    exact cCc_stall_28_v H M2 x1 v1 _ h
  · refine cx_iload_n 2 dX1_stall_19 rfl ?_
    refine cx_iload_n 0 dX1_stall_20 rfl ?_
    refine cx_icmp_eq 28 h dX1_stall_21 rfl (fun h => ?_) (fun h => ?_)
    · refine cx_sub (lv' := [(0, .ref (adr 500)), (1, .int x1), (2, .int v1)]) [1, 2, 0] rfl ?_
      exact cCc_stall_28_v H M2 x1 v1 _ h
    · refine cx_iconst 1 dX1_stall_24 cx_ic_1 ?_
      refine cx_goto 29 dX1_stall_25 rfl ?_
      refine cx_sub (lv' := [(0, .ref (adr 500)), (1, .int x1), (2, .int v1)]) [1, 2, 0] rfl ?_
      exact cCc_stall_29_v H M2 x1 v1 1 _ h
noncomputable def cCc_stall (N : cx_N) (M : cx_M) (x1 : Int32) : Option cx_R := cCc_stall_0 N M x1
theorem cCc_stall_m {l : Launch} {g : cx_G} {adr : Nat → Nat} {N : cx_N} (H : cCp_H g adr N) (M : cx_M) (x1 : Int32) (rs : cx_R) (h : cCc_stall N M x1 = some rs) : cx_Met l (g) yX1_stall cX1_stall sX1_stall [.ref (adr 500), .int x1] M rs :=
  cx_met (by decide +kernel) rfl rfl (lv := [(0, .ref (adr 500)), (1, .int x1)]) rfl (cx_le rfl) (fun X => cx_sub (lv' := [(0, .ref (adr 500)), (1, .int x1)]) [0, 1] rfl (cCc_stall_0_v H M x1 rs h))

abbrev sX1_steps : cx_S := (2, RX1, cx_rI, { frames := 905, cells := 0, slots := 0, locals := 30112 }, some .int, false)
noncomputable def cCc_steps_31 (N : cx_N) (M : cx_M) (x1 : Int32) (z1 : Int32) : Option cx_R :=
  cx_cal (cCc_does N M z1) fun M1 v2 =>
  if v2 = 0 then (
    some (M1, (-1), 0))
  else (
    cx_cal (cCc_goes N 1000 M1 x1) fun M3 _ =>
    cx_get M3 1000 0 fun v4 =>
    some (M3, v4, 0))
set_option maxRecDepth 100000 in
theorem cCc_steps_31_v {l : Launch} {g : cx_G} {adr : Nat → Nat} {X : cx_X} {N : cx_N} (H : cCp_H g adr N) (M : cx_M) (x1 : Int32) (z1 : Int32) (rs : cx_R) (h : cCc_steps_31 N M x1 z1 = some rs) : cx_V l (g) X sX1_steps cX1_steps 31 [(0, .ref (adr 500)), (1, .int x1)] [.int z1, .ref (adr 500)] M 0 0 rs := by
  unfold cCc_steps_31 at h
  refine cx_cVi [.int z1] [] h (fun rs' h' => cCc_does_m H M z1 rs' h') (cCc_rc H) dX1_steps_31 g_X1_393 hg_X1_393 ⟨cx_le rfl, cx_le rfl⟩ rfl ⟨rfl, rfl⟩ ⟨cx_le rfl, cx_le rfl⟩ rfl (cx_le rfl) (fun M1 v2 h => ?_)
  refine cx_if_ne 39 h dX1_steps_34 rfl (fun h => ?_) (fun h => ?_)
  · refine cx_aload_n 0 dX1_steps_39 rfl ?_
    refine cx_aload_n 0 dX1_steps_40 rfl ?_
    refine cx_getR (cCc_R3 H) q1020 dX1_steps_41 ?_
    refine cx_iload_n 1 dX1_steps_44 rfl ?_
    refine cx_cVv [.ref (adr 1000), .int x1] [] h (fun rs' h' => cCc_goes_m H (cSt_i1000 H) M1 x1 rs' h') (cCc_rc H) dX1_steps_45 g_X1_397 hg_X1_397 ⟨cx_le rfl, cx_le rfl⟩ rfl ⟨rfl, rfl⟩ ⟨cx_le rfl, cx_le rfl⟩ rfl (cx_le rfl) (fun M3 _ h => ?_)
    refine cx_aload_n 0 dX1_steps_48 rfl ?_
    refine cx_getR (cCc_R3 H) q1020 dX1_steps_49 ?_
    refine cx_getIN h (cSt_F0 (cSt_i1000 H)) q649 dX1_steps_52 (fun v4 h => ?_)
    exact cx_iret h rfl rfl (cx_le rfl) (cx_le rfl) dX1_steps_55
  · refine cx_iconst (-1) dX1_steps_37 cx_ic_m1 ?_
    exact cx_iret h rfl rfl (cx_le rfl) (cx_le rfl) dX1_steps_38
noncomputable def cCc_steps_30 (N : cx_N) (M : cx_M) (x1 : Int32) : Option cx_R :=
  cCc_steps_31 N M x1 0
set_option maxRecDepth 100000 in
theorem cCc_steps_30_v {l : Launch} {g : cx_G} {adr : Nat → Nat} {X : cx_X} {N : cx_N} (H : cCp_H g adr N) (M : cx_M) (x1 : Int32) (rs : cx_R) (h : cCc_steps_30 N M x1 = some rs) : cx_V l (g) X sX1_steps cX1_steps 30 [(0, .ref (adr 500)), (1, .int x1)] [.ref (adr 500)] M 0 0 rs := by
  unfold cCc_steps_30 at h
  refine cx_iconst 0 dX1_steps_30 cx_ic_0 ?_
  exact cCc_steps_31_v H M x1 0 _ h
noncomputable def cCc_steps_0 (N : cx_N) (M : cx_M) (x1 : Int32) : Option cx_R :=
  cx_cal (cCc_within N M x1 1 50) fun M1 v2 =>
  if v2 = 0 then (
    cCc_steps_30 N M1 x1)
  else (
    cx_get M1 1000 0 fun v3 =>
    if 20000 < (v3 + x1) then (
      cCc_steps_30 N M1 x1)
    else (
      cCc_steps_31 N M1 x1 1))
set_option maxRecDepth 100000 in
theorem cCc_steps_0_v {l : Launch} {g : cx_G} {adr : Nat → Nat} {X : cx_X} {N : cx_N} (H : cCp_H g adr N) (M : cx_M) (x1 : Int32) (rs : cx_R) (h : cCc_steps_0 N M x1 = some rs) : cx_V l (g) X sX1_steps cX1_steps 0 [(0, .ref (adr 500)), (1, .int x1)] [] M 0 0 rs := by
  unfold cCc_steps_0 at h
  refine cx_aload_n 0 dX1_steps_0 rfl ?_
  refine cx_iload_n 1 dX1_steps_1 rfl ?_
  refine cx_iconst 1 dX1_steps_2 cx_ic_1 ?_
  refine cx_bipush 50 dX1_steps_3 cx_bp_50 ?_
  refine cx_cSi [.int x1, .int 1, .int 50] [.ref (adr 500)] h (fun rs' h' => cCc_within_m H M x1 1 50 rs' h') dX1_steps_5 g_X1_180 hg_X1_180 ⟨cx_le rfl, cx_le rfl⟩ rfl ⟨rfl, rfl⟩ ⟨cx_le rfl, cx_le rfl⟩ rfl (cx_le rfl) (fun M1 v2 h => ?_)
  refine cx_if_eq 30 h dX1_steps_8 rfl (fun h => ?_) (fun h => ?_)
  · exact cCc_steps_30_v H M1 x1 _ h
  · refine cx_aload_n 0 dX1_steps_11 rfl ?_
    refine cx_getR (cCc_R3 H) q1020 dX1_steps_12 ?_
    refine cx_getIN h (cSt_F0 (cSt_i1000 H)) q649 dX1_steps_15 (fun v3 h => ?_)
    refine cx_iload_n 1 dX1_steps_18 rfl ?_
    refine cx_iadd dX1_steps_19 ?_
    refine cx_sipush 20000 dX1_steps_20 cx_sp_20000 ?_
    refine cx_icmp_gt 30 h dX1_steps_23 rfl (fun h => ?_) (fun h => ?_)
    · exact cCc_steps_30_v H M1 x1 _ h
    · refine cx_iconst 1 dX1_steps_26 cx_ic_1 ?_
      refine cx_goto 31 dX1_steps_27 rfl ?_
      exact cCc_steps_31_v H M1 x1 1 _ h
noncomputable def cCc_steps (N : cx_N) (M : cx_M) (x1 : Int32) : Option cx_R := cCc_steps_0 N M x1
theorem cCc_steps_m {l : Launch} {g : cx_G} {adr : Nat → Nat} {N : cx_N} (H : cCp_H g adr N) (M : cx_M) (x1 : Int32) (rs : cx_R) (h : cCc_steps N M x1 = some rs) : cx_Met l (g) yX1_steps cX1_steps sX1_steps [.ref (adr 500), .int x1] M rs :=
  cx_met (by decide +kernel) rfl rfl (lv := [(0, .ref (adr 500)), (1, .int x1)]) rfl (cx_le rfl) (fun X => cx_sub (lv' := [(0, .ref (adr 500)), (1, .int x1)]) [0, 1] rfl (cCc_steps_0_v H M x1 rs h))

abbrev sX1_storms : cx_S := (7, RX1, cx_rI, { frames := 906, cells := 0, slots := 0, locals := 30133 }, some .int, false)
noncomputable def cCc_storms_73 (N : cx_N) (r_32 : cx_M → Int32 → Int32 → Int32 → Int32 → Option cx_R) (r_46 : cx_M → Int32 → Int32 → Int32 → Int32 → Int32 → Int32 → Option cx_R) (M : cx_M) (x1 : Int32) (x2 : Int32) (x3 : Int32) (x4 : Int32) (x6 : Int32) (z0 : Int32) (z1 : Int32) : Option cx_R :=
  cx_let (z0 * z1) fun v1 =>
  cx_let (x6 + 1) fun v2 =>
  r_46 M x1 x2 x3 x4 v1 v2
set_option maxRecDepth 100000 in
theorem cCc_storms_73_v {l : Launch} {g : cx_G} {adr : Nat → Nat} {X : cx_X} {N : cx_N} {r_32 : cx_M → Int32 → Int32 → Int32 → Int32 → Option cx_R} {r_46 : cx_M → Int32 → Int32 → Int32 → Int32 → Int32 → Int32 → Option cx_R} (H : cCp_H g adr N) (hr_32 : ∀ (M : cx_M) (x1 : Int32) (x2 : Int32) (x3 : Int32) (x4 : Int32) (rs : cx_R), r_32 M x1 x2 x3 x4 = some rs → cx_V l (g) X sX1_storms cX1_storms 32 [(0, .ref (adr 500)), (1, .int x1), (2, .int x2), (3, .int x3), (4, .int x4)] [] M 0 0 rs) (hr_46 : ∀ (M : cx_M) (x1 : Int32) (x2 : Int32) (x3 : Int32) (x4 : Int32) (x5 : Int32) (x6 : Int32) (rs : cx_R), r_46 M x1 x2 x3 x4 x5 x6 = some rs → cx_V l (g) X sX1_storms cX1_storms 46 [(0, .ref (adr 500)), (1, .int x1), (2, .int x2), (3, .int x3), (4, .int x4), (5, .int x5), (6, .int x6)] [] M 0 0 rs) (M : cx_M) (x1 : Int32) (x2 : Int32) (x3 : Int32) (x4 : Int32) (x6 : Int32) (z0 : Int32) (z1 : Int32) (rs : cx_R) (h : cCc_storms_73 N r_32 r_46 M x1 x2 x3 x4 x6 z0 z1 = some rs) : cx_V l (g) X sX1_storms cX1_storms 73 [(0, .ref (adr 500)), (1, .int x1), (2, .int x2), (3, .int x3), (4, .int x4), (6, .int x6)] [.int z1, .int z0] M 0 0 rs := by
  unfold cCc_storms_73 at h
  refine cx_imul dX1_storms_73 ?_
  refine cx_letI h (fun v1 h => ?_)
  refine cx_istore [(5, .int v1), (0, .ref (adr 500)), (1, .int x1), (2, .int x2), (3, .int x3), (4, .int x4), (6, .int x6)] dX1_storms_74 (cx_lt rfl) rfl ?_
  refine cx_iinc 6 1 (fun v2 => [(6, .int v2), (5, .int v1), (0, .ref (adr 500)), (1, .int x1), (2, .int x2), (3, .int x3), (4, .int x4)]) h dX1_storms_76 rfl cx_ic_1 (cx_lt rfl) (fun _ => rfl) (fun v2 h => ?_)
  refine cx_goto 46 dX1_storms_79 rfl ?_
  refine cx_sub (lv' := [(0, .ref (adr 500)), (1, .int x1), (2, .int x2), (3, .int x3), (4, .int x4), (5, .int v1), (6, .int v2)]) [2, 3, 4, 5, 6, 1, 0] rfl ?_
  exact hr_46 M x1 x2 x3 x4 v1 v2 _ h
noncomputable def cCc_storms_136 (N : cx_N) (r_32 : cx_M → Int32 → Int32 → Int32 → Int32 → Option cx_R) (M : cx_M) (x1 : Int32) (x2 : Int32) (x3 : Int32) (x4 : Int32) : Option cx_R :=
  cx_let (x4 + 1) fun v1 =>
  r_32 M x1 x2 x3 v1
set_option maxRecDepth 100000 in
theorem cCc_storms_136_v {l : Launch} {g : cx_G} {adr : Nat → Nat} {X : cx_X} {N : cx_N} {r_32 : cx_M → Int32 → Int32 → Int32 → Int32 → Option cx_R} (H : cCp_H g adr N) (hr_32 : ∀ (M : cx_M) (x1 : Int32) (x2 : Int32) (x3 : Int32) (x4 : Int32) (rs : cx_R), r_32 M x1 x2 x3 x4 = some rs → cx_V l (g) X sX1_storms cX1_storms 32 [(0, .ref (adr 500)), (1, .int x1), (2, .int x2), (3, .int x3), (4, .int x4)] [] M 0 0 rs) (M : cx_M) (x1 : Int32) (x2 : Int32) (x3 : Int32) (x4 : Int32) (rs : cx_R) (h : cCc_storms_136 N r_32 M x1 x2 x3 x4 = some rs) : cx_V l (g) X sX1_storms cX1_storms 136 [(0, .ref (adr 500)), (1, .int x1), (2, .int x2), (3, .int x3), (4, .int x4)] [] M 0 0 rs := by
  unfold cCc_storms_136 at h
  refine cx_iinc 4 1 (fun v1 => [(4, .int v1), (0, .ref (adr 500)), (1, .int x1), (2, .int x2), (3, .int x3)]) h dX1_storms_136 rfl cx_ic_1 (cx_lt rfl) (fun _ => rfl) (fun v1 h => ?_)
  refine cx_goto 32 dX1_storms_139 rfl ?_
  refine cx_sub (lv' := [(0, .ref (adr 500)), (1, .int x1), (2, .int x2), (3, .int x3), (4, .int v1)]) [1, 2, 3, 4, 0] rfl ?_
  exact hr_32 M x1 x2 x3 v1 _ h
noncomputable def cCc_storms_46b (N : cx_N) (r_32 : cx_M → Int32 → Int32 → Int32 → Int32 → Option cx_R) (r_46 : cx_M → Int32 → Int32 → Int32 → Int32 → Int32 → Int32 → Option cx_R) (M : cx_M) (x1 : Int32) (x2 : Int32) (x3 : Int32) (x4 : Int32) (x5 : Int32) (x6 : Int32) : Option cx_R :=
  if x1 ≤ x6 then (
    cx_cal (cCc_tries N M 0) fun M1 _ =>
    cx_put M1 1100 43 x1 fun M2 =>
    cx_put M2 1100 44 x4 fun M3 =>
    cx_cal (cCc_goes N 1100 M3 80) fun M4 _ =>
    cx_get M4 1100 7 fun v5 =>
    cx_get M4 1000 7 fun v6 =>
    if v5 = v6 then (
      cx_let (x3 + x5) fun v7 =>
      cCc_storms_136 N r_32 M4 x1 x2 v7 x4)
    else (
      cCc_storms_136 N r_32 M4 x1 x2 x3 x4))
  else (
    if ((x4 >>> (x6 &&& 31)) &&& 1) = 1 then (
      cCc_storms_73 N r_32 r_46 M x1 x2 x3 x4 x6 x5 x2)
    else (
      cCc_storms_73 N r_32 r_46 M x1 x2 x3 x4 x6 x5 ((10 : Int32) - x2)))
set_option maxRecDepth 100000 in
theorem cCc_storms_46b_v {l : Launch} {g : cx_G} {adr : Nat → Nat} {X : cx_X} {N : cx_N} {r_32 : cx_M → Int32 → Int32 → Int32 → Int32 → Option cx_R} {r_46 : cx_M → Int32 → Int32 → Int32 → Int32 → Int32 → Int32 → Option cx_R} (H : cCp_H g adr N) (hr_32 : ∀ (M : cx_M) (x1 : Int32) (x2 : Int32) (x3 : Int32) (x4 : Int32) (rs : cx_R), r_32 M x1 x2 x3 x4 = some rs → cx_V l (g) X sX1_storms cX1_storms 32 [(0, .ref (adr 500)), (1, .int x1), (2, .int x2), (3, .int x3), (4, .int x4)] [] M 0 0 rs) (hr_46 : ∀ (M : cx_M) (x1 : Int32) (x2 : Int32) (x3 : Int32) (x4 : Int32) (x5 : Int32) (x6 : Int32) (rs : cx_R), r_46 M x1 x2 x3 x4 x5 x6 = some rs → cx_V l (g) X sX1_storms cX1_storms 46 [(0, .ref (adr 500)), (1, .int x1), (2, .int x2), (3, .int x3), (4, .int x4), (5, .int x5), (6, .int x6)] [] M 0 0 rs) (M : cx_M) (x1 : Int32) (x2 : Int32) (x3 : Int32) (x4 : Int32) (x5 : Int32) (x6 : Int32) (rs : cx_R) (h : cCc_storms_46b N r_32 r_46 M x1 x2 x3 x4 x5 x6 = some rs) : cx_V l (g) X sX1_storms cX1_storms 46 [(0, .ref (adr 500)), (1, .int x1), (2, .int x2), (3, .int x3), (4, .int x4), (5, .int x5), (6, .int x6)] [] M 0 0 rs := by
  unfold cCc_storms_46b at h
  refine cx_iload 6 dX1_storms_46 rfl ?_
  refine cx_iload_n 1 dX1_storms_48 rfl ?_
  refine cx_icmp_ge 82 h dX1_storms_49 rfl (fun h => ?_) (fun h => ?_)
  · refine cx_aload_n 0 dX1_storms_82 rfl ?_
    refine cx_iconst 0 dX1_storms_83 cx_ic_0 ?_
    refine cx_cVv [.int 0] [] h (fun rs' h' => cCc_tries_m H M 0 rs' h') (cCc_rc H) dX1_storms_84 g_X1_411 hg_X1_411 ⟨cx_le rfl, cx_le rfl⟩ rfl ⟨rfl, rfl⟩ ⟨cx_le rfl, cx_le rfl⟩ rfl (cx_le rfl) (fun M1 _ h => ?_)
    refine cx_aload_n 0 dX1_storms_87 rfl ?_
    refine cx_getR (cCc_R4 H) q1021 dX1_storms_88 ?_
    refine cx_iload_n 1 dX1_storms_91 rfl ?_
    refine cx_putIN h (cSt_F43 (cSt_i1100 H)) rfl rfl rfl q726 dX1_storms_92 (fun M2 h => ?_)
    refine cx_aload_n 0 dX1_storms_95 rfl ?_
    refine cx_getR (cCc_R4 H) q1021 dX1_storms_96 ?_
    refine cx_iload 4 dX1_storms_99 rfl ?_
    refine cx_putIN h (cSt_F44 (cSt_i1100 H)) rfl rfl rfl q728 dX1_storms_101 (fun M3 h => ?_)
    refine cx_aload_n 0 dX1_storms_104 rfl ?_
    refine cx_aload_n 0 dX1_storms_105 rfl ?_
    refine cx_getR (cCc_R4 H) q1021 dX1_storms_106 ?_
    refine cx_bipush 80 dX1_storms_109 cx_bp_80 ?_
    refine cx_cVv [.ref (adr 1100), .int 80] [] h (fun rs' h' => cCc_goes_m H (cSt_i1100 H) M3 80 rs' h') (cCc_rc H) dX1_storms_111 g_X1_397 hg_X1_397 ⟨cx_le rfl, cx_le rfl⟩ rfl ⟨rfl, rfl⟩ ⟨cx_le rfl, cx_le rfl⟩ rfl (cx_le rfl) (fun M4 _ h => ?_)
    refine cx_aload_n 0 dX1_storms_114 rfl ?_
    refine cx_getR (cCc_R4 H) q1021 dX1_storms_115 ?_
    refine cx_getIN h (cSt_F7 (cSt_i1100 H)) q663 dX1_storms_118 (fun v5 h => ?_)
    refine cx_aload_n 0 dX1_storms_121 rfl ?_
    refine cx_getR (cCc_R3 H) q1020 dX1_storms_122 ?_
    refine cx_getIN h (cSt_F7 (cSt_i1000 H)) q663 dX1_storms_125 (fun v6 h => ?_)
    refine cx_icmp_ne 136 h dX1_storms_128 rfl (fun h => ?_) (fun h => ?_)
    · refine cx_sub (lv' := [(0, .ref (adr 500)), (1, .int x1), (2, .int x2), (3, .int x3), (4, .int x4)]) [0, 1, 2, 3, 4] rfl ?_
      exact cCc_storms_136_v H hr_32 M4 x1 x2 x3 x4 _ h
    · refine cx_iload_n 3 dX1_storms_131 rfl ?_
      refine cx_iload 5 dX1_storms_132 rfl ?_
      refine cx_iadd dX1_storms_134 ?_
      refine cx_letI h (fun v7 h => ?_)
      refine cx_istore_n [(3, .int v7), (0, .ref (adr 500)), (1, .int x1), (2, .int x2), (4, .int x4), (5, .int x5), (6, .int x6)] dX1_storms_135 (cx_lt rfl) rfl ?_
      refine cx_sub (lv' := [(0, .ref (adr 500)), (1, .int x1), (2, .int x2), (3, .int v7), (4, .int x4)]) [1, 2, 3, 0, 4] rfl ?_
      exact cCc_storms_136_v H hr_32 M4 x1 x2 v7 x4 _ h
  · refine cx_iload 5 dX1_storms_52 rfl ?_
    refine cx_iload 4 dX1_storms_54 rfl ?_
    refine cx_iload 6 dX1_storms_56 rfl ?_
    refine cx_ishr dX1_storms_58 ?_
    refine cx_iconst 1 dX1_storms_59 cx_ic_1 ?_
    refine cx_iand dX1_storms_60 ?_
    refine cx_iconst 1 dX1_storms_61 cx_ic_1 ?_
    refine cx_icmp_ne 69 h dX1_storms_62 rfl (fun h => ?_) (fun h => ?_)
    · refine cx_bipush 10 dX1_storms_69 cx_bp_10 ?_
      refine cx_iload_n 2 dX1_storms_71 rfl ?_
      refine cx_isub dX1_storms_72 ?_
      refine cx_sub (lv' := [(0, .ref (adr 500)), (1, .int x1), (2, .int x2), (3, .int x3), (4, .int x4), (6, .int x6)]) [0, 1, 2, 3, 4, 6] rfl ?_
      exact cCc_storms_73_v H hr_32 hr_46 M x1 x2 x3 x4 x6 x5 ((10 : Int32) - x2) _ h
    · refine cx_iload_n 2 dX1_storms_65 rfl ?_
      refine cx_goto 73 dX1_storms_66 rfl ?_
      refine cx_sub (lv' := [(0, .ref (adr 500)), (1, .int x1), (2, .int x2), (3, .int x3), (4, .int x4), (6, .int x6)]) [0, 1, 2, 3, 4, 6] rfl ?_
      exact cCc_storms_73_v H hr_32 hr_46 M x1 x2 x3 x4 x6 x5 x2 _ h
noncomputable def cCc_storms_46 (N : cx_N) (r_32 : cx_M → Int32 → Int32 → Int32 → Int32 → Option cx_R) : Nat → cx_M → Int32 → Int32 → Int32 → Int32 → Int32 → Int32 → Option cx_R :=
  cx_fix (fun _ _ _ _ _ _ _ => none) (fun r_46 => cCc_storms_46b N r_32 r_46)
theorem cCc_storms_46_v {l : Launch} {g : cx_G} {adr : Nat → Nat} {X : cx_X} {N : cx_N} {r_32 : cx_M → Int32 → Int32 → Int32 → Int32 → Option cx_R} (H : cCp_H g adr N) (hr_32 : ∀ (M : cx_M) (x1 : Int32) (x2 : Int32) (x3 : Int32) (x4 : Int32) (rs : cx_R), r_32 M x1 x2 x3 x4 = some rs → cx_V l (g) X sX1_storms cX1_storms 32 [(0, .ref (adr 500)), (1, .int x1), (2, .int x2), (3, .int x3), (4, .int x4)] [] M 0 0 rs) : ∀ (n : Nat) (M : cx_M) (x1 : Int32) (x2 : Int32) (x3 : Int32) (x4 : Int32) (x5 : Int32) (x6 : Int32) (rs : cx_R), cCc_storms_46 N r_32 n M x1 x2 x3 x4 x5 x6 = some rs → cx_V l (g) X sX1_storms cX1_storms 46 [(0, .ref (adr 500)), (1, .int x1), (2, .int x2), (3, .int x3), (4, .int x4), (5, .int x5), (6, .int x6)] [] M 0 0 rs :=
  cx_fixI (fun (r : cx_M → Int32 → Int32 → Int32 → Int32 → Int32 → Int32 → Option cx_R) => ∀ (M : cx_M) (x1 : Int32) (x2 : Int32) (x3 : Int32) (x4 : Int32) (x5 : Int32) (x6 : Int32) (rs : cx_R), r M x1 x2 x3 x4 x5 x6 = some rs → cx_V l (g) X sX1_storms cX1_storms 46 [(0, .ref (adr 500)), (1, .int x1), (2, .int x2), (3, .int x3), (4, .int x4), (5, .int x5), (6, .int x6)] [] M 0 0 rs) (fun _ _ _ _ _ _ _ _ h => by cases h) (fun r hr M x1 x2 x3 x4 x5 x6 rs h => cCc_storms_46b_v H hr_32 hr M x1 x2 x3 x4 x5 x6 rs h)
noncomputable def cCc_storms_32b (N : cx_N) (r_32 : cx_M → Int32 → Int32 → Int32 → Int32 → Option cx_R) (M : cx_M) (x1 : Int32) (x2 : Int32) (x3 : Int32) (x4 : Int32) : Option cx_R :=
  if ((1 : Int32) <<< (x1 &&& 31)) ≤ x4 then (
    some (M, x3, 0))
  else (
    cCc_storms_46 N r_32 N.1 M x1 x2 x3 x4 1 0)
set_option maxRecDepth 100000 in
theorem cCc_storms_32b_v {l : Launch} {g : cx_G} {adr : Nat → Nat} {X : cx_X} {N : cx_N} {r_32 : cx_M → Int32 → Int32 → Int32 → Int32 → Option cx_R} (H : cCp_H g adr N) (hr_32 : ∀ (M : cx_M) (x1 : Int32) (x2 : Int32) (x3 : Int32) (x4 : Int32) (rs : cx_R), r_32 M x1 x2 x3 x4 = some rs → cx_V l (g) X sX1_storms cX1_storms 32 [(0, .ref (adr 500)), (1, .int x1), (2, .int x2), (3, .int x3), (4, .int x4)] [] M 0 0 rs) (M : cx_M) (x1 : Int32) (x2 : Int32) (x3 : Int32) (x4 : Int32) (rs : cx_R) (h : cCc_storms_32b N r_32 M x1 x2 x3 x4 = some rs) : cx_V l (g) X sX1_storms cX1_storms 32 [(0, .ref (adr 500)), (1, .int x1), (2, .int x2), (3, .int x3), (4, .int x4)] [] M 0 0 rs := by
  unfold cCc_storms_32b at h
  refine cx_iload 4 dX1_storms_32 rfl ?_
  refine cx_iconst 1 dX1_storms_34 cx_ic_1 ?_
  refine cx_iload_n 1 dX1_storms_35 rfl ?_
  refine cx_ishl dX1_storms_36 ?_
  refine cx_icmp_ge 142 h dX1_storms_37 rfl (fun h => ?_) (fun h => ?_)
  · refine cx_iload_n 3 dX1_storms_142 rfl ?_
    exact cx_iret h rfl rfl (cx_le rfl) (cx_le rfl) dX1_storms_143
  · refine cx_iconst 1 dX1_storms_40 cx_ic_1 ?_
    refine cx_istore [(5, .int 1), (0, .ref (adr 500)), (1, .int x1), (2, .int x2), (3, .int x3), (4, .int x4)] dX1_storms_41 (cx_lt rfl) rfl ?_
    refine cx_iconst 0 dX1_storms_43 cx_ic_0 ?_
    refine cx_istore [(6, .int 0), (5, .int 1), (0, .ref (adr 500)), (1, .int x1), (2, .int x2), (3, .int x3), (4, .int x4)] dX1_storms_44 (cx_lt rfl) rfl ?_
    refine cx_sub (lv' := [(0, .ref (adr 500)), (1, .int x1), (2, .int x2), (3, .int x3), (4, .int x4), (5, .int 1), (6, .int 0)]) [2, 3, 4, 5, 6, 1, 0] rfl ?_
    exact cCc_storms_46_v H hr_32 N.1 M x1 x2 x3 x4 1 0 _ h
noncomputable def cCc_storms_32 (N : cx_N) : Nat → cx_M → Int32 → Int32 → Int32 → Int32 → Option cx_R :=
  cx_fix (fun _ _ _ _ _ => none) (fun r_32 => cCc_storms_32b N r_32)
theorem cCc_storms_32_v {l : Launch} {g : cx_G} {adr : Nat → Nat} {X : cx_X} {N : cx_N} (H : cCp_H g adr N) : ∀ (n : Nat) (M : cx_M) (x1 : Int32) (x2 : Int32) (x3 : Int32) (x4 : Int32) (rs : cx_R), cCc_storms_32 N n M x1 x2 x3 x4 = some rs → cx_V l (g) X sX1_storms cX1_storms 32 [(0, .ref (adr 500)), (1, .int x1), (2, .int x2), (3, .int x3), (4, .int x4)] [] M 0 0 rs :=
  cx_fixI (fun (r : cx_M → Int32 → Int32 → Int32 → Int32 → Option cx_R) => ∀ (M : cx_M) (x1 : Int32) (x2 : Int32) (x3 : Int32) (x4 : Int32) (rs : cx_R), r M x1 x2 x3 x4 = some rs → cx_V l (g) X sX1_storms cX1_storms 32 [(0, .ref (adr 500)), (1, .int x1), (2, .int x2), (3, .int x3), (4, .int x4)] [] M 0 0 rs) (fun _ _ _ _ _ _ h => by cases h) (fun r hr M x1 x2 x3 x4 rs h => cCc_storms_32b_v H hr M x1 x2 x3 x4 rs h)
noncomputable def cCc_storms_24 (N : cx_N) (M : cx_M) (x1 : Int32) (x2 : Int32) (z0 : Int32) : Option cx_R :=
  cx_cal (cCc_right N M z0) fun M1 _ =>
  cCc_storms_32 N N.1 M1 x1 x2 0 0
set_option maxRecDepth 100000 in
theorem cCc_storms_24_v {l : Launch} {g : cx_G} {adr : Nat → Nat} {X : cx_X} {N : cx_N} (H : cCp_H g adr N) (M : cx_M) (x1 : Int32) (x2 : Int32) (z0 : Int32) (rs : cx_R) (h : cCc_storms_24 N M x1 x2 z0 = some rs) : cx_V l (g) X sX1_storms cX1_storms 24 [(0, .ref (adr 500)), (1, .int x1), (2, .int x2)] [.int z0] M 0 0 rs := by
  unfold cCc_storms_24 at h
  refine cx_cSv [.int z0] [] h (fun rs' h' => cCc_right_m H M z0 rs' h') dX1_storms_24 g_X1_137 hg_X1_137 ⟨cx_le rfl, cx_le rfl⟩ rfl ⟨rfl, rfl⟩ ⟨cx_le rfl, cx_le rfl⟩ rfl (cx_le rfl) (fun M1 _ h => ?_)
  refine cx_iconst 0 dX1_storms_27 cx_ic_0 ?_
  refine cx_istore_n [(3, .int 0), (0, .ref (adr 500)), (1, .int x1), (2, .int x2)] dX1_storms_28 (cx_lt rfl) rfl ?_
  refine cx_iconst 0 dX1_storms_29 cx_ic_0 ?_
  refine cx_istore [(4, .int 0), (3, .int 0), (0, .ref (adr 500)), (1, .int x1), (2, .int x2)] dX1_storms_30 (cx_lt rfl) rfl ?_
  refine cx_sub (lv' := [(0, .ref (adr 500)), (1, .int x1), (2, .int x2), (3, .int 0), (4, .int 0)]) [2, 3, 4, 1, 0] rfl ?_
  exact cCc_storms_32_v H N.1 M1 x1 x2 0 0 _ h
noncomputable def cCc_storms_23 (N : cx_N) (M : cx_M) (x1 : Int32) (x2 : Int32) : Option cx_R :=
  cCc_storms_24 N M x1 x2 0
set_option maxRecDepth 100000 in
theorem cCc_storms_23_v {l : Launch} {g : cx_G} {adr : Nat → Nat} {X : cx_X} {N : cx_N} (H : cCp_H g adr N) (M : cx_M) (x1 : Int32) (x2 : Int32) (rs : cx_R) (h : cCc_storms_23 N M x1 x2 = some rs) : cx_V l (g) X sX1_storms cX1_storms 23 [(0, .ref (adr 500)), (1, .int x1), (2, .int x2)] [] M 0 0 rs := by
  unfold cCc_storms_23 at h
  refine cx_iconst 0 dX1_storms_23 cx_ic_0 ?_
  exact cCc_storms_24_v H M x1 x2 0 _ h
noncomputable def cCc_storms_0 (N : cx_N) (M : cx_M) (x1 : Int32) (x2 : Int32) : Option cx_R :=
  cx_cal (cCc_within N M x1 1 5) fun M1 v2 =>
  if v2 = 0 then (
    cCc_storms_23 N M1 x1 x2)
  else (
    cx_cal (cCc_within N M1 x2 0 10) fun M3 v4 =>
    if v4 = 0 then (
      cCc_storms_23 N M3 x1 x2)
    else (
      cCc_storms_24 N M3 x1 x2 1))
set_option maxRecDepth 100000 in
theorem cCc_storms_0_v {l : Launch} {g : cx_G} {adr : Nat → Nat} {X : cx_X} {N : cx_N} (H : cCp_H g adr N) (M : cx_M) (x1 : Int32) (x2 : Int32) (rs : cx_R) (h : cCc_storms_0 N M x1 x2 = some rs) : cx_V l (g) X sX1_storms cX1_storms 0 [(0, .ref (adr 500)), (1, .int x1), (2, .int x2)] [] M 0 0 rs := by
  unfold cCc_storms_0 at h
  refine cx_iload_n 1 dX1_storms_0 rfl ?_
  refine cx_iconst 1 dX1_storms_1 cx_ic_1 ?_
  refine cx_iconst 5 dX1_storms_2 cx_ic_5 ?_
  refine cx_cSi [.int x1, .int 1, .int 5] [] h (fun rs' h' => cCc_within_m H M x1 1 5 rs' h') dX1_storms_3 g_X1_180 hg_X1_180 ⟨cx_le rfl, cx_le rfl⟩ rfl ⟨rfl, rfl⟩ ⟨cx_le rfl, cx_le rfl⟩ rfl (cx_le rfl) (fun M1 v2 h => ?_)
  refine cx_if_eq 23 h dX1_storms_6 rfl (fun h => ?_) (fun h => ?_)
  · exact cCc_storms_23_v H M1 x1 x2 _ h
  · refine cx_iload_n 2 dX1_storms_9 rfl ?_
    refine cx_iconst 0 dX1_storms_10 cx_ic_0 ?_
    refine cx_bipush 10 dX1_storms_11 cx_bp_10 ?_
    refine cx_cSi [.int x2, .int 0, .int 10] [] h (fun rs' h' => cCc_within_m H M1 x2 0 10 rs' h') dX1_storms_13 g_X1_180 hg_X1_180 ⟨cx_le rfl, cx_le rfl⟩ rfl ⟨rfl, rfl⟩ ⟨cx_le rfl, cx_le rfl⟩ rfl (cx_le rfl) (fun M3 v4 h => ?_)
    refine cx_if_eq 23 h dX1_storms_16 rfl (fun h => ?_) (fun h => ?_)
    · exact cCc_storms_23_v H M3 x1 x2 _ h
    · refine cx_iconst 1 dX1_storms_19 cx_ic_1 ?_
      refine cx_goto 24 dX1_storms_20 rfl ?_
      exact cCc_storms_24_v H M3 x1 x2 1 _ h
noncomputable def cCc_storms (N : cx_N) (M : cx_M) (x1 : Int32) (x2 : Int32) : Option cx_R := cCc_storms_0 N M x1 x2
theorem cCc_storms_m {l : Launch} {g : cx_G} {adr : Nat → Nat} {N : cx_N} (H : cCp_H g adr N) (M : cx_M) (x1 : Int32) (x2 : Int32) (rs : cx_R) (h : cCc_storms N M x1 x2 = some rs) : cx_Met l (g) yX1_storms cX1_storms sX1_storms [.ref (adr 500), .int x1, .int x2] M rs :=
  cx_met (by decide +kernel) rfl rfl (lv := [(0, .ref (adr 500)), (1, .int x1), (2, .int x2)]) rfl (cx_le rfl) (fun X => cx_sub (lv' := [(0, .ref (adr 500)), (1, .int x1), (2, .int x2)]) [0, 1, 2] rfl (cCc_storms_0_v H M x1 x2 rs h))

abbrev sX1_then : cx_S := (3, RX1, cx_rI, { frames := 906, cells := 0, slots := 0, locals := 30133 }, some .int, false)
noncomputable def cCc_then_0 (N : cx_N) (M : cx_M) (x1 : Int32) (x2 : Int32) : Option cx_R :=
  cx_cal (cCc_within N M x2 0 5) fun M1 v2 =>
  cx_cal (cCc_there N M1 v2) fun M3 _ =>
  cx_cal (cCc_soon N M3 x1 0) fun M4 _ =>
  cx_cal (cCc_tries N M4 x1) fun M5 _ =>
  cx_ix x2 6 fun j6 =>
  cx_cal (cLk_at N j6 1100 M5) fun M7 v8 =>
  some (M7, v8, 0)
set_option maxRecDepth 100000 in
theorem cCc_then_0_v {l : Launch} {g : cx_G} {adr : Nat → Nat} {X : cx_X} {N : cx_N} (H : cCp_H g adr N) (M : cx_M) (x1 : Int32) (x2 : Int32) (rs : cx_R) (h : cCc_then_0 N M x1 x2 = some rs) : cx_V l (g) X sX1_then cX1_then 0 [(0, .ref (adr 500)), (1, .int x1), (2, .int x2)] [] M 0 0 rs := by
  unfold cCc_then_0 at h
  refine cx_iload_n 2 dX1_then_0 rfl ?_
  refine cx_iconst 0 dX1_then_1 cx_ic_0 ?_
  refine cx_iconst 5 dX1_then_2 cx_ic_5 ?_
  refine cx_cSi [.int x2, .int 0, .int 5] [] h (fun rs' h' => cCc_within_m H M x2 0 5 rs' h') dX1_then_3 g_X1_180 hg_X1_180 ⟨cx_le rfl, cx_le rfl⟩ rfl ⟨rfl, rfl⟩ ⟨cx_le rfl, cx_le rfl⟩ rfl (cx_le rfl) (fun M1 v2 h => ?_)
  refine cx_cSv [.int v2] [] h (fun rs' h' => cCc_there_m H M1 v2 rs' h') dX1_then_6 g_X1_184 hg_X1_184 ⟨cx_le rfl, cx_le rfl⟩ rfl ⟨rfl, rfl⟩ ⟨cx_le rfl, cx_le rfl⟩ rfl (cx_le rfl) (fun M3 _ h => ?_)
  refine cx_iload_n 1 dX1_then_9 rfl ?_
  refine cx_iconst 0 dX1_then_10 cx_ic_0 ?_
  refine cx_cSv [.int x1, .int 0] [] h (fun rs' h' => cCc_soon_m H M3 x1 0 rs' h') dX1_then_11 g_X1_407 hg_X1_407 ⟨cx_le rfl, cx_le rfl⟩ rfl ⟨rfl, rfl⟩ ⟨cx_le rfl, cx_le rfl⟩ rfl (cx_le rfl) (fun M4 _ h => ?_)
  refine cx_aload_n 0 dX1_then_14 rfl ?_
  refine cx_iload_n 1 dX1_then_15 rfl ?_
  refine cx_cVv [.int x1] [] h (fun rs' h' => cCc_tries_m H M4 x1 rs' h') (cCc_rc H) dX1_then_16 g_X1_411 hg_X1_411 ⟨cx_le rfl, cx_le rfl⟩ rfl ⟨rfl, rfl⟩ ⟨cx_le rfl, cx_le rfl⟩ rfl (cx_le rfl) (fun M5 _ h => ?_)
  refine cx_aload_n 0 dX1_then_19 rfl ?_
  refine cx_getR (cCc_R6 H) q1023 dX1_then_20 ?_
  refine cx_iload_n 2 dX1_then_23 rfl ?_
  refine cLs_looks H h dX1_then_24 q1164 (cx_le rfl) (cx_le rfl) (cx_le rfl) (cx_le rfl) (cx_le rfl) (fun j6 hj6 h => ?_)
  refine cx_castR (cLs_loc H hj6) q980 dX1_then_27 ?_
  refine cx_getRN (cLs_lo H hj6) q995 dX1_then_30 ?_
  refine cx_aload_n 0 dX1_then_33 rfl ?_
  refine cx_getR (cCc_R4 H) q1021 dX1_then_34 ?_
  refine cLs_at H (Nat.lt_of_lt_of_le hj6 (cx_le rfl)) (cSt_i1100 H) h dX1_then_37 q2262 q2261 (cx_le rfl) (cx_le rfl) (cx_le rfl) (cx_le rfl) (cx_le rfl) (fun M7 v8 h => ?_)
  exact cx_iret h rfl rfl (cx_le rfl) (cx_le rfl) dX1_then_42
noncomputable def cCc_then (N : cx_N) (M : cx_M) (x1 : Int32) (x2 : Int32) : Option cx_R := cCc_then_0 N M x1 x2
theorem cCc_then_m {l : Launch} {g : cx_G} {adr : Nat → Nat} {N : cx_N} (H : cCp_H g adr N) (M : cx_M) (x1 : Int32) (x2 : Int32) (rs : cx_R) (h : cCc_then N M x1 x2 = some rs) : cx_Met l (g) yX1_then cX1_then sX1_then [.ref (adr 500), .int x1, .int x2] M rs :=
  cx_met (by decide +kernel) rfl rfl (lv := [(0, .ref (adr 500)), (1, .int x1), (2, .int x2)]) rfl (cx_le rfl) (fun X => cx_sub (lv' := [(0, .ref (adr 500)), (1, .int x1), (2, .int x2)]) [0, 1, 2] rfl (cCc_then_0_v H M x1 x2 rs h))

abbrev sX7_begins (adr : Nat → Nat) : cx_S := (3, RX7, (fun _ => some (.ref (adr 9000))), { frames := 0, cells := 0, slots := 0, locals := 0 }, some (.object "CircuitCells$Course"), false)
noncomputable def cCo_begins_7b (N : cx_N) (r_7 : cx_M → Int32 → Option cx_R) (M : cx_M) (x2 : Int32) : Option cx_R :=
  if 512 ≤ x2 then (
    some (M, 0, 0))
  else (
    cx_st M 9001 512 x2 (-1) fun M1 =>
    cx_st M1 9002 512 x2 (-1) fun M2 =>
    cx_let (x2 + 1) fun v3 =>
    r_7 M2 v3)
set_option maxRecDepth 100000 in
theorem cCo_begins_7b_v {l : Launch} {g : cx_G} {adr : Nat → Nat} {X : cx_X} {N : cx_N} {r_7 : cx_M → Int32 → Option cx_R} (H : cCp_H g adr N) (hr_7 : ∀ (M : cx_M) (x2 : Int32) (rs : cx_R), r_7 M x2 = some rs → cx_V l (g) X (sX7_begins adr) cX7_begins 7 [(0, .ref (adr 9000)), (2, .int x2)] [] M 0 0 rs) (M : cx_M) (x2 : Int32) (rs : cx_R) (h : cCo_begins_7b N r_7 M x2 = some rs) : cx_V l (g) X (sX7_begins adr) cX7_begins 7 [(0, .ref (adr 9000)), (2, .int x2)] [] M 0 0 rs := by
  unfold cCo_begins_7b at h
  refine cx_iload_n 1 dX7_begins_7 rfl ?_
  refine cx_sipush 512 dX7_begins_8 cx_sp_512 ?_
  refine cx_icmp_ge 34 h dX7_begins_11 rfl (fun h => ?_) (fun h => ?_)
  · refine cx_aload_n 0 dX7_begins_34 rfl ?_
    exact cx_aret h rfl (Or.inl ⟨_, rfl⟩) rfl (cx_le rfl) (cx_le rfl) dX7_begins_35
  · refine cx_aload_n 0 dX7_begins_14 rfl ?_
    refine cx_getR (cCo_R0 H) q947 dX7_begins_15 ?_
    refine cx_iload_n 1 dX7_begins_18 rfl ?_
    refine cx_iconst (-1) dX7_begins_19 cx_ic_m1 ?_
    refine cx_stI h (cCo_A0 H) dX7_begins_20 (fun M1 h => ?_)
    refine cx_aload_n 0 dX7_begins_21 rfl ?_
    refine cx_getR (cCo_R1 H) q948 dX7_begins_22 ?_
    refine cx_iload_n 1 dX7_begins_25 rfl ?_
    refine cx_iconst (-1) dX7_begins_26 cx_ic_m1 ?_
    refine cx_stI h (cCo_A1 H) dX7_begins_27 (fun M2 h => ?_)
    refine cx_iinc 1 1 (fun v3 => [(2, .int v3), (0, .ref (adr 9000))]) h dX7_begins_28 rfl cx_ic_1 (cx_lt rfl) (fun _ => rfl) (fun v3 h => ?_)
    refine cx_goto 7 dX7_begins_31 rfl ?_
    refine cx_sub (lv' := [(0, .ref (adr 9000)), (2, .int v3)]) [1, 0] rfl ?_
    exact hr_7 M2 v3 _ h
noncomputable def cCo_begins_7 (N : cx_N) : Nat → cx_M → Int32 → Option cx_R :=
  cx_fix (fun _ _ => none) (fun r_7 => cCo_begins_7b N r_7)
theorem cCo_begins_7_v {l : Launch} {g : cx_G} {adr : Nat → Nat} {X : cx_X} {N : cx_N} (H : cCp_H g adr N) : ∀ (n : Nat) (M : cx_M) (x2 : Int32) (rs : cx_R), cCo_begins_7 N n M x2 = some rs → cx_V l (g) X (sX7_begins adr) cX7_begins 7 [(0, .ref (adr 9000)), (2, .int x2)] [] M 0 0 rs :=
  cx_fixI (fun (r : cx_M → Int32 → Option cx_R) => ∀ (M : cx_M) (x2 : Int32) (rs : cx_R), r M x2 = some rs → cx_V l (g) X (sX7_begins adr) cX7_begins 7 [(0, .ref (adr 9000)), (2, .int x2)] [] M 0 0 rs) (fun _ _ _ h => by cases h) (fun r hr M x2 rs h => cCo_begins_7b_v H hr M x2 rs h)
noncomputable def cCo_begins_0 (N : cx_N) (M : cx_M) (x1 : Int32) : Option cx_R :=
  cx_put M 9000 2 x1 fun M1 =>
  cCo_begins_7 N N.1 M1 0
set_option maxRecDepth 100000 in
theorem cCo_begins_0_v {l : Launch} {g : cx_G} {adr : Nat → Nat} {X : cx_X} {N : cx_N} (H : cCp_H g adr N) (M : cx_M) (x1 : Int32) (rs : cx_R) (h : cCo_begins_0 N M x1 = some rs) : cx_V l (g) X (sX7_begins adr) cX7_begins 0 [(0, .ref (adr 9000)), (1, .int x1)] [] M 0 0 rs := by
  unfold cCo_begins_0 at h
  refine cx_aload_n 0 dX7_begins_0 rfl ?_
  refine cx_iload_n 1 dX7_begins_1 rfl ?_
  refine cx_putI h (cCo_F2 H) rfl rfl rfl q949 dX7_begins_2 (fun M1 h => ?_)
  refine cx_iconst 0 dX7_begins_5 cx_ic_0 ?_
  refine cx_istore_n [(2, .int 0), (0, .ref (adr 9000)), (1, .int x1)] dX7_begins_6 (cx_lt rfl) rfl ?_
  refine cx_sub (lv' := [(0, .ref (adr 9000)), (2, .int 0)]) [1, 0] rfl ?_
  exact cCo_begins_7_v H N.1 M1 0 _ h
noncomputable def cCo_begins (N : cx_N) (M : cx_M) (x1 : Int32) : Option cx_R := cCo_begins_0 N M x1
theorem cCo_begins_m {l : Launch} {g : cx_G} {adr : Nat → Nat} {N : cx_N} (H : cCp_H g adr N) (M : cx_M) (x1 : Int32) (rs : cx_R) (h : cCo_begins N M x1 = some rs) : cx_Met l (g) yX7_begins cX7_begins (sX7_begins adr) [.ref (adr 9000), .int x1] M rs :=
  cx_met (by decide +kernel) rfl rfl (lv := [(0, .ref (adr 9000)), (1, .int x1)]) rfl (cx_le rfl) (fun X => cx_sub (lv' := [(0, .ref (adr 9000)), (1, .int x1)]) [0, 1] rfl (cCo_begins_0_v H M x1 rs h))

abbrev sX1_toAim : cx_S := (6, RX1, cx_rI, { frames := 906, cells := 0, slots := 0, locals := 30133 }, some .int, false)
noncomputable def cCc_toAim_118 (N : cx_N) (r_45 : cx_M → Int32 → Int32 → Int32 → Int32 → Int32 → Option cx_R) (M : cx_M) (x1 : Int32) (x2 : Int32) (x3 : Int32) (x4 : Int32) (x5 : Int32) : Option cx_R :=
  cx_let (x5 + 1) fun v1 =>
  r_45 M x1 x2 x3 x4 v1
set_option maxRecDepth 100000 in
theorem cCc_toAim_118_v {l : Launch} {g : cx_G} {adr : Nat → Nat} {X : cx_X} {N : cx_N} {r_45 : cx_M → Int32 → Int32 → Int32 → Int32 → Int32 → Option cx_R} (H : cCp_H g adr N) (hr_45 : ∀ (M : cx_M) (x1 : Int32) (x2 : Int32) (x3 : Int32) (x4 : Int32) (x5 : Int32) (rs : cx_R), r_45 M x1 x2 x3 x4 x5 = some rs → cx_V l (g) X sX1_toAim cX1_toAim 45 [(0, .ref (adr 500)), (1, .int x1), (2, .int x2), (3, .int x3), (4, .int x4), (5, .int x5)] [] M 0 0 rs) (M : cx_M) (x1 : Int32) (x2 : Int32) (x3 : Int32) (x4 : Int32) (x5 : Int32) (rs : cx_R) (h : cCc_toAim_118 N r_45 M x1 x2 x3 x4 x5 = some rs) : cx_V l (g) X sX1_toAim cX1_toAim 118 [(0, .ref (adr 500)), (1, .int x1), (2, .int x2), (3, .int x3), (4, .int x4), (5, .int x5)] [] M 0 0 rs := by
  unfold cCc_toAim_118 at h
  refine cx_iinc 5 1 (fun v1 => [(5, .int v1), (0, .ref (adr 500)), (1, .int x1), (2, .int x2), (3, .int x3), (4, .int x4)]) h dX1_toAim_118 rfl cx_ic_1 (cx_lt rfl) (fun _ => rfl) (fun v1 h => ?_)
  refine cx_goto 45 dX1_toAim_121 rfl ?_
  refine cx_sub (lv' := [(0, .ref (adr 500)), (1, .int x1), (2, .int x2), (3, .int x3), (4, .int x4), (5, .int v1)]) [1, 2, 3, 4, 5, 0] rfl ?_
  exact hr_45 M x1 x2 x3 x4 v1 _ h
noncomputable def cCc_toAim_45b (N : cx_N) (r_45 : cx_M → Int32 → Int32 → Int32 → Int32 → Int32 → Option cx_R) (M : cx_M) (x1 : Int32) (x2 : Int32) (x3 : Int32) (x4 : Int32) (x5 : Int32) : Option cx_R :=
  if 64 < x5 then (
    cx_put M 1100 45 0 fun M1 =>
    if x2 = 0 then (
      some (M1, x3, 0))
    else (
      some (M1, x4, 0)))
  else (
    cx_cal (cCc_tries N M 0) fun M2 _ =>
    cx_put M2 1100 30 x5 fun M3 =>
    cx_cal (cCc_goes N 1100 M3 x1) fun M4 _ =>
    cx_get M4 1100 7 fun v5 =>
    cx_get M4 1000 7 fun v6 =>
    if (v5 - v6) < x4 then (
      cx_get M4 1100 7 fun v7 =>
      cx_get M4 1000 7 fun v8 =>
      cx_let (v7 - v8) fun v9 =>
      cCc_toAim_118 N r_45 M4 x1 x2 x5 v9 x5)
    else (
      cCc_toAim_118 N r_45 M4 x1 x2 x3 x4 x5))
set_option maxRecDepth 100000 in
theorem cCc_toAim_45b_v {l : Launch} {g : cx_G} {adr : Nat → Nat} {X : cx_X} {N : cx_N} {r_45 : cx_M → Int32 → Int32 → Int32 → Int32 → Int32 → Option cx_R} (H : cCp_H g adr N) (hr_45 : ∀ (M : cx_M) (x1 : Int32) (x2 : Int32) (x3 : Int32) (x4 : Int32) (x5 : Int32) (rs : cx_R), r_45 M x1 x2 x3 x4 x5 = some rs → cx_V l (g) X sX1_toAim cX1_toAim 45 [(0, .ref (adr 500)), (1, .int x1), (2, .int x2), (3, .int x3), (4, .int x4), (5, .int x5)] [] M 0 0 rs) (M : cx_M) (x1 : Int32) (x2 : Int32) (x3 : Int32) (x4 : Int32) (x5 : Int32) (rs : cx_R) (h : cCc_toAim_45b N r_45 M x1 x2 x3 x4 x5 = some rs) : cx_V l (g) X sX1_toAim cX1_toAim 45 [(0, .ref (adr 500)), (1, .int x1), (2, .int x2), (3, .int x3), (4, .int x4), (5, .int x5)] [] M 0 0 rs := by
  unfold cCc_toAim_45b at h
  refine cx_iload 5 dX1_toAim_45 rfl ?_
  refine cx_bipush 64 dX1_toAim_47 cx_bp_64 ?_
  refine cx_icmp_gt 124 h dX1_toAim_49 rfl (fun h => ?_) (fun h => ?_)
  · refine cx_aload_n 0 dX1_toAim_124 rfl ?_
    refine cx_getR (cCc_R4 H) q1021 dX1_toAim_125 ?_
    refine cx_null dX1_toAim_128 ?_
    refine cx_putON h (cSt_O45 (cSt_i1100 H)) cx_on0 rfl q730 dX1_toAim_129 (fun M1 h => ?_)
    refine cx_iload_n 2 dX1_toAim_132 rfl ?_
    refine cx_if_ne 140 h dX1_toAim_133 rfl (fun h => ?_) (fun h => ?_)
    · refine cx_iload 4 dX1_toAim_140 rfl ?_
      exact cx_iret h rfl rfl (cx_le rfl) (cx_le rfl) dX1_toAim_142
    · refine cx_iload_n 3 dX1_toAim_136 rfl ?_
      refine cx_goto 142 dX1_toAim_137 rfl ?_
      exact cx_iret h rfl rfl (cx_le rfl) (cx_le rfl) dX1_toAim_142
  · refine cx_aload_n 0 dX1_toAim_52 rfl ?_
    refine cx_iconst 0 dX1_toAim_53 cx_ic_0 ?_
    refine cx_cVv [.int 0] [] h (fun rs' h' => cCc_tries_m H M 0 rs' h') (cCc_rc H) dX1_toAim_54 g_X1_411 hg_X1_411 ⟨cx_le rfl, cx_le rfl⟩ rfl ⟨rfl, rfl⟩ ⟨cx_le rfl, cx_le rfl⟩ rfl (cx_le rfl) (fun M2 _ h => ?_)
    refine cx_aload_n 0 dX1_toAim_57 rfl ?_
    refine cx_getR (cCc_R4 H) q1021 dX1_toAim_58 ?_
    refine cx_iload 5 dX1_toAim_61 rfl ?_
    refine cx_putIN h (cSt_F30 (cSt_i1100 H)) rfl rfl rfl q703 dX1_toAim_63 (fun M3 h => ?_)
    refine cx_aload_n 0 dX1_toAim_66 rfl ?_
    refine cx_aload_n 0 dX1_toAim_67 rfl ?_
    refine cx_getR (cCc_R4 H) q1021 dX1_toAim_68 ?_
    refine cx_iload_n 1 dX1_toAim_71 rfl ?_
    refine cx_cVv [.ref (adr 1100), .int x1] [] h (fun rs' h' => cCc_goes_m H (cSt_i1100 H) M3 x1 rs' h') (cCc_rc H) dX1_toAim_72 g_X1_397 hg_X1_397 ⟨cx_le rfl, cx_le rfl⟩ rfl ⟨rfl, rfl⟩ ⟨cx_le rfl, cx_le rfl⟩ rfl (cx_le rfl) (fun M4 _ h => ?_)
    refine cx_aload_n 0 dX1_toAim_75 rfl ?_
    refine cx_getR (cCc_R4 H) q1021 dX1_toAim_76 ?_
    refine cx_getIN h (cSt_F7 (cSt_i1100 H)) q663 dX1_toAim_79 (fun v5 h => ?_)
    refine cx_aload_n 0 dX1_toAim_82 rfl ?_
    refine cx_getR (cCc_R3 H) q1020 dX1_toAim_83 ?_
    refine cx_getIN h (cSt_F7 (cSt_i1000 H)) q663 dX1_toAim_86 (fun v6 h => ?_)
    refine cx_isub dX1_toAim_89 ?_
    refine cx_iload 4 dX1_toAim_90 rfl ?_
    refine cx_icmp_lt 98 h dX1_toAim_92 rfl (fun h => ?_) (fun h => ?_)
    · refine cx_iload 5 dX1_toAim_98 rfl ?_
      refine cx_istore_n [(3, .int x5), (0, .ref (adr 500)), (1, .int x1), (2, .int x2), (4, .int x4), (5, .int x5)] dX1_toAim_100 (cx_lt rfl) rfl ?_
      refine cx_aload_n 1 dX1_toAim_101 rfl ?_
      refine cx_getR (cCc_R4 H) q1021 dX1_toAim_102 ?_
      refine cx_getIN h (cSt_F7 (cSt_i1100 H)) q663 dX1_toAim_105 (fun v7 h => ?_)
      refine cx_aload_n 1 dX1_toAim_108 rfl ?_
      refine cx_getR (cCc_R3 H) q1020 dX1_toAim_109 ?_
      refine cx_getIN h (cSt_F7 (cSt_i1000 H)) q663 dX1_toAim_112 (fun v8 h => ?_)
      refine cx_isub dX1_toAim_115 ?_
      refine cx_letI h (fun v9 h => ?_)
      refine cx_istore [(4, .int v9), (3, .int x5), (0, .ref (adr 500)), (1, .int x1), (2, .int x2), (5, .int x5)] dX1_toAim_116 (cx_lt rfl) rfl ?_
      refine cx_sub (lv' := [(0, .ref (adr 500)), (1, .int x1), (2, .int x2), (3, .int x5), (4, .int v9), (5, .int x5)]) [2, 3, 4, 1, 0, 5] rfl ?_
      exact cCc_toAim_118_v H hr_45 M4 x1 x2 x5 v9 x5 _ h
    · refine cx_goto 118 dX1_toAim_95 rfl ?_
      exact cCc_toAim_118_v H hr_45 M4 x1 x2 x3 x4 x5 _ h
noncomputable def cCc_toAim_45 (N : cx_N) : Nat → cx_M → Int32 → Int32 → Int32 → Int32 → Int32 → Option cx_R :=
  cx_fix (fun _ _ _ _ _ _ => none) (fun r_45 => cCc_toAim_45b N r_45)
theorem cCc_toAim_45_v {l : Launch} {g : cx_G} {adr : Nat → Nat} {X : cx_X} {N : cx_N} (H : cCp_H g adr N) : ∀ (n : Nat) (M : cx_M) (x1 : Int32) (x2 : Int32) (x3 : Int32) (x4 : Int32) (x5 : Int32) (rs : cx_R), cCc_toAim_45 N n M x1 x2 x3 x4 x5 = some rs → cx_V l (g) X sX1_toAim cX1_toAim 45 [(0, .ref (adr 500)), (1, .int x1), (2, .int x2), (3, .int x3), (4, .int x4), (5, .int x5)] [] M 0 0 rs :=
  cx_fixI (fun (r : cx_M → Int32 → Int32 → Int32 → Int32 → Int32 → Option cx_R) => ∀ (M : cx_M) (x1 : Int32) (x2 : Int32) (x3 : Int32) (x4 : Int32) (x5 : Int32) (rs : cx_R), r M x1 x2 x3 x4 x5 = some rs → cx_V l (g) X sX1_toAim cX1_toAim 45 [(0, .ref (adr 500)), (1, .int x1), (2, .int x2), (3, .int x3), (4, .int x4), (5, .int x5)] [] M 0 0 rs) (fun _ _ _ _ _ _ _ h => by cases h) (fun r hr M x1 x2 x3 x4 x5 rs h => cCc_toAim_45b_v H hr M x1 x2 x3 x4 x5 rs h)
noncomputable def cCc_toAim_0 (N : cx_N) (M : cx_M) (x1 : Int32) (x2 : Int32) : Option cx_R :=
  cx_cal (cCc_within N M x2 0 1) fun M1 v2 =>
  cx_cal (cCc_there N M1 v2) fun M3 _ =>
  cx_cal (cCc_soon N M3 x1 1) fun M4 _ =>
  cx_get M4 1000 2 fun v5 =>
  cx_cal (cCo_begins N M4 v5) fun M6 v7 =>
  cx_put M6 1100 45 1 fun M8 =>
  cCc_toAim_45 N N.1 M8 x1 x2 (-1) 999999 1
set_option maxRecDepth 100000 in
theorem cCc_toAim_0_v {l : Launch} {g : cx_G} {adr : Nat → Nat} {X : cx_X} {N : cx_N} (H : cCp_H g adr N) (M : cx_M) (x1 : Int32) (x2 : Int32) (rs : cx_R) (h : cCc_toAim_0 N M x1 x2 = some rs) : cx_V l (g) X sX1_toAim cX1_toAim 0 [(0, .ref (adr 500)), (1, .int x1), (2, .int x2)] [] M 0 0 rs := by
  unfold cCc_toAim_0 at h
  refine cx_iload_n 2 dX1_toAim_0 rfl ?_
  refine cx_iconst 0 dX1_toAim_1 cx_ic_0 ?_
  refine cx_iconst 1 dX1_toAim_2 cx_ic_1 ?_
  refine cx_cSi [.int x2, .int 0, .int 1] [] h (fun rs' h' => cCc_within_m H M x2 0 1 rs' h') dX1_toAim_3 g_X1_180 hg_X1_180 ⟨cx_le rfl, cx_le rfl⟩ rfl ⟨rfl, rfl⟩ ⟨cx_le rfl, cx_le rfl⟩ rfl (cx_le rfl) (fun M1 v2 h => ?_)
  refine cx_cSv [.int v2] [] h (fun rs' h' => cCc_there_m H M1 v2 rs' h') dX1_toAim_6 g_X1_184 hg_X1_184 ⟨cx_le rfl, cx_le rfl⟩ rfl ⟨rfl, rfl⟩ ⟨cx_le rfl, cx_le rfl⟩ rfl (cx_le rfl) (fun M3 _ h => ?_)
  refine cx_iload_n 1 dX1_toAim_9 rfl ?_
  refine cx_iconst 1 dX1_toAim_10 cx_ic_1 ?_
  refine cx_cSv [.int x1, .int 1] [] h (fun rs' h' => cCc_soon_m H M3 x1 1 rs' h') dX1_toAim_11 g_X1_407 hg_X1_407 ⟨cx_le rfl, cx_le rfl⟩ rfl ⟨rfl, rfl⟩ ⟨cx_le rfl, cx_le rfl⟩ rfl (cx_le rfl) (fun M4 _ h => ?_)
  refine cx_iconst (-1) dX1_toAim_14 cx_ic_m1 ?_
  refine cx_istore_n [(3, .int (-1)), (0, .ref (adr 500)), (1, .int x1), (2, .int x2)] dX1_toAim_15 (cx_lt rfl) rfl ?_
  refine cx_ldcw 999999 dX1_toAim_16 q2303 ?_
  refine cx_istore [(4, .int 999999), (3, .int (-1)), (0, .ref (adr 500)), (1, .int x1), (2, .int x2)] dX1_toAim_19 (cx_lt rfl) rfl ?_
  refine cx_aload_n 2 dX1_toAim_21 rfl ?_
  refine cx_getR (cCc_R4 H) q1021 dX1_toAim_22 ?_
  refine cx_aload_n 2 dX1_toAim_25 rfl ?_
  refine cx_getR (cCc_R13 H) q1030 dX1_toAim_26 ?_
  refine cx_aload_n 2 dX1_toAim_29 rfl ?_
  refine cx_getR (cCc_R3 H) q1020 dX1_toAim_30 ?_
  refine cx_getIN h (cSt_F2 (cSt_i1000 H)) q653 dX1_toAim_33 (fun v5 h => ?_)
  refine cx_cVr [.int v5] [.ref (adr 1100)] h (fun rs' h' => cCo_begins_m H M4 v5 rs' h') (cCo_rc H) dX1_toAim_36 g_X1_450 hg_X1_450 ⟨cx_le rfl, cx_le rfl⟩ rfl ⟨rfl, rfl⟩ ⟨cx_le rfl, cx_le rfl⟩ rfl (cx_le rfl) (fun M6 v7 h => ?_)
  refine cx_putON h (cSt_O45 (cSt_i1100 H)) cx_on1 rfl q730 dX1_toAim_39 (fun M8 h => ?_)
  refine cx_iconst 1 dX1_toAim_42 cx_ic_1 ?_
  refine cx_istore [(5, .int 1), (4, .int 999999), (3, .int (-1)), (0, .ref (adr 500)), (1, .int x1), (2, .int x2)] dX1_toAim_43 (cx_lt rfl) rfl ?_
  refine cx_sub (lv' := [(0, .ref (adr 500)), (1, .int x1), (2, .int x2), (3, .int (-1)), (4, .int 999999), (5, .int 1)]) [3, 4, 5, 2, 1, 0] rfl ?_
  exact cCc_toAim_45_v H N.1 M8 x1 x2 (-1) 999999 1 _ h
noncomputable def cCc_toAim (N : cx_N) (M : cx_M) (x1 : Int32) (x2 : Int32) : Option cx_R := cCc_toAim_0 N M x1 x2
theorem cCc_toAim_m {l : Launch} {g : cx_G} {adr : Nat → Nat} {N : cx_N} (H : cCp_H g adr N) (M : cx_M) (x1 : Int32) (x2 : Int32) (rs : cx_R) (h : cCc_toAim N M x1 x2 = some rs) : cx_Met l (g) yX1_toAim cX1_toAim sX1_toAim [.ref (adr 500), .int x1, .int x2] M rs :=
  cx_met (by decide +kernel) rfl rfl (lv := [(0, .ref (adr 500)), (1, .int x1), (2, .int x2)]) rfl (cx_le rfl) (fun X => cx_sub (lv' := [(0, .ref (adr 500)), (1, .int x1), (2, .int x2)]) [0, 1, 2] rfl (cCc_toAim_0_v H M x1 x2 rs h))

abbrev sX1_toGain : cx_S := (7, RX1, cx_rI, { frames := 906, cells := 0, slots := 0, locals := 30135 }, some .int, false)
noncomputable def cCc_toGain_127 (N : cx_N) (r_43 : cx_M → Int32 → Int32 → Int32 → Int32 → Int32 → Option cx_R) (M : cx_M) (x1 : Int32) (x2 : Int32) (x3 : Int32) (x4 : Int32) (x5 : Int32) : Option cx_R :=
  cx_let (x5 + 1) fun v1 =>
  r_43 M x1 x2 x3 x4 v1
set_option maxRecDepth 100000 in
theorem cCc_toGain_127_v {l : Launch} {g : cx_G} {adr : Nat → Nat} {X : cx_X} {N : cx_N} {r_43 : cx_M → Int32 → Int32 → Int32 → Int32 → Int32 → Option cx_R} (H : cCp_H g adr N) (hr_43 : ∀ (M : cx_M) (x1 : Int32) (x2 : Int32) (x3 : Int32) (x4 : Int32) (x5 : Int32) (rs : cx_R), r_43 M x1 x2 x3 x4 x5 = some rs → cx_V l (g) X sX1_toGain cX1_toGain 43 [(0, .ref (adr 500)), (1, .int x1), (2, .int x2), (3, .int x3), (4, .int x4), (5, .int x5)] [] M 0 0 rs) (M : cx_M) (x1 : Int32) (x2 : Int32) (x3 : Int32) (x4 : Int32) (x5 : Int32) (rs : cx_R) (h : cCc_toGain_127 N r_43 M x1 x2 x3 x4 x5 = some rs) : cx_V l (g) X sX1_toGain cX1_toGain 127 [(0, .ref (adr 500)), (1, .int x1), (2, .int x2), (3, .int x3), (4, .int x4), (5, .int x5)] [] M 0 0 rs := by
  unfold cCc_toGain_127 at h
  refine cx_iinc 5 1 (fun v1 => [(5, .int v1), (0, .ref (adr 500)), (1, .int x1), (2, .int x2), (3, .int x3), (4, .int x4)]) h dX1_toGain_127 rfl cx_ic_1 (cx_lt rfl) (fun _ => rfl) (fun v1 h => ?_)
  refine cx_goto 43 dX1_toGain_130 rfl ?_
  refine cx_sub (lv' := [(0, .ref (adr 500)), (1, .int x1), (2, .int x2), (3, .int x3), (4, .int x4), (5, .int v1)]) [1, 2, 3, 4, 5, 0] rfl ?_
  exact hr_43 M x1 x2 x3 x4 v1 _ h
noncomputable def cCc_toGain_120 (N : cx_N) (r_43 : cx_M → Int32 → Int32 → Int32 → Int32 → Int32 → Option cx_R) (M : cx_M) (x1 : Int32) (x2 : Int32) (x5 : Int32) (x6 : Int32) : Option cx_R :=
  cCc_toGain_127 N r_43 M x1 x2 x5 x6 x5
set_option maxRecDepth 100000 in
theorem cCc_toGain_120_v {l : Launch} {g : cx_G} {adr : Nat → Nat} {X : cx_X} {N : cx_N} {r_43 : cx_M → Int32 → Int32 → Int32 → Int32 → Int32 → Option cx_R} (H : cCp_H g adr N) (hr_43 : ∀ (M : cx_M) (x1 : Int32) (x2 : Int32) (x3 : Int32) (x4 : Int32) (x5 : Int32) (rs : cx_R), r_43 M x1 x2 x3 x4 x5 = some rs → cx_V l (g) X sX1_toGain cX1_toGain 43 [(0, .ref (adr 500)), (1, .int x1), (2, .int x2), (3, .int x3), (4, .int x4), (5, .int x5)] [] M 0 0 rs) (M : cx_M) (x1 : Int32) (x2 : Int32) (x5 : Int32) (x6 : Int32) (rs : cx_R) (h : cCc_toGain_120 N r_43 M x1 x2 x5 x6 = some rs) : cx_V l (g) X sX1_toGain cX1_toGain 120 [(0, .ref (adr 500)), (1, .int x1), (2, .int x2), (5, .int x5), (6, .int x6)] [] M 0 0 rs := by
  unfold cCc_toGain_120 at h
  refine cx_iload 3 dX1_toGain_120 rfl ?_
  refine cx_istore_n [(3, .int x5), (0, .ref (adr 500)), (1, .int x1), (2, .int x2), (5, .int x5), (6, .int x6)] dX1_toGain_122 (cx_lt rfl) rfl ?_
  refine cx_iload 5 dX1_toGain_123 rfl ?_
  refine cx_istore [(4, .int x6), (3, .int x5), (0, .ref (adr 500)), (1, .int x1), (2, .int x2), (5, .int x5), (6, .int x6)] dX1_toGain_125 (cx_lt rfl) rfl ?_
  refine cx_sub (lv' := [(0, .ref (adr 500)), (1, .int x1), (2, .int x2), (3, .int x5), (4, .int x6), (5, .int x5)]) [2, 3, 4, 1, 0, 5] rfl ?_
  exact cCc_toGain_127_v H hr_43 M x1 x2 x5 x6 x5 _ h
noncomputable def cCc_toGain_43b (N : cx_N) (r_43 : cx_M → Int32 → Int32 → Int32 → Int32 → Int32 → Option cx_R) (M : cx_M) (x1 : Int32) (x2 : Int32) (x3 : Int32) (x4 : Int32) (x5 : Int32) : Option cx_R :=
  if 100 ≤ x5 then (
    cx_put M 1100 45 0 fun M1 =>
    if x2 = 0 then (
      some (M1, x3, 0))
    else (
      some (M1, x4, 0)))
  else (
    if (cx_rem x5 10) ≤ 3 then (
      cx_cal (cCc_tries N M 0) fun M2 _ =>
      cx_put M2 1100 31 (x5 / 10) fun M3 =>
      cx_put M3 1100 32 (cx_rem x5 10) fun M4 =>
      cx_cal (cCc_mostOff N M4 x1) fun M5 v6 =>
      if v6 = (-1) then (
        cCc_toGain_127 N r_43 M5 x1 x2 x3 x4 x5)
      else (
        if x4 = (-1) then (
          cCc_toGain_120 N r_43 M5 x1 x2 x5 v6)
        else (
          if v6 < x4 then (
            cCc_toGain_120 N r_43 M5 x1 x2 x5 v6)
          else (
            cCc_toGain_127 N r_43 M5 x1 x2 x3 x4 x5))))
    else (
      cCc_toGain_127 N r_43 M x1 x2 x3 x4 x5))
set_option maxRecDepth 100000 in
theorem cCc_toGain_43b_v {l : Launch} {g : cx_G} {adr : Nat → Nat} {X : cx_X} {N : cx_N} {r_43 : cx_M → Int32 → Int32 → Int32 → Int32 → Int32 → Option cx_R} (H : cCp_H g adr N) (hr_43 : ∀ (M : cx_M) (x1 : Int32) (x2 : Int32) (x3 : Int32) (x4 : Int32) (x5 : Int32) (rs : cx_R), r_43 M x1 x2 x3 x4 x5 = some rs → cx_V l (g) X sX1_toGain cX1_toGain 43 [(0, .ref (adr 500)), (1, .int x1), (2, .int x2), (3, .int x3), (4, .int x4), (5, .int x5)] [] M 0 0 rs) (M : cx_M) (x1 : Int32) (x2 : Int32) (x3 : Int32) (x4 : Int32) (x5 : Int32) (rs : cx_R) (h : cCc_toGain_43b N r_43 M x1 x2 x3 x4 x5 = some rs) : cx_V l (g) X sX1_toGain cX1_toGain 43 [(0, .ref (adr 500)), (1, .int x1), (2, .int x2), (3, .int x3), (4, .int x4), (5, .int x5)] [] M 0 0 rs := by
  unfold cCc_toGain_43b at h
  refine cx_iload 5 dX1_toGain_43 rfl ?_
  refine cx_bipush 100 dX1_toGain_45 cx_bp_100 ?_
  refine cx_icmp_ge 133 h dX1_toGain_47 rfl (fun h => ?_) (fun h => ?_)
  · refine cx_aload_n 0 dX1_toGain_133 rfl ?_
    refine cx_getR (cCc_R4 H) q1021 dX1_toGain_134 ?_
    refine cx_null dX1_toGain_137 ?_
    refine cx_putON h (cSt_O45 (cSt_i1100 H)) cx_on0 rfl q730 dX1_toGain_138 (fun M1 h => ?_)
    refine cx_iload_n 2 dX1_toGain_141 rfl ?_
    refine cx_if_ne 149 h dX1_toGain_142 rfl (fun h => ?_) (fun h => ?_)
    · refine cx_iload 4 dX1_toGain_149 rfl ?_
      exact cx_iret h rfl rfl (cx_le rfl) (cx_le rfl) dX1_toGain_151
    · refine cx_iload_n 3 dX1_toGain_145 rfl ?_
      refine cx_goto 151 dX1_toGain_146 rfl ?_
      exact cx_iret h rfl rfl (cx_le rfl) (cx_le rfl) dX1_toGain_151
  · refine cx_iload 5 dX1_toGain_50 rfl ?_
    refine cx_bipush 10 dX1_toGain_52 cx_bp_10 ?_
    refine cx_iremC cx_ne_10 dX1_toGain_54 ?_
    refine cx_iconst 3 dX1_toGain_55 cx_ic_3 ?_
    refine cx_icmp_le 62 h dX1_toGain_56 rfl (fun h => ?_) (fun h => ?_)
    · refine cx_aload_n 0 dX1_toGain_62 rfl ?_
      refine cx_iconst 0 dX1_toGain_63 cx_ic_0 ?_
      refine cx_cVv [.int 0] [] h (fun rs' h' => cCc_tries_m H M 0 rs' h') (cCc_rc H) dX1_toGain_64 g_X1_411 hg_X1_411 ⟨cx_le rfl, cx_le rfl⟩ rfl ⟨rfl, rfl⟩ ⟨cx_le rfl, cx_le rfl⟩ rfl (cx_le rfl) (fun M2 _ h => ?_)
      refine cx_aload_n 0 dX1_toGain_67 rfl ?_
      refine cx_getR (cCc_R4 H) q1021 dX1_toGain_68 ?_
      refine cx_iload 5 dX1_toGain_71 rfl ?_
      refine cx_bipush 10 dX1_toGain_73 cx_bp_10 ?_
      refine cx_idivC cx_ne_10 dX1_toGain_75 ?_
      refine cx_putIN h (cSt_F31 (cSt_i1100 H)) rfl rfl rfl q705 dX1_toGain_76 (fun M3 h => ?_)
      refine cx_aload_n 0 dX1_toGain_79 rfl ?_
      refine cx_getR (cCc_R4 H) q1021 dX1_toGain_80 ?_
      refine cx_iload 5 dX1_toGain_83 rfl ?_
      refine cx_bipush 10 dX1_toGain_85 cx_bp_10 ?_
      refine cx_iremC cx_ne_10 dX1_toGain_87 ?_
      refine cx_putIN h (cSt_F32 (cSt_i1100 H)) rfl rfl rfl q707 dX1_toGain_88 (fun M4 h => ?_)
      refine cx_aload_n 0 dX1_toGain_91 rfl ?_
      refine cx_iload_n 1 dX1_toGain_92 rfl ?_
      refine cx_cVi [.int x1] [] h (fun rs' h' => cCc_mostOff_m H M4 x1 rs' h') (cCc_rc H) dX1_toGain_93 g_X1_454 hg_X1_454 ⟨cx_le rfl, cx_le rfl⟩ rfl ⟨rfl, rfl⟩ ⟨cx_le rfl, cx_le rfl⟩ rfl (cx_le rfl) (fun M5 v6 h => ?_)
      refine cx_istore [(6, .int v6), (0, .ref (adr 500)), (1, .int x1), (2, .int x2), (3, .int x3), (4, .int x4), (5, .int x5)] dX1_toGain_96 (cx_lt rfl) rfl ?_
      refine cx_iload 0 dX1_toGain_98 rfl ?_
      refine cx_iconst (-1) dX1_toGain_100 cx_ic_m1 ?_
      refine cx_icmp_eq 127 h dX1_toGain_101 rfl (fun h => ?_) (fun h => ?_)
      · refine cx_sub (lv' := [(0, .ref (adr 500)), (1, .int x1), (2, .int x2), (3, .int x3), (4, .int x4), (5, .int x5)]) [1, 2, 3, 4, 5, 6] rfl ?_
        exact cCc_toGain_127_v H hr_43 M5 x1 x2 x3 x4 x5 _ h
      · refine cx_iload 5 dX1_toGain_104 rfl ?_
        refine cx_iconst (-1) dX1_toGain_106 cx_ic_m1 ?_
        refine cx_icmp_eq 120 h dX1_toGain_107 rfl (fun h => ?_) (fun h => ?_)
        · refine cx_sub (lv' := [(0, .ref (adr 500)), (1, .int x1), (2, .int x2), (5, .int x5), (6, .int v6)]) [1, 2, 3, 6, 0] rfl ?_
          exact cCc_toGain_120_v H hr_43 M5 x1 x2 x5 v6 _ h
        · refine cx_iload 0 dX1_toGain_110 rfl ?_
          refine cx_iload 5 dX1_toGain_112 rfl ?_
          refine cx_icmp_lt 120 h dX1_toGain_114 rfl (fun h => ?_) (fun h => ?_)
          · refine cx_sub (lv' := [(0, .ref (adr 500)), (1, .int x1), (2, .int x2), (5, .int x5), (6, .int v6)]) [1, 2, 3, 6, 0] rfl ?_
            exact cCc_toGain_120_v H hr_43 M5 x1 x2 x5 v6 _ h
          · refine cx_goto 127 dX1_toGain_117 rfl ?_
            refine cx_sub (lv' := [(0, .ref (adr 500)), (1, .int x1), (2, .int x2), (3, .int x3), (4, .int x4), (5, .int x5)]) [1, 2, 3, 4, 5, 6] rfl ?_
            exact cCc_toGain_127_v H hr_43 M5 x1 x2 x3 x4 x5 _ h
    · refine cx_goto 127 dX1_toGain_59 rfl ?_
      exact cCc_toGain_127_v H hr_43 M x1 x2 x3 x4 x5 _ h
noncomputable def cCc_toGain_43 (N : cx_N) : Nat → cx_M → Int32 → Int32 → Int32 → Int32 → Int32 → Option cx_R :=
  cx_fix (fun _ _ _ _ _ _ => none) (fun r_43 => cCc_toGain_43b N r_43)
theorem cCc_toGain_43_v {l : Launch} {g : cx_G} {adr : Nat → Nat} {X : cx_X} {N : cx_N} (H : cCp_H g adr N) : ∀ (n : Nat) (M : cx_M) (x1 : Int32) (x2 : Int32) (x3 : Int32) (x4 : Int32) (x5 : Int32) (rs : cx_R), cCc_toGain_43 N n M x1 x2 x3 x4 x5 = some rs → cx_V l (g) X sX1_toGain cX1_toGain 43 [(0, .ref (adr 500)), (1, .int x1), (2, .int x2), (3, .int x3), (4, .int x4), (5, .int x5)] [] M 0 0 rs :=
  cx_fixI (fun (r : cx_M → Int32 → Int32 → Int32 → Int32 → Int32 → Option cx_R) => ∀ (M : cx_M) (x1 : Int32) (x2 : Int32) (x3 : Int32) (x4 : Int32) (x5 : Int32) (rs : cx_R), r M x1 x2 x3 x4 x5 = some rs → cx_V l (g) X sX1_toGain cX1_toGain 43 [(0, .ref (adr 500)), (1, .int x1), (2, .int x2), (3, .int x3), (4, .int x4), (5, .int x5)] [] M 0 0 rs) (fun _ _ _ _ _ _ _ h => by cases h) (fun r hr M x1 x2 x3 x4 x5 rs h => cCc_toGain_43b_v H hr M x1 x2 x3 x4 x5 rs h)
noncomputable def cCc_toGain_0 (N : cx_N) (M : cx_M) (x1 : Int32) (x2 : Int32) : Option cx_R :=
  cx_cal (cCc_within N M x2 0 1) fun M1 v2 =>
  cx_cal (cCc_there N M1 v2) fun M3 _ =>
  cx_cal (cCc_soon N M3 x1 1) fun M4 _ =>
  cx_get M4 1000 2 fun v5 =>
  cx_cal (cCo_begins N M4 v5) fun M6 v7 =>
  cx_put M6 1100 45 1 fun M8 =>
  cCc_toGain_43 N N.1 M8 x1 x2 (-1) (-1) 0
set_option maxRecDepth 100000 in
theorem cCc_toGain_0_v {l : Launch} {g : cx_G} {adr : Nat → Nat} {X : cx_X} {N : cx_N} (H : cCp_H g adr N) (M : cx_M) (x1 : Int32) (x2 : Int32) (rs : cx_R) (h : cCc_toGain_0 N M x1 x2 = some rs) : cx_V l (g) X sX1_toGain cX1_toGain 0 [(0, .ref (adr 500)), (1, .int x1), (2, .int x2)] [] M 0 0 rs := by
  unfold cCc_toGain_0 at h
  refine cx_iload_n 2 dX1_toGain_0 rfl ?_
  refine cx_iconst 0 dX1_toGain_1 cx_ic_0 ?_
  refine cx_iconst 1 dX1_toGain_2 cx_ic_1 ?_
  refine cx_cSi [.int x2, .int 0, .int 1] [] h (fun rs' h' => cCc_within_m H M x2 0 1 rs' h') dX1_toGain_3 g_X1_180 hg_X1_180 ⟨cx_le rfl, cx_le rfl⟩ rfl ⟨rfl, rfl⟩ ⟨cx_le rfl, cx_le rfl⟩ rfl (cx_le rfl) (fun M1 v2 h => ?_)
  refine cx_cSv [.int v2] [] h (fun rs' h' => cCc_there_m H M1 v2 rs' h') dX1_toGain_6 g_X1_184 hg_X1_184 ⟨cx_le rfl, cx_le rfl⟩ rfl ⟨rfl, rfl⟩ ⟨cx_le rfl, cx_le rfl⟩ rfl (cx_le rfl) (fun M3 _ h => ?_)
  refine cx_iload_n 1 dX1_toGain_9 rfl ?_
  refine cx_iconst 1 dX1_toGain_10 cx_ic_1 ?_
  refine cx_cSv [.int x1, .int 1] [] h (fun rs' h' => cCc_soon_m H M3 x1 1 rs' h') dX1_toGain_11 g_X1_407 hg_X1_407 ⟨cx_le rfl, cx_le rfl⟩ rfl ⟨rfl, rfl⟩ ⟨cx_le rfl, cx_le rfl⟩ rfl (cx_le rfl) (fun M4 _ h => ?_)
  refine cx_iconst (-1) dX1_toGain_14 cx_ic_m1 ?_
  refine cx_istore_n [(3, .int (-1)), (0, .ref (adr 500)), (1, .int x1), (2, .int x2)] dX1_toGain_15 (cx_lt rfl) rfl ?_
  refine cx_iconst (-1) dX1_toGain_16 cx_ic_m1 ?_
  refine cx_istore [(4, .int (-1)), (3, .int (-1)), (0, .ref (adr 500)), (1, .int x1), (2, .int x2)] dX1_toGain_17 (cx_lt rfl) rfl ?_
  refine cx_aload_n 2 dX1_toGain_19 rfl ?_
  refine cx_getR (cCc_R4 H) q1021 dX1_toGain_20 ?_
  refine cx_aload_n 2 dX1_toGain_23 rfl ?_
  refine cx_getR (cCc_R13 H) q1030 dX1_toGain_24 ?_
  refine cx_aload_n 2 dX1_toGain_27 rfl ?_
  refine cx_getR (cCc_R3 H) q1020 dX1_toGain_28 ?_
  refine cx_getIN h (cSt_F2 (cSt_i1000 H)) q653 dX1_toGain_31 (fun v5 h => ?_)
  refine cx_cVr [.int v5] [.ref (adr 1100)] h (fun rs' h' => cCo_begins_m H M4 v5 rs' h') (cCo_rc H) dX1_toGain_34 g_X1_450 hg_X1_450 ⟨cx_le rfl, cx_le rfl⟩ rfl ⟨rfl, rfl⟩ ⟨cx_le rfl, cx_le rfl⟩ rfl (cx_le rfl) (fun M6 v7 h => ?_)
  refine cx_putON h (cSt_O45 (cSt_i1100 H)) cx_on1 rfl q730 dX1_toGain_37 (fun M8 h => ?_)
  refine cx_iconst 0 dX1_toGain_40 cx_ic_0 ?_
  refine cx_istore [(5, .int 0), (4, .int (-1)), (3, .int (-1)), (0, .ref (adr 500)), (1, .int x1), (2, .int x2)] dX1_toGain_41 (cx_lt rfl) rfl ?_
  refine cx_sub (lv' := [(0, .ref (adr 500)), (1, .int x1), (2, .int x2), (3, .int (-1)), (4, .int (-1)), (5, .int 0)]) [3, 4, 5, 2, 1, 0] rfl ?_
  exact cCc_toGain_43_v H N.1 M8 x1 x2 (-1) (-1) 0 _ h
noncomputable def cCc_toGain (N : cx_N) (M : cx_M) (x1 : Int32) (x2 : Int32) : Option cx_R := cCc_toGain_0 N M x1 x2
theorem cCc_toGain_m {l : Launch} {g : cx_G} {adr : Nat → Nat} {N : cx_N} (H : cCp_H g adr N) (M : cx_M) (x1 : Int32) (x2 : Int32) (rs : cx_R) (h : cCc_toGain N M x1 x2 = some rs) : cx_Met l (g) yX1_toGain cX1_toGain sX1_toGain [.ref (adr 500), .int x1, .int x2] M rs :=
  cx_met (by decide +kernel) rfl rfl (lv := [(0, .ref (adr 500)), (1, .int x1), (2, .int x2)]) rfl (cx_le rfl) (fun X => cx_sub (lv' := [(0, .ref (adr 500)), (1, .int x1), (2, .int x2)]) [0, 1, 2] rfl (cCc_toGain_0_v H M x1 x2 rs h))

abbrev sX1_turn : cx_S := (5, RX1, cx_rI, { frames := 32, cells := 0, slots := 0, locals := 941 }, some .int, false)
noncomputable def cCc_turn_100 (N : cx_N) (M : cx_M) (x1 : Int32) (x2 : Int32) (x3 : Int32) (z1 : Int32) : Option cx_R :=
  cx_cal (cCc_does N M z1) fun M1 v2 =>
  if v2 = 0 then (
    some (M1, 10000, 0))
  else (
    if x1 = 0 then (
      cx_put M1 1000 28 x2 fun M5 =>
      some (M5, x3, 0))
    else (
      if x1 = 1 then (
        cx_put M1 1000 29 x2 fun M4 =>
        some (M4, x3, 0))
      else (
        cx_put M1 1000 30 x2 fun M3 =>
        some (M3, x3, 0))))
set_option maxRecDepth 100000 in
theorem cCc_turn_100_v {l : Launch} {g : cx_G} {adr : Nat → Nat} {X : cx_X} {N : cx_N} (H : cCp_H g adr N) (M : cx_M) (x1 : Int32) (x2 : Int32) (x3 : Int32) (z1 : Int32) (rs : cx_R) (h : cCc_turn_100 N M x1 x2 x3 z1 = some rs) : cx_V l (g) X sX1_turn cX1_turn 100 [(0, .ref (adr 500)), (1, .int x1), (2, .int x2), (3, .int x3)] [.int z1, .ref (adr 500)] M 0 0 rs := by
  unfold cCc_turn_100 at h
  refine cx_cVi [.int z1] [] h (fun rs' h' => cCc_does_m H M z1 rs' h') (cCc_rc H) dX1_turn_100 g_X1_393 hg_X1_393 ⟨cx_le rfl, cx_le rfl⟩ rfl ⟨rfl, rfl⟩ ⟨cx_le rfl, cx_le rfl⟩ rfl (cx_le rfl) (fun M1 v2 h => ?_)
  refine cx_if_ne 110 h dX1_turn_103 rfl (fun h => ?_) (fun h => ?_)
  · refine cx_iload_n 1 dX1_turn_110 rfl ?_
    refine cx_if_ne 125 h dX1_turn_111 rfl (fun h => ?_) (fun h => ?_)
    · refine cx_iload_n 1 dX1_turn_125 rfl ?_
      refine cx_iconst 1 dX1_turn_126 cx_ic_1 ?_
      refine cx_icmp_ne 141 h dX1_turn_127 rfl (fun h => ?_) (fun h => ?_)
      · refine cx_aload_n 0 dX1_turn_141 rfl ?_
        refine cx_getR (cCc_R3 H) q1020 dX1_turn_142 ?_
        refine cx_iload_n 2 dX1_turn_145 rfl ?_
        refine cx_putIN h (cSt_F30 (cSt_i1000 H)) rfl rfl rfl q703 dX1_turn_146 (fun M3 h => ?_)
        refine cx_iload_n 3 dX1_turn_149 rfl ?_
        exact cx_iret h rfl rfl (cx_le rfl) (cx_le rfl) dX1_turn_150
      · refine cx_aload_n 0 dX1_turn_130 rfl ?_
        refine cx_getR (cCc_R3 H) q1020 dX1_turn_131 ?_
        refine cx_iload_n 2 dX1_turn_134 rfl ?_
        refine cx_putIN h (cSt_F29 (cSt_i1000 H)) rfl rfl rfl q701 dX1_turn_135 (fun M4 h => ?_)
        refine cx_goto 149 dX1_turn_138 rfl ?_
        refine cx_iload_n 3 dX1_turn_149 rfl ?_
        exact cx_iret h rfl rfl (cx_le rfl) (cx_le rfl) dX1_turn_150
    · refine cx_aload_n 0 dX1_turn_114 rfl ?_
      refine cx_getR (cCc_R3 H) q1020 dX1_turn_115 ?_
      refine cx_iload_n 2 dX1_turn_118 rfl ?_
      refine cx_putIN h (cSt_F28 (cSt_i1000 H)) rfl rfl rfl q699 dX1_turn_119 (fun M5 h => ?_)
      refine cx_goto 149 dX1_turn_122 rfl ?_
      refine cx_iload_n 3 dX1_turn_149 rfl ?_
      exact cx_iret h rfl rfl (cx_le rfl) (cx_le rfl) dX1_turn_150
  · refine cx_sipush 10000 dX1_turn_106 cx_sp_10000 ?_
    exact cx_iret h rfl rfl (cx_le rfl) (cx_le rfl) dX1_turn_109
noncomputable def cCc_turn_99 (N : cx_N) (M : cx_M) (x1 : Int32) (x2 : Int32) (x3 : Int32) : Option cx_R :=
  cCc_turn_100 N M x1 x2 x3 0
set_option maxRecDepth 100000 in
theorem cCc_turn_99_v {l : Launch} {g : cx_G} {adr : Nat → Nat} {X : cx_X} {N : cx_N} (H : cCp_H g adr N) (M : cx_M) (x1 : Int32) (x2 : Int32) (x3 : Int32) (rs : cx_R) (h : cCc_turn_99 N M x1 x2 x3 = some rs) : cx_V l (g) X sX1_turn cX1_turn 99 [(0, .ref (adr 500)), (1, .int x1), (2, .int x2), (3, .int x3)] [.ref (adr 500)] M 0 0 rs := by
  unfold cCc_turn_99 at h
  refine cx_iconst 0 dX1_turn_99 cx_ic_0 ?_
  exact cCc_turn_100_v H M x1 x2 x3 0 _ h
noncomputable def cCc_turn_82 (N : cx_N) (M : cx_M) (x1 : Int32) (x2 : Int32) (x3 : Int32) (z0 : Int32) : Option cx_R :=
  if z0 = 0 then (
    cCc_turn_99 N M x1 x2 x3)
  else (
    if x3 = x2 then (
      cCc_turn_99 N M x1 x2 x3)
    else (
      cCc_turn_100 N M x1 x2 x3 1))
set_option maxRecDepth 100000 in
theorem cCc_turn_82_v {l : Launch} {g : cx_G} {adr : Nat → Nat} {X : cx_X} {N : cx_N} (H : cCp_H g adr N) (M : cx_M) (x1 : Int32) (x2 : Int32) (x3 : Int32) (z0 : Int32) (rs : cx_R) (h : cCc_turn_82 N M x1 x2 x3 z0 = some rs) : cx_V l (g) X sX1_turn cX1_turn 82 [(0, .ref (adr 500)), (1, .int x1), (2, .int x2), (3, .int x3)] [.int z0] M 0 0 rs := by
  unfold cCc_turn_82 at h
  refine cx_istore [(4, .int z0), (0, .ref (adr 500)), (1, .int x1), (2, .int x2), (3, .int x3)] dX1_turn_82 (cx_lt rfl) rfl ?_
  refine cx_aload_n 1 dX1_turn_84 rfl ?_
  refine cx_iload 0 dX1_turn_85 rfl ?_
  refine cx_if_eq 99 h dX1_turn_87 rfl (fun h => ?_) (fun h => ?_)
  · refine cx_sub (lv' := [(0, .ref (adr 500)), (1, .int x1), (2, .int x2), (3, .int x3)]) [1, 2, 3, 4] rfl ?_
    exact cCc_turn_99_v H M x1 x2 x3 _ h
  · refine cx_iload_n 4 dX1_turn_90 rfl ?_
    refine cx_iload_n 3 dX1_turn_91 rfl ?_
    refine cx_icmp_eq 99 h dX1_turn_92 rfl (fun h => ?_) (fun h => ?_)
    · refine cx_sub (lv' := [(0, .ref (adr 500)), (1, .int x1), (2, .int x2), (3, .int x3)]) [1, 2, 3, 4] rfl ?_
      exact cCc_turn_99_v H M x1 x2 x3 _ h
    · refine cx_iconst 1 dX1_turn_95 cx_ic_1 ?_
      refine cx_goto 100 dX1_turn_96 rfl ?_
      refine cx_sub (lv' := [(0, .ref (adr 500)), (1, .int x1), (2, .int x2), (3, .int x3)]) [1, 2, 3, 4] rfl ?_
      exact cCc_turn_100_v H M x1 x2 x3 1 _ h
noncomputable def cCc_turn_45 (N : cx_N) (M : cx_M) (x1 : Int32) (x2 : Int32) (z0 : Int32) : Option cx_R :=
  if x1 = 0 then (
    cx_cal (cCc_within N M x2 (-99) 99) fun M5 v6 =>
    cCc_turn_82 N M5 x1 x2 z0 v6)
  else (
    if x1 = 1 then (
      cx_cal (cCc_within N M x2 0 2) fun M3 v4 =>
      cCc_turn_82 N M3 x1 x2 z0 v4)
    else (
      cx_cal (cCc_within N M x2 1 64) fun M1 v2 =>
      cCc_turn_82 N M1 x1 x2 z0 v2))
set_option maxRecDepth 100000 in
theorem cCc_turn_45_v {l : Launch} {g : cx_G} {adr : Nat → Nat} {X : cx_X} {N : cx_N} (H : cCp_H g adr N) (M : cx_M) (x1 : Int32) (x2 : Int32) (z0 : Int32) (rs : cx_R) (h : cCc_turn_45 N M x1 x2 z0 = some rs) : cx_V l (g) X sX1_turn cX1_turn 45 [(0, .ref (adr 500)), (1, .int x1), (2, .int x2)] [.int z0] M 0 0 rs := by
  unfold cCc_turn_45 at h
  refine cx_istore_n [(3, .int z0), (0, .ref (adr 500)), (1, .int x1), (2, .int x2)] dX1_turn_45 (cx_lt rfl) rfl ?_
  refine cx_iload_n 2 dX1_turn_46 rfl ?_
  refine cx_if_ne 61 h dX1_turn_47 rfl (fun h => ?_) (fun h => ?_)
  · refine cx_iload_n 2 dX1_turn_61 rfl ?_
    refine cx_iconst 1 dX1_turn_62 cx_ic_1 ?_
    refine cx_icmp_ne 75 h dX1_turn_63 rfl (fun h => ?_) (fun h => ?_)
    · refine cx_iload_n 3 dX1_turn_75 rfl ?_
      refine cx_iconst 1 dX1_turn_76 cx_ic_1 ?_
      refine cx_bipush 64 dX1_turn_77 cx_bp_64 ?_
      refine cx_cSi [.int x2, .int 1, .int 64] [] h (fun rs' h' => cCc_within_m H M x2 1 64 rs' h') dX1_turn_79 g_X1_180 hg_X1_180 ⟨cx_le rfl, cx_le rfl⟩ rfl ⟨rfl, rfl⟩ ⟨cx_le rfl, cx_le rfl⟩ rfl (cx_le rfl) (fun M1 v2 h => ?_)
      refine cx_sub (lv' := [(0, .ref (adr 500)), (1, .int x1), (2, .int x2), (3, .int z0)]) [1, 2, 3, 0] rfl ?_
      exact cCc_turn_82_v H M1 x1 x2 z0 v2 _ h
    · refine cx_iload_n 3 dX1_turn_66 rfl ?_
      refine cx_iconst 0 dX1_turn_67 cx_ic_0 ?_
      refine cx_iconst 2 dX1_turn_68 cx_ic_2 ?_
      refine cx_cSi [.int x2, .int 0, .int 2] [] h (fun rs' h' => cCc_within_m H M x2 0 2 rs' h') dX1_turn_69 g_X1_180 hg_X1_180 ⟨cx_le rfl, cx_le rfl⟩ rfl ⟨rfl, rfl⟩ ⟨cx_le rfl, cx_le rfl⟩ rfl (cx_le rfl) (fun M3 v4 h => ?_)
      refine cx_goto 82 dX1_turn_72 rfl ?_
      refine cx_sub (lv' := [(0, .ref (adr 500)), (1, .int x1), (2, .int x2), (3, .int z0)]) [1, 2, 3, 0] rfl ?_
      exact cCc_turn_82_v H M3 x1 x2 z0 v4 _ h
  · refine cx_iload_n 3 dX1_turn_50 rfl ?_
    refine cx_bipush (-99) dX1_turn_51 cx_bp_m99 ?_
    refine cx_bipush 99 dX1_turn_53 cx_bp_99 ?_
    refine cx_cSi [.int x2, .int (-99), .int 99] [] h (fun rs' h' => cCc_within_m H M x2 (-99) 99 rs' h') dX1_turn_55 g_X1_180 hg_X1_180 ⟨cx_le rfl, cx_le rfl⟩ rfl ⟨rfl, rfl⟩ ⟨cx_le rfl, cx_le rfl⟩ rfl (cx_le rfl) (fun M5 v6 h => ?_)
    refine cx_goto 82 dX1_turn_58 rfl ?_
    refine cx_sub (lv' := [(0, .ref (adr 500)), (1, .int x1), (2, .int x2), (3, .int z0)]) [1, 2, 3, 0] rfl ?_
    exact cCc_turn_82_v H M5 x1 x2 z0 v6 _ h
noncomputable def cCc_turn_0 (N : cx_N) (M : cx_M) (x1 : Int32) (x2 : Int32) : Option cx_R :=
  cx_cal (cCc_within N M x1 0 2) fun M1 v2 =>
  cx_cal (cCc_there N M1 v2) fun M3 _ =>
  if x1 = 0 then (
    cx_get M3 1000 28 fun v6 =>
    cCc_turn_45 N M3 x1 x2 v6)
  else (
    if x1 = 1 then (
      cx_get M3 1000 29 fun v5 =>
      cCc_turn_45 N M3 x1 x2 v5)
    else (
      cx_get M3 1000 30 fun v4 =>
      cCc_turn_45 N M3 x1 x2 v4))
set_option maxRecDepth 100000 in
theorem cCc_turn_0_v {l : Launch} {g : cx_G} {adr : Nat → Nat} {X : cx_X} {N : cx_N} (H : cCp_H g adr N) (M : cx_M) (x1 : Int32) (x2 : Int32) (rs : cx_R) (h : cCc_turn_0 N M x1 x2 = some rs) : cx_V l (g) X sX1_turn cX1_turn 0 [(0, .ref (adr 500)), (1, .int x1), (2, .int x2)] [] M 0 0 rs := by
  unfold cCc_turn_0 at h
  refine cx_iload_n 1 dX1_turn_0 rfl ?_
  refine cx_iconst 0 dX1_turn_1 cx_ic_0 ?_
  refine cx_iconst 2 dX1_turn_2 cx_ic_2 ?_
  refine cx_cSi [.int x1, .int 0, .int 2] [] h (fun rs' h' => cCc_within_m H M x1 0 2 rs' h') dX1_turn_3 g_X1_180 hg_X1_180 ⟨cx_le rfl, cx_le rfl⟩ rfl ⟨rfl, rfl⟩ ⟨cx_le rfl, cx_le rfl⟩ rfl (cx_le rfl) (fun M1 v2 h => ?_)
  refine cx_cSv [.int v2] [] h (fun rs' h' => cCc_there_m H M1 v2 rs' h') dX1_turn_6 g_X1_184 hg_X1_184 ⟨cx_le rfl, cx_le rfl⟩ rfl ⟨rfl, rfl⟩ ⟨cx_le rfl, cx_le rfl⟩ rfl (cx_le rfl) (fun M3 _ h => ?_)
  refine cx_iload_n 1 dX1_turn_9 rfl ?_
  refine cx_if_ne 23 h dX1_turn_10 rfl (fun h => ?_) (fun h => ?_)
  · refine cx_iload_n 1 dX1_turn_23 rfl ?_
    refine cx_iconst 1 dX1_turn_24 cx_ic_1 ?_
    refine cx_icmp_ne 38 h dX1_turn_25 rfl (fun h => ?_) (fun h => ?_)
    · refine cx_aload_n 0 dX1_turn_38 rfl ?_
      refine cx_getR (cCc_R3 H) q1020 dX1_turn_39 ?_
      refine cx_getIN h (cSt_F30 (cSt_i1000 H)) q703 dX1_turn_42 (fun v4 h => ?_)
      exact cCc_turn_45_v H M3 x1 x2 v4 _ h
    · refine cx_aload_n 0 dX1_turn_28 rfl ?_
      refine cx_getR (cCc_R3 H) q1020 dX1_turn_29 ?_
      refine cx_getIN h (cSt_F29 (cSt_i1000 H)) q701 dX1_turn_32 (fun v5 h => ?_)
      refine cx_goto 45 dX1_turn_35 rfl ?_
      exact cCc_turn_45_v H M3 x1 x2 v5 _ h
  · refine cx_aload_n 0 dX1_turn_13 rfl ?_
    refine cx_getR (cCc_R3 H) q1020 dX1_turn_14 ?_
    refine cx_getIN h (cSt_F28 (cSt_i1000 H)) q699 dX1_turn_17 (fun v6 h => ?_)
    refine cx_goto 45 dX1_turn_20 rfl ?_
    exact cCc_turn_45_v H M3 x1 x2 v6 _ h
noncomputable def cCc_turn (N : cx_N) (M : cx_M) (x1 : Int32) (x2 : Int32) : Option cx_R := cCc_turn_0 N M x1 x2
theorem cCc_turn_m {l : Launch} {g : cx_G} {adr : Nat → Nat} {N : cx_N} (H : cCp_H g adr N) (M : cx_M) (x1 : Int32) (x2 : Int32) (rs : cx_R) (h : cCc_turn N M x1 x2 = some rs) : cx_Met l (g) yX1_turn cX1_turn sX1_turn [.ref (adr 500), .int x1, .int x2] M rs :=
  cx_met (by decide +kernel) rfl rfl (lv := [(0, .ref (adr 500)), (1, .int x1), (2, .int x2)]) rfl (cx_le rfl) (fun X => cx_sub (lv' := [(0, .ref (adr 500)), (1, .int x1), (2, .int x2)]) [0, 1, 2] rfl (cCc_turn_0_v H M x1 x2 rs h))

abbrev sX1_undo : cx_S := (1, RX1, cx_rI, { frames := 30, cells := 0, slots := 0, locals := 900 }, some .int, false)
noncomputable def cCc_undo_0 (N : cx_N) (M : cx_M) : Option cx_R :=
  cx_get M 600 5 fun v1 =>
  if v1 = 0 then (
    some (M, (-1), 0))
  else (
    cx_get M 600 5 fun v2 =>
    cx_put M 600 5 (v2 - 1) fun M3 =>
    cx_get M3 600 5 fun v4 =>
    cx_ahd (M3 602) v4 fun j5 =>
    cx_cal (cSt_like N 1000 j5 M3) fun M6 _ =>
    cx_get M6 600 5 fun v7 =>
    some (M6, v7, 0))
set_option maxRecDepth 100000 in
theorem cCc_undo_0_v {l : Launch} {g : cx_G} {adr : Nat → Nat} {X : cx_X} {N : cx_N} (H : cCp_H g adr N) (M : cx_M) (rs : cx_R) (h : cCc_undo_0 N M = some rs) : cx_V l (g) X sX1_undo cX1_undo 0 [(0, .ref (adr 500))] [] M 0 0 rs := by
  unfold cCc_undo_0 at h
  refine cx_aload_n 0 dX1_undo_0 rfl ?_
  refine cx_getR (cCc_R1 H) q1018 dX1_undo_1 ?_
  refine cx_getIN h (cBk_F5 (cBk_i600 H)) q902 dX1_undo_4 (fun v1 h => ?_)
  refine cx_if_ne 12 h dX1_undo_7 rfl (fun h => ?_) (fun h => ?_)
  · refine cx_aload_n 0 dX1_undo_12 rfl ?_
    refine cx_getR (cCc_R1 H) q1018 dX1_undo_13 ?_
    refine cx_dup dX1_undo_16 rfl ?_
    refine cx_getIN h (cBk_F5 (cBk_i600 H)) q902 dX1_undo_17 (fun v2 h => ?_)
    refine cx_iconst 1 dX1_undo_20 cx_ic_1 ?_
    refine cx_isub dX1_undo_21 ?_
    refine cx_putIN h (cBk_F5 (cBk_i600 H)) rfl rfl rfl q902 dX1_undo_22 (fun M3 h => ?_)
    refine cx_aload_n 0 dX1_undo_25 rfl ?_
    refine cx_getR (cCc_R3 H) q1020 dX1_undo_26 ?_
    refine cx_aload_n 0 dX1_undo_29 rfl ?_
    refine cx_getR (cCc_R1 H) q1018 dX1_undo_30 ?_
    refine cx_getRN (cBk_R1 (cBk_i600 H)) q894 dX1_undo_33 ?_
    refine cx_aload_n 0 dX1_undo_36 rfl ?_
    refine cx_getR (cCc_R1 H) q1018 dX1_undo_37 ?_
    refine cx_getIN h (cBk_F5 (cBk_i600 H)) q902 dX1_undo_40 (fun v4 h => ?_)
    refine cLs_ahead H (cBk_i600 H) h dX1_undo_43 q1164 (cx_le rfl) (cx_le rfl) (cx_le rfl) (cx_le rfl) (cx_le rfl) (fun j5 hj5 h => ?_)
    refine cx_castR (cSt_rc hj5) q920 dX1_undo_46 ?_
    refine cx_cVv [.ref (adr j5)] [] h (fun rs' h' => cSt_like_m H (cSt_i1000 H) hj5 M3 rs' h') (cSt_rc (cSt_i1000 H)) dX1_undo_49 g_X1_403 hg_X1_403 ⟨cx_le rfl, cx_le rfl⟩ rfl ⟨rfl, rfl⟩ ⟨cx_le rfl, cx_le rfl⟩ rfl (cx_le rfl) (fun M6 _ h => ?_)
    refine cx_aload_n 0 dX1_undo_52 rfl ?_
    refine cx_getR (cCc_R1 H) q1018 dX1_undo_53 ?_
    refine cx_getIN h (cBk_F5 (cBk_i600 H)) q902 dX1_undo_56 (fun v7 h => ?_)
    exact cx_iret h rfl rfl (cx_le rfl) (cx_le rfl) dX1_undo_59
  · refine cx_iconst (-1) dX1_undo_10 cx_ic_m1 ?_
    exact cx_iret h rfl rfl (cx_le rfl) (cx_le rfl) dX1_undo_11
noncomputable def cCc_undo (N : cx_N) (M : cx_M) : Option cx_R := cCc_undo_0 N M
theorem cCc_undo_m {l : Launch} {g : cx_G} {adr : Nat → Nat} {N : cx_N} (H : cCp_H g adr N) (M : cx_M) (rs : cx_R) (h : cCc_undo N M = some rs) : cx_Met l (g) yX1_undo cX1_undo sX1_undo [.ref (adr 500)] M rs :=
  cx_met (by decide +kernel) rfl rfl (lv := [(0, .ref (adr 500))]) rfl (cx_le rfl) (fun X => cx_sub (lv' := [(0, .ref (adr 500))]) [0] rfl (cCc_undo_0_v H M rs h))

abbrev sX1_waits : cx_S := (5, RX1, cx_rI, { frames := 906, cells := 0, slots := 0, locals := 30133 }, some .int, false)
noncomputable def cCc_waits_7b (N : cx_N) (kL : Nat) (kW : Nat) (r_7 : cx_M → Int32 → Option cx_R) (M : cx_M) (x3 : Int32) : Option cx_R :=
  if 400 < x3 then (
    some (M, (-1), 0))
  else (
    cx_cal (cLk_at N kL 1100 M) fun M1 v2 =>
    cx_cal (cCc_goes N 1100 M1 1) fun M3 _ =>
    cx_cal (cWt_is N kW 1100 M3 v2) fun M4 v5 =>
    if v5 = 0 then (
      cx_let (x3 + 1) fun v6 =>
      r_7 M4 v6)
    else (
      some (M4, x3, 0)))
set_option maxRecDepth 100000 in
theorem cCc_waits_7b_v {l : Launch} {g : cx_G} {adr : Nat → Nat} {X : cx_X} {N : cx_N} {kL : Nat} {kW : Nat} {r_7 : cx_M → Int32 → Option cx_R} (H : cCp_H g adr N) (hkL : kL < 20) (hkW : kW < 8) (hr_7 : ∀ (M : cx_M) (x3 : Int32) (rs : cx_R), r_7 M x3 = some rs → cx_V l (g) X sX1_waits cX1_waits 7 [(0, .ref (adr 500)), (1, .ref (adr (9110 + kL))), (2, .ref (adr (9130 + kW))), (3, .int x3)] [] M 0 0 rs) (M : cx_M) (x3 : Int32) (rs : cx_R) (h : cCc_waits_7b N kL kW r_7 M x3 = some rs) : cx_V l (g) X sX1_waits cX1_waits 7 [(0, .ref (adr 500)), (1, .ref (adr (9110 + kL))), (2, .ref (adr (9130 + kW))), (3, .int x3)] [] M 0 0 rs := by
  unfold cCc_waits_7b at h
  refine cx_iload_n 3 dX1_waits_7 rfl ?_
  refine cx_sipush 400 dX1_waits_8 cx_sp_400 ?_
  refine cx_icmp_gt 58 h dX1_waits_11 rfl (fun h => ?_) (fun h => ?_)
  · refine cx_iconst (-1) dX1_waits_58 cx_ic_m1 ?_
    exact cx_iret h rfl rfl (cx_le rfl) (cx_le rfl) dX1_waits_59
  · refine cx_aload_n 1 dX1_waits_14 rfl ?_
    refine cx_aload_n 0 dX1_waits_15 rfl ?_
    refine cx_getR (cCc_R4 H) q1021 dX1_waits_16 ?_
    refine cLs_at H hkL (cSt_i1100 H) h dX1_waits_19 q2262 q2261 (cx_le rfl) (cx_le rfl) (cx_le rfl) (cx_le rfl) (cx_le rfl) (fun M1 v2 h => ?_)
    refine cx_istore [(4, .int v2), (0, .ref (adr 500)), (1, .ref (adr (9110 + kL))), (2, .ref (adr (9130 + kW))), (3, .int x3)] dX1_waits_24 (cx_lt rfl) rfl ?_
    refine cx_aload_n 1 dX1_waits_26 rfl ?_
    refine cx_aload_n 1 dX1_waits_27 rfl ?_
    refine cx_getR (cCc_R4 H) q1021 dX1_waits_28 ?_
    refine cx_iconst 1 dX1_waits_31 cx_ic_1 ?_
    refine cx_cVv [.ref (adr 1100), .int 1] [] h (fun rs' h' => cCc_goes_m H (cSt_i1100 H) M1 1 rs' h') (cCc_rc H) dX1_waits_32 g_X1_397 hg_X1_397 ⟨cx_le rfl, cx_le rfl⟩ rfl ⟨rfl, rfl⟩ ⟨cx_le rfl, cx_le rfl⟩ rfl (cx_le rfl) (fun M3 _ h => ?_)
    refine cx_aload_n 3 dX1_waits_35 rfl ?_
    refine cx_aload_n 1 dX1_waits_36 rfl ?_
    refine cx_getR (cCc_R4 H) q1021 dX1_waits_37 ?_
    refine cx_iload 0 dX1_waits_40 rfl ?_
    refine cLs_is H hkW (cSt_i1100 H) h dX1_waits_42 q2281 q2280 (cx_le rfl) (cx_le rfl) (cx_le rfl) (cx_le rfl) (cx_le rfl) (fun M4 v5 h => ?_)
    refine cx_if_eq 52 h dX1_waits_47 rfl (fun h => ?_) (fun h => ?_)
    · refine cx_iinc 4 1 (fun v6 => [(3, .int v6), (4, .int v2), (0, .ref (adr 500)), (1, .ref (adr (9110 + kL))), (2, .ref (adr (9130 + kW)))]) h dX1_waits_52 rfl cx_ic_1 (cx_lt rfl) (fun _ => rfl) (fun v6 h => ?_)
      refine cx_goto 7 dX1_waits_55 rfl ?_
      refine cx_sub (lv' := [(0, .ref (adr 500)), (1, .ref (adr (9110 + kL))), (2, .ref (adr (9130 + kW))), (3, .int v6)]) [2, 3, 4, 0] rfl ?_
      exact hr_7 M4 v6 _ h
    · refine cx_iload_n 4 dX1_waits_50 rfl ?_
      exact cx_iret h rfl rfl (cx_le rfl) (cx_le rfl) dX1_waits_51
noncomputable def cCc_waits_7 (N : cx_N) (kL : Nat) (kW : Nat) : Nat → cx_M → Int32 → Option cx_R :=
  cx_fix (fun _ _ => none) (fun r_7 => cCc_waits_7b N kL kW r_7)
theorem cCc_waits_7_v {l : Launch} {g : cx_G} {adr : Nat → Nat} {X : cx_X} {N : cx_N} {kL : Nat} {kW : Nat} (H : cCp_H g adr N) (hkL : kL < 20) (hkW : kW < 8) : ∀ (n : Nat) (M : cx_M) (x3 : Int32) (rs : cx_R), cCc_waits_7 N kL kW n M x3 = some rs → cx_V l (g) X sX1_waits cX1_waits 7 [(0, .ref (adr 500)), (1, .ref (adr (9110 + kL))), (2, .ref (adr (9130 + kW))), (3, .int x3)] [] M 0 0 rs :=
  cx_fixI (fun (r : cx_M → Int32 → Option cx_R) => ∀ (M : cx_M) (x3 : Int32) (rs : cx_R), r M x3 = some rs → cx_V l (g) X sX1_waits cX1_waits 7 [(0, .ref (adr 500)), (1, .ref (adr (9110 + kL))), (2, .ref (adr (9130 + kW))), (3, .int x3)] [] M 0 0 rs) (fun _ _ _ h => by cases h) (fun r hr M x3 rs h => cCc_waits_7b_v H hkL hkW hr M x3 rs h)
noncomputable def cCc_waits_0 (N : cx_N) (kL : Nat) (kW : Nat) (M : cx_M) : Option cx_R :=
  cx_cal (cCc_tries N M 0) fun M1 _ =>
  cCc_waits_7 N kL kW N.1 M1 1
set_option maxRecDepth 100000 in
theorem cCc_waits_0_v {l : Launch} {g : cx_G} {adr : Nat → Nat} {X : cx_X} {N : cx_N} {kL : Nat} {kW : Nat} (H : cCp_H g adr N) (hkL : kL < 20) (hkW : kW < 8) (M : cx_M) (rs : cx_R) (h : cCc_waits_0 N kL kW M = some rs) : cx_V l (g) X sX1_waits cX1_waits 0 [(0, .ref (adr 500)), (1, .ref (adr (9110 + kL))), (2, .ref (adr (9130 + kW)))] [] M 0 0 rs := by
  unfold cCc_waits_0 at h
  refine cx_aload_n 0 dX1_waits_0 rfl ?_
  refine cx_iconst 0 dX1_waits_1 cx_ic_0 ?_
  refine cx_cVv [.int 0] [] h (fun rs' h' => cCc_tries_m H M 0 rs' h') (cCc_rc H) dX1_waits_2 g_X1_411 hg_X1_411 ⟨cx_le rfl, cx_le rfl⟩ rfl ⟨rfl, rfl⟩ ⟨cx_le rfl, cx_le rfl⟩ rfl (cx_le rfl) (fun M1 _ h => ?_)
  refine cx_iconst 1 dX1_waits_5 cx_ic_1 ?_
  refine cx_istore_n [(3, .int 1), (0, .ref (adr 500)), (1, .ref (adr (9110 + kL))), (2, .ref (adr (9130 + kW)))] dX1_waits_6 (cx_lt rfl) rfl ?_
  refine cx_sub (lv' := [(0, .ref (adr 500)), (1, .ref (adr (9110 + kL))), (2, .ref (adr (9130 + kW))), (3, .int 1)]) [1, 2, 3, 0] rfl ?_
  exact cCc_waits_7_v H hkL hkW N.1 M1 1 _ h
noncomputable def cCc_waits (N : cx_N) (kL : Nat) (kW : Nat) (M : cx_M) : Option cx_R := cCc_waits_0 N kL kW M
theorem cCc_waits_m {l : Launch} {g : cx_G} {adr : Nat → Nat} {N : cx_N} {kL : Nat} {kW : Nat} (H : cCp_H g adr N) (hkL : kL < 20) (hkW : kW < 8) (M : cx_M) (rs : cx_R) (h : cCc_waits N kL kW M = some rs) : cx_Met l (g) yX1_waits cX1_waits sX1_waits [.ref (adr 500), .ref (adr (9110 + kL)), .ref (adr (9130 + kW))] M rs :=
  cx_met (by decide +kernel) rfl rfl (lv := [(0, .ref (adr 500)), (1, .ref (adr (9110 + kL))), (2, .ref (adr (9130 + kW)))]) rfl (cx_le rfl) (fun X => cx_sub (lv' := [(0, .ref (adr 500)), (1, .ref (adr (9110 + kL))), (2, .ref (adr (9130 + kW)))]) [0, 1, 2] rfl (cCc_waits_0_v H hkL hkW M rs h))

abbrev sX1_years : cx_S := (6, RX1, cx_rI, { frames := 906, cells := 0, slots := 0, locals := 30133 }, some .int, false)
noncomputable def cCc_years_35b (N : cx_N) (r_35 : cx_M → Int32 → Int32 → Int32 → Int32 → Option cx_R) (M : cx_M) (x2 : Int32) (x3 : Int32) (x4 : Int32) (x5 : Int32) : Option cx_R :=
  if x2 ≤ x5 then (
    if x3 = 0 then (
      cx_get M 1100 7 fun v3 =>
      cx_get M 1000 7 fun v4 =>
      some (M, v3 - v4, 0))
    else (
      if x3 = 1 then (
        cx_get M 1100 22 fun v1 =>
        cx_get M 1000 22 fun v2 =>
        some (M, v1 - v2, 0))
      else (
        some (M, x4, 0))))
  else (
    cx_cal (cCc_happens N M) fun M5 _ =>
    cx_cal (cCc_goes N 1100 M5 10) fun M6 _ =>
    cx_cal (cSt_level N 1100 M6) fun M7 v8 =>
    cx_let (cx_max x4 v8) fun v9 =>
    cx_let (x5 + 1) fun v10 =>
    r_35 M7 x2 x3 v9 v10)
set_option maxRecDepth 100000 in
theorem cCc_years_35b_v {l : Launch} {g : cx_G} {adr : Nat → Nat} {X : cx_X} {N : cx_N} {r_35 : cx_M → Int32 → Int32 → Int32 → Int32 → Option cx_R} (H : cCp_H g adr N) (hr_35 : ∀ (M : cx_M) (x2 : Int32) (x3 : Int32) (x4 : Int32) (x5 : Int32) (rs : cx_R), r_35 M x2 x3 x4 x5 = some rs → cx_V l (g) X sX1_years cX1_years 35 [(0, .ref (adr 500)), (2, .int x2), (3, .int x3), (4, .int x4), (5, .int x5)] [] M 0 0 rs) (M : cx_M) (x2 : Int32) (x3 : Int32) (x4 : Int32) (x5 : Int32) (rs : cx_R) (h : cCc_years_35b N r_35 M x2 x3 x4 x5 = some rs) : cx_V l (g) X sX1_years cX1_years 35 [(0, .ref (adr 500)), (2, .int x2), (3, .int x3), (4, .int x4), (5, .int x5)] [] M 0 0 rs := by
  unfold cCc_years_35b at h
  refine cx_iload 4 dX1_years_35 rfl ?_
  refine cx_iload_n 1 dX1_years_37 rfl ?_
  refine cx_icmp_ge 79 h dX1_years_38 rfl (fun h => ?_) (fun h => ?_)
  · refine cx_iload_n 2 dX1_years_79 rfl ?_
    refine cx_if_ne 101 h dX1_years_80 rfl (fun h => ?_) (fun h => ?_)
    · refine cx_iload_n 2 dX1_years_101 rfl ?_
      refine cx_iconst 1 dX1_years_102 cx_ic_1 ?_
      refine cx_icmp_ne 124 h dX1_years_103 rfl (fun h => ?_) (fun h => ?_)
      · refine cx_iload 3 dX1_years_124 rfl ?_
        exact cx_iret h rfl rfl (cx_le rfl) (cx_le rfl) dX1_years_126
      · refine cx_aload_n 0 dX1_years_106 rfl ?_
        refine cx_getR (cCc_R4 H) q1021 dX1_years_107 ?_
        refine cx_getIN h (cSt_F22 (cSt_i1100 H)) q688 dX1_years_110 (fun v1 h => ?_)
        refine cx_aload_n 0 dX1_years_113 rfl ?_
        refine cx_getR (cCc_R3 H) q1020 dX1_years_114 ?_
        refine cx_getIN h (cSt_F22 (cSt_i1000 H)) q688 dX1_years_117 (fun v2 h => ?_)
        refine cx_isub dX1_years_120 ?_
        refine cx_goto 126 dX1_years_121 rfl ?_
        exact cx_iret h rfl rfl (cx_le rfl) (cx_le rfl) dX1_years_126
    · refine cx_aload_n 0 dX1_years_83 rfl ?_
      refine cx_getR (cCc_R4 H) q1021 dX1_years_84 ?_
      refine cx_getIN h (cSt_F7 (cSt_i1100 H)) q663 dX1_years_87 (fun v3 h => ?_)
      refine cx_aload_n 0 dX1_years_90 rfl ?_
      refine cx_getR (cCc_R3 H) q1020 dX1_years_91 ?_
      refine cx_getIN h (cSt_F7 (cSt_i1000 H)) q663 dX1_years_94 (fun v4 h => ?_)
      refine cx_isub dX1_years_97 ?_
      refine cx_goto 126 dX1_years_98 rfl ?_
      exact cx_iret h rfl rfl (cx_le rfl) (cx_le rfl) dX1_years_126
  · refine cx_aload_n 0 dX1_years_41 rfl ?_
    refine cx_cVv [] [] h (fun rs' h' => cCc_happens_m H M rs' h') (cCc_rc H) dX1_years_42 g_X1_490 hg_X1_490 ⟨cx_le rfl, cx_le rfl⟩ rfl ⟨rfl, rfl⟩ ⟨cx_le rfl, cx_le rfl⟩ rfl (cx_le rfl) (fun M5 _ h => ?_)
    refine cx_aload_n 0 dX1_years_45 rfl ?_
    refine cx_aload_n 0 dX1_years_46 rfl ?_
    refine cx_getR (cCc_R4 H) q1021 dX1_years_47 ?_
    refine cx_bipush 10 dX1_years_50 cx_bp_10 ?_
    refine cx_cVv [.ref (adr 1100), .int 10] [] h (fun rs' h' => cCc_goes_m H (cSt_i1100 H) M5 10 rs' h') (cCc_rc H) dX1_years_52 g_X1_397 hg_X1_397 ⟨cx_le rfl, cx_le rfl⟩ rfl ⟨rfl, rfl⟩ ⟨cx_le rfl, cx_le rfl⟩ rfl (cx_le rfl) (fun M6 _ h => ?_)
    refine cx_iload 3 dX1_years_55 rfl ?_
    refine cx_aload_n 0 dX1_years_57 rfl ?_
    refine cx_getR (cCc_R4 H) q1021 dX1_years_58 ?_
    refine cx_aload_n 0 dX1_years_61 rfl ?_
    refine cx_getR (cCc_R0 H) q1017 dX1_years_62 ?_
    refine cx_cVi [.ref (adr 8000)] [.int x4] h (fun rs' h' => cSt_level_m H (cSt_i1100 H) M6 rs' h') (cSt_rc (cSt_i1100 H)) dX1_years_65 g_X1_214 hg_X1_214 ⟨cx_le rfl, cx_le rfl⟩ rfl ⟨rfl, rfl⟩ ⟨cx_le rfl, cx_le rfl⟩ rfl (cx_le rfl) (fun M7 v8 h => ?_)
    refine cx_mmax dX1_years_68 q1786 (cx_le rfl) (cx_le rfl) (cx_le rfl) (cx_le rfl) ?_
    refine cx_letI h (fun v9 h => ?_)
    refine cx_istore [(4, .int v9), (0, .ref (adr 500)), (2, .int x2), (3, .int x3), (5, .int x5)] dX1_years_71 (cx_lt rfl) rfl ?_
    refine cx_iinc 4 1 (fun v10 => [(5, .int v10), (4, .int v9), (0, .ref (adr 500)), (2, .int x2), (3, .int x3)]) h dX1_years_73 rfl cx_ic_1 (cx_lt rfl) (fun _ => rfl) (fun v10 h => ?_)
    refine cx_goto 35 dX1_years_76 rfl ?_
    refine cx_sub (lv' := [(0, .ref (adr 500)), (2, .int x2), (3, .int x3), (4, .int v9), (5, .int v10)]) [2, 3, 4, 1, 0] rfl ?_
    exact hr_35 M7 x2 x3 v9 v10 _ h
noncomputable def cCc_years_35 (N : cx_N) : Nat → cx_M → Int32 → Int32 → Int32 → Int32 → Option cx_R :=
  cx_fix (fun _ _ _ _ _ => none) (fun r_35 => cCc_years_35b N r_35)
theorem cCc_years_35_v {l : Launch} {g : cx_G} {adr : Nat → Nat} {X : cx_X} {N : cx_N} (H : cCp_H g adr N) : ∀ (n : Nat) (M : cx_M) (x2 : Int32) (x3 : Int32) (x4 : Int32) (x5 : Int32) (rs : cx_R), cCc_years_35 N n M x2 x3 x4 x5 = some rs → cx_V l (g) X sX1_years cX1_years 35 [(0, .ref (adr 500)), (2, .int x2), (3, .int x3), (4, .int x4), (5, .int x5)] [] M 0 0 rs :=
  cx_fixI (fun (r : cx_M → Int32 → Int32 → Int32 → Int32 → Option cx_R) => ∀ (M : cx_M) (x2 : Int32) (x3 : Int32) (x4 : Int32) (x5 : Int32) (rs : cx_R), r M x2 x3 x4 x5 = some rs → cx_V l (g) X sX1_years cX1_years 35 [(0, .ref (adr 500)), (2, .int x2), (3, .int x3), (4, .int x4), (5, .int x5)] [] M 0 0 rs) (fun _ _ _ _ _ _ h => by cases h) (fun r hr M x2 x3 x4 x5 rs h => cCc_years_35b_v H hr M x2 x3 x4 x5 rs h)
noncomputable def cCc_years_0 (N : cx_N) (M : cx_M) (x1 : Int32) (x2 : Int32) (x3 : Int32) : Option cx_R :=
  cx_cal (cCc_within N M x3 0 2) fun M1 v2 =>
  cx_cal (cCc_there N M1 v2) fun M3 _ =>
  cx_cal (cCc_within N M3 x2 0 60) fun M4 v5 =>
  cx_cal (cCc_right N M4 v5) fun M6 _ =>
  cx_cal (cCc_tries N M6 0) fun M7 _ =>
  cx_put M7 500 16 x1 fun M8 =>
  cCc_years_35 N N.1 M8 x2 x3 0 0
set_option maxRecDepth 100000 in
theorem cCc_years_0_v {l : Launch} {g : cx_G} {adr : Nat → Nat} {X : cx_X} {N : cx_N} (H : cCp_H g adr N) (M : cx_M) (x1 : Int32) (x2 : Int32) (x3 : Int32) (rs : cx_R) (h : cCc_years_0 N M x1 x2 x3 = some rs) : cx_V l (g) X sX1_years cX1_years 0 [(0, .ref (adr 500)), (1, .int x1), (2, .int x2), (3, .int x3)] [] M 0 0 rs := by
  unfold cCc_years_0 at h
  refine cx_iload_n 3 dX1_years_0 rfl ?_
  refine cx_iconst 0 dX1_years_1 cx_ic_0 ?_
  refine cx_iconst 2 dX1_years_2 cx_ic_2 ?_
  refine cx_cSi [.int x3, .int 0, .int 2] [] h (fun rs' h' => cCc_within_m H M x3 0 2 rs' h') dX1_years_3 g_X1_180 hg_X1_180 ⟨cx_le rfl, cx_le rfl⟩ rfl ⟨rfl, rfl⟩ ⟨cx_le rfl, cx_le rfl⟩ rfl (cx_le rfl) (fun M1 v2 h => ?_)
  refine cx_cSv [.int v2] [] h (fun rs' h' => cCc_there_m H M1 v2 rs' h') dX1_years_6 g_X1_184 hg_X1_184 ⟨cx_le rfl, cx_le rfl⟩ rfl ⟨rfl, rfl⟩ ⟨cx_le rfl, cx_le rfl⟩ rfl (cx_le rfl) (fun M3 _ h => ?_)
  refine cx_iload_n 2 dX1_years_9 rfl ?_
  refine cx_iconst 0 dX1_years_10 cx_ic_0 ?_
  refine cx_bipush 60 dX1_years_11 cx_bp_60 ?_
  refine cx_cSi [.int x2, .int 0, .int 60] [] h (fun rs' h' => cCc_within_m H M3 x2 0 60 rs' h') dX1_years_13 g_X1_180 hg_X1_180 ⟨cx_le rfl, cx_le rfl⟩ rfl ⟨rfl, rfl⟩ ⟨cx_le rfl, cx_le rfl⟩ rfl (cx_le rfl) (fun M4 v5 h => ?_)
  refine cx_cSv [.int v5] [] h (fun rs' h' => cCc_right_m H M4 v5 rs' h') dX1_years_16 g_X1_137 hg_X1_137 ⟨cx_le rfl, cx_le rfl⟩ rfl ⟨rfl, rfl⟩ ⟨cx_le rfl, cx_le rfl⟩ rfl (cx_le rfl) (fun M6 _ h => ?_)
  refine cx_aload_n 0 dX1_years_19 rfl ?_
  refine cx_iconst 0 dX1_years_20 cx_ic_0 ?_
  refine cx_cVv [.int 0] [] h (fun rs' h' => cCc_tries_m H M6 0 rs' h') (cCc_rc H) dX1_years_21 g_X1_411 hg_X1_411 ⟨cx_le rfl, cx_le rfl⟩ rfl ⟨rfl, rfl⟩ ⟨cx_le rfl, cx_le rfl⟩ rfl (cx_le rfl) (fun M7 _ h => ?_)
  refine cx_aload_n 0 dX1_years_24 rfl ?_
  refine cx_iload_n 1 dX1_years_25 rfl ?_
  refine cx_putI h (cCc_F16 H) rfl rfl rfl q1033 dX1_years_26 (fun M8 h => ?_)
  refine cx_iconst 0 dX1_years_29 cx_ic_0 ?_
  refine cx_istore [(4, .int 0), (0, .ref (adr 500)), (1, .int x1), (2, .int x2), (3, .int x3)] dX1_years_30 (cx_lt rfl) rfl ?_
  refine cx_iconst 0 dX1_years_32 cx_ic_0 ?_
  refine cx_istore [(5, .int 0), (4, .int 0), (0, .ref (adr 500)), (1, .int x1), (2, .int x2), (3, .int x3)] dX1_years_33 (cx_lt rfl) rfl ?_
  refine cx_sub (lv' := [(0, .ref (adr 500)), (2, .int x2), (3, .int x3), (4, .int 0), (5, .int 0)]) [2, 4, 5, 1, 0] rfl ?_
  exact cCc_years_35_v H N.1 M8 x2 x3 0 0 _ h
noncomputable def cCc_years (N : cx_N) (M : cx_M) (x1 : Int32) (x2 : Int32) (x3 : Int32) : Option cx_R := cCc_years_0 N M x1 x2 x3
theorem cCc_years_m {l : Launch} {g : cx_G} {adr : Nat → Nat} {N : cx_N} (H : cCp_H g adr N) (M : cx_M) (x1 : Int32) (x2 : Int32) (x3 : Int32) (rs : cx_R) (h : cCc_years N M x1 x2 x3 = some rs) : cx_Met l (g) yX1_years cX1_years sX1_years [.ref (adr 500), .int x1, .int x2, .int x3] M rs :=
  cx_met (by decide +kernel) rfl rfl (lv := [(0, .ref (adr 500)), (1, .int x1), (2, .int x2), (3, .int x3)]) rfl (cx_le rfl) (fun X => cx_sub (lv' := [(0, .ref (adr 500)), (1, .int x1), (2, .int x2), (3, .int x3)]) [0, 1, 2, 3] rfl (cCc_years_0_v H M x1 x2 x3 rs h))

abbrev sX6_begins : cx_S := (2, RX6, cx_rV, { frames := 1, cells := 0, slots := 0, locals := 21 }, none, false)
noncomputable def cSt_begins_0 (N : cx_N) (b : Nat) (M : cx_M) : Option cx_R :=
  cx_put M b 7 0 fun M1 =>
  cx_put M1 b 6 0 fun M2 =>
  cx_put M2 b 5 0 fun M3 =>
  cx_put M3 b 4 0 fun M4 =>
  cx_put M4 b 3 0 fun M5 =>
  cx_put M5 b 2 0 fun M6 =>
  cx_put M6 b 1 0 fun M7 =>
  cx_put M7 b 0 0 fun M8 =>
  cx_put M8 b 8 0 fun M9 =>
  cx_put M9 b 33 0 fun M10 =>
  cx_put M10 b 29 0 fun M11 =>
  cx_put M11 b 27 0 fun M12 =>
  cx_put M12 b 26 0 fun M13 =>
  cx_put M13 b 25 0 fun M14 =>
  cx_put M14 b 24 0 fun M15 =>
  cx_put M15 b 23 0 fun M16 =>
  cx_put M16 b 22 0 fun M17 =>
  cx_put M17 b 21 0 fun M18 =>
  cx_put M18 b 20 0 fun M19 =>
  cx_put M19 b 19 0 fun M20 =>
  cx_put M20 b 18 0 fun M21 =>
  cx_put M21 b 17 0 fun M22 =>
  cx_put M22 b 16 0 fun M23 =>
  cx_put M23 b 15 0 fun M24 =>
  cx_put M24 b 14 0 fun M25 =>
  cx_put M25 b 13 0 fun M26 =>
  cx_put M26 b 12 0 fun M27 =>
  cx_put M27 b 11 0 fun M28 =>
  cx_put M28 b 10 0 fun M29 =>
  cx_put M29 b 9 0 fun M30 =>
  cx_get M30 8000 5 fun v31 =>
  cx_put M30 b 28 v31 fun M32 =>
  cx_get M32 8000 1 fun v33 =>
  cx_put M32 b 30 v33 fun M34 =>
  cx_get M34 8000 2 fun v35 =>
  cx_put M34 b 31 v35 fun M36 =>
  cx_get M36 8000 3 fun v37 =>
  cx_put M36 b 32 v37 fun M38 =>
  cx_cal (cSt_empties N b M38) fun M39 _ =>
  some (M39, 0, 0)
set_option maxRecDepth 100000 in
theorem cSt_begins_0_v {l : Launch} {g : cx_G} {adr : Nat → Nat} {X : cx_X} {N : cx_N} {b : Nat} (H : cCp_H g adr N) (hb : cSt_H g adr b) (M : cx_M) (rs : cx_R) (h : cSt_begins_0 N b M = some rs) : cx_V l (g) X sX6_begins cX6_begins 0 [(0, .ref (adr b)), (1, .ref (adr 8000))] [] M 0 0 rs := by
  unfold cSt_begins_0 at h
  refine cx_aload_n 0 dX6_begins_0 rfl ?_
  refine cx_aload_n 0 dX6_begins_1 rfl ?_
  refine cx_aload_n 0 dX6_begins_2 rfl ?_
  refine cx_aload_n 0 dX6_begins_3 rfl ?_
  refine cx_aload_n 0 dX6_begins_4 rfl ?_
  refine cx_aload_n 0 dX6_begins_5 rfl ?_
  refine cx_aload_n 0 dX6_begins_6 rfl ?_
  refine cx_aload_n 0 dX6_begins_7 rfl ?_
  refine cx_iconst 0 dX6_begins_8 cx_ic_0 ?_
  refine cx_dup_x1 dX6_begins_9 rfl rfl ?_
  refine cx_putI h (cSt_F7 hb) rfl rfl rfl q662 dX6_begins_10 (fun M1 h => ?_)
  refine cx_dup_x1 dX6_begins_13 rfl rfl ?_
  refine cx_putI h (cSt_F6 hb) rfl rfl rfl q660 dX6_begins_14 (fun M2 h => ?_)
  refine cx_dup_x1 dX6_begins_17 rfl rfl ?_
  refine cx_putI h (cSt_F5 hb) rfl rfl rfl q658 dX6_begins_18 (fun M3 h => ?_)
  refine cx_dup_x1 dX6_begins_21 rfl rfl ?_
  refine cx_putI h (cSt_F4 hb) rfl rfl rfl q656 dX6_begins_22 (fun M4 h => ?_)
  refine cx_dup_x1 dX6_begins_25 rfl rfl ?_
  refine cx_putI h (cSt_F3 hb) rfl rfl rfl q654 dX6_begins_26 (fun M5 h => ?_)
  refine cx_dup_x1 dX6_begins_29 rfl rfl ?_
  refine cx_putI h (cSt_F2 hb) rfl rfl rfl q652 dX6_begins_30 (fun M6 h => ?_)
  refine cx_dup_x1 dX6_begins_33 rfl rfl ?_
  refine cx_putI h (cSt_F1 hb) rfl rfl rfl q650 dX6_begins_34 (fun M7 h => ?_)
  refine cx_putI h (cSt_F0 hb) rfl rfl rfl q648 dX6_begins_37 (fun M8 h => ?_)
  refine cx_aload_n 0 dX6_begins_40 rfl ?_
  refine cx_iconst 0 dX6_begins_41 cx_ic_0 ?_
  refine cx_putI h (cSt_F8 hb) rfl rfl rfl q664 dX6_begins_42 (fun M9 h => ?_)
  refine cx_aload_n 0 dX6_begins_45 rfl ?_
  refine cx_aload_n 0 dX6_begins_46 rfl ?_
  refine cx_aload_n 0 dX6_begins_47 rfl ?_
  refine cx_aload_n 0 dX6_begins_48 rfl ?_
  refine cx_aload_n 0 dX6_begins_49 rfl ?_
  refine cx_aload_n 0 dX6_begins_50 rfl ?_
  refine cx_aload_n 0 dX6_begins_51 rfl ?_
  refine cx_aload_n 0 dX6_begins_52 rfl ?_
  refine cx_aload_n 0 dX6_begins_53 rfl ?_
  refine cx_aload_n 0 dX6_begins_54 rfl ?_
  refine cx_aload_n 0 dX6_begins_55 rfl ?_
  refine cx_aload_n 0 dX6_begins_56 rfl ?_
  refine cx_aload_n 0 dX6_begins_57 rfl ?_
  refine cx_aload_n 0 dX6_begins_58 rfl ?_
  refine cx_aload_n 0 dX6_begins_59 rfl ?_
  refine cx_aload_n 0 dX6_begins_60 rfl ?_
  refine cx_aload_n 0 dX6_begins_61 rfl ?_
  refine cx_aload_n 0 dX6_begins_62 rfl ?_
  refine cx_aload_n 0 dX6_begins_63 rfl ?_
  refine cx_aload_n 0 dX6_begins_64 rfl ?_
  refine cx_aload_n 0 dX6_begins_65 rfl ?_
  refine cx_iconst 0 dX6_begins_66 cx_ic_0 ?_
  refine cx_dup_x1 dX6_begins_67 rfl rfl ?_
  refine cx_putI h (cSt_F33 hb) rfl rfl rfl q708 dX6_begins_68 (fun M10 h => ?_)
  refine cx_dup_x1 dX6_begins_71 rfl rfl ?_
  refine cx_putI h (cSt_F29 hb) rfl rfl rfl q700 dX6_begins_72 (fun M11 h => ?_)
  refine cx_dup_x1 dX6_begins_75 rfl rfl ?_
  refine cx_putI h (cSt_F27 hb) rfl rfl rfl q696 dX6_begins_76 (fun M12 h => ?_)
  refine cx_dup_x1 dX6_begins_79 rfl rfl ?_
  refine cx_putI h (cSt_F26 hb) rfl rfl rfl q694 dX6_begins_80 (fun M13 h => ?_)
  refine cx_dup_x1 dX6_begins_83 rfl rfl ?_
  refine cx_putI h (cSt_F25 hb) rfl rfl rfl q693 dX6_begins_84 (fun M14 h => ?_)
  refine cx_dup_x1 dX6_begins_87 rfl rfl ?_
  refine cx_putI h (cSt_F24 hb) rfl rfl rfl q691 dX6_begins_88 (fun M15 h => ?_)
  refine cx_dup_x1 dX6_begins_91 rfl rfl ?_
  refine cx_putI h (cSt_F23 hb) rfl rfl rfl q689 dX6_begins_92 (fun M16 h => ?_)
  refine cx_dup_x1 dX6_begins_95 rfl rfl ?_
  refine cx_putI h (cSt_F22 hb) rfl rfl rfl q687 dX6_begins_96 (fun M17 h => ?_)
  refine cx_dup_x1 dX6_begins_99 rfl rfl ?_
  refine cx_putI h (cSt_F21 hb) rfl rfl rfl q686 dX6_begins_100 (fun M18 h => ?_)
  refine cx_dup_x1 dX6_begins_103 rfl rfl ?_
  refine cx_putI h (cSt_F20 hb) rfl rfl rfl q684 dX6_begins_104 (fun M19 h => ?_)
  refine cx_dup_x1 dX6_begins_107 rfl rfl ?_
  refine cx_putI h (cSt_F19 hb) rfl rfl rfl q682 dX6_begins_108 (fun M20 h => ?_)
  refine cx_dup_x1 dX6_begins_111 rfl rfl ?_
  refine cx_putI h (cSt_F18 hb) rfl rfl rfl q681 dX6_begins_112 (fun M21 h => ?_)
  refine cx_dup_x1 dX6_begins_115 rfl rfl ?_
  refine cx_putI h (cSt_F17 hb) rfl rfl rfl q680 dX6_begins_116 (fun M22 h => ?_)
  refine cx_dup_x1 dX6_begins_119 rfl rfl ?_
  refine cx_putI h (cSt_F16 hb) rfl rfl rfl q679 dX6_begins_120 (fun M23 h => ?_)
  refine cx_dup_x1 dX6_begins_123 rfl rfl ?_
  refine cx_putI h (cSt_F15 hb) rfl rfl rfl q678 dX6_begins_124 (fun M24 h => ?_)
  refine cx_dup_x1 dX6_begins_127 rfl rfl ?_
  refine cx_putI h (cSt_F14 hb) rfl rfl rfl q676 dX6_begins_128 (fun M25 h => ?_)
  refine cx_dup_x1 dX6_begins_131 rfl rfl ?_
  refine cx_putI h (cSt_F13 hb) rfl rfl rfl q674 dX6_begins_132 (fun M26 h => ?_)
  refine cx_dup_x1 dX6_begins_135 rfl rfl ?_
  refine cx_putI h (cSt_F12 hb) rfl rfl rfl q672 dX6_begins_136 (fun M27 h => ?_)
  refine cx_dup_x1 dX6_begins_139 rfl rfl ?_
  refine cx_putI h (cSt_F11 hb) rfl rfl rfl q670 dX6_begins_140 (fun M28 h => ?_)
  refine cx_dup_x1 dX6_begins_143 rfl rfl ?_
  refine cx_putI h (cSt_F10 hb) rfl rfl rfl q668 dX6_begins_144 (fun M29 h => ?_)
  refine cx_putI h (cSt_F9 hb) rfl rfl rfl q666 dX6_begins_147 (fun M30 h => ?_)
  refine cx_aload_n 0 dX6_begins_150 rfl ?_
  refine cx_aload_n 1 dX6_begins_151 rfl ?_
  refine cx_getIN h (cLn_F5 H) q575 dX6_begins_152 (fun v31 h => ?_)
  refine cx_putI h (cSt_F28 hb) rfl rfl rfl q698 dX6_begins_155 (fun M32 h => ?_)
  refine cx_aload_n 0 dX6_begins_158 rfl ?_
  refine cx_aload_n 1 dX6_begins_159 rfl ?_
  refine cx_getIN h (cLn_F1 H) q563 dX6_begins_160 (fun v33 h => ?_)
  refine cx_putI h (cSt_F30 hb) rfl rfl rfl q702 dX6_begins_163 (fun M34 h => ?_)
  refine cx_aload_n 0 dX6_begins_166 rfl ?_
  refine cx_aload_n 1 dX6_begins_167 rfl ?_
  refine cx_getIN h (cLn_F2 H) q566 dX6_begins_168 (fun v35 h => ?_)
  refine cx_putI h (cSt_F31 hb) rfl rfl rfl q704 dX6_begins_171 (fun M36 h => ?_)
  refine cx_aload_n 0 dX6_begins_174 rfl ?_
  refine cx_aload_n 1 dX6_begins_175 rfl ?_
  refine cx_getIN h (cLn_F3 H) q569 dX6_begins_176 (fun v37 h => ?_)
  refine cx_putI h (cSt_F32 hb) rfl rfl rfl q706 dX6_begins_179 (fun M38 h => ?_)
  refine cx_aload_n 0 dX6_begins_182 rfl ?_
  refine cx_cVv [] [] h (fun rs' h' => cSt_empties_m H hb M38 rs' h') (cSt_rc hb) dX6_begins_183 g_X6_151 hg_X6_151 ⟨cx_le rfl, cx_le rfl⟩ rfl ⟨rfl, rfl⟩ ⟨cx_le rfl, cx_le rfl⟩ rfl (cx_le rfl) (fun M39 _ h => ?_)
  exact cx_vret h rfl rfl (cx_le rfl) (cx_le rfl) dX6_begins_186
noncomputable def cSt_begins (N : cx_N) (b : Nat) (M : cx_M) : Option cx_R := cSt_begins_0 N b M
theorem cSt_begins_m {l : Launch} {g : cx_G} {adr : Nat → Nat} {N : cx_N} {b : Nat} (H : cCp_H g adr N) (hb : cSt_H g adr b) (M : cx_M) (rs : cx_R) (h : cSt_begins N b M = some rs) : cx_Met l (g) yX6_begins cX6_begins sX6_begins [.ref (adr b), .ref (adr 8000)] M rs :=
  cx_met (by decide +kernel) rfl rfl (lv := [(0, .ref (adr b)), (1, .ref (adr 8000))]) rfl (cx_le rfl) (fun X => cx_sub (lv' := [(0, .ref (adr b)), (1, .ref (adr 8000))]) [0, 1] rfl (cSt_begins_0_v H hb M rs h))
