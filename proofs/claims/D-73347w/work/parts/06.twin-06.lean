abbrev sX10_stall : cx_S := (2, RX10, cx_rI, { frames := 3, cells := 0, slots := 0, locals := 62 }, some .int, false)
noncomputable def tw_stall_0 (N : Nat) (M : cx_M) (x1 : Int32) : Option cx_R :=
  cx_cal (tw_ready N M) fun M1 _ =>
  cx_cal (tw_turnTo N M1 26 x1 0 30 (-1)) fun M2 v3 =>
  some (M2, v3, 0)
set_option maxRecDepth 100000 in
theorem tw_stall_0_v {l : Launch} {g : cx_G} {adr : Nat → Nat} {X : cx_X} {N : Nat} (H : tw_H g adr) (M : cx_M) (x1 : Int32) (rs : cx_R) (h : tw_stall_0 N M x1 = some rs) : cx_V l (g) X sX10_stall cX10_stall 0 [(0, .ref (adr 60)), (1, .int x1)] [] M 0 0 rs := by
  unfold tw_stall_0 at h
  refine cx_aload_n 0 dX10_stall_0 rfl ?_
  refine cx_cVv [] [] h (fun rs' h' => tw_ready_m H M rs' h') (tw_rc H) dX10_stall_1 g_X10_247 hg_X10_247 ⟨cx_le rfl, cx_le rfl⟩ rfl ⟨rfl, rfl⟩ ⟨cx_le rfl, cx_le rfl⟩ rfl (cx_le rfl) (fun M1 _ h => ?_)
  refine cx_aload_n 0 dX10_stall_4 rfl ?_
  refine cx_bipush 26 dX10_stall_5 cx_bp_26 ?_
  refine cx_iload_n 1 dX10_stall_7 rfl ?_
  refine cx_iconst 0 dX10_stall_8 cx_ic_0 ?_
  refine cx_bipush 30 dX10_stall_9 cx_bp_30 ?_
  refine cx_iconst (-1) dX10_stall_11 cx_ic_m1 ?_
  refine cx_cVi [.int 26, .int x1, .int 0, .int 30, .int (-1)] [] h (fun rs' h' => tw_turnTo_m H M1 26 x1 0 30 (-1) rs' h') (tw_rc H) dX10_stall_12 g_X10_390 hg_X10_390 ⟨cx_le rfl, cx_le rfl⟩ rfl ⟨rfl, rfl⟩ ⟨cx_le rfl, cx_le rfl⟩ rfl (cx_le rfl) (fun M2 v3 h => ?_)
  exact cx_iret h rfl rfl (cx_le rfl) (cx_le rfl) dX10_stall_15
noncomputable def tw_stall (N : Nat) (M : cx_M) (x1 : Int32) : Option cx_R := tw_stall_0 N M x1
theorem tw_stall_m {l : Launch} {g : cx_G} {adr : Nat → Nat} {N : Nat} (H : tw_H g adr) (M : cx_M) (x1 : Int32) (rs : cx_R) (h : tw_stall N M x1 = some rs) : cx_Met l (g) yX10_stall cX10_stall sX10_stall [.ref (adr 60), .int x1] M rs :=
  cx_met (by decide +kernel) rfl rfl (lv := [(0, .ref (adr 60)), (1, .int x1)]) rfl (cx_le rfl) (fun X => cx_sub (lv' := [(0, .ref (adr 60)), (1, .int x1)]) [0, 1] rfl (tw_stall_0_v H M x1 rs h))

abbrev sX10_steps : cx_S := (2, RX10, cx_rI, { frames := 8, cells := 0, slots := 0, locals := 175 }, some .int, false)
noncomputable def tw_steps_30 (N : Nat) (M : cx_M) : Option cx_R :=
  cx_cal (tw_refuse N M 1) fun M1 v2 =>
  some (M1, v2, 0)
set_option maxRecDepth 100000 in
theorem tw_steps_30_v {l : Launch} {g : cx_G} {adr : Nat → Nat} {X : cx_X} {N : Nat} (H : tw_H g adr) (M : cx_M) (rs : cx_R) (h : tw_steps_30 N M = some rs) : cx_V l (g) X sX10_steps cX10_steps 30 [(0, .ref (adr 60))] [] M 0 0 rs := by
  unfold tw_steps_30 at h
  refine cx_aload_n 0 dX10_steps_30 rfl ?_
  refine cx_iconst 1 dX10_steps_31 cx_ic_1 ?_
  refine cx_cVi [.int 1] [] h (fun rs' h' => tw_refuse_m H M 1 rs' h') (tw_rc H) dX10_steps_32 g_X10_381 hg_X10_381 ⟨cx_le rfl, cx_le rfl⟩ rfl ⟨rfl, rfl⟩ ⟨cx_le rfl, cx_le rfl⟩ rfl (cx_le rfl) (fun M1 v2 h => ?_)
  exact cx_iret h rfl rfl (cx_le rfl) (cx_le rfl) dX10_steps_35
noncomputable def tw_steps_0 (N : Nat) (M : cx_M) (x1 : Int32) : Option cx_R :=
  cx_cal (tw_ready N M) fun M1 _ =>
  cx_cal (tw_isIn N M1 (Int32.toInt64 x1) 1 50) fun M2 v3 =>
  if v3 = 0 then (
    tw_steps_30 N M2)
  else (
    cx_get M2 8 0 fun v4 =>
    if (v4 + x1) ≤ 20000 then (
      cx_cal (tw_keep N M2) fun M5 _ =>
      cx_cal (tw_goOn N M5 x1) fun M6 _ =>
      cx_get M6 8 0 fun v7 =>
      some (M6, v7, 0))
    else (
      tw_steps_30 N M2))
set_option maxRecDepth 100000 in
theorem tw_steps_0_v {l : Launch} {g : cx_G} {adr : Nat → Nat} {X : cx_X} {N : Nat} (H : tw_H g adr) (M : cx_M) (x1 : Int32) (rs : cx_R) (h : tw_steps_0 N M x1 = some rs) : cx_V l (g) X sX10_steps cX10_steps 0 [(0, .ref (adr 60)), (1, .int x1)] [] M 0 0 rs := by
  unfold tw_steps_0 at h
  refine cx_aload_n 0 dX10_steps_0 rfl ?_
  refine cx_cVv [] [] h (fun rs' h' => tw_ready_m H M rs' h') (tw_rc H) dX10_steps_1 g_X10_247 hg_X10_247 ⟨cx_le rfl, cx_le rfl⟩ rfl ⟨rfl, rfl⟩ ⟨cx_le rfl, cx_le rfl⟩ rfl (cx_le rfl) (fun M1 _ h => ?_)
  refine cx_iload_n 1 dX10_steps_4 rfl ?_
  refine cx_i2l dX10_steps_5 ?_
  refine cx_lconst 1 dX10_steps_6 cx_lc_1 ?_
  refine cx_ldc2 50 dX10_steps_7 q2755 ?_
  refine cx_cSi [.long (Int32.toInt64 x1), .long 1, .long 50] [] h (fun rs' h' => tw_isIn_m H M1 (Int32.toInt64 x1) 1 50 rs' h') dX10_steps_10 g_X10_358 hg_X10_358 ⟨cx_le rfl, cx_le rfl⟩ rfl ⟨rfl, rfl⟩ ⟨cx_le rfl, cx_le rfl⟩ rfl (cx_le rfl) (fun M2 v3 h => ?_)
  refine cx_if_eq 30 h dX10_steps_13 rfl (fun h => ?_) (fun h => ?_)
  · refine cx_sub (lv' := [(0, .ref (adr 60))]) [0] rfl ?_
    exact tw_steps_30_v H M2 _ h
  · refine cx_aload_n 0 dX10_steps_16 rfl ?_
    refine cx_getR (tw_R8 H) q2398 dX10_steps_17 ?_
    refine cx_iconst 0 dX10_steps_20 cx_ic_0 ?_
    refine cx_ldC h (tw_A8 H) cx_cl_0 cx_vin_0_665 dX10_steps_21 (fun v4 h => ?_)
    refine cx_iload_n 1 dX10_steps_22 rfl ?_
    refine cx_iadd dX10_steps_23 ?_
    refine cx_sipush 20000 dX10_steps_24 cx_sp_20000 ?_
    refine cx_icmp_le 36 h dX10_steps_27 rfl (fun h => ?_) (fun h => ?_)
    · refine cx_aload_n 0 dX10_steps_36 rfl ?_
      refine cx_cVv [] [] h (fun rs' h' => tw_keep_m H M2 rs' h') (tw_rc H) dX10_steps_37 g_X10_384 hg_X10_384 ⟨cx_le rfl, cx_le rfl⟩ rfl ⟨rfl, rfl⟩ ⟨cx_le rfl, cx_le rfl⟩ rfl (cx_le rfl) (fun M5 _ h => ?_)
      refine cx_aload_n 0 dX10_steps_40 rfl ?_
      refine cx_iload_n 1 dX10_steps_41 rfl ?_
      refine cx_cVv [.int x1] [] h (fun rs' h' => tw_goOn_m H M5 x1 rs' h') (tw_rc H) dX10_steps_42 g_X10_387 hg_X10_387 ⟨cx_le rfl, cx_le rfl⟩ rfl ⟨rfl, rfl⟩ ⟨cx_le rfl, cx_le rfl⟩ rfl (cx_le rfl) (fun M6 _ h => ?_)
      refine cx_aload_n 0 dX10_steps_45 rfl ?_
      refine cx_getR (tw_R8 H) q2398 dX10_steps_46 ?_
      refine cx_iconst 0 dX10_steps_49 cx_ic_0 ?_
      refine cx_ldC h (tw_A8 H) cx_cl_0 cx_vin_0_665 dX10_steps_50 (fun v7 h => ?_)
      exact cx_iret h rfl rfl (cx_le rfl) (cx_le rfl) dX10_steps_51
    · refine cx_sub (lv' := [(0, .ref (adr 60))]) [0] rfl ?_
      exact tw_steps_30_v H M2 _ h
noncomputable def tw_steps (N : Nat) (M : cx_M) (x1 : Int32) : Option cx_R := tw_steps_0 N M x1
theorem tw_steps_m {l : Launch} {g : cx_G} {adr : Nat → Nat} {N : Nat} (H : tw_H g adr) (M : cx_M) (x1 : Int32) (rs : cx_R) (h : tw_steps N M x1 = some rs) : cx_Met l (g) yX10_steps cX10_steps sX10_steps [.ref (adr 60), .int x1] M rs :=
  cx_met (by decide +kernel) rfl rfl (lv := [(0, .ref (adr 60)), (1, .int x1)]) rfl (cx_le rfl) (fun X => cx_sub (lv' := [(0, .ref (adr 60)), (1, .int x1)]) [0, 1] rfl (tw_steps_0_v H M x1 rs h))

abbrev sX10_storms : cx_S := (7, RX10, cx_rI, { frames := 8, cells := 0, slots := 0, locals := 175 }, some .int, false)
noncomputable def tw_storms_28 (N : Nat) (M : cx_M) : Option cx_R :=
  cx_cal (tw_fail N M 1) fun M1 v2 =>
  some (M1, v2, 0)
set_option maxRecDepth 100000 in
theorem tw_storms_28_v {l : Launch} {g : cx_G} {adr : Nat → Nat} {X : cx_X} {N : Nat} (H : tw_H g adr) (M : cx_M) (rs : cx_R) (h : tw_storms_28 N M = some rs) : cx_V l (g) X sX10_storms cX10_storms 28 [(0, .ref (adr 60))] [] M 0 0 rs := by
  unfold tw_storms_28 at h
  refine cx_aload_n 0 dX10_storms_28 rfl ?_
  refine cx_iconst 1 dX10_storms_29 cx_ic_1 ?_
  refine cx_cVi [.int 1] [] h (fun rs' h' => tw_fail_m H M 1 rs' h') (tw_rc H) dX10_storms_30 g_X10_250 hg_X10_250 ⟨cx_le rfl, cx_le rfl⟩ rfl ⟨rfl, rfl⟩ ⟨cx_le rfl, cx_le rfl⟩ rfl (cx_le rfl) (fun M1 v2 h => ?_)
  exact cx_iret h rfl rfl (cx_le rfl) (cx_le rfl) dX10_storms_33
noncomputable def tw_storms_83 (N : Nat) (r_43 : cx_M → Int32 → Int32 → Int32 → Int32 → Option cx_R) (r_57 : cx_M → Int32 → Int32 → Int32 → Int32 → Int32 → Int32 → Option cx_R) (M : cx_M) (x1 : Int32) (x2 : Int32) (x3 : Int32) (x4 : Int32) (x6 : Int32) (z0 : Int32) (z1 : Int32) : Option cx_R :=
  cx_let (z0 * z1) fun v1 =>
  cx_let (x6 + 1) fun v2 =>
  r_57 M x1 x2 x3 x4 v1 v2
set_option maxRecDepth 100000 in
theorem tw_storms_83_v {l : Launch} {g : cx_G} {adr : Nat → Nat} {X : cx_X} {N : Nat} {r_43 : cx_M → Int32 → Int32 → Int32 → Int32 → Option cx_R} {r_57 : cx_M → Int32 → Int32 → Int32 → Int32 → Int32 → Int32 → Option cx_R} (H : tw_H g adr) (hr_43 : ∀ (M : cx_M) (x1 : Int32) (x2 : Int32) (x3 : Int32) (x4 : Int32) (rs : cx_R), r_43 M x1 x2 x3 x4 = some rs → cx_V l (g) X sX10_storms cX10_storms 43 [(0, .ref (adr 60)), (1, .int x1), (2, .int x2), (3, .int x3), (4, .int x4)] [] M 0 0 rs) (hr_57 : ∀ (M : cx_M) (x1 : Int32) (x2 : Int32) (x3 : Int32) (x4 : Int32) (x5 : Int32) (x6 : Int32) (rs : cx_R), r_57 M x1 x2 x3 x4 x5 x6 = some rs → cx_V l (g) X sX10_storms cX10_storms 57 [(0, .ref (adr 60)), (1, .int x1), (2, .int x2), (3, .int x3), (4, .int x4), (5, .int x5), (6, .int x6)] [] M 0 0 rs) (M : cx_M) (x1 : Int32) (x2 : Int32) (x3 : Int32) (x4 : Int32) (x6 : Int32) (z0 : Int32) (z1 : Int32) (rs : cx_R) (h : tw_storms_83 N r_43 r_57 M x1 x2 x3 x4 x6 z0 z1 = some rs) : cx_V l (g) X sX10_storms cX10_storms 83 [(0, .ref (adr 60)), (1, .int x1), (2, .int x2), (3, .int x3), (4, .int x4), (6, .int x6)] [.int z1, .int z0] M 0 0 rs := by
  unfold tw_storms_83 at h
  refine cx_imul dX10_storms_83 ?_
  refine cx_letI h (fun v1 h => ?_)
  refine cx_istore [(5, .int v1), (0, .ref (adr 60)), (1, .int x1), (2, .int x2), (3, .int x3), (4, .int x4), (6, .int x6)] dX10_storms_84 (cx_lt rfl) rfl ?_
  refine cx_iinc 6 1 (fun v2 => [(6, .int v2), (5, .int v1), (0, .ref (adr 60)), (1, .int x1), (2, .int x2), (3, .int x3), (4, .int x4)]) h dX10_storms_86 rfl cx_ic_1 (cx_lt rfl) (fun _ => rfl) (fun v2 h => ?_)
  refine cx_goto 57 dX10_storms_89 rfl ?_
  refine cx_sub (lv' := [(0, .ref (adr 60)), (1, .int x1), (2, .int x2), (3, .int x3), (4, .int x4), (5, .int v1), (6, .int v2)]) [2, 3, 4, 5, 6, 1, 0] rfl ?_
  exact hr_57 M x1 x2 x3 x4 v1 v2 _ h
noncomputable def tw_storms_133 (N : Nat) (r_43 : cx_M → Int32 → Int32 → Int32 → Int32 → Option cx_R) (M : cx_M) (x1 : Int32) (x2 : Int32) (x4 : Int32) (z0 : Int32) (z1 : Int32) : Option cx_R :=
  cx_let (z0 + z1) fun v1 =>
  cx_put M 60 29 0 fun M2 =>
  cx_cal (tw_back N M2 0) fun M3 v4 =>
  cx_let (x4 + 1) fun v5 =>
  r_43 M3 x1 x2 v1 v5
set_option maxRecDepth 100000 in
theorem tw_storms_133_v {l : Launch} {g : cx_G} {adr : Nat → Nat} {X : cx_X} {N : Nat} {r_43 : cx_M → Int32 → Int32 → Int32 → Int32 → Option cx_R} (H : tw_H g adr) (hr_43 : ∀ (M : cx_M) (x1 : Int32) (x2 : Int32) (x3 : Int32) (x4 : Int32) (rs : cx_R), r_43 M x1 x2 x3 x4 = some rs → cx_V l (g) X sX10_storms cX10_storms 43 [(0, .ref (adr 60)), (1, .int x1), (2, .int x2), (3, .int x3), (4, .int x4)] [] M 0 0 rs) (M : cx_M) (x1 : Int32) (x2 : Int32) (x4 : Int32) (z0 : Int32) (z1 : Int32) (rs : cx_R) (h : tw_storms_133 N r_43 M x1 x2 x4 z0 z1 = some rs) : cx_V l (g) X sX10_storms cX10_storms 133 [(0, .ref (adr 60)), (1, .int x1), (2, .int x2), (4, .int x4)] [.int z1, .int z0] M 0 0 rs := by
  unfold tw_storms_133 at h
  refine cx_iadd dX10_storms_133 ?_
  refine cx_letI h (fun v1 h => ?_)
  refine cx_istore_n [(3, .int v1), (0, .ref (adr 60)), (1, .int x1), (2, .int x2), (4, .int x4)] dX10_storms_134 (cx_lt rfl) rfl ?_
  refine cx_aload_n 1 dX10_storms_135 rfl ?_
  refine cx_iconst 0 dX10_storms_136 cx_ic_0 ?_
  refine cx_putI h (tw_F29 H) rfl rfl rfl q2419 dX10_storms_137 (fun M2 h => ?_)
  refine cx_aload_n 1 dX10_storms_140 rfl ?_
  refine cx_iconst 0 dX10_storms_141 cx_ic_0 ?_
  refine cx_cVi [.int 0] [] h (fun rs' h' => tw_back_m H M2 0 rs' h') (tw_rc H) dX10_storms_142 g_X10_405 hg_X10_405 ⟨cx_le rfl, cx_le rfl⟩ rfl ⟨rfl, rfl⟩ ⟨cx_le rfl, cx_le rfl⟩ rfl (cx_le rfl) (fun M3 v4 h => ?_)
  refine cx_pop dX10_storms_145 rfl ?_
  refine cx_iinc 4 1 (fun v5 => [(4, .int v5), (3, .int v1), (0, .ref (adr 60)), (1, .int x1), (2, .int x2)]) h dX10_storms_146 rfl cx_ic_1 (cx_lt rfl) (fun _ => rfl) (fun v5 h => ?_)
  refine cx_goto 43 dX10_storms_149 rfl ?_
  refine cx_sub (lv' := [(0, .ref (adr 60)), (1, .int x1), (2, .int x2), (3, .int v1), (4, .int v5)]) [2, 3, 4, 1, 0] rfl ?_
  exact hr_43 M3 x1 x2 v1 v5 _ h
noncomputable def tw_storms_57b (N : Nat) (r_43 : cx_M → Int32 → Int32 → Int32 → Int32 → Option cx_R) (r_57 : cx_M → Int32 → Int32 → Int32 → Int32 → Int32 → Int32 → Option cx_R) (M : cx_M) (x1 : Int32) (x2 : Int32) (x3 : Int32) (x4 : Int32) (x5 : Int32) (x6 : Int32) : Option cx_R :=
  if x1 ≤ x6 then (
    cx_put M 60 29 x1 fun M1 =>
    cx_put M1 60 30 x4 fun M2 =>
    cx_cal (tw_goOn N M2 80) fun M3 _ =>
    cx_get M3 8 7 fun v4 =>
    cx_get M3 34 7 fun v5 =>
    if v4 = v5 then (
      tw_storms_133 N r_43 M3 x1 x2 x4 x3 x5)
    else (
      tw_storms_133 N r_43 M3 x1 x2 x4 x3 0))
  else (
    cx_cal (tw_isOf N M x4 x6) fun M6 v7 =>
    if v7 = 0 then (
      tw_storms_83 N r_43 r_57 M6 x1 x2 x3 x4 x6 x5 ((10 : Int32) - x2))
    else (
      tw_storms_83 N r_43 r_57 M6 x1 x2 x3 x4 x6 x5 x2))
set_option maxRecDepth 100000 in
theorem tw_storms_57b_v {l : Launch} {g : cx_G} {adr : Nat → Nat} {X : cx_X} {N : Nat} {r_43 : cx_M → Int32 → Int32 → Int32 → Int32 → Option cx_R} {r_57 : cx_M → Int32 → Int32 → Int32 → Int32 → Int32 → Int32 → Option cx_R} (H : tw_H g adr) (hr_43 : ∀ (M : cx_M) (x1 : Int32) (x2 : Int32) (x3 : Int32) (x4 : Int32) (rs : cx_R), r_43 M x1 x2 x3 x4 = some rs → cx_V l (g) X sX10_storms cX10_storms 43 [(0, .ref (adr 60)), (1, .int x1), (2, .int x2), (3, .int x3), (4, .int x4)] [] M 0 0 rs) (hr_57 : ∀ (M : cx_M) (x1 : Int32) (x2 : Int32) (x3 : Int32) (x4 : Int32) (x5 : Int32) (x6 : Int32) (rs : cx_R), r_57 M x1 x2 x3 x4 x5 x6 = some rs → cx_V l (g) X sX10_storms cX10_storms 57 [(0, .ref (adr 60)), (1, .int x1), (2, .int x2), (3, .int x3), (4, .int x4), (5, .int x5), (6, .int x6)] [] M 0 0 rs) (M : cx_M) (x1 : Int32) (x2 : Int32) (x3 : Int32) (x4 : Int32) (x5 : Int32) (x6 : Int32) (rs : cx_R) (h : tw_storms_57b N r_43 r_57 M x1 x2 x3 x4 x5 x6 = some rs) : cx_V l (g) X sX10_storms cX10_storms 57 [(0, .ref (adr 60)), (1, .int x1), (2, .int x2), (3, .int x3), (4, .int x4), (5, .int x5), (6, .int x6)] [] M 0 0 rs := by
  unfold tw_storms_57b at h
  refine cx_iload 6 dX10_storms_57 rfl ?_
  refine cx_iload_n 1 dX10_storms_59 rfl ?_
  refine cx_icmp_ge 92 h dX10_storms_60 rfl (fun h => ?_) (fun h => ?_)
  · refine cx_aload_n 0 dX10_storms_92 rfl ?_
    refine cx_iload_n 1 dX10_storms_93 rfl ?_
    refine cx_putI h (tw_F29 H) rfl rfl rfl q2419 dX10_storms_94 (fun M1 h => ?_)
    refine cx_aload_n 0 dX10_storms_97 rfl ?_
    refine cx_iload 4 dX10_storms_98 rfl ?_
    refine cx_putI h (tw_F30 H) rfl rfl rfl q2420 dX10_storms_100 (fun M2 h => ?_)
    refine cx_aload_n 0 dX10_storms_103 rfl ?_
    refine cx_bipush 80 dX10_storms_104 cx_bp_80 ?_
    refine cx_cVv [.int 80] [] h (fun rs' h' => tw_goOn_m H M2 80 rs' h') (tw_rc H) dX10_storms_106 g_X10_387 hg_X10_387 ⟨cx_le rfl, cx_le rfl⟩ rfl ⟨rfl, rfl⟩ ⟨cx_le rfl, cx_le rfl⟩ rfl (cx_le rfl) (fun M3 _ h => ?_)
    refine cx_iload_n 3 dX10_storms_109 rfl ?_
    refine cx_aload_n 0 dX10_storms_110 rfl ?_
    refine cx_getR (tw_R8 H) q2398 dX10_storms_111 ?_
    refine cx_bipush 7 dX10_storms_114 cx_bp_7 ?_
    refine cx_ldC h (tw_A8 H) cx_cl_7 cx_vin_7_665 dX10_storms_116 (fun v4 h => ?_)
    refine cx_aload_n 0 dX10_storms_117 rfl ?_
    refine cx_getR (tw_R34 H) q2424 dX10_storms_118 ?_
    refine cx_bipush 7 dX10_storms_121 cx_bp_7 ?_
    refine cx_ldC h (tw_A34 H) cx_cl_7 cx_vin_7_665 dX10_storms_123 (fun v5 h => ?_)
    refine cx_icmp_ne 132 h dX10_storms_124 rfl (fun h => ?_) (fun h => ?_)
    · refine cx_iconst 0 dX10_storms_132 cx_ic_0 ?_
      refine cx_sub (lv' := [(0, .ref (adr 60)), (1, .int x1), (2, .int x2), (4, .int x4)]) [0, 1, 2, 4] rfl ?_
      exact tw_storms_133_v H hr_43 M3 x1 x2 x4 x3 0 _ h
    · refine cx_iload 5 dX10_storms_127 rfl ?_
      refine cx_goto 133 dX10_storms_129 rfl ?_
      refine cx_sub (lv' := [(0, .ref (adr 60)), (1, .int x1), (2, .int x2), (4, .int x4)]) [0, 1, 2, 4] rfl ?_
      exact tw_storms_133_v H hr_43 M3 x1 x2 x4 x3 x5 _ h
  · refine cx_iload 5 dX10_storms_63 rfl ?_
    refine cx_iload 4 dX10_storms_65 rfl ?_
    refine cx_iload 6 dX10_storms_67 rfl ?_
    refine cx_cSi [.int x4, .int x6] [.int x5] h (fun rs' h' => tw_isOf_m H M x4 x6 rs' h') dX10_storms_69 g_X10_240 hg_X10_240 ⟨cx_le rfl, cx_le rfl⟩ rfl ⟨rfl, rfl⟩ ⟨cx_le rfl, cx_le rfl⟩ rfl (cx_le rfl) (fun M6 v7 h => ?_)
    refine cx_if_eq 79 h dX10_storms_72 rfl (fun h => ?_) (fun h => ?_)
    · refine cx_bipush 10 dX10_storms_79 cx_bp_10 ?_
      refine cx_iload_n 2 dX10_storms_81 rfl ?_
      refine cx_isub dX10_storms_82 ?_
      refine cx_sub (lv' := [(0, .ref (adr 60)), (1, .int x1), (2, .int x2), (3, .int x3), (4, .int x4), (6, .int x6)]) [0, 1, 2, 3, 4, 6] rfl ?_
      exact tw_storms_83_v H hr_43 hr_57 M6 x1 x2 x3 x4 x6 x5 ((10 : Int32) - x2) _ h
    · refine cx_iload_n 2 dX10_storms_75 rfl ?_
      refine cx_goto 83 dX10_storms_76 rfl ?_
      refine cx_sub (lv' := [(0, .ref (adr 60)), (1, .int x1), (2, .int x2), (3, .int x3), (4, .int x4), (6, .int x6)]) [0, 1, 2, 3, 4, 6] rfl ?_
      exact tw_storms_83_v H hr_43 hr_57 M6 x1 x2 x3 x4 x6 x5 x2 _ h
noncomputable def tw_storms_57 (N : Nat) (r_43 : cx_M → Int32 → Int32 → Int32 → Int32 → Option cx_R) : Nat → cx_M → Int32 → Int32 → Int32 → Int32 → Int32 → Int32 → Option cx_R :=
  cx_fix (fun _ _ _ _ _ _ _ => none) (fun r_57 => tw_storms_57b N r_43 r_57)
theorem tw_storms_57_v {l : Launch} {g : cx_G} {adr : Nat → Nat} {X : cx_X} {N : Nat} {r_43 : cx_M → Int32 → Int32 → Int32 → Int32 → Option cx_R} (H : tw_H g adr) (hr_43 : ∀ (M : cx_M) (x1 : Int32) (x2 : Int32) (x3 : Int32) (x4 : Int32) (rs : cx_R), r_43 M x1 x2 x3 x4 = some rs → cx_V l (g) X sX10_storms cX10_storms 43 [(0, .ref (adr 60)), (1, .int x1), (2, .int x2), (3, .int x3), (4, .int x4)] [] M 0 0 rs) : ∀ (n : Nat) (M : cx_M) (x1 : Int32) (x2 : Int32) (x3 : Int32) (x4 : Int32) (x5 : Int32) (x6 : Int32) (rs : cx_R), tw_storms_57 N r_43 n M x1 x2 x3 x4 x5 x6 = some rs → cx_V l (g) X sX10_storms cX10_storms 57 [(0, .ref (adr 60)), (1, .int x1), (2, .int x2), (3, .int x3), (4, .int x4), (5, .int x5), (6, .int x6)] [] M 0 0 rs :=
  cx_fixI (fun (r : cx_M → Int32 → Int32 → Int32 → Int32 → Int32 → Int32 → Option cx_R) => ∀ (M : cx_M) (x1 : Int32) (x2 : Int32) (x3 : Int32) (x4 : Int32) (x5 : Int32) (x6 : Int32) (rs : cx_R), r M x1 x2 x3 x4 x5 x6 = some rs → cx_V l (g) X sX10_storms cX10_storms 57 [(0, .ref (adr 60)), (1, .int x1), (2, .int x2), (3, .int x3), (4, .int x4), (5, .int x5), (6, .int x6)] [] M 0 0 rs) (fun _ _ _ _ _ _ _ _ h => by cases h) (fun r hr M x1 x2 x3 x4 x5 x6 rs h => tw_storms_57b_v H hr_43 hr M x1 x2 x3 x4 x5 x6 rs h)
noncomputable def tw_storms_43b (N : Nat) (r_43 : cx_M → Int32 → Int32 → Int32 → Int32 → Option cx_R) (M : cx_M) (x1 : Int32) (x2 : Int32) (x3 : Int32) (x4 : Int32) : Option cx_R :=
  if ((1 : Int32) <<< (x1 &&& 31)) ≤ x4 then (
    some (M, x3, 0))
  else (
    tw_storms_57 N r_43 N M x1 x2 x3 x4 1 0)
set_option maxRecDepth 100000 in
theorem tw_storms_43b_v {l : Launch} {g : cx_G} {adr : Nat → Nat} {X : cx_X} {N : Nat} {r_43 : cx_M → Int32 → Int32 → Int32 → Int32 → Option cx_R} (H : tw_H g adr) (hr_43 : ∀ (M : cx_M) (x1 : Int32) (x2 : Int32) (x3 : Int32) (x4 : Int32) (rs : cx_R), r_43 M x1 x2 x3 x4 = some rs → cx_V l (g) X sX10_storms cX10_storms 43 [(0, .ref (adr 60)), (1, .int x1), (2, .int x2), (3, .int x3), (4, .int x4)] [] M 0 0 rs) (M : cx_M) (x1 : Int32) (x2 : Int32) (x3 : Int32) (x4 : Int32) (rs : cx_R) (h : tw_storms_43b N r_43 M x1 x2 x3 x4 = some rs) : cx_V l (g) X sX10_storms cX10_storms 43 [(0, .ref (adr 60)), (1, .int x1), (2, .int x2), (3, .int x3), (4, .int x4)] [] M 0 0 rs := by
  unfold tw_storms_43b at h
  refine cx_iload 4 dX10_storms_43 rfl ?_
  refine cx_iconst 1 dX10_storms_45 cx_ic_1 ?_
  refine cx_iload_n 1 dX10_storms_46 rfl ?_
  refine cx_ishl dX10_storms_47 ?_
  refine cx_icmp_ge 152 h dX10_storms_48 rfl (fun h => ?_) (fun h => ?_)
  · refine cx_iload_n 3 dX10_storms_152 rfl ?_
    exact cx_iret h rfl rfl (cx_le rfl) (cx_le rfl) dX10_storms_153
  · refine cx_iconst 1 dX10_storms_51 cx_ic_1 ?_
    refine cx_istore [(5, .int 1), (0, .ref (adr 60)), (1, .int x1), (2, .int x2), (3, .int x3), (4, .int x4)] dX10_storms_52 (cx_lt rfl) rfl ?_
    refine cx_iconst 0 dX10_storms_54 cx_ic_0 ?_
    refine cx_istore [(6, .int 0), (5, .int 1), (0, .ref (adr 60)), (1, .int x1), (2, .int x2), (3, .int x3), (4, .int x4)] dX10_storms_55 (cx_lt rfl) rfl ?_
    refine cx_sub (lv' := [(0, .ref (adr 60)), (1, .int x1), (2, .int x2), (3, .int x3), (4, .int x4), (5, .int 1), (6, .int 0)]) [2, 3, 4, 5, 6, 1, 0] rfl ?_
    exact tw_storms_57_v H hr_43 N M x1 x2 x3 x4 1 0 _ h
noncomputable def tw_storms_43 (N : Nat) : Nat → cx_M → Int32 → Int32 → Int32 → Int32 → Option cx_R :=
  cx_fix (fun _ _ _ _ _ => none) (fun r_43 => tw_storms_43b N r_43)
theorem tw_storms_43_v {l : Launch} {g : cx_G} {adr : Nat → Nat} {X : cx_X} {N : Nat} (H : tw_H g adr) : ∀ (n : Nat) (M : cx_M) (x1 : Int32) (x2 : Int32) (x3 : Int32) (x4 : Int32) (rs : cx_R), tw_storms_43 N n M x1 x2 x3 x4 = some rs → cx_V l (g) X sX10_storms cX10_storms 43 [(0, .ref (adr 60)), (1, .int x1), (2, .int x2), (3, .int x3), (4, .int x4)] [] M 0 0 rs :=
  cx_fixI (fun (r : cx_M → Int32 → Int32 → Int32 → Int32 → Option cx_R) => ∀ (M : cx_M) (x1 : Int32) (x2 : Int32) (x3 : Int32) (x4 : Int32) (rs : cx_R), r M x1 x2 x3 x4 = some rs → cx_V l (g) X sX10_storms cX10_storms 43 [(0, .ref (adr 60)), (1, .int x1), (2, .int x2), (3, .int x3), (4, .int x4)] [] M 0 0 rs) (fun _ _ _ _ _ _ h => by cases h) (fun r hr M x1 x2 x3 x4 rs h => tw_storms_43b_v H hr M x1 x2 x3 x4 rs h)
noncomputable def tw_storms_0 (N : Nat) (M : cx_M) (x1 : Int32) (x2 : Int32) : Option cx_R :=
  cx_cal (tw_ready N M) fun M1 _ =>
  cx_cal (tw_isIn N M1 (Int32.toInt64 x1) 1 5) fun M2 v3 =>
  if v3 = 0 then (
    tw_storms_28 N M2)
  else (
    cx_cal (tw_isIn N M2 (Int32.toInt64 x2) 0 10) fun M4 v5 =>
    if v5 = 0 then (
      tw_storms_28 N M4)
    else (
      cx_cal (tw_rememberNow N M4) fun M6 _ =>
      tw_storms_43 N N M6 x1 x2 0 0))
set_option maxRecDepth 100000 in
theorem tw_storms_0_v {l : Launch} {g : cx_G} {adr : Nat → Nat} {X : cx_X} {N : Nat} (H : tw_H g adr) (M : cx_M) (x1 : Int32) (x2 : Int32) (rs : cx_R) (h : tw_storms_0 N M x1 x2 = some rs) : cx_V l (g) X sX10_storms cX10_storms 0 [(0, .ref (adr 60)), (1, .int x1), (2, .int x2)] [] M 0 0 rs := by
  unfold tw_storms_0 at h
  refine cx_aload_n 0 dX10_storms_0 rfl ?_
  refine cx_cVv [] [] h (fun rs' h' => tw_ready_m H M rs' h') (tw_rc H) dX10_storms_1 g_X10_247 hg_X10_247 ⟨cx_le rfl, cx_le rfl⟩ rfl ⟨rfl, rfl⟩ ⟨cx_le rfl, cx_le rfl⟩ rfl (cx_le rfl) (fun M1 _ h => ?_)
  refine cx_iload_n 1 dX10_storms_4 rfl ?_
  refine cx_i2l dX10_storms_5 ?_
  refine cx_lconst 1 dX10_storms_6 cx_lc_1 ?_
  refine cx_ldc2 5 dX10_storms_7 q2850 ?_
  refine cx_cSi [.long (Int32.toInt64 x1), .long 1, .long 5] [] h (fun rs' h' => tw_isIn_m H M1 (Int32.toInt64 x1) 1 5 rs' h') dX10_storms_10 g_X10_358 hg_X10_358 ⟨cx_le rfl, cx_le rfl⟩ rfl ⟨rfl, rfl⟩ ⟨cx_le rfl, cx_le rfl⟩ rfl (cx_le rfl) (fun M2 v3 h => ?_)
  refine cx_if_eq 28 h dX10_storms_13 rfl (fun h => ?_) (fun h => ?_)
  · refine cx_sub (lv' := [(0, .ref (adr 60))]) [0] rfl ?_
    exact tw_storms_28_v H M2 _ h
  · refine cx_iload_n 2 dX10_storms_16 rfl ?_
    refine cx_i2l dX10_storms_17 ?_
    refine cx_lconst 0 dX10_storms_18 cx_lc_0 ?_
    refine cx_ldc2 10 dX10_storms_19 q2931 ?_
    refine cx_cSi [.long (Int32.toInt64 x2), .long 0, .long 10] [] h (fun rs' h' => tw_isIn_m H M2 (Int32.toInt64 x2) 0 10 rs' h') dX10_storms_22 g_X10_358 hg_X10_358 ⟨cx_le rfl, cx_le rfl⟩ rfl ⟨rfl, rfl⟩ ⟨cx_le rfl, cx_le rfl⟩ rfl (cx_le rfl) (fun M4 v5 h => ?_)
    refine cx_if_ne 34 h dX10_storms_25 rfl (fun h => ?_) (fun h => ?_)
    · refine cx_iconst 0 dX10_storms_34 cx_ic_0 ?_
      refine cx_istore_n [(3, .int 0), (0, .ref (adr 60)), (1, .int x1), (2, .int x2)] dX10_storms_35 (cx_lt rfl) rfl ?_
      refine cx_aload_n 1 dX10_storms_36 rfl ?_
      refine cx_cVv [] [] h (fun rs' h' => tw_rememberNow_m H M4 rs' h') (tw_rc H) dX10_storms_37 g_X10_402 hg_X10_402 ⟨cx_le rfl, cx_le rfl⟩ rfl ⟨rfl, rfl⟩ ⟨cx_le rfl, cx_le rfl⟩ rfl (cx_le rfl) (fun M6 _ h => ?_)
      refine cx_iconst 0 dX10_storms_40 cx_ic_0 ?_
      refine cx_istore [(4, .int 0), (3, .int 0), (0, .ref (adr 60)), (1, .int x1), (2, .int x2)] dX10_storms_41 (cx_lt rfl) rfl ?_
      refine cx_sub (lv' := [(0, .ref (adr 60)), (1, .int x1), (2, .int x2), (3, .int 0), (4, .int 0)]) [2, 3, 4, 1, 0] rfl ?_
      exact tw_storms_43_v H N M6 x1 x2 0 0 _ h
    · refine cx_sub (lv' := [(0, .ref (adr 60))]) [0] rfl ?_
      exact tw_storms_28_v H M4 _ h
noncomputable def tw_storms (N : Nat) (M : cx_M) (x1 : Int32) (x2 : Int32) : Option cx_R := tw_storms_0 N M x1 x2
theorem tw_storms_m {l : Launch} {g : cx_G} {adr : Nat → Nat} {N : Nat} (H : tw_H g adr) (M : cx_M) (x1 : Int32) (x2 : Int32) (rs : cx_R) (h : tw_storms N M x1 x2 = some rs) : cx_Met l (g) yX10_storms cX10_storms sX10_storms [.ref (adr 60), .int x1, .int x2] M rs :=
  cx_met (by decide +kernel) rfl rfl (lv := [(0, .ref (adr 60)), (1, .int x1), (2, .int x2)]) rfl (cx_le rfl) (fun X => cx_sub (lv' := [(0, .ref (adr 60)), (1, .int x1), (2, .int x2)]) [0, 1, 2] rfl (tw_storms_0_v H M x1 x2 rs h))

abbrev sX10_then : cx_S := (3, RX10, cx_rI, { frames := 8, cells := 0, slots := 0, locals := 175 }, some .int, false)
noncomputable def tw_then_107 (N : Nat) (M : cx_M) (z1 : Int32) : Option cx_R :=
  cx_cal (tw_back N M z1) fun M1 v2 =>
  some (M1, v2, 0)
set_option maxRecDepth 100000 in
theorem tw_then_107_v {l : Launch} {g : cx_G} {adr : Nat → Nat} {X : cx_X} {N : Nat} (H : tw_H g adr) (M : cx_M) (z1 : Int32) (rs : cx_R) (h : tw_then_107 N M z1 = some rs) : cx_V l (g) X sX10_then cX10_then 107 [] [.int z1, .ref (adr 60)] M 0 0 rs := by
  unfold tw_then_107 at h
  refine cx_cVi [.int z1] [] h (fun rs' h' => tw_back_m H M z1 rs' h') (tw_rc H) dX10_then_107 g_X10_405 hg_X10_405 ⟨cx_le rfl, cx_le rfl⟩ rfl ⟨rfl, rfl⟩ ⟨cx_le rfl, cx_le rfl⟩ rfl (cx_le rfl) (fun M1 v2 h => ?_)
  exact cx_iret h rfl rfl (cx_le rfl) (cx_le rfl) dX10_then_110
noncomputable def tw_then_106 (N : Nat) (M : cx_M) (z2 : Int32) : Option cx_R :=
  cx_ld M 8 665 z2 fun v1 =>
  tw_then_107 N M v1
set_option maxRecDepth 100000 in
theorem tw_then_106_v {l : Launch} {g : cx_G} {adr : Nat → Nat} {X : cx_X} {N : Nat} (H : tw_H g adr) (M : cx_M) (z2 : Int32) (rs : cx_R) (h : tw_then_106 N M z2 = some rs) : cx_V l (g) X sX10_then cX10_then 106 [] [.int z2, .ref (adr 8), .ref (adr 60)] M 0 0 rs := by
  unfold tw_then_106 at h
  refine cx_ldI h (tw_A8 H) dX10_then_106 (fun v1 h => ?_)
  exact tw_then_107_v H M v1 _ h
noncomputable def tw_then_0 (N : Nat) (M : cx_M) (x1 : Int32) (x2 : Int32) : Option cx_R :=
  cx_cal (tw_ready N M) fun M1 _ =>
  cx_cal (tw_isIn N M1 (Int32.toInt64 x2) 0 5) fun M2 v3 =>
  if v3 = 0 then (
    cx_cal (tw_fail N M2 1) fun M12 v13 =>
    some (M12, v13, 0))
  else (
    cx_cal (tw_isIn N M2 (Int32.toInt64 x1) 0 400) fun M4 v5 =>
    if v5 = 0 then (
      cx_cal (tw_fail N M4 2) fun M10 v11 =>
      some (M10, v11, 0))
    else (
      cx_cal (tw_rememberNow N M4) fun M6 _ =>
      cx_cal (tw_goOn N M6 x1) fun M7 _ =>
      if x2 = 0 then (
        cx_cal (tw_levelNow N M7) fun M8 v9 =>
        tw_then_107 N M8 v9)
      else (
        if x2 = 1 then (
          tw_then_106 N M7 9)
        else (
          if x2 = 2 then (
            tw_then_106 N M7 8)
          else (
            if x2 = 3 then (
              tw_then_106 N M7 6)
            else (
              if x2 = 4 then (
                tw_then_106 N M7 7)
              else (
                tw_then_106 N M7 4)))))))
set_option maxRecDepth 100000 in
theorem tw_then_0_v {l : Launch} {g : cx_G} {adr : Nat → Nat} {X : cx_X} {N : Nat} (H : tw_H g adr) (M : cx_M) (x1 : Int32) (x2 : Int32) (rs : cx_R) (h : tw_then_0 N M x1 x2 = some rs) : cx_V l (g) X sX10_then cX10_then 0 [(0, .ref (adr 60)), (1, .int x1), (2, .int x2)] [] M 0 0 rs := by
  unfold tw_then_0 at h
  refine cx_aload_n 0 dX10_then_0 rfl ?_
  refine cx_cVv [] [] h (fun rs' h' => tw_ready_m H M rs' h') (tw_rc H) dX10_then_1 g_X10_247 hg_X10_247 ⟨cx_le rfl, cx_le rfl⟩ rfl ⟨rfl, rfl⟩ ⟨cx_le rfl, cx_le rfl⟩ rfl (cx_le rfl) (fun M1 _ h => ?_)
  refine cx_iload_n 2 dX10_then_4 rfl ?_
  refine cx_i2l dX10_then_5 ?_
  refine cx_lconst 0 dX10_then_6 cx_lc_0 ?_
  refine cx_ldc2 5 dX10_then_7 q2850 ?_
  refine cx_cSi [.long (Int32.toInt64 x2), .long 0, .long 5] [] h (fun rs' h' => tw_isIn_m H M1 (Int32.toInt64 x2) 0 5 rs' h') dX10_then_10 g_X10_358 hg_X10_358 ⟨cx_le rfl, cx_le rfl⟩ rfl ⟨rfl, rfl⟩ ⟨cx_le rfl, cx_le rfl⟩ rfl (cx_le rfl) (fun M2 v3 h => ?_)
  refine cx_if_ne 22 h dX10_then_13 rfl (fun h => ?_) (fun h => ?_)
  · refine cx_iload_n 1 dX10_then_22 rfl ?_
    refine cx_i2l dX10_then_23 ?_
    refine cx_lconst 0 dX10_then_24 cx_lc_0 ?_
    refine cx_ldc2 400 dX10_then_25 q2851 ?_
    refine cx_cSi [.long (Int32.toInt64 x1), .long 0, .long 400] [] h (fun rs' h' => tw_isIn_m H M2 (Int32.toInt64 x1) 0 400 rs' h') dX10_then_28 g_X10_358 hg_X10_358 ⟨cx_le rfl, cx_le rfl⟩ rfl ⟨rfl, rfl⟩ ⟨cx_le rfl, cx_le rfl⟩ rfl (cx_le rfl) (fun M4 v5 h => ?_)
    refine cx_if_ne 40 h dX10_then_31 rfl (fun h => ?_) (fun h => ?_)
    · refine cx_aload_n 0 dX10_then_40 rfl ?_
      refine cx_cVv [] [] h (fun rs' h' => tw_rememberNow_m H M4 rs' h') (tw_rc H) dX10_then_41 g_X10_402 hg_X10_402 ⟨cx_le rfl, cx_le rfl⟩ rfl ⟨rfl, rfl⟩ ⟨cx_le rfl, cx_le rfl⟩ rfl (cx_le rfl) (fun M6 _ h => ?_)
      refine cx_aload_n 0 dX10_then_44 rfl ?_
      refine cx_iload_n 1 dX10_then_45 rfl ?_
      refine cx_cVv [.int x1] [] h (fun rs' h' => tw_goOn_m H M6 x1 rs' h') (tw_rc H) dX10_then_46 g_X10_387 hg_X10_387 ⟨cx_le rfl, cx_le rfl⟩ rfl ⟨rfl, rfl⟩ ⟨cx_le rfl, cx_le rfl⟩ rfl (cx_le rfl) (fun M7 _ h => ?_)
      refine cx_aload_n 0 dX10_then_49 rfl ?_
      refine cx_iload_n 2 dX10_then_50 rfl ?_
      refine cx_if_ne 61 h dX10_then_51 rfl (fun h => ?_) (fun h => ?_)
      · refine cx_aload_n 0 dX10_then_61 rfl ?_
        refine cx_getR (tw_R8 H) q2398 dX10_then_62 ?_
        refine cx_iload_n 2 dX10_then_65 rfl ?_
        refine cx_iconst 1 dX10_then_66 cx_ic_1 ?_
        refine cx_icmp_ne 75 h dX10_then_67 rfl (fun h => ?_) (fun h => ?_)
        · refine cx_iload_n 2 dX10_then_75 rfl ?_
          refine cx_iconst 2 dX10_then_76 cx_ic_2 ?_
          refine cx_icmp_ne 85 h dX10_then_77 rfl (fun h => ?_) (fun h => ?_)
          · refine cx_iload_n 2 dX10_then_85 rfl ?_
            refine cx_iconst 3 dX10_then_86 cx_ic_3 ?_
            refine cx_icmp_ne 95 h dX10_then_87 rfl (fun h => ?_) (fun h => ?_)
            · refine cx_iload_n 2 dX10_then_95 rfl ?_
              refine cx_iconst 4 dX10_then_96 cx_ic_4 ?_
              refine cx_icmp_ne 105 h dX10_then_97 rfl (fun h => ?_) (fun h => ?_)
              · refine cx_iconst 4 dX10_then_105 cx_ic_4 ?_
                refine cx_sub (lv' := []) [] rfl ?_
                exact tw_then_106_v H M7 4 _ h
              · refine cx_bipush 7 dX10_then_100 cx_bp_7 ?_
                refine cx_goto 106 dX10_then_102 rfl ?_
                refine cx_sub (lv' := []) [] rfl ?_
                exact tw_then_106_v H M7 7 _ h
            · refine cx_bipush 6 dX10_then_90 cx_bp_6 ?_
              refine cx_goto 106 dX10_then_92 rfl ?_
              refine cx_sub (lv' := []) [] rfl ?_
              exact tw_then_106_v H M7 6 _ h
          · refine cx_bipush 8 dX10_then_80 cx_bp_8 ?_
            refine cx_goto 106 dX10_then_82 rfl ?_
            refine cx_sub (lv' := []) [] rfl ?_
            exact tw_then_106_v H M7 8 _ h
        · refine cx_bipush 9 dX10_then_70 cx_bp_9 ?_
          refine cx_goto 106 dX10_then_72 rfl ?_
          refine cx_sub (lv' := []) [] rfl ?_
          exact tw_then_106_v H M7 9 _ h
      · refine cx_aload_n 0 dX10_then_54 rfl ?_
        refine cx_cVi [] [.ref (adr 60)] h (fun rs' h' => tw_levelNow_m H M7 rs' h') (tw_rc H) dX10_then_55 g_X10_325 hg_X10_325 ⟨cx_le rfl, cx_le rfl⟩ rfl ⟨rfl, rfl⟩ ⟨cx_le rfl, cx_le rfl⟩ rfl (cx_le rfl) (fun M8 v9 h => ?_)
        refine cx_goto 107 dX10_then_58 rfl ?_
        refine cx_sub (lv' := []) [] rfl ?_
        exact tw_then_107_v H M8 v9 _ h
    · refine cx_aload_n 0 dX10_then_34 rfl ?_
      refine cx_iconst 2 dX10_then_35 cx_ic_2 ?_
      refine cx_cVi [.int 2] [] h (fun rs' h' => tw_fail_m H M4 2 rs' h') (tw_rc H) dX10_then_36 g_X10_250 hg_X10_250 ⟨cx_le rfl, cx_le rfl⟩ rfl ⟨rfl, rfl⟩ ⟨cx_le rfl, cx_le rfl⟩ rfl (cx_le rfl) (fun M10 v11 h => ?_)
      exact cx_iret h rfl rfl (cx_le rfl) (cx_le rfl) dX10_then_39
  · refine cx_aload_n 0 dX10_then_16 rfl ?_
    refine cx_iconst 1 dX10_then_17 cx_ic_1 ?_
    refine cx_cVi [.int 1] [] h (fun rs' h' => tw_fail_m H M2 1 rs' h') (tw_rc H) dX10_then_18 g_X10_250 hg_X10_250 ⟨cx_le rfl, cx_le rfl⟩ rfl ⟨rfl, rfl⟩ ⟨cx_le rfl, cx_le rfl⟩ rfl (cx_le rfl) (fun M12 v13 h => ?_)
    exact cx_iret h rfl rfl (cx_le rfl) (cx_le rfl) dX10_then_21
noncomputable def tw_then (N : Nat) (M : cx_M) (x1 : Int32) (x2 : Int32) : Option cx_R := tw_then_0 N M x1 x2
theorem tw_then_m {l : Launch} {g : cx_G} {adr : Nat → Nat} {N : Nat} (H : tw_H g adr) (M : cx_M) (x1 : Int32) (x2 : Int32) (rs : cx_R) (h : tw_then N M x1 x2 = some rs) : cx_Met l (g) yX10_then cX10_then sX10_then [.ref (adr 60), .int x1, .int x2] M rs :=
  cx_met (by decide +kernel) rfl rfl (lv := [(0, .ref (adr 60)), (1, .int x1), (2, .int x2)]) rfl (cx_le rfl) (fun X => cx_sub (lv' := [(0, .ref (adr 60)), (1, .int x1), (2, .int x2)]) [0, 1, 2] rfl (tw_then_0_v H M x1 x2 rs h))

abbrev sX10_thrown : cx_S := (1, RX10, cx_rI, { frames := 0, cells := 0, slots := 0, locals := 0 }, some .int, false)
noncomputable def tw_thrown_0 (N : Nat) (M : cx_M) : Option cx_R :=
  cx_get M 60 2 fun v1 =>
  some (M, v1, 0)
set_option maxRecDepth 100000 in
theorem tw_thrown_0_v {l : Launch} {g : cx_G} {adr : Nat → Nat} {X : cx_X} {N : Nat} (H : tw_H g adr) (M : cx_M) (rs : cx_R) (h : tw_thrown_0 N M = some rs) : cx_V l (g) X sX10_thrown cX10_thrown 0 [(0, .ref (adr 60))] [] M 0 0 rs := by
  unfold tw_thrown_0 at h
  refine cx_aload_n 0 dX10_thrown_0 rfl ?_
  refine cx_getI h (tw_F2 H) q2392 dX10_thrown_1 (fun v1 h => ?_)
  exact cx_iret h rfl rfl (cx_le rfl) (cx_le rfl) dX10_thrown_4
noncomputable def tw_thrown (N : Nat) (M : cx_M) : Option cx_R := tw_thrown_0 N M
theorem tw_thrown_m {l : Launch} {g : cx_G} {adr : Nat → Nat} {N : Nat} (H : tw_H g adr) (M : cx_M) (rs : cx_R) (h : tw_thrown N M = some rs) : cx_Met l (g) yX10_thrown cX10_thrown sX10_thrown [.ref (adr 60)] M rs :=
  cx_met (by decide +kernel) rfl rfl (lv := [(0, .ref (adr 60))]) rfl (cx_le rfl) (fun X => cx_sub (lv' := [(0, .ref (adr 60))]) [0] rfl (tw_thrown_0_v H M rs h))

abbrev sX10_tryBest : cx_S := (3, RX10, cx_rV, { frames := 0, cells := 0, slots := 0, locals := 0 }, none, false)
noncomputable def tw_tryBest_22 (N : Nat) (M : cx_M) (x1 : Int32) (x2 : Int32) : Option cx_R :=
  cx_put M 60 36 x1 fun M1 =>
  cx_put M1 60 37 x2 fun M2 =>
  some (M2, 0, 0)
set_option maxRecDepth 100000 in
theorem tw_tryBest_22_v {l : Launch} {g : cx_G} {adr : Nat → Nat} {X : cx_X} {N : Nat} (H : tw_H g adr) (M : cx_M) (x1 : Int32) (x2 : Int32) (rs : cx_R) (h : tw_tryBest_22 N M x1 x2 = some rs) : cx_V l (g) X sX10_tryBest cX10_tryBest 22 [(0, .ref (adr 60)), (1, .int x1), (2, .int x2)] [] M 0 0 rs := by
  unfold tw_tryBest_22 at h
  refine cx_aload_n 0 dX10_tryBest_22 rfl ?_
  refine cx_iload_n 1 dX10_tryBest_23 rfl ?_
  refine cx_putI h (tw_F36 H) rfl rfl rfl q2426 dX10_tryBest_24 (fun M1 h => ?_)
  refine cx_aload_n 0 dX10_tryBest_27 rfl ?_
  refine cx_iload_n 2 dX10_tryBest_28 rfl ?_
  refine cx_putI h (tw_F37 H) rfl rfl rfl q2427 dX10_tryBest_29 (fun M2 h => ?_)
  exact cx_vret h rfl rfl (cx_le rfl) (cx_le rfl) dX10_tryBest_32
noncomputable def tw_tryBest_0 (N : Nat) (M : cx_M) (x1 : Int32) (x2 : Int32) : Option cx_R :=
  if x2 = (-1) then (
    some (M, 0, 0))
  else (
    cx_get M 60 36 fun v1 =>
    if v1 = (-1) then (
      tw_tryBest_22 N M x1 x2)
    else (
      cx_get M 60 37 fun v2 =>
      if x2 < v2 then (
        tw_tryBest_22 N M x1 x2)
      else (
        some (M, 0, 0))))
set_option maxRecDepth 100000 in
theorem tw_tryBest_0_v {l : Launch} {g : cx_G} {adr : Nat → Nat} {X : cx_X} {N : Nat} (H : tw_H g adr) (M : cx_M) (x1 : Int32) (x2 : Int32) (rs : cx_R) (h : tw_tryBest_0 N M x1 x2 = some rs) : cx_V l (g) X sX10_tryBest cX10_tryBest 0 [(0, .ref (adr 60)), (1, .int x1), (2, .int x2)] [] M 0 0 rs := by
  unfold tw_tryBest_0 at h
  refine cx_iload_n 2 dX10_tryBest_0 rfl ?_
  refine cx_iconst (-1) dX10_tryBest_1 cx_ic_m1 ?_
  refine cx_icmp_eq 21 h dX10_tryBest_2 rfl (fun h => ?_) (fun h => ?_)
  · exact cx_vret h rfl rfl (cx_le rfl) (cx_le rfl) dX10_tryBest_21
  · refine cx_aload_n 0 dX10_tryBest_5 rfl ?_
    refine cx_getI h (tw_F36 H) q2426 dX10_tryBest_6 (fun v1 h => ?_)
    refine cx_iconst (-1) dX10_tryBest_9 cx_ic_m1 ?_
    refine cx_icmp_eq 22 h dX10_tryBest_10 rfl (fun h => ?_) (fun h => ?_)
    · exact tw_tryBest_22_v H M x1 x2 _ h
    · refine cx_iload_n 2 dX10_tryBest_13 rfl ?_
      refine cx_aload_n 0 dX10_tryBest_14 rfl ?_
      refine cx_getI h (tw_F37 H) q2427 dX10_tryBest_15 (fun v2 h => ?_)
      refine cx_icmp_lt 22 h dX10_tryBest_18 rfl (fun h => ?_) (fun h => ?_)
      · exact tw_tryBest_22_v H M x1 x2 _ h
      · exact cx_vret h rfl rfl (cx_le rfl) (cx_le rfl) dX10_tryBest_21
noncomputable def tw_tryBest (N : Nat) (M : cx_M) (x1 : Int32) (x2 : Int32) : Option cx_R := tw_tryBest_0 N M x1 x2
theorem tw_tryBest_m {l : Launch} {g : cx_G} {adr : Nat → Nat} {N : Nat} (H : tw_H g adr) (M : cx_M) (x1 : Int32) (x2 : Int32) (rs : cx_R) (h : tw_tryBest N M x1 x2 = some rs) : cx_Met l (g) yX10_tryBest cX10_tryBest sX10_tryBest [.ref (adr 60), .int x1, .int x2] M rs :=
  cx_met (by decide +kernel) rfl rfl (lv := [(0, .ref (adr 60)), (1, .int x1), (2, .int x2)]) rfl (cx_le rfl) (fun X => cx_sub (lv' := [(0, .ref (adr 60)), (1, .int x1), (2, .int x2)]) [0, 1, 2] rfl (tw_tryBest_0_v H M x1 x2 rs h))

abbrev sX10_toAim : cx_S := (5, RX10, cx_rI, { frames := 8, cells := 0, slots := 0, locals := 175 }, some .int, false)
noncomputable def tw_toAim_49b (N : Nat) (r_49 : cx_M → Int32 → Int32 → Int32 → Option cx_R) (M : cx_M) (x1 : Int32) (x2 : Int32) (x3 : Int32) : Option cx_R :=
  if 64 < x3 then (
    if x2 = 0 then (
      cx_get M 60 36 fun v2 =>
      some (M, v2, 0))
    else (
      cx_get M 60 37 fun v1 =>
      some (M, v1, 0)))
  else (
    cx_put M 8 29 x3 fun M3 =>
    cx_cal (tw_goOn N M3 x1) fun M4 _ =>
    cx_get M4 8 7 fun v5 =>
    cx_get M4 34 7 fun v6 =>
    cx_let (v5 - v6) fun v7 =>
    cx_cal (tw_back N M4 0) fun M8 v9 =>
    cx_cal (tw_tryBest N M8 x3 v7) fun M10 _ =>
    cx_let (x3 + 1) fun v11 =>
    r_49 M10 x1 x2 v11)
set_option maxRecDepth 100000 in
theorem tw_toAim_49b_v {l : Launch} {g : cx_G} {adr : Nat → Nat} {X : cx_X} {N : Nat} {r_49 : cx_M → Int32 → Int32 → Int32 → Option cx_R} (H : tw_H g adr) (hr_49 : ∀ (M : cx_M) (x1 : Int32) (x2 : Int32) (x3 : Int32) (rs : cx_R), r_49 M x1 x2 x3 = some rs → cx_V l (g) X sX10_toAim cX10_toAim 49 [(0, .ref (adr 60)), (1, .int x1), (2, .int x2), (3, .int x3)] [] M 0 0 rs) (M : cx_M) (x1 : Int32) (x2 : Int32) (x3 : Int32) (rs : cx_R) (h : tw_toAim_49b N r_49 M x1 x2 x3 = some rs) : cx_V l (g) X sX10_toAim cX10_toAim 49 [(0, .ref (adr 60)), (1, .int x1), (2, .int x2), (3, .int x3)] [] M 0 0 rs := by
  unfold tw_toAim_49b at h
  refine cx_iload_n 3 dX10_toAim_49 rfl ?_
  refine cx_bipush 64 dX10_toAim_50 cx_bp_64 ?_
  refine cx_icmp_gt 104 h dX10_toAim_52 rfl (fun h => ?_) (fun h => ?_)
  · refine cx_iload_n 2 dX10_toAim_104 rfl ?_
    refine cx_if_ne 115 h dX10_toAim_105 rfl (fun h => ?_) (fun h => ?_)
    · refine cx_aload_n 0 dX10_toAim_115 rfl ?_
      refine cx_getI h (tw_F37 H) q2427 dX10_toAim_116 (fun v1 h => ?_)
      exact cx_iret h rfl rfl (cx_le rfl) (cx_le rfl) dX10_toAim_119
    · refine cx_aload_n 0 dX10_toAim_108 rfl ?_
      refine cx_getI h (tw_F36 H) q2426 dX10_toAim_109 (fun v2 h => ?_)
      refine cx_goto 119 dX10_toAim_112 rfl ?_
      exact cx_iret h rfl rfl (cx_le rfl) (cx_le rfl) dX10_toAim_119
  · refine cx_aload_n 0 dX10_toAim_55 rfl ?_
    refine cx_getR (tw_R8 H) q2398 dX10_toAim_56 ?_
    refine cx_bipush 29 dX10_toAim_59 cx_bp_29 ?_
    refine cx_iload_n 3 dX10_toAim_61 rfl ?_
    refine cx_stC h (tw_A8 H) cx_cl_29 cx_vin_29_665 dX10_toAim_62 (fun M3 h => ?_)
    refine cx_aload_n 0 dX10_toAim_63 rfl ?_
    refine cx_iload_n 1 dX10_toAim_64 rfl ?_
    refine cx_cVv [.int x1] [] h (fun rs' h' => tw_goOn_m H M3 x1 rs' h') (tw_rc H) dX10_toAim_65 g_X10_387 hg_X10_387 ⟨cx_le rfl, cx_le rfl⟩ rfl ⟨rfl, rfl⟩ ⟨cx_le rfl, cx_le rfl⟩ rfl (cx_le rfl) (fun M4 _ h => ?_)
    refine cx_aload_n 0 dX10_toAim_68 rfl ?_
    refine cx_getR (tw_R8 H) q2398 dX10_toAim_69 ?_
    refine cx_bipush 7 dX10_toAim_72 cx_bp_7 ?_
    refine cx_ldC h (tw_A8 H) cx_cl_7 cx_vin_7_665 dX10_toAim_74 (fun v5 h => ?_)
    refine cx_aload_n 0 dX10_toAim_75 rfl ?_
    refine cx_getR (tw_R34 H) q2424 dX10_toAim_76 ?_
    refine cx_bipush 7 dX10_toAim_79 cx_bp_7 ?_
    refine cx_ldC h (tw_A34 H) cx_cl_7 cx_vin_7_665 dX10_toAim_81 (fun v6 h => ?_)
    refine cx_isub dX10_toAim_82 ?_
    refine cx_letI h (fun v7 h => ?_)
    refine cx_istore [(4, .int v7), (0, .ref (adr 60)), (1, .int x1), (2, .int x2), (3, .int x3)] dX10_toAim_83 (cx_lt rfl) rfl ?_
    refine cx_aload_n 1 dX10_toAim_85 rfl ?_
    refine cx_iconst 0 dX10_toAim_86 cx_ic_0 ?_
    refine cx_cVi [.int 0] [] h (fun rs' h' => tw_back_m H M4 0 rs' h') (tw_rc H) dX10_toAim_87 g_X10_405 hg_X10_405 ⟨cx_le rfl, cx_le rfl⟩ rfl ⟨rfl, rfl⟩ ⟨cx_le rfl, cx_le rfl⟩ rfl (cx_le rfl) (fun M8 v9 h => ?_)
    refine cx_pop dX10_toAim_90 rfl ?_
    refine cx_aload_n 1 dX10_toAim_91 rfl ?_
    refine cx_iload_n 4 dX10_toAim_92 rfl ?_
    refine cx_iload 0 dX10_toAim_93 rfl ?_
    refine cx_cVv [.int x3, .int v7] [] h (fun rs' h' => tw_tryBest_m H M8 x3 v7 rs' h') (tw_rc H) dX10_toAim_95 g_X10_425 hg_X10_425 ⟨cx_le rfl, cx_le rfl⟩ rfl ⟨rfl, rfl⟩ ⟨cx_le rfl, cx_le rfl⟩ rfl (cx_le rfl) (fun M10 _ h => ?_)
    refine cx_iinc 4 1 (fun v11 => [(3, .int v11), (4, .int v7), (0, .ref (adr 60)), (1, .int x1), (2, .int x2)]) h dX10_toAim_98 rfl cx_ic_1 (cx_lt rfl) (fun _ => rfl) (fun v11 h => ?_)
    refine cx_goto 49 dX10_toAim_101 rfl ?_
    refine cx_sub (lv' := [(0, .ref (adr 60)), (1, .int x1), (2, .int x2), (3, .int v11)]) [2, 3, 4, 0] rfl ?_
    exact hr_49 M10 x1 x2 v11 _ h
noncomputable def tw_toAim_49 (N : Nat) : Nat → cx_M → Int32 → Int32 → Int32 → Option cx_R :=
  cx_fix (fun _ _ _ _ => none) (fun r_49 => tw_toAim_49b N r_49)
theorem tw_toAim_49_v {l : Launch} {g : cx_G} {adr : Nat → Nat} {X : cx_X} {N : Nat} (H : tw_H g adr) : ∀ (n : Nat) (M : cx_M) (x1 : Int32) (x2 : Int32) (x3 : Int32) (rs : cx_R), tw_toAim_49 N n M x1 x2 x3 = some rs → cx_V l (g) X sX10_toAim cX10_toAim 49 [(0, .ref (adr 60)), (1, .int x1), (2, .int x2), (3, .int x3)] [] M 0 0 rs :=
  cx_fixI (fun (r : cx_M → Int32 → Int32 → Int32 → Option cx_R) => ∀ (M : cx_M) (x1 : Int32) (x2 : Int32) (x3 : Int32) (rs : cx_R), r M x1 x2 x3 = some rs → cx_V l (g) X sX10_toAim cX10_toAim 49 [(0, .ref (adr 60)), (1, .int x1), (2, .int x2), (3, .int x3)] [] M 0 0 rs) (fun _ _ _ _ _ h => by cases h) (fun r hr M x1 x2 x3 rs h => tw_toAim_49b_v H hr M x1 x2 x3 rs h)
noncomputable def tw_toAim_0 (N : Nat) (M : cx_M) (x1 : Int32) (x2 : Int32) : Option cx_R :=
  cx_cal (tw_ready N M) fun M1 _ =>
  cx_cal (tw_isIn N M1 (Int32.toInt64 x2) 0 1) fun M2 v3 =>
  if v3 = 0 then (
    cx_cal (tw_fail N M2 1) fun M10 v11 =>
    some (M10, v11, 0))
  else (
    cx_cal (tw_isIn N M2 (Int32.toInt64 x1) 1 400) fun M4 v5 =>
    if v5 = 0 then (
      cx_cal (tw_fail N M4 2) fun M8 v9 =>
      some (M8, v9, 0))
    else (
      cx_put M4 60 36 (-1) fun M6 =>
      cx_cal (tw_rememberNow N M6) fun M7 _ =>
      tw_toAim_49 N N M7 x1 x2 1))
set_option maxRecDepth 100000 in
theorem tw_toAim_0_v {l : Launch} {g : cx_G} {adr : Nat → Nat} {X : cx_X} {N : Nat} (H : tw_H g adr) (M : cx_M) (x1 : Int32) (x2 : Int32) (rs : cx_R) (h : tw_toAim_0 N M x1 x2 = some rs) : cx_V l (g) X sX10_toAim cX10_toAim 0 [(0, .ref (adr 60)), (1, .int x1), (2, .int x2)] [] M 0 0 rs := by
  unfold tw_toAim_0 at h
  refine cx_aload_n 0 dX10_toAim_0 rfl ?_
  refine cx_cVv [] [] h (fun rs' h' => tw_ready_m H M rs' h') (tw_rc H) dX10_toAim_1 g_X10_247 hg_X10_247 ⟨cx_le rfl, cx_le rfl⟩ rfl ⟨rfl, rfl⟩ ⟨cx_le rfl, cx_le rfl⟩ rfl (cx_le rfl) (fun M1 _ h => ?_)
  refine cx_iload_n 2 dX10_toAim_4 rfl ?_
  refine cx_i2l dX10_toAim_5 ?_
  refine cx_lconst 0 dX10_toAim_6 cx_lc_0 ?_
  refine cx_lconst 1 dX10_toAim_7 cx_lc_1 ?_
  refine cx_cSi [.long (Int32.toInt64 x2), .long 0, .long 1] [] h (fun rs' h' => tw_isIn_m H M1 (Int32.toInt64 x2) 0 1 rs' h') dX10_toAim_8 g_X10_358 hg_X10_358 ⟨cx_le rfl, cx_le rfl⟩ rfl ⟨rfl, rfl⟩ ⟨cx_le rfl, cx_le rfl⟩ rfl (cx_le rfl) (fun M2 v3 h => ?_)
  refine cx_if_ne 20 h dX10_toAim_11 rfl (fun h => ?_) (fun h => ?_)
  · refine cx_iload_n 1 dX10_toAim_20 rfl ?_
    refine cx_i2l dX10_toAim_21 ?_
    refine cx_lconst 1 dX10_toAim_22 cx_lc_1 ?_
    refine cx_ldc2 400 dX10_toAim_23 q2851 ?_
    refine cx_cSi [.long (Int32.toInt64 x1), .long 1, .long 400] [] h (fun rs' h' => tw_isIn_m H M2 (Int32.toInt64 x1) 1 400 rs' h') dX10_toAim_26 g_X10_358 hg_X10_358 ⟨cx_le rfl, cx_le rfl⟩ rfl ⟨rfl, rfl⟩ ⟨cx_le rfl, cx_le rfl⟩ rfl (cx_le rfl) (fun M4 v5 h => ?_)
    refine cx_if_ne 38 h dX10_toAim_29 rfl (fun h => ?_) (fun h => ?_)
    · refine cx_aload_n 0 dX10_toAim_38 rfl ?_
      refine cx_iconst (-1) dX10_toAim_39 cx_ic_m1 ?_
      refine cx_putI h (tw_F36 H) rfl rfl rfl q2426 dX10_toAim_40 (fun M6 h => ?_)
      refine cx_aload_n 0 dX10_toAim_43 rfl ?_
      refine cx_cVv [] [] h (fun rs' h' => tw_rememberNow_m H M6 rs' h') (tw_rc H) dX10_toAim_44 g_X10_402 hg_X10_402 ⟨cx_le rfl, cx_le rfl⟩ rfl ⟨rfl, rfl⟩ ⟨cx_le rfl, cx_le rfl⟩ rfl (cx_le rfl) (fun M7 _ h => ?_)
      refine cx_iconst 1 dX10_toAim_47 cx_ic_1 ?_
      refine cx_istore_n [(3, .int 1), (0, .ref (adr 60)), (1, .int x1), (2, .int x2)] dX10_toAim_48 (cx_lt rfl) rfl ?_
      refine cx_sub (lv' := [(0, .ref (adr 60)), (1, .int x1), (2, .int x2), (3, .int 1)]) [1, 2, 3, 0] rfl ?_
      exact tw_toAim_49_v H N M7 x1 x2 1 _ h
    · refine cx_aload_n 0 dX10_toAim_32 rfl ?_
      refine cx_iconst 2 dX10_toAim_33 cx_ic_2 ?_
      refine cx_cVi [.int 2] [] h (fun rs' h' => tw_fail_m H M4 2 rs' h') (tw_rc H) dX10_toAim_34 g_X10_250 hg_X10_250 ⟨cx_le rfl, cx_le rfl⟩ rfl ⟨rfl, rfl⟩ ⟨cx_le rfl, cx_le rfl⟩ rfl (cx_le rfl) (fun M8 v9 h => ?_)
      exact cx_iret h rfl rfl (cx_le rfl) (cx_le rfl) dX10_toAim_37
  · refine cx_aload_n 0 dX10_toAim_14 rfl ?_
    refine cx_iconst 1 dX10_toAim_15 cx_ic_1 ?_
    refine cx_cVi [.int 1] [] h (fun rs' h' => tw_fail_m H M2 1 rs' h') (tw_rc H) dX10_toAim_16 g_X10_250 hg_X10_250 ⟨cx_le rfl, cx_le rfl⟩ rfl ⟨rfl, rfl⟩ ⟨cx_le rfl, cx_le rfl⟩ rfl (cx_le rfl) (fun M10 v11 h => ?_)
    exact cx_iret h rfl rfl (cx_le rfl) (cx_le rfl) dX10_toAim_19
noncomputable def tw_toAim (N : Nat) (M : cx_M) (x1 : Int32) (x2 : Int32) : Option cx_R := tw_toAim_0 N M x1 x2
theorem tw_toAim_m {l : Launch} {g : cx_G} {adr : Nat → Nat} {N : Nat} (H : tw_H g adr) (M : cx_M) (x1 : Int32) (x2 : Int32) (rs : cx_R) (h : tw_toAim N M x1 x2 = some rs) : cx_Met l (g) yX10_toAim cX10_toAim sX10_toAim [.ref (adr 60), .int x1, .int x2] M rs :=
  cx_met (by decide +kernel) rfl rfl (lv := [(0, .ref (adr 60)), (1, .int x1), (2, .int x2)]) rfl (cx_le rfl) (fun X => cx_sub (lv' := [(0, .ref (adr 60)), (1, .int x1), (2, .int x2)]) [0, 1, 2] rfl (tw_toAim_0_v H M x1 x2 rs h))

abbrev sX10_toGain : cx_S := (5, RX10, cx_rI, { frames := 8, cells := 0, slots := 0, locals := 176 }, some .int, false)
noncomputable def tw_toGain_82b (N : Nat) (r_68 : cx_M → Int32 → Int32 → Int32 → Int32 → Option cx_R) (r_82 : cx_M → Int32 → Int32 → Int32 → Int32 → Option cx_R) (M : cx_M) (x1 : Int32) (x2 : Int32) (x3 : Int32) (x4 : Int32) : Option cx_R :=
  cx_get M 60 25 fun v1 =>
  if 3 < v1 then (
    cx_get M 60 24 fun v2 =>
    cx_put M 60 24 (v2 + 1) fun M3 =>
    r_68 M3 x1 x2 x3 x4)
  else (
    cx_get M 60 24 fun v4 =>
    cx_get M 60 25 fun v5 =>
    cx_cal (tw_farOff N M x1) fun M6 v7 =>
    cx_cal (tw_tryBest N M6 (((10 : Int32) * v4) + v5) v7) fun M8 _ =>
    cx_get M8 60 25 fun v9 =>
    cx_put M8 60 25 (v9 + 1) fun M10 =>
    r_82 M10 x1 x2 x3 x4)
set_option maxRecDepth 100000 in
theorem tw_toGain_82b_v {l : Launch} {g : cx_G} {adr : Nat → Nat} {X : cx_X} {N : Nat} {r_68 : cx_M → Int32 → Int32 → Int32 → Int32 → Option cx_R} {r_82 : cx_M → Int32 → Int32 → Int32 → Int32 → Option cx_R} (H : tw_H g adr) (hr_68 : ∀ (M : cx_M) (x1 : Int32) (x2 : Int32) (x3 : Int32) (x4 : Int32) (rs : cx_R), r_68 M x1 x2 x3 x4 = some rs → cx_V l (g) X sX10_toGain cX10_toGain 68 [(0, .ref (adr 60)), (1, .int x1), (2, .int x2), (3, .int x3), (4, .int x4)] [] M 0 0 rs) (hr_82 : ∀ (M : cx_M) (x1 : Int32) (x2 : Int32) (x3 : Int32) (x4 : Int32) (rs : cx_R), r_82 M x1 x2 x3 x4 = some rs → cx_V l (g) X sX10_toGain cX10_toGain 82 [(0, .ref (adr 60)), (1, .int x1), (2, .int x2), (3, .int x3), (4, .int x4)] [] M 0 0 rs) (M : cx_M) (x1 : Int32) (x2 : Int32) (x3 : Int32) (x4 : Int32) (rs : cx_R) (h : tw_toGain_82b N r_68 r_82 M x1 x2 x3 x4 = some rs) : cx_V l (g) X sX10_toGain cX10_toGain 82 [(0, .ref (adr 60)), (1, .int x1), (2, .int x2), (3, .int x3), (4, .int x4)] [] M 0 0 rs := by
  unfold tw_toGain_82b at h
  refine cx_aload_n 0 dX10_toGain_82 rfl ?_
  refine cx_getI h (tw_F25 H) q2415 dX10_toGain_83 (fun v1 h => ?_)
  refine cx_iconst 3 dX10_toGain_86 cx_ic_3 ?_
  refine cx_icmp_gt 124 h dX10_toGain_87 rfl (fun h => ?_) (fun h => ?_)
  · refine cx_aload_n 0 dX10_toGain_124 rfl ?_
    refine cx_dup dX10_toGain_125 rfl ?_
    refine cx_getI h (tw_F24 H) q2414 dX10_toGain_126 (fun v2 h => ?_)
    refine cx_iconst 1 dX10_toGain_129 cx_ic_1 ?_
    refine cx_iadd dX10_toGain_130 ?_
    refine cx_putI h (tw_F24 H) rfl rfl rfl q2414 dX10_toGain_131 (fun M3 h => ?_)
    refine cx_goto 68 dX10_toGain_134 rfl ?_
    exact hr_68 M3 x1 x2 x3 x4 _ h
  · refine cx_aload_n 0 dX10_toGain_90 rfl ?_
    refine cx_bipush 10 dX10_toGain_91 cx_bp_10 ?_
    refine cx_aload_n 0 dX10_toGain_93 rfl ?_
    refine cx_getI h (tw_F24 H) q2414 dX10_toGain_94 (fun v4 h => ?_)
    refine cx_imul dX10_toGain_97 ?_
    refine cx_aload_n 0 dX10_toGain_98 rfl ?_
    refine cx_getI h (tw_F25 H) q2415 dX10_toGain_99 (fun v5 h => ?_)
    refine cx_iadd dX10_toGain_102 ?_
    refine cx_aload_n 0 dX10_toGain_103 rfl ?_
    refine cx_iload_n 1 dX10_toGain_104 rfl ?_
    refine cx_cVi [.int x1] [.int (((10 : Int32) * v4) + v5), .ref (adr 60)] h (fun rs' h' => tw_farOff_m H M x1 rs' h') (tw_rc H) dX10_toGain_105 g_X10_428 hg_X10_428 ⟨cx_le rfl, cx_le rfl⟩ rfl ⟨rfl, rfl⟩ ⟨cx_le rfl, cx_le rfl⟩ rfl (cx_le rfl) (fun M6 v7 h => ?_)
    refine cx_cVv [.int (((10 : Int32) * v4) + v5), .int v7] [] h (fun rs' h' => tw_tryBest_m H M6 (((10 : Int32) * v4) + v5) v7 rs' h') (tw_rc H) dX10_toGain_108 g_X10_425 hg_X10_425 ⟨cx_le rfl, cx_le rfl⟩ rfl ⟨rfl, rfl⟩ ⟨cx_le rfl, cx_le rfl⟩ rfl (cx_le rfl) (fun M8 _ h => ?_)
    refine cx_aload_n 0 dX10_toGain_111 rfl ?_
    refine cx_dup dX10_toGain_112 rfl ?_
    refine cx_getI h (tw_F25 H) q2415 dX10_toGain_113 (fun v9 h => ?_)
    refine cx_iconst 1 dX10_toGain_116 cx_ic_1 ?_
    refine cx_iadd dX10_toGain_117 ?_
    refine cx_putI h (tw_F25 H) rfl rfl rfl q2415 dX10_toGain_118 (fun M10 h => ?_)
    refine cx_goto 82 dX10_toGain_121 rfl ?_
    exact hr_82 M10 x1 x2 x3 x4 _ h
noncomputable def tw_toGain_82 (N : Nat) (r_68 : cx_M → Int32 → Int32 → Int32 → Int32 → Option cx_R) : Nat → cx_M → Int32 → Int32 → Int32 → Int32 → Option cx_R :=
  cx_fix (fun _ _ _ _ _ => none) (fun r_82 => tw_toGain_82b N r_68 r_82)
theorem tw_toGain_82_v {l : Launch} {g : cx_G} {adr : Nat → Nat} {X : cx_X} {N : Nat} {r_68 : cx_M → Int32 → Int32 → Int32 → Int32 → Option cx_R} (H : tw_H g adr) (hr_68 : ∀ (M : cx_M) (x1 : Int32) (x2 : Int32) (x3 : Int32) (x4 : Int32) (rs : cx_R), r_68 M x1 x2 x3 x4 = some rs → cx_V l (g) X sX10_toGain cX10_toGain 68 [(0, .ref (adr 60)), (1, .int x1), (2, .int x2), (3, .int x3), (4, .int x4)] [] M 0 0 rs) : ∀ (n : Nat) (M : cx_M) (x1 : Int32) (x2 : Int32) (x3 : Int32) (x4 : Int32) (rs : cx_R), tw_toGain_82 N r_68 n M x1 x2 x3 x4 = some rs → cx_V l (g) X sX10_toGain cX10_toGain 82 [(0, .ref (adr 60)), (1, .int x1), (2, .int x2), (3, .int x3), (4, .int x4)] [] M 0 0 rs :=
  cx_fixI (fun (r : cx_M → Int32 → Int32 → Int32 → Int32 → Option cx_R) => ∀ (M : cx_M) (x1 : Int32) (x2 : Int32) (x3 : Int32) (x4 : Int32) (rs : cx_R), r M x1 x2 x3 x4 = some rs → cx_V l (g) X sX10_toGain cX10_toGain 82 [(0, .ref (adr 60)), (1, .int x1), (2, .int x2), (3, .int x3), (4, .int x4)] [] M 0 0 rs) (fun _ _ _ _ _ _ h => by cases h) (fun r hr M x1 x2 x3 x4 rs h => tw_toGain_82b_v H hr_68 hr M x1 x2 x3 x4 rs h)
noncomputable def tw_toGain_68b (N : Nat) (r_68 : cx_M → Int32 → Int32 → Int32 → Int32 → Option cx_R) (M : cx_M) (x1 : Int32) (x2 : Int32) (x3 : Int32) (x4 : Int32) : Option cx_R :=
  cx_get M 60 24 fun v1 =>
  if 9 < v1 then (
    cx_put M 60 24 x3 fun M2 =>
    cx_put M2 60 25 x4 fun M3 =>
    if x2 = 0 then (
      cx_get M3 60 36 fun v5 =>
      some (M3, v5, 0))
    else (
      cx_get M3 60 37 fun v4 =>
      some (M3, v4, 0)))
  else (
    cx_put M 60 25 0 fun M6 =>
    tw_toGain_82 N r_68 N M6 x1 x2 x3 x4)
set_option maxRecDepth 100000 in
theorem tw_toGain_68b_v {l : Launch} {g : cx_G} {adr : Nat → Nat} {X : cx_X} {N : Nat} {r_68 : cx_M → Int32 → Int32 → Int32 → Int32 → Option cx_R} (H : tw_H g adr) (hr_68 : ∀ (M : cx_M) (x1 : Int32) (x2 : Int32) (x3 : Int32) (x4 : Int32) (rs : cx_R), r_68 M x1 x2 x3 x4 = some rs → cx_V l (g) X sX10_toGain cX10_toGain 68 [(0, .ref (adr 60)), (1, .int x1), (2, .int x2), (3, .int x3), (4, .int x4)] [] M 0 0 rs) (M : cx_M) (x1 : Int32) (x2 : Int32) (x3 : Int32) (x4 : Int32) (rs : cx_R) (h : tw_toGain_68b N r_68 M x1 x2 x3 x4 = some rs) : cx_V l (g) X sX10_toGain cX10_toGain 68 [(0, .ref (adr 60)), (1, .int x1), (2, .int x2), (3, .int x3), (4, .int x4)] [] M 0 0 rs := by
  unfold tw_toGain_68b at h
  refine cx_aload_n 0 dX10_toGain_68 rfl ?_
  refine cx_getI h (tw_F24 H) q2414 dX10_toGain_69 (fun v1 h => ?_)
  refine cx_bipush 9 dX10_toGain_72 cx_bp_9 ?_
  refine cx_icmp_gt 137 h dX10_toGain_74 rfl (fun h => ?_) (fun h => ?_)
  · refine cx_aload_n 0 dX10_toGain_137 rfl ?_
    refine cx_iload_n 3 dX10_toGain_138 rfl ?_
    refine cx_putI h (tw_F24 H) rfl rfl rfl q2414 dX10_toGain_139 (fun M2 h => ?_)
    refine cx_aload_n 0 dX10_toGain_142 rfl ?_
    refine cx_iload 4 dX10_toGain_143 rfl ?_
    refine cx_putI h (tw_F25 H) rfl rfl rfl q2415 dX10_toGain_145 (fun M3 h => ?_)
    refine cx_iload_n 2 dX10_toGain_148 rfl ?_
    refine cx_if_ne 159 h dX10_toGain_149 rfl (fun h => ?_) (fun h => ?_)
    · refine cx_aload_n 0 dX10_toGain_159 rfl ?_
      refine cx_getI h (tw_F37 H) q2427 dX10_toGain_160 (fun v4 h => ?_)
      exact cx_iret h rfl rfl (cx_le rfl) (cx_le rfl) dX10_toGain_163
    · refine cx_aload_n 0 dX10_toGain_152 rfl ?_
      refine cx_getI h (tw_F36 H) q2426 dX10_toGain_153 (fun v5 h => ?_)
      refine cx_goto 163 dX10_toGain_156 rfl ?_
      exact cx_iret h rfl rfl (cx_le rfl) (cx_le rfl) dX10_toGain_163
  · refine cx_aload_n 0 dX10_toGain_77 rfl ?_
    refine cx_iconst 0 dX10_toGain_78 cx_ic_0 ?_
    refine cx_putI h (tw_F25 H) rfl rfl rfl q2415 dX10_toGain_79 (fun M6 h => ?_)
    exact tw_toGain_82_v H hr_68 N M6 x1 x2 x3 x4 _ h
noncomputable def tw_toGain_68 (N : Nat) : Nat → cx_M → Int32 → Int32 → Int32 → Int32 → Option cx_R :=
  cx_fix (fun _ _ _ _ _ => none) (fun r_68 => tw_toGain_68b N r_68)
theorem tw_toGain_68_v {l : Launch} {g : cx_G} {adr : Nat → Nat} {X : cx_X} {N : Nat} (H : tw_H g adr) : ∀ (n : Nat) (M : cx_M) (x1 : Int32) (x2 : Int32) (x3 : Int32) (x4 : Int32) (rs : cx_R), tw_toGain_68 N n M x1 x2 x3 x4 = some rs → cx_V l (g) X sX10_toGain cX10_toGain 68 [(0, .ref (adr 60)), (1, .int x1), (2, .int x2), (3, .int x3), (4, .int x4)] [] M 0 0 rs :=
  cx_fixI (fun (r : cx_M → Int32 → Int32 → Int32 → Int32 → Option cx_R) => ∀ (M : cx_M) (x1 : Int32) (x2 : Int32) (x3 : Int32) (x4 : Int32) (rs : cx_R), r M x1 x2 x3 x4 = some rs → cx_V l (g) X sX10_toGain cX10_toGain 68 [(0, .ref (adr 60)), (1, .int x1), (2, .int x2), (3, .int x3), (4, .int x4)] [] M 0 0 rs) (fun _ _ _ _ _ _ h => by cases h) (fun r hr M x1 x2 x3 x4 rs h => tw_toGain_68b_v H hr M x1 x2 x3 x4 rs h)
noncomputable def tw_toGain_0 (N : Nat) (M : cx_M) (x1 : Int32) (x2 : Int32) : Option cx_R :=
  cx_cal (tw_ready N M) fun M1 _ =>
  cx_cal (tw_isIn N M1 (Int32.toInt64 x2) 0 1) fun M2 v3 =>
  if v3 = 0 then (
    cx_cal (tw_fail N M2 1) fun M14 v15 =>
    some (M14, v15, 0))
  else (
    cx_cal (tw_isIn N M2 (Int32.toInt64 x1) 1 400) fun M4 v5 =>
    if v5 = 0 then (
      cx_cal (tw_fail N M4 2) fun M12 v13 =>
      some (M12, v13, 0))
    else (
      cx_get M4 60 24 fun v6 =>
      cx_get M4 60 25 fun v7 =>
      cx_put M4 60 36 (-1) fun M8 =>
      cx_put M8 60 37 (-1) fun M9 =>
      cx_cal (tw_rememberNow N M9) fun M10 _ =>
      cx_put M10 60 24 0 fun M11 =>
      tw_toGain_68 N N M11 x1 x2 v6 v7))
set_option maxRecDepth 100000 in
theorem tw_toGain_0_v {l : Launch} {g : cx_G} {adr : Nat → Nat} {X : cx_X} {N : Nat} (H : tw_H g adr) (M : cx_M) (x1 : Int32) (x2 : Int32) (rs : cx_R) (h : tw_toGain_0 N M x1 x2 = some rs) : cx_V l (g) X sX10_toGain cX10_toGain 0 [(0, .ref (adr 60)), (1, .int x1), (2, .int x2)] [] M 0 0 rs := by
  unfold tw_toGain_0 at h
  refine cx_aload_n 0 dX10_toGain_0 rfl ?_
  refine cx_cVv [] [] h (fun rs' h' => tw_ready_m H M rs' h') (tw_rc H) dX10_toGain_1 g_X10_247 hg_X10_247 ⟨cx_le rfl, cx_le rfl⟩ rfl ⟨rfl, rfl⟩ ⟨cx_le rfl, cx_le rfl⟩ rfl (cx_le rfl) (fun M1 _ h => ?_)
  refine cx_iload_n 2 dX10_toGain_4 rfl ?_
  refine cx_i2l dX10_toGain_5 ?_
  refine cx_lconst 0 dX10_toGain_6 cx_lc_0 ?_
  refine cx_lconst 1 dX10_toGain_7 cx_lc_1 ?_
  refine cx_cSi [.long (Int32.toInt64 x2), .long 0, .long 1] [] h (fun rs' h' => tw_isIn_m H M1 (Int32.toInt64 x2) 0 1 rs' h') dX10_toGain_8 g_X10_358 hg_X10_358 ⟨cx_le rfl, cx_le rfl⟩ rfl ⟨rfl, rfl⟩ ⟨cx_le rfl, cx_le rfl⟩ rfl (cx_le rfl) (fun M2 v3 h => ?_)
  refine cx_if_ne 20 h dX10_toGain_11 rfl (fun h => ?_) (fun h => ?_)
  · refine cx_iload_n 1 dX10_toGain_20 rfl ?_
    refine cx_i2l dX10_toGain_21 ?_
    refine cx_lconst 1 dX10_toGain_22 cx_lc_1 ?_
    refine cx_ldc2 400 dX10_toGain_23 q2851 ?_
    refine cx_cSi [.long (Int32.toInt64 x1), .long 1, .long 400] [] h (fun rs' h' => tw_isIn_m H M2 (Int32.toInt64 x1) 1 400 rs' h') dX10_toGain_26 g_X10_358 hg_X10_358 ⟨cx_le rfl, cx_le rfl⟩ rfl ⟨rfl, rfl⟩ ⟨cx_le rfl, cx_le rfl⟩ rfl (cx_le rfl) (fun M4 v5 h => ?_)
    refine cx_if_ne 38 h dX10_toGain_29 rfl (fun h => ?_) (fun h => ?_)
    · refine cx_aload_n 0 dX10_toGain_38 rfl ?_
      refine cx_getI h (tw_F24 H) q2414 dX10_toGain_39 (fun v6 h => ?_)
      refine cx_istore_n [(3, .int v6), (0, .ref (adr 60)), (1, .int x1), (2, .int x2)] dX10_toGain_42 (cx_lt rfl) rfl ?_
      refine cx_aload_n 1 dX10_toGain_43 rfl ?_
      refine cx_getI h (tw_F25 H) q2415 dX10_toGain_44 (fun v7 h => ?_)
      refine cx_istore [(4, .int v7), (3, .int v6), (0, .ref (adr 60)), (1, .int x1), (2, .int x2)] dX10_toGain_47 (cx_lt rfl) rfl ?_
      refine cx_aload_n 2 dX10_toGain_49 rfl ?_
      refine cx_iconst (-1) dX10_toGain_50 cx_ic_m1 ?_
      refine cx_putI h (tw_F36 H) rfl rfl rfl q2426 dX10_toGain_51 (fun M8 h => ?_)
      refine cx_aload_n 2 dX10_toGain_54 rfl ?_
      refine cx_iconst (-1) dX10_toGain_55 cx_ic_m1 ?_
      refine cx_putI h (tw_F37 H) rfl rfl rfl q2427 dX10_toGain_56 (fun M9 h => ?_)
      refine cx_aload_n 2 dX10_toGain_59 rfl ?_
      refine cx_cVv [] [] h (fun rs' h' => tw_rememberNow_m H M9 rs' h') (tw_rc H) dX10_toGain_60 g_X10_402 hg_X10_402 ⟨cx_le rfl, cx_le rfl⟩ rfl ⟨rfl, rfl⟩ ⟨cx_le rfl, cx_le rfl⟩ rfl (cx_le rfl) (fun M10 _ h => ?_)
      refine cx_aload_n 2 dX10_toGain_63 rfl ?_
      refine cx_iconst 0 dX10_toGain_64 cx_ic_0 ?_
      refine cx_putI h (tw_F24 H) rfl rfl rfl q2414 dX10_toGain_65 (fun M11 h => ?_)
      refine cx_sub (lv' := [(0, .ref (adr 60)), (1, .int x1), (2, .int x2), (3, .int v6), (4, .int v7)]) [2, 3, 4, 1, 0] rfl ?_
      exact tw_toGain_68_v H N M11 x1 x2 v6 v7 _ h
    · refine cx_aload_n 0 dX10_toGain_32 rfl ?_
      refine cx_iconst 2 dX10_toGain_33 cx_ic_2 ?_
      refine cx_cVi [.int 2] [] h (fun rs' h' => tw_fail_m H M4 2 rs' h') (tw_rc H) dX10_toGain_34 g_X10_250 hg_X10_250 ⟨cx_le rfl, cx_le rfl⟩ rfl ⟨rfl, rfl⟩ ⟨cx_le rfl, cx_le rfl⟩ rfl (cx_le rfl) (fun M12 v13 h => ?_)
      exact cx_iret h rfl rfl (cx_le rfl) (cx_le rfl) dX10_toGain_37
  · refine cx_aload_n 0 dX10_toGain_14 rfl ?_
    refine cx_iconst 1 dX10_toGain_15 cx_ic_1 ?_
    refine cx_cVi [.int 1] [] h (fun rs' h' => tw_fail_m H M2 1 rs' h') (tw_rc H) dX10_toGain_16 g_X10_250 hg_X10_250 ⟨cx_le rfl, cx_le rfl⟩ rfl ⟨rfl, rfl⟩ ⟨cx_le rfl, cx_le rfl⟩ rfl (cx_le rfl) (fun M14 v15 h => ?_)
    exact cx_iret h rfl rfl (cx_le rfl) (cx_le rfl) dX10_toGain_19
noncomputable def tw_toGain (N : Nat) (M : cx_M) (x1 : Int32) (x2 : Int32) : Option cx_R := tw_toGain_0 N M x1 x2
theorem tw_toGain_m {l : Launch} {g : cx_G} {adr : Nat → Nat} {N : Nat} (H : tw_H g adr) (M : cx_M) (x1 : Int32) (x2 : Int32) (rs : cx_R) (h : tw_toGain N M x1 x2 = some rs) : cx_Met l (g) yX10_toGain cX10_toGain sX10_toGain [.ref (adr 60), .int x1, .int x2] M rs :=
  cx_met (by decide +kernel) rfl rfl (lv := [(0, .ref (adr 60)), (1, .int x1), (2, .int x2)]) rfl (cx_le rfl) (fun X => cx_sub (lv' := [(0, .ref (adr 60)), (1, .int x1), (2, .int x2)]) [0, 1, 2] rfl (tw_toGain_0_v H M x1 x2 rs h))

abbrev sX10_turn : cx_S := (3, RX10, cx_rI, { frames := 3, cells := 0, slots := 0, locals := 62 }, some .int, false)
noncomputable def tw_turn_0 (N : Nat) (M : cx_M) (x1 : Int32) (x2 : Int32) : Option cx_R :=
  cx_cal (tw_ready N M) fun M1 _ =>
  cx_sw x1 0 [
      (cx_cal (tw_turnTo N M1 27 x2 (-99) 99 10000) fun M4 v5 =>
      some (M4, v5, 0)),
      (cx_cal (tw_turnTo N M1 28 x2 0 2 10000) fun M6 v7 =>
      some (M6, v7, 0)),
      (cx_cal (tw_turnTo N M1 29 x2 1 64 10000) fun M8 v9 =>
      some (M8, v9, 0))
    ] (
      cx_cal (tw_fail N M1 1) fun M2 v3 =>
      some (M2, v3, 0))
set_option maxRecDepth 100000 in
theorem tw_turn_0_v {l : Launch} {g : cx_G} {adr : Nat → Nat} {X : cx_X} {N : Nat} (H : tw_H g adr) (M : cx_M) (x1 : Int32) (x2 : Int32) (rs : cx_R) (h : tw_turn_0 N M x1 x2 = some rs) : cx_V l (g) X sX10_turn cX10_turn 0 [(0, .ref (adr 60)), (1, .int x1), (2, .int x2)] [] M 0 0 rs := by
  unfold tw_turn_0 at h
  refine cx_aload_n 0 dX10_turn_0 rfl ?_
  refine cx_cVv [] [] h (fun rs' h' => tw_ready_m H M rs' h') (tw_rc H) dX10_turn_1 g_X10_247 hg_X10_247 ⟨cx_le rfl, cx_le rfl⟩ rfl ⟨rfl, rfl⟩ ⟨cx_le rfl, cx_le rfl⟩ rfl (cx_le rfl) (fun M1 _ h => ?_)
  refine cx_iload_n 1 dX10_turn_4 rfl ?_
  refine cx_table 74 [32, 47, 60] 3 h dX10_turn_5 (by decide +kernel) rfl rfl rfl (by decide +kernel) (fun h => ?_) (fun j B hB h => ?_)
  · refine cx_aload_n 0 dX10_turn_74 rfl ?_
    refine cx_iconst 1 dX10_turn_75 cx_ic_1 ?_
    refine cx_cVi [.int 1] [] h (fun rs' h' => tw_fail_m H M1 1 rs' h') (tw_rc H) dX10_turn_76 g_X10_250 hg_X10_250 ⟨cx_le rfl, cx_le rfl⟩ rfl ⟨rfl, rfl⟩ ⟨cx_le rfl, cx_le rfl⟩ rfl (cx_le rfl) (fun M2 v3 h => ?_)
    exact cx_iret h rfl rfl (cx_le rfl) (cx_le rfl) dX10_turn_79
  · match j, hB with
    | 0, hB =>
      cases hB
      refine cx_at (pc2 := 32) rfl ?_
      refine cx_aload_n 0 dX10_turn_32 rfl ?_
      refine cx_bipush 27 dX10_turn_33 cx_bp_27 ?_
      refine cx_iload_n 2 dX10_turn_35 rfl ?_
      refine cx_bipush (-99) dX10_turn_36 cx_bp_m99 ?_
      refine cx_bipush 99 dX10_turn_38 cx_bp_99 ?_
      refine cx_sipush 10000 dX10_turn_40 cx_sp_10000 ?_
      refine cx_cVi [.int 27, .int x2, .int (-99), .int 99, .int 10000] [] h (fun rs' h' => tw_turnTo_m H M1 27 x2 (-99) 99 10000 rs' h') (tw_rc H) dX10_turn_43 g_X10_390 hg_X10_390 ⟨cx_le rfl, cx_le rfl⟩ rfl ⟨rfl, rfl⟩ ⟨cx_le rfl, cx_le rfl⟩ rfl (cx_le rfl) (fun M4 v5 h => ?_)
      exact cx_iret h rfl rfl (cx_le rfl) (cx_le rfl) dX10_turn_46
    | 1, hB =>
      cases hB
      refine cx_at (pc2 := 47) rfl ?_
      refine cx_aload_n 0 dX10_turn_47 rfl ?_
      refine cx_bipush 28 dX10_turn_48 cx_bp_28 ?_
      refine cx_iload_n 2 dX10_turn_50 rfl ?_
      refine cx_iconst 0 dX10_turn_51 cx_ic_0 ?_
      refine cx_iconst 2 dX10_turn_52 cx_ic_2 ?_
      refine cx_sipush 10000 dX10_turn_53 cx_sp_10000 ?_
      refine cx_cVi [.int 28, .int x2, .int 0, .int 2, .int 10000] [] h (fun rs' h' => tw_turnTo_m H M1 28 x2 0 2 10000 rs' h') (tw_rc H) dX10_turn_56 g_X10_390 hg_X10_390 ⟨cx_le rfl, cx_le rfl⟩ rfl ⟨rfl, rfl⟩ ⟨cx_le rfl, cx_le rfl⟩ rfl (cx_le rfl) (fun M6 v7 h => ?_)
      exact cx_iret h rfl rfl (cx_le rfl) (cx_le rfl) dX10_turn_59
    | 2, hB =>
      cases hB
      refine cx_at (pc2 := 60) rfl ?_
      refine cx_aload_n 0 dX10_turn_60 rfl ?_
      refine cx_bipush 29 dX10_turn_61 cx_bp_29 ?_
      refine cx_iload_n 2 dX10_turn_63 rfl ?_
      refine cx_iconst 1 dX10_turn_64 cx_ic_1 ?_
      refine cx_bipush 64 dX10_turn_65 cx_bp_64 ?_
      refine cx_sipush 10000 dX10_turn_67 cx_sp_10000 ?_
      refine cx_cVi [.int 29, .int x2, .int 1, .int 64, .int 10000] [] h (fun rs' h' => tw_turnTo_m H M1 29 x2 1 64 10000 rs' h') (tw_rc H) dX10_turn_70 g_X10_390 hg_X10_390 ⟨cx_le rfl, cx_le rfl⟩ rfl ⟨rfl, rfl⟩ ⟨cx_le rfl, cx_le rfl⟩ rfl (cx_le rfl) (fun M8 v9 h => ?_)
      exact cx_iret h rfl rfl (cx_le rfl) (cx_le rfl) dX10_turn_73
    | j + 3, hB => cases hB
noncomputable def tw_turn (N : Nat) (M : cx_M) (x1 : Int32) (x2 : Int32) : Option cx_R := tw_turn_0 N M x1 x2
theorem tw_turn_m {l : Launch} {g : cx_G} {adr : Nat → Nat} {N : Nat} (H : tw_H g adr) (M : cx_M) (x1 : Int32) (x2 : Int32) (rs : cx_R) (h : tw_turn N M x1 x2 = some rs) : cx_Met l (g) yX10_turn cX10_turn sX10_turn [.ref (adr 60), .int x1, .int x2] M rs :=
  cx_met (by decide +kernel) rfl rfl (lv := [(0, .ref (adr 60)), (1, .int x1), (2, .int x2)]) rfl (cx_le rfl) (fun X => cx_sub (lv' := [(0, .ref (adr 60)), (1, .int x1), (2, .int x2)]) [0, 1, 2] rfl (tw_turn_0_v H M x1 x2 rs h))

abbrev sX10_undo : cx_S := (2, RX10, cx_rI, { frames := 3, cells := 0, slots := 0, locals := 62 }, some .int, false)
noncomputable def tw_undo_25b (N : Nat) (r_25 : cx_M → Int32 → Option cx_R) (M : cx_M) (x1 : Int32) : Option cx_R :=
  if 665 ≤ x1 then (
    cx_get M 60 31 fun v1 =>
    some (M, v1, 0))
  else (
    cx_get M 60 31 fun v2 =>
    cx_ld M 33 26600 (((665 : Int32) * v2) + x1) fun v3 =>
    cx_st M 8 665 x1 v3 fun M4 =>
    cx_let (x1 + 1) fun v5 =>
    r_25 M4 v5)
set_option maxRecDepth 100000 in
theorem tw_undo_25b_v {l : Launch} {g : cx_G} {adr : Nat → Nat} {X : cx_X} {N : Nat} {r_25 : cx_M → Int32 → Option cx_R} (H : tw_H g adr) (hr_25 : ∀ (M : cx_M) (x1 : Int32) (rs : cx_R), r_25 M x1 = some rs → cx_V l (g) X sX10_undo cX10_undo 25 [(0, .ref (adr 60)), (1, .int x1)] [] M 0 0 rs) (M : cx_M) (x1 : Int32) (rs : cx_R) (h : tw_undo_25b N r_25 M x1 = some rs) : cx_V l (g) X sX10_undo cX10_undo 25 [(0, .ref (adr 60)), (1, .int x1)] [] M 0 0 rs := by
  unfold tw_undo_25b at h
  refine cx_iload_n 1 dX10_undo_25 rfl ?_
  refine cx_sipush 665 dX10_undo_26 cx_sp_665 ?_
  refine cx_icmp_ge 59 h dX10_undo_29 rfl (fun h => ?_) (fun h => ?_)
  · refine cx_aload_n 0 dX10_undo_59 rfl ?_
    refine cx_getI h (tw_F31 H) q2421 dX10_undo_60 (fun v1 h => ?_)
    exact cx_iret h rfl rfl (cx_le rfl) (cx_le rfl) dX10_undo_63
  · refine cx_aload_n 0 dX10_undo_32 rfl ?_
    refine cx_getR (tw_R8 H) q2398 dX10_undo_33 ?_
    refine cx_iload_n 1 dX10_undo_36 rfl ?_
    refine cx_aload_n 0 dX10_undo_37 rfl ?_
    refine cx_getR (tw_R33 H) q2423 dX10_undo_38 ?_
    refine cx_sipush 665 dX10_undo_41 cx_sp_665 ?_
    refine cx_aload_n 0 dX10_undo_44 rfl ?_
    refine cx_getI h (tw_F31 H) q2421 dX10_undo_45 (fun v2 h => ?_)
    refine cx_imul dX10_undo_48 ?_
    refine cx_iload_n 1 dX10_undo_49 rfl ?_
    refine cx_iadd dX10_undo_50 ?_
    refine cx_ldI h (tw_A33 H) dX10_undo_51 (fun v3 h => ?_)
    refine cx_stI h (tw_A8 H) dX10_undo_52 (fun M4 h => ?_)
    refine cx_iinc 1 1 (fun v5 => [(1, .int v5), (0, .ref (adr 60))]) h dX10_undo_53 rfl cx_ic_1 (cx_lt rfl) (fun _ => rfl) (fun v5 h => ?_)
    refine cx_goto 25 dX10_undo_56 rfl ?_
    refine cx_sub (lv' := [(0, .ref (adr 60)), (1, .int v5)]) [1, 0] rfl ?_
    exact hr_25 M4 v5 _ h
noncomputable def tw_undo_25 (N : Nat) : Nat → cx_M → Int32 → Option cx_R :=
  cx_fix (fun _ _ => none) (fun r_25 => tw_undo_25b N r_25)
theorem tw_undo_25_v {l : Launch} {g : cx_G} {adr : Nat → Nat} {X : cx_X} {N : Nat} (H : tw_H g adr) : ∀ (n : Nat) (M : cx_M) (x1 : Int32) (rs : cx_R), tw_undo_25 N n M x1 = some rs → cx_V l (g) X sX10_undo cX10_undo 25 [(0, .ref (adr 60)), (1, .int x1)] [] M 0 0 rs :=
  cx_fixI (fun (r : cx_M → Int32 → Option cx_R) => ∀ (M : cx_M) (x1 : Int32) (rs : cx_R), r M x1 = some rs → cx_V l (g) X sX10_undo cX10_undo 25 [(0, .ref (adr 60)), (1, .int x1)] [] M 0 0 rs) (fun _ _ _ h => by cases h) (fun r hr M x1 rs h => tw_undo_25b_v H hr M x1 rs h)
noncomputable def tw_undo_0 (N : Nat) (M : cx_M) : Option cx_R :=
  cx_cal (tw_ready N M) fun M1 _ =>
  cx_get M1 60 31 fun v2 =>
  if v2 = 0 then (
    some (M1, (-1), 0))
  else (
    cx_get M1 60 31 fun v3 =>
    cx_put M1 60 31 (v3 - 1) fun M4 =>
    tw_undo_25 N N M4 0)
set_option maxRecDepth 100000 in
theorem tw_undo_0_v {l : Launch} {g : cx_G} {adr : Nat → Nat} {X : cx_X} {N : Nat} (H : tw_H g adr) (M : cx_M) (rs : cx_R) (h : tw_undo_0 N M = some rs) : cx_V l (g) X sX10_undo cX10_undo 0 [(0, .ref (adr 60))] [] M 0 0 rs := by
  unfold tw_undo_0 at h
  refine cx_aload_n 0 dX10_undo_0 rfl ?_
  refine cx_cVv [] [] h (fun rs' h' => tw_ready_m H M rs' h') (tw_rc H) dX10_undo_1 g_X10_247 hg_X10_247 ⟨cx_le rfl, cx_le rfl⟩ rfl ⟨rfl, rfl⟩ ⟨cx_le rfl, cx_le rfl⟩ rfl (cx_le rfl) (fun M1 _ h => ?_)
  refine cx_aload_n 0 dX10_undo_4 rfl ?_
  refine cx_getI h (tw_F31 H) q2421 dX10_undo_5 (fun v2 h => ?_)
  refine cx_if_ne 13 h dX10_undo_8 rfl (fun h => ?_) (fun h => ?_)
  · refine cx_aload_n 0 dX10_undo_13 rfl ?_
    refine cx_dup dX10_undo_14 rfl ?_
    refine cx_getI h (tw_F31 H) q2421 dX10_undo_15 (fun v3 h => ?_)
    refine cx_iconst 1 dX10_undo_18 cx_ic_1 ?_
    refine cx_isub dX10_undo_19 ?_
    refine cx_putI h (tw_F31 H) rfl rfl rfl q2421 dX10_undo_20 (fun M4 h => ?_)
    refine cx_iconst 0 dX10_undo_23 cx_ic_0 ?_
    refine cx_istore_n [(1, .int 0), (0, .ref (adr 60))] dX10_undo_24 (cx_lt rfl) rfl ?_
    refine cx_sub (lv' := [(0, .ref (adr 60)), (1, .int 0)]) [1, 0] rfl ?_
    exact tw_undo_25_v H N M4 0 _ h
  · refine cx_iconst (-1) dX10_undo_11 cx_ic_m1 ?_
    exact cx_iret h rfl rfl (cx_le rfl) (cx_le rfl) dX10_undo_12
noncomputable def tw_undo (N : Nat) (M : cx_M) : Option cx_R := tw_undo_0 N M
theorem tw_undo_m {l : Launch} {g : cx_G} {adr : Nat → Nat} {N : Nat} (H : tw_H g adr) (M : cx_M) (rs : cx_R) (h : tw_undo N M = some rs) : cx_Met l (g) yX10_undo cX10_undo sX10_undo [.ref (adr 60)] M rs :=
  cx_met (by decide +kernel) rfl rfl (lv := [(0, .ref (adr 60))]) rfl (cx_le rfl) (fun X => cx_sub (lv' := [(0, .ref (adr 60))]) [0] rfl (tw_undo_0_v H M rs h))

abbrev sX10_wander : cx_S := (6, RX10, cx_rI, { frames := 4, cells := 0, slots := 0, locals := 79 }, some .int, false)
noncomputable def tw_wander_48b (N : Nat) (r_48 : cx_M → Int32 → Int32 → Int32 → Int32 → Option cx_R) (M : cx_M) (x2 : Int32) (x3 : Int32) (x4 : Int32) (x5 : Int32) : Option cx_R :=
  if x2 < (x5 + x3) then (
    some (M, x4, 0))
  else (
    cx_cal (tw_rangeOf N M x5 x3) fun M1 v2 =>
    cx_let (cx_max x4 v2) fun v3 =>
    cx_let (x5 + 1) fun v4 =>
    r_48 M1 x2 x3 v3 v4)
set_option maxRecDepth 100000 in
theorem tw_wander_48b_v {l : Launch} {g : cx_G} {adr : Nat → Nat} {X : cx_X} {N : Nat} {r_48 : cx_M → Int32 → Int32 → Int32 → Int32 → Option cx_R} (H : tw_H g adr) (hr_48 : ∀ (M : cx_M) (x2 : Int32) (x3 : Int32) (x4 : Int32) (x5 : Int32) (rs : cx_R), r_48 M x2 x3 x4 x5 = some rs → cx_V l (g) X sX10_wander cX10_wander 48 [(0, .ref (adr 60)), (2, .int x2), (3, .int x3), (4, .int x4), (5, .int x5)] [] M 0 0 rs) (M : cx_M) (x2 : Int32) (x3 : Int32) (x4 : Int32) (x5 : Int32) (rs : cx_R) (h : tw_wander_48b N r_48 M x2 x3 x4 x5 = some rs) : cx_V l (g) X sX10_wander cX10_wander 48 [(0, .ref (adr 60)), (2, .int x2), (3, .int x3), (4, .int x4), (5, .int x5)] [] M 0 0 rs := by
  unfold tw_wander_48b at h
  refine cx_iload 4 dX10_wander_48 rfl ?_
  refine cx_iload_n 2 dX10_wander_50 rfl ?_
  refine cx_iadd dX10_wander_51 ?_
  refine cx_iload_n 1 dX10_wander_52 rfl ?_
  refine cx_icmp_gt 76 h dX10_wander_53 rfl (fun h => ?_) (fun h => ?_)
  · refine cx_iload 3 dX10_wander_76 rfl ?_
    exact cx_iret h rfl rfl (cx_le rfl) (cx_le rfl) dX10_wander_78
  · refine cx_iload 3 dX10_wander_56 rfl ?_
    refine cx_aload_n 0 dX10_wander_58 rfl ?_
    refine cx_iload 4 dX10_wander_59 rfl ?_
    refine cx_iload_n 2 dX10_wander_61 rfl ?_
    refine cx_cVi [.int x5, .int x3] [.int x4] h (fun rs' h' => tw_rangeOf_m H M x5 x3 rs' h') (tw_rc H) dX10_wander_62 g_X10_376 hg_X10_376 ⟨cx_le rfl, cx_le rfl⟩ rfl ⟨rfl, rfl⟩ ⟨cx_le rfl, cx_le rfl⟩ rfl (cx_le rfl) (fun M1 v2 h => ?_)
    refine cx_mmax dX10_wander_65 q2694 (cx_le rfl) (cx_le rfl) (cx_le rfl) (cx_le rfl) ?_
    refine cx_letI h (fun v3 h => ?_)
    refine cx_istore [(4, .int v3), (0, .ref (adr 60)), (2, .int x2), (3, .int x3), (5, .int x5)] dX10_wander_68 (cx_lt rfl) rfl ?_
    refine cx_iinc 4 1 (fun v4 => [(5, .int v4), (4, .int v3), (0, .ref (adr 60)), (2, .int x2), (3, .int x3)]) h dX10_wander_70 rfl cx_ic_1 (cx_lt rfl) (fun _ => rfl) (fun v4 h => ?_)
    refine cx_goto 48 dX10_wander_73 rfl ?_
    refine cx_sub (lv' := [(0, .ref (adr 60)), (2, .int x2), (3, .int x3), (4, .int v3), (5, .int v4)]) [2, 3, 4, 1, 0] rfl ?_
    exact hr_48 M1 x2 x3 v3 v4 _ h
noncomputable def tw_wander_48 (N : Nat) : Nat → cx_M → Int32 → Int32 → Int32 → Int32 → Option cx_R :=
  cx_fix (fun _ _ _ _ _ => none) (fun r_48 => tw_wander_48b N r_48)
theorem tw_wander_48_v {l : Launch} {g : cx_G} {adr : Nat → Nat} {X : cx_X} {N : Nat} (H : tw_H g adr) : ∀ (n : Nat) (M : cx_M) (x2 : Int32) (x3 : Int32) (x4 : Int32) (x5 : Int32) (rs : cx_R), tw_wander_48 N n M x2 x3 x4 x5 = some rs → cx_V l (g) X sX10_wander cX10_wander 48 [(0, .ref (adr 60)), (2, .int x2), (3, .int x3), (4, .int x4), (5, .int x5)] [] M 0 0 rs :=
  cx_fixI (fun (r : cx_M → Int32 → Int32 → Int32 → Int32 → Option cx_R) => ∀ (M : cx_M) (x2 : Int32) (x3 : Int32) (x4 : Int32) (x5 : Int32) (rs : cx_R), r M x2 x3 x4 x5 = some rs → cx_V l (g) X sX10_wander cX10_wander 48 [(0, .ref (adr 60)), (2, .int x2), (3, .int x3), (4, .int x4), (5, .int x5)] [] M 0 0 rs) (fun _ _ _ _ _ _ h => by cases h) (fun r hr M x2 x3 x4 x5 rs h => tw_wander_48b_v H hr M x2 x3 x4 x5 rs h)
noncomputable def tw_wander_0 (N : Nat) (M : cx_M) (x1 : Int32) : Option cx_R :=
  cx_cal (tw_ready N M) fun M1 _ =>
  cx_cal (tw_isIn N M1 (Int32.toInt64 x1) 2 128) fun M2 v3 =>
  if v3 = 0 then (
    cx_cal (tw_fail N M2 1) fun M7 v8 =>
    some (M7, v8, 0))
  else (
    cx_cal (tw_samplesKept N M2) fun M4 v5 =>
    if 2 ≤ v5 then (
      cx_let (cx_min v5 x1) fun v6 =>
      tw_wander_48 N N M4 v5 v6 0 0)
    else (
      some (M4, (-1), 0)))
set_option maxRecDepth 100000 in
theorem tw_wander_0_v {l : Launch} {g : cx_G} {adr : Nat → Nat} {X : cx_X} {N : Nat} (H : tw_H g adr) (M : cx_M) (x1 : Int32) (rs : cx_R) (h : tw_wander_0 N M x1 = some rs) : cx_V l (g) X sX10_wander cX10_wander 0 [(0, .ref (adr 60)), (1, .int x1)] [] M 0 0 rs := by
  unfold tw_wander_0 at h
  refine cx_aload_n 0 dX10_wander_0 rfl ?_
  refine cx_cVv [] [] h (fun rs' h' => tw_ready_m H M rs' h') (tw_rc H) dX10_wander_1 g_X10_247 hg_X10_247 ⟨cx_le rfl, cx_le rfl⟩ rfl ⟨rfl, rfl⟩ ⟨cx_le rfl, cx_le rfl⟩ rfl (cx_le rfl) (fun M1 _ h => ?_)
  refine cx_iload_n 1 dX10_wander_4 rfl ?_
  refine cx_i2l dX10_wander_5 ?_
  refine cx_ldc2 2 dX10_wander_6 q2714 ?_
  refine cx_ldc2 128 dX10_wander_9 q2732 ?_
  refine cx_cSi [.long (Int32.toInt64 x1), .long 2, .long 128] [] h (fun rs' h' => tw_isIn_m H M1 (Int32.toInt64 x1) 2 128 rs' h') dX10_wander_12 g_X10_358 hg_X10_358 ⟨cx_le rfl, cx_le rfl⟩ rfl ⟨rfl, rfl⟩ ⟨cx_le rfl, cx_le rfl⟩ rfl (cx_le rfl) (fun M2 v3 h => ?_)
  refine cx_if_ne 24 h dX10_wander_15 rfl (fun h => ?_) (fun h => ?_)
  · refine cx_aload_n 0 dX10_wander_24 rfl ?_
    refine cx_cVi [] [] h (fun rs' h' => tw_samplesKept_m H M2 rs' h') (tw_rc H) dX10_wander_25 g_X10_355 hg_X10_355 ⟨cx_le rfl, cx_le rfl⟩ rfl ⟨rfl, rfl⟩ ⟨cx_le rfl, cx_le rfl⟩ rfl (cx_le rfl) (fun M4 v5 h => ?_)
    refine cx_istore_n [(2, .int v5), (0, .ref (adr 60)), (1, .int x1)] dX10_wander_28 (cx_lt rfl) rfl ?_
    refine cx_iload_n 0 dX10_wander_29 rfl ?_
    refine cx_iconst 2 dX10_wander_30 cx_ic_2 ?_
    refine cx_icmp_ge 36 h dX10_wander_31 rfl (fun h => ?_) (fun h => ?_)
    · refine cx_iload_n 0 dX10_wander_36 rfl ?_
      refine cx_iload_n 2 dX10_wander_37 rfl ?_
      refine cx_mmin dX10_wander_38 q2602 (cx_le rfl) (cx_le rfl) (cx_le rfl) (cx_le rfl) ?_
      refine cx_letI h (fun v6 h => ?_)
      refine cx_istore_n [(3, .int v6), (2, .int v5), (0, .ref (adr 60)), (1, .int x1)] dX10_wander_41 (cx_lt rfl) rfl ?_
      refine cx_iconst 0 dX10_wander_42 cx_ic_0 ?_
      refine cx_istore [(4, .int 0), (3, .int v6), (2, .int v5), (0, .ref (adr 60)), (1, .int x1)] dX10_wander_43 (cx_lt rfl) rfl ?_
      refine cx_iconst 0 dX10_wander_45 cx_ic_0 ?_
      refine cx_istore [(5, .int 0), (4, .int 0), (3, .int v6), (2, .int v5), (0, .ref (adr 60)), (1, .int x1)] dX10_wander_46 (cx_lt rfl) rfl ?_
      refine cx_sub (lv' := [(0, .ref (adr 60)), (2, .int v5), (3, .int v6), (4, .int 0), (5, .int 0)]) [4, 3, 2, 1, 0] rfl ?_
      exact tw_wander_48_v H N M4 v5 v6 0 0 _ h
    · refine cx_iconst (-1) dX10_wander_34 cx_ic_m1 ?_
      exact cx_iret h rfl rfl (cx_le rfl) (cx_le rfl) dX10_wander_35
  · refine cx_aload_n 0 dX10_wander_18 rfl ?_
    refine cx_iconst 1 dX10_wander_19 cx_ic_1 ?_
    refine cx_cVi [.int 1] [] h (fun rs' h' => tw_fail_m H M2 1 rs' h') (tw_rc H) dX10_wander_20 g_X10_250 hg_X10_250 ⟨cx_le rfl, cx_le rfl⟩ rfl ⟨rfl, rfl⟩ ⟨cx_le rfl, cx_le rfl⟩ rfl (cx_le rfl) (fun M7 v8 h => ?_)
    exact cx_iret h rfl rfl (cx_le rfl) (cx_le rfl) dX10_wander_23
noncomputable def tw_wander (N : Nat) (M : cx_M) (x1 : Int32) : Option cx_R := tw_wander_0 N M x1
theorem tw_wander_m {l : Launch} {g : cx_G} {adr : Nat → Nat} {N : Nat} (H : tw_H g adr) (M : cx_M) (x1 : Int32) (rs : cx_R) (h : tw_wander N M x1 = some rs) : cx_Met l (g) yX10_wander cX10_wander sX10_wander [.ref (adr 60), .int x1] M rs :=
  cx_met (by decide +kernel) rfl rfl (lv := [(0, .ref (adr 60)), (1, .int x1)]) rfl (cx_le rfl) (fun X => cx_sub (lv' := [(0, .ref (adr 60)), (1, .int x1)]) [0, 1] rfl (tw_wander_0_v H M x1 rs h))

abbrev sX10_when : cx_S := (3, RX10, cx_rI, { frames := 7, cells := 0, slots := 0, locals := 153 }, some .int, false)
noncomputable def tw_when_28b (N : Nat) (r_28 : cx_M → Int32 → Int32 → Option cx_R) (M : cx_M) (x1 : Int32) (x2 : Int32) : Option cx_R :=
  if 400 < x2 then (
    cx_cal (tw_back N M (-1)) fun M1 v2 =>
    some (M1, v2, 0))
  else (
    cx_cal (tw_isOnce N M x1) fun M3 v4 =>
    if v4 = 0 then (
      cx_cal (tw_aStep N M3) fun M5 _ =>
      cx_let (x2 + 1) fun v6 =>
      r_28 M5 x1 v6)
    else (
      cx_cal (tw_back N M3 x2) fun M7 v8 =>
      some (M7, v8, 0)))
set_option maxRecDepth 100000 in
theorem tw_when_28b_v {l : Launch} {g : cx_G} {adr : Nat → Nat} {X : cx_X} {N : Nat} {r_28 : cx_M → Int32 → Int32 → Option cx_R} (H : tw_H g adr) (hr_28 : ∀ (M : cx_M) (x1 : Int32) (x2 : Int32) (rs : cx_R), r_28 M x1 x2 = some rs → cx_V l (g) X sX10_when cX10_when 28 [(0, .ref (adr 60)), (1, .int x1), (2, .int x2)] [] M 0 0 rs) (M : cx_M) (x1 : Int32) (x2 : Int32) (rs : cx_R) (h : tw_when_28b N r_28 M x1 x2 = some rs) : cx_V l (g) X sX10_when cX10_when 28 [(0, .ref (adr 60)), (1, .int x1), (2, .int x2)] [] M 0 0 rs := by
  unfold tw_when_28b at h
  refine cx_iload_n 2 dX10_when_28 rfl ?_
  refine cx_sipush 400 dX10_when_29 cx_sp_400 ?_
  refine cx_icmp_gt 59 h dX10_when_32 rfl (fun h => ?_) (fun h => ?_)
  · refine cx_aload_n 0 dX10_when_59 rfl ?_
    refine cx_iconst (-1) dX10_when_60 cx_ic_m1 ?_
    refine cx_cVi [.int (-1)] [] h (fun rs' h' => tw_back_m H M (-1) rs' h') (tw_rc H) dX10_when_61 g_X10_405 hg_X10_405 ⟨cx_le rfl, cx_le rfl⟩ rfl ⟨rfl, rfl⟩ ⟨cx_le rfl, cx_le rfl⟩ rfl (cx_le rfl) (fun M1 v2 h => ?_)
    exact cx_iret h rfl rfl (cx_le rfl) (cx_le rfl) dX10_when_64
  · refine cx_aload_n 0 dX10_when_35 rfl ?_
    refine cx_iload_n 1 dX10_when_36 rfl ?_
    refine cx_cVi [.int x1] [] h (fun rs' h' => tw_isOnce_m H M x1 rs' h') (tw_rc H) dX10_when_37 g_X10_410 hg_X10_410 ⟨cx_le rfl, cx_le rfl⟩ rfl ⟨rfl, rfl⟩ ⟨cx_le rfl, cx_le rfl⟩ rfl (cx_le rfl) (fun M3 v4 h => ?_)
    refine cx_if_eq 49 h dX10_when_40 rfl (fun h => ?_) (fun h => ?_)
    · refine cx_aload_n 0 dX10_when_49 rfl ?_
      refine cx_cVv [] [] h (fun rs' h' => tw_aStep_m H M3 rs' h') (tw_rc H) dX10_when_50 g_X10_349 hg_X10_349 ⟨cx_le rfl, cx_le rfl⟩ rfl ⟨rfl, rfl⟩ ⟨cx_le rfl, cx_le rfl⟩ rfl (cx_le rfl) (fun M5 _ h => ?_)
      refine cx_iinc 2 1 (fun v6 => [(2, .int v6), (0, .ref (adr 60)), (1, .int x1)]) h dX10_when_53 rfl cx_ic_1 (cx_lt rfl) (fun _ => rfl) (fun v6 h => ?_)
      refine cx_goto 28 dX10_when_56 rfl ?_
      refine cx_sub (lv' := [(0, .ref (adr 60)), (1, .int x1), (2, .int v6)]) [1, 2, 0] rfl ?_
      exact hr_28 M5 x1 v6 _ h
    · refine cx_aload_n 0 dX10_when_43 rfl ?_
      refine cx_iload_n 2 dX10_when_44 rfl ?_
      refine cx_cVi [.int x2] [] h (fun rs' h' => tw_back_m H M3 x2 rs' h') (tw_rc H) dX10_when_45 g_X10_405 hg_X10_405 ⟨cx_le rfl, cx_le rfl⟩ rfl ⟨rfl, rfl⟩ ⟨cx_le rfl, cx_le rfl⟩ rfl (cx_le rfl) (fun M7 v8 h => ?_)
      exact cx_iret h rfl rfl (cx_le rfl) (cx_le rfl) dX10_when_48
noncomputable def tw_when_28 (N : Nat) : Nat → cx_M → Int32 → Int32 → Option cx_R :=
  cx_fix (fun _ _ _ => none) (fun r_28 => tw_when_28b N r_28)
theorem tw_when_28_v {l : Launch} {g : cx_G} {adr : Nat → Nat} {X : cx_X} {N : Nat} (H : tw_H g adr) : ∀ (n : Nat) (M : cx_M) (x1 : Int32) (x2 : Int32) (rs : cx_R), tw_when_28 N n M x1 x2 = some rs → cx_V l (g) X sX10_when cX10_when 28 [(0, .ref (adr 60)), (1, .int x1), (2, .int x2)] [] M 0 0 rs :=
  cx_fixI (fun (r : cx_M → Int32 → Int32 → Option cx_R) => ∀ (M : cx_M) (x1 : Int32) (x2 : Int32) (rs : cx_R), r M x1 x2 = some rs → cx_V l (g) X sX10_when cX10_when 28 [(0, .ref (adr 60)), (1, .int x1), (2, .int x2)] [] M 0 0 rs) (fun _ _ _ _ h => by cases h) (fun r hr M x1 x2 rs h => tw_when_28b_v H hr M x1 x2 rs h)
noncomputable def tw_when_0 (N : Nat) (M : cx_M) (x1 : Int32) : Option cx_R :=
  cx_cal (tw_ready N M) fun M1 _ =>
  cx_cal (tw_isIn N M1 (Int32.toInt64 x1) 0 3) fun M2 v3 =>
  if v3 = 0 then (
    cx_cal (tw_fail N M2 1) fun M5 v6 =>
    some (M5, v6, 0))
  else (
    cx_cal (tw_rememberNow N M2) fun M4 _ =>
    tw_when_28 N N M4 x1 0)
set_option maxRecDepth 100000 in
theorem tw_when_0_v {l : Launch} {g : cx_G} {adr : Nat → Nat} {X : cx_X} {N : Nat} (H : tw_H g adr) (M : cx_M) (x1 : Int32) (rs : cx_R) (h : tw_when_0 N M x1 = some rs) : cx_V l (g) X sX10_when cX10_when 0 [(0, .ref (adr 60)), (1, .int x1)] [] M 0 0 rs := by
  unfold tw_when_0 at h
  refine cx_aload_n 0 dX10_when_0 rfl ?_
  refine cx_cVv [] [] h (fun rs' h' => tw_ready_m H M rs' h') (tw_rc H) dX10_when_1 g_X10_247 hg_X10_247 ⟨cx_le rfl, cx_le rfl⟩ rfl ⟨rfl, rfl⟩ ⟨cx_le rfl, cx_le rfl⟩ rfl (cx_le rfl) (fun M1 _ h => ?_)
  refine cx_iload_n 1 dX10_when_4 rfl ?_
  refine cx_i2l dX10_when_5 ?_
  refine cx_lconst 0 dX10_when_6 cx_lc_0 ?_
  refine cx_ldc2 3 dX10_when_7 q2867 ?_
  refine cx_cSi [.long (Int32.toInt64 x1), .long 0, .long 3] [] h (fun rs' h' => tw_isIn_m H M1 (Int32.toInt64 x1) 0 3 rs' h') dX10_when_10 g_X10_358 hg_X10_358 ⟨cx_le rfl, cx_le rfl⟩ rfl ⟨rfl, rfl⟩ ⟨cx_le rfl, cx_le rfl⟩ rfl (cx_le rfl) (fun M2 v3 h => ?_)
  refine cx_if_ne 22 h dX10_when_13 rfl (fun h => ?_) (fun h => ?_)
  · refine cx_aload_n 0 dX10_when_22 rfl ?_
    refine cx_cVv [] [] h (fun rs' h' => tw_rememberNow_m H M2 rs' h') (tw_rc H) dX10_when_23 g_X10_402 hg_X10_402 ⟨cx_le rfl, cx_le rfl⟩ rfl ⟨rfl, rfl⟩ ⟨cx_le rfl, cx_le rfl⟩ rfl (cx_le rfl) (fun M4 _ h => ?_)
    refine cx_iconst 0 dX10_when_26 cx_ic_0 ?_
    refine cx_istore_n [(2, .int 0), (0, .ref (adr 60)), (1, .int x1)] dX10_when_27 (cx_lt rfl) rfl ?_
    refine cx_sub (lv' := [(0, .ref (adr 60)), (1, .int x1), (2, .int 0)]) [1, 2, 0] rfl ?_
    exact tw_when_28_v H N M4 x1 0 _ h
  · refine cx_aload_n 0 dX10_when_16 rfl ?_
    refine cx_iconst 1 dX10_when_17 cx_ic_1 ?_
    refine cx_cVi [.int 1] [] h (fun rs' h' => tw_fail_m H M2 1 rs' h') (tw_rc H) dX10_when_18 g_X10_250 hg_X10_250 ⟨cx_le rfl, cx_le rfl⟩ rfl ⟨rfl, rfl⟩ ⟨cx_le rfl, cx_le rfl⟩ rfl (cx_le rfl) (fun M5 v6 h => ?_)
    exact cx_iret h rfl rfl (cx_le rfl) (cx_le rfl) dX10_when_21
noncomputable def tw_when (N : Nat) (M : cx_M) (x1 : Int32) : Option cx_R := tw_when_0 N M x1
theorem tw_when_m {l : Launch} {g : cx_G} {adr : Nat → Nat} {N : Nat} (H : tw_H g adr) (M : cx_M) (x1 : Int32) (rs : cx_R) (h : tw_when N M x1 = some rs) : cx_Met l (g) yX10_when cX10_when sX10_when [.ref (adr 60), .int x1] M rs :=
  cx_met (by decide +kernel) rfl rfl (lv := [(0, .ref (adr 60)), (1, .int x1)]) rfl (cx_le rfl) (fun X => cx_sub (lv' := [(0, .ref (adr 60)), (1, .int x1)]) [0, 1] rfl (tw_when_0_v H M x1 rs h))

abbrev sX10_years : cx_S := (7, RX10, cx_rI, { frames := 8, cells := 0, slots := 0, locals := 175 }, some .int, false)
noncomputable def tw_years_126 (N : Nat) (r_55 : cx_M → Int32 → Int32 → Int32 → Int32 → Option cx_R) (M : cx_M) (x2 : Int32) (x3 : Int32) (x4 : Int32) (x5 : Int32) : Option cx_R :=
  cx_cal (tw_goOn N M 10) fun M1 _ =>
  cx_cal (tw_levelNow N M1) fun M2 v3 =>
  cx_let (cx_max x4 v3) fun v4 =>
  cx_let (x5 + 1) fun v5 =>
  r_55 M2 x2 x3 v4 v5
set_option maxRecDepth 100000 in
theorem tw_years_126_v {l : Launch} {g : cx_G} {adr : Nat → Nat} {X : cx_X} {N : Nat} {r_55 : cx_M → Int32 → Int32 → Int32 → Int32 → Option cx_R} (H : tw_H g adr) (hr_55 : ∀ (M : cx_M) (x2 : Int32) (x3 : Int32) (x4 : Int32) (x5 : Int32) (rs : cx_R), r_55 M x2 x3 x4 x5 = some rs → cx_V l (g) X sX10_years cX10_years 55 [(0, .ref (adr 60)), (2, .int x2), (3, .int x3), (4, .int x4), (5, .int x5)] [] M 0 0 rs) (M : cx_M) (x2 : Int32) (x3 : Int32) (x4 : Int32) (x5 : Int32) (rs : cx_R) (h : tw_years_126 N r_55 M x2 x3 x4 x5 = some rs) : cx_V l (g) X sX10_years cX10_years 126 [(0, .ref (adr 60)), (2, .int x2), (3, .int x3), (4, .int x4), (5, .int x5)] [] M 0 0 rs := by
  unfold tw_years_126 at h
  refine cx_aload_n 0 dX10_years_126 rfl ?_
  refine cx_bipush 10 dX10_years_127 cx_bp_10 ?_
  refine cx_cVv [.int 10] [] h (fun rs' h' => tw_goOn_m H M 10 rs' h') (tw_rc H) dX10_years_129 g_X10_387 hg_X10_387 ⟨cx_le rfl, cx_le rfl⟩ rfl ⟨rfl, rfl⟩ ⟨cx_le rfl, cx_le rfl⟩ rfl (cx_le rfl) (fun M1 _ h => ?_)
  refine cx_iload 3 dX10_years_132 rfl ?_
  refine cx_aload_n 0 dX10_years_134 rfl ?_
  refine cx_cVi [] [.int x4] h (fun rs' h' => tw_levelNow_m H M1 rs' h') (tw_rc H) dX10_years_135 g_X10_325 hg_X10_325 ⟨cx_le rfl, cx_le rfl⟩ rfl ⟨rfl, rfl⟩ ⟨cx_le rfl, cx_le rfl⟩ rfl (cx_le rfl) (fun M2 v3 h => ?_)
  refine cx_mmax dX10_years_138 q2694 (cx_le rfl) (cx_le rfl) (cx_le rfl) (cx_le rfl) ?_
  refine cx_letI h (fun v4 h => ?_)
  refine cx_istore [(4, .int v4), (0, .ref (adr 60)), (2, .int x2), (3, .int x3), (5, .int x5)] dX10_years_141 (cx_lt rfl) rfl ?_
  refine cx_iinc 4 1 (fun v5 => [(5, .int v5), (4, .int v4), (0, .ref (adr 60)), (2, .int x2), (3, .int x3)]) h dX10_years_143 rfl cx_ic_1 (cx_lt rfl) (fun _ => rfl) (fun v5 h => ?_)
  refine cx_goto 55 dX10_years_146 rfl ?_
  refine cx_sub (lv' := [(0, .ref (adr 60)), (2, .int x2), (3, .int x3), (4, .int v4), (5, .int v5)]) [2, 3, 4, 1, 0] rfl ?_
  exact hr_55 M2 x2 x3 v4 v5 _ h
noncomputable def tw_years_104 (N : Nat) (r_55 : cx_M → Int32 → Int32 → Int32 → Int32 → Option cx_R) (M : cx_M) (x2 : Int32) (x3 : Int32) (x4 : Int32) (x5 : Int32) (x6 : Int32) : Option cx_R :=
  if x6 = 2 then (
    cx_cal (tw_drawOf N M 41) fun M1 v2 =>
    cx_put M1 8 27 (v2 - 20) fun M3 =>
    tw_years_126 N r_55 M3 x2 x3 x4 x5)
  else (
    tw_years_126 N r_55 M x2 x3 x4 x5)
set_option maxRecDepth 100000 in
theorem tw_years_104_v {l : Launch} {g : cx_G} {adr : Nat → Nat} {X : cx_X} {N : Nat} {r_55 : cx_M → Int32 → Int32 → Int32 → Int32 → Option cx_R} (H : tw_H g adr) (hr_55 : ∀ (M : cx_M) (x2 : Int32) (x3 : Int32) (x4 : Int32) (x5 : Int32) (rs : cx_R), r_55 M x2 x3 x4 x5 = some rs → cx_V l (g) X sX10_years cX10_years 55 [(0, .ref (adr 60)), (2, .int x2), (3, .int x3), (4, .int x4), (5, .int x5)] [] M 0 0 rs) (M : cx_M) (x2 : Int32) (x3 : Int32) (x4 : Int32) (x5 : Int32) (x6 : Int32) (rs : cx_R) (h : tw_years_104 N r_55 M x2 x3 x4 x5 x6 = some rs) : cx_V l (g) X sX10_years cX10_years 104 [(0, .ref (adr 60)), (2, .int x2), (3, .int x3), (4, .int x4), (5, .int x5), (6, .int x6)] [] M 0 0 rs := by
  unfold tw_years_104 at h
  refine cx_iload 5 dX10_years_104 rfl ?_
  refine cx_iconst 2 dX10_years_106 cx_ic_2 ?_
  refine cx_icmp_ne 126 h dX10_years_107 rfl (fun h => ?_) (fun h => ?_)
  · refine cx_sub (lv' := [(0, .ref (adr 60)), (2, .int x2), (3, .int x3), (4, .int x4), (5, .int x5)]) [0, 1, 2, 3, 4] rfl ?_
    exact tw_years_126_v H hr_55 M x2 x3 x4 x5 _ h
  · refine cx_aload_n 0 dX10_years_110 rfl ?_
    refine cx_getR (tw_R8 H) q2398 dX10_years_111 ?_
    refine cx_bipush 27 dX10_years_114 cx_bp_27 ?_
    refine cx_aload_n 0 dX10_years_116 rfl ?_
    refine cx_bipush 41 dX10_years_117 cx_bp_41 ?_
    refine cx_cVi [.int 41] [.int 27, .ref (adr 8)] h (fun rs' h' => tw_drawOf_m H M 41 rs' h') (tw_rc H) dX10_years_119 g_X10_453 hg_X10_453 ⟨cx_le rfl, cx_le rfl⟩ rfl ⟨rfl, rfl⟩ ⟨cx_le rfl, cx_le rfl⟩ rfl (cx_le rfl) (fun M1 v2 h => ?_)
    refine cx_bipush 20 dX10_years_122 cx_bp_20 ?_
    refine cx_isub dX10_years_124 ?_
    refine cx_stC h (tw_A8 H) cx_cl_27 cx_vin_27_665 dX10_years_125 (fun M3 h => ?_)
    refine cx_sub (lv' := [(0, .ref (adr 60)), (2, .int x2), (3, .int x3), (4, .int x4), (5, .int x5)]) [0, 1, 2, 3, 4] rfl ?_
    exact tw_years_126_v H hr_55 M3 x2 x3 x4 x5 _ h
noncomputable def tw_years_85 (N : Nat) (r_55 : cx_M → Int32 → Int32 → Int32 → Int32 → Option cx_R) (M : cx_M) (x2 : Int32) (x3 : Int32) (x4 : Int32) (x5 : Int32) (x6 : Int32) : Option cx_R :=
  if x6 = 1 then (
    cx_cal (tw_drawOf N M 12) fun M1 v2 =>
    cx_put M1 8 26 v2 fun M3 =>
    tw_years_104 N r_55 M3 x2 x3 x4 x5 x6)
  else (
    tw_years_104 N r_55 M x2 x3 x4 x5 x6)
set_option maxRecDepth 100000 in
theorem tw_years_85_v {l : Launch} {g : cx_G} {adr : Nat → Nat} {X : cx_X} {N : Nat} {r_55 : cx_M → Int32 → Int32 → Int32 → Int32 → Option cx_R} (H : tw_H g adr) (hr_55 : ∀ (M : cx_M) (x2 : Int32) (x3 : Int32) (x4 : Int32) (x5 : Int32) (rs : cx_R), r_55 M x2 x3 x4 x5 = some rs → cx_V l (g) X sX10_years cX10_years 55 [(0, .ref (adr 60)), (2, .int x2), (3, .int x3), (4, .int x4), (5, .int x5)] [] M 0 0 rs) (M : cx_M) (x2 : Int32) (x3 : Int32) (x4 : Int32) (x5 : Int32) (x6 : Int32) (rs : cx_R) (h : tw_years_85 N r_55 M x2 x3 x4 x5 x6 = some rs) : cx_V l (g) X sX10_years cX10_years 85 [(0, .ref (adr 60)), (2, .int x2), (3, .int x3), (4, .int x4), (5, .int x5), (6, .int x6)] [] M 0 0 rs := by
  unfold tw_years_85 at h
  refine cx_iload 5 dX10_years_85 rfl ?_
  refine cx_iconst 1 dX10_years_87 cx_ic_1 ?_
  refine cx_icmp_ne 104 h dX10_years_88 rfl (fun h => ?_) (fun h => ?_)
  · exact tw_years_104_v H hr_55 M x2 x3 x4 x5 x6 _ h
  · refine cx_aload_n 0 dX10_years_91 rfl ?_
    refine cx_getR (tw_R8 H) q2398 dX10_years_92 ?_
    refine cx_bipush 26 dX10_years_95 cx_bp_26 ?_
    refine cx_aload_n 0 dX10_years_97 rfl ?_
    refine cx_bipush 12 dX10_years_98 cx_bp_12 ?_
    refine cx_cVi [.int 12] [.int 26, .ref (adr 8)] h (fun rs' h' => tw_drawOf_m H M 12 rs' h') (tw_rc H) dX10_years_100 g_X10_453 hg_X10_453 ⟨cx_le rfl, cx_le rfl⟩ rfl ⟨rfl, rfl⟩ ⟨cx_le rfl, cx_le rfl⟩ rfl (cx_le rfl) (fun M1 v2 h => ?_)
    refine cx_stC h (tw_A8 H) cx_cl_26 cx_vin_26_665 dX10_years_103 (fun M3 h => ?_)
    exact tw_years_104_v H hr_55 M3 x2 x3 x4 x5 x6 _ h
noncomputable def tw_years_197 (N : Nat) (M : cx_M) (z1 : Int32) : Option cx_R :=
  cx_cal (tw_back N M z1) fun M1 v2 =>
  some (M1, v2, 0)
set_option maxRecDepth 100000 in
theorem tw_years_197_v {l : Launch} {g : cx_G} {adr : Nat → Nat} {X : cx_X} {N : Nat} (H : tw_H g adr) (M : cx_M) (z1 : Int32) (rs : cx_R) (h : tw_years_197 N M z1 = some rs) : cx_V l (g) X sX10_years cX10_years 197 [] [.int z1, .ref (adr 60)] M 0 0 rs := by
  unfold tw_years_197 at h
  refine cx_cVi [.int z1] [] h (fun rs' h' => tw_back_m H M z1 rs' h') (tw_rc H) dX10_years_197 g_X10_405 hg_X10_405 ⟨cx_le rfl, cx_le rfl⟩ rfl ⟨rfl, rfl⟩ ⟨cx_le rfl, cx_le rfl⟩ rfl (cx_le rfl) (fun M1 v2 h => ?_)
  exact cx_iret h rfl rfl (cx_le rfl) (cx_le rfl) dX10_years_200
noncomputable def tw_years_55b (N : Nat) (r_55 : cx_M → Int32 → Int32 → Int32 → Int32 → Option cx_R) (M : cx_M) (x2 : Int32) (x3 : Int32) (x4 : Int32) (x5 : Int32) : Option cx_R :=
  if x2 ≤ x5 then (
    if x3 = 0 then (
      cx_get M 8 7 fun v3 =>
      cx_get M 34 7 fun v4 =>
      tw_years_197 N M (v3 - v4))
    else (
      if x3 = 1 then (
        cx_get M 8 12 fun v1 =>
        cx_get M 34 12 fun v2 =>
        tw_years_197 N M (v1 - v2))
      else (
        tw_years_197 N M x4)))
  else (
    cx_cal (tw_drawOf N M 5) fun M5 v6 =>
    if v6 = 0 then (
      cx_cal (tw_drawOf N M5 4) fun M7 v8 =>
      cx_put M7 8 25 v8 fun M9 =>
      tw_years_85 N r_55 M9 x2 x3 x4 x5 v6)
    else (
      tw_years_85 N r_55 M5 x2 x3 x4 x5 v6))
set_option maxRecDepth 100000 in
theorem tw_years_55b_v {l : Launch} {g : cx_G} {adr : Nat → Nat} {X : cx_X} {N : Nat} {r_55 : cx_M → Int32 → Int32 → Int32 → Int32 → Option cx_R} (H : tw_H g adr) (hr_55 : ∀ (M : cx_M) (x2 : Int32) (x3 : Int32) (x4 : Int32) (x5 : Int32) (rs : cx_R), r_55 M x2 x3 x4 x5 = some rs → cx_V l (g) X sX10_years cX10_years 55 [(0, .ref (adr 60)), (2, .int x2), (3, .int x3), (4, .int x4), (5, .int x5)] [] M 0 0 rs) (M : cx_M) (x2 : Int32) (x3 : Int32) (x4 : Int32) (x5 : Int32) (rs : cx_R) (h : tw_years_55b N r_55 M x2 x3 x4 x5 = some rs) : cx_V l (g) X sX10_years cX10_years 55 [(0, .ref (adr 60)), (2, .int x2), (3, .int x3), (4, .int x4), (5, .int x5)] [] M 0 0 rs := by
  unfold tw_years_55b at h
  refine cx_iload 4 dX10_years_55 rfl ?_
  refine cx_iload_n 1 dX10_years_57 rfl ?_
  refine cx_icmp_ge 149 h dX10_years_58 rfl (fun h => ?_) (fun h => ?_)
  · refine cx_aload_n 0 dX10_years_149 rfl ?_
    refine cx_iload_n 2 dX10_years_150 rfl ?_
    refine cx_if_ne 172 h dX10_years_151 rfl (fun h => ?_) (fun h => ?_)
    · refine cx_iload_n 2 dX10_years_172 rfl ?_
      refine cx_iconst 1 dX10_years_173 cx_ic_1 ?_
      refine cx_icmp_ne 195 h dX10_years_174 rfl (fun h => ?_) (fun h => ?_)
      · refine cx_iload 3 dX10_years_195 rfl ?_
        refine cx_sub (lv' := []) [] rfl ?_
        exact tw_years_197_v H M x4 _ h
      · refine cx_aload_n 0 dX10_years_177 rfl ?_
        refine cx_getR (tw_R8 H) q2398 dX10_years_178 ?_
        refine cx_bipush 12 dX10_years_181 cx_bp_12 ?_
        refine cx_ldC h (tw_A8 H) cx_cl_12 cx_vin_12_665 dX10_years_183 (fun v1 h => ?_)
        refine cx_aload_n 0 dX10_years_184 rfl ?_
        refine cx_getR (tw_R34 H) q2424 dX10_years_185 ?_
        refine cx_bipush 12 dX10_years_188 cx_bp_12 ?_
        refine cx_ldC h (tw_A34 H) cx_cl_12 cx_vin_12_665 dX10_years_190 (fun v2 h => ?_)
        refine cx_isub dX10_years_191 ?_
        refine cx_goto 197 dX10_years_192 rfl ?_
        refine cx_sub (lv' := []) [] rfl ?_
        exact tw_years_197_v H M (v1 - v2) _ h
    · refine cx_aload_n 0 dX10_years_154 rfl ?_
      refine cx_getR (tw_R8 H) q2398 dX10_years_155 ?_
      refine cx_bipush 7 dX10_years_158 cx_bp_7 ?_
      refine cx_ldC h (tw_A8 H) cx_cl_7 cx_vin_7_665 dX10_years_160 (fun v3 h => ?_)
      refine cx_aload_n 0 dX10_years_161 rfl ?_
      refine cx_getR (tw_R34 H) q2424 dX10_years_162 ?_
      refine cx_bipush 7 dX10_years_165 cx_bp_7 ?_
      refine cx_ldC h (tw_A34 H) cx_cl_7 cx_vin_7_665 dX10_years_167 (fun v4 h => ?_)
      refine cx_isub dX10_years_168 ?_
      refine cx_goto 197 dX10_years_169 rfl ?_
      refine cx_sub (lv' := []) [] rfl ?_
      exact tw_years_197_v H M (v3 - v4) _ h
  · refine cx_aload_n 0 dX10_years_61 rfl ?_
    refine cx_iconst 5 dX10_years_62 cx_ic_5 ?_
    refine cx_cVi [.int 5] [] h (fun rs' h' => tw_drawOf_m H M 5 rs' h') (tw_rc H) dX10_years_63 g_X10_453 hg_X10_453 ⟨cx_le rfl, cx_le rfl⟩ rfl ⟨rfl, rfl⟩ ⟨cx_le rfl, cx_le rfl⟩ rfl (cx_le rfl) (fun M5 v6 h => ?_)
    refine cx_istore [(6, .int v6), (0, .ref (adr 60)), (2, .int x2), (3, .int x3), (4, .int x4), (5, .int x5)] dX10_years_66 (cx_lt rfl) rfl ?_
    refine cx_iload 0 dX10_years_68 rfl ?_
    refine cx_if_ne 85 h dX10_years_70 rfl (fun h => ?_) (fun h => ?_)
    · refine cx_sub (lv' := [(0, .ref (adr 60)), (2, .int x2), (3, .int x3), (4, .int x4), (5, .int x5), (6, .int v6)]) [1, 2, 3, 4, 5, 0] rfl ?_
      exact tw_years_85_v H hr_55 M5 x2 x3 x4 x5 v6 _ h
    · refine cx_aload_n 1 dX10_years_73 rfl ?_
      refine cx_getR (tw_R8 H) q2398 dX10_years_74 ?_
      refine cx_bipush 25 dX10_years_77 cx_bp_25 ?_
      refine cx_aload_n 1 dX10_years_79 rfl ?_
      refine cx_iconst 4 dX10_years_80 cx_ic_4 ?_
      refine cx_cVi [.int 4] [.int 25, .ref (adr 8)] h (fun rs' h' => tw_drawOf_m H M5 4 rs' h') (tw_rc H) dX10_years_81 g_X10_453 hg_X10_453 ⟨cx_le rfl, cx_le rfl⟩ rfl ⟨rfl, rfl⟩ ⟨cx_le rfl, cx_le rfl⟩ rfl (cx_le rfl) (fun M7 v8 h => ?_)
      refine cx_stC h (tw_A8 H) cx_cl_25 cx_vin_25_665 dX10_years_84 (fun M9 h => ?_)
      refine cx_sub (lv' := [(0, .ref (adr 60)), (2, .int x2), (3, .int x3), (4, .int x4), (5, .int x5), (6, .int v6)]) [1, 2, 3, 4, 5, 0] rfl ?_
      exact tw_years_85_v H hr_55 M9 x2 x3 x4 x5 v6 _ h
noncomputable def tw_years_55 (N : Nat) : Nat → cx_M → Int32 → Int32 → Int32 → Int32 → Option cx_R :=
  cx_fix (fun _ _ _ _ _ => none) (fun r_55 => tw_years_55b N r_55)
theorem tw_years_55_v {l : Launch} {g : cx_G} {adr : Nat → Nat} {X : cx_X} {N : Nat} (H : tw_H g adr) : ∀ (n : Nat) (M : cx_M) (x2 : Int32) (x3 : Int32) (x4 : Int32) (x5 : Int32) (rs : cx_R), tw_years_55 N n M x2 x3 x4 x5 = some rs → cx_V l (g) X sX10_years cX10_years 55 [(0, .ref (adr 60)), (2, .int x2), (3, .int x3), (4, .int x4), (5, .int x5)] [] M 0 0 rs :=
  cx_fixI (fun (r : cx_M → Int32 → Int32 → Int32 → Int32 → Option cx_R) => ∀ (M : cx_M) (x2 : Int32) (x3 : Int32) (x4 : Int32) (x5 : Int32) (rs : cx_R), r M x2 x3 x4 x5 = some rs → cx_V l (g) X sX10_years cX10_years 55 [(0, .ref (adr 60)), (2, .int x2), (3, .int x3), (4, .int x4), (5, .int x5)] [] M 0 0 rs) (fun _ _ _ _ _ _ h => by cases h) (fun r hr M x2 x3 x4 x5 rs h => tw_years_55b_v H hr M x2 x3 x4 x5 rs h)
noncomputable def tw_years_0 (N : Nat) (M : cx_M) (x1 : Int32) (x2 : Int32) (x3 : Int32) : Option cx_R :=
  cx_cal (tw_ready N M) fun M1 _ =>
  cx_cal (tw_isIn N M1 (Int32.toInt64 x3) 0 2) fun M2 v3 =>
  if v3 = 0 then (
    cx_cal (tw_fail N M2 1) fun M10 v11 =>
    some (M10, v11, 0))
  else (
    cx_cal (tw_isIn N M2 (Int32.toInt64 x2) 0 60) fun M4 v5 =>
    if v5 = 0 then (
      cx_cal (tw_fail N M4 2) fun M8 v9 =>
      some (M8, v9, 0))
    else (
      cx_cal (tw_rememberNow N M4) fun M6 _ =>
      cx_put M6 60 43 x1 fun M7 =>
      tw_years_55 N N M7 x2 x3 0 0))
set_option maxRecDepth 100000 in
theorem tw_years_0_v {l : Launch} {g : cx_G} {adr : Nat → Nat} {X : cx_X} {N : Nat} (H : tw_H g adr) (M : cx_M) (x1 : Int32) (x2 : Int32) (x3 : Int32) (rs : cx_R) (h : tw_years_0 N M x1 x2 x3 = some rs) : cx_V l (g) X sX10_years cX10_years 0 [(0, .ref (adr 60)), (1, .int x1), (2, .int x2), (3, .int x3)] [] M 0 0 rs := by
  unfold tw_years_0 at h
  refine cx_aload_n 0 dX10_years_0 rfl ?_
  refine cx_cVv [] [] h (fun rs' h' => tw_ready_m H M rs' h') (tw_rc H) dX10_years_1 g_X10_247 hg_X10_247 ⟨cx_le rfl, cx_le rfl⟩ rfl ⟨rfl, rfl⟩ ⟨cx_le rfl, cx_le rfl⟩ rfl (cx_le rfl) (fun M1 _ h => ?_)
  refine cx_iload_n 3 dX10_years_4 rfl ?_
  refine cx_i2l dX10_years_5 ?_
  refine cx_lconst 0 dX10_years_6 cx_lc_0 ?_
  refine cx_ldc2 2 dX10_years_7 q2714 ?_
  refine cx_cSi [.long (Int32.toInt64 x3), .long 0, .long 2] [] h (fun rs' h' => tw_isIn_m H M1 (Int32.toInt64 x3) 0 2 rs' h') dX10_years_10 g_X10_358 hg_X10_358 ⟨cx_le rfl, cx_le rfl⟩ rfl ⟨rfl, rfl⟩ ⟨cx_le rfl, cx_le rfl⟩ rfl (cx_le rfl) (fun M2 v3 h => ?_)
  refine cx_if_ne 22 h dX10_years_13 rfl (fun h => ?_) (fun h => ?_)
  · refine cx_iload_n 2 dX10_years_22 rfl ?_
    refine cx_i2l dX10_years_23 ?_
    refine cx_lconst 0 dX10_years_24 cx_lc_0 ?_
    refine cx_ldc2 60 dX10_years_25 q2901 ?_
    refine cx_cSi [.long (Int32.toInt64 x2), .long 0, .long 60] [] h (fun rs' h' => tw_isIn_m H M2 (Int32.toInt64 x2) 0 60 rs' h') dX10_years_28 g_X10_358 hg_X10_358 ⟨cx_le rfl, cx_le rfl⟩ rfl ⟨rfl, rfl⟩ ⟨cx_le rfl, cx_le rfl⟩ rfl (cx_le rfl) (fun M4 v5 h => ?_)
    refine cx_if_ne 40 h dX10_years_31 rfl (fun h => ?_) (fun h => ?_)
    · refine cx_aload_n 0 dX10_years_40 rfl ?_
      refine cx_cVv [] [] h (fun rs' h' => tw_rememberNow_m H M4 rs' h') (tw_rc H) dX10_years_41 g_X10_402 hg_X10_402 ⟨cx_le rfl, cx_le rfl⟩ rfl ⟨rfl, rfl⟩ ⟨cx_le rfl, cx_le rfl⟩ rfl (cx_le rfl) (fun M6 _ h => ?_)
      refine cx_aload_n 0 dX10_years_44 rfl ?_
      refine cx_iload_n 1 dX10_years_45 rfl ?_
      refine cx_putI h (tw_F43 H) rfl rfl rfl q2433 dX10_years_46 (fun M7 h => ?_)
      refine cx_iconst 0 dX10_years_49 cx_ic_0 ?_
      refine cx_istore [(4, .int 0), (0, .ref (adr 60)), (1, .int x1), (2, .int x2), (3, .int x3)] dX10_years_50 (cx_lt rfl) rfl ?_
      refine cx_iconst 0 dX10_years_52 cx_ic_0 ?_
      refine cx_istore [(5, .int 0), (4, .int 0), (0, .ref (adr 60)), (1, .int x1), (2, .int x2), (3, .int x3)] dX10_years_53 (cx_lt rfl) rfl ?_
      refine cx_sub (lv' := [(0, .ref (adr 60)), (2, .int x2), (3, .int x3), (4, .int 0), (5, .int 0)]) [2, 4, 5, 1, 0] rfl ?_
      exact tw_years_55_v H N M7 x2 x3 0 0 _ h
    · refine cx_aload_n 0 dX10_years_34 rfl ?_
      refine cx_iconst 2 dX10_years_35 cx_ic_2 ?_
      refine cx_cVi [.int 2] [] h (fun rs' h' => tw_fail_m H M4 2 rs' h') (tw_rc H) dX10_years_36 g_X10_250 hg_X10_250 ⟨cx_le rfl, cx_le rfl⟩ rfl ⟨rfl, rfl⟩ ⟨cx_le rfl, cx_le rfl⟩ rfl (cx_le rfl) (fun M8 v9 h => ?_)
      exact cx_iret h rfl rfl (cx_le rfl) (cx_le rfl) dX10_years_39
  · refine cx_aload_n 0 dX10_years_16 rfl ?_
    refine cx_iconst 1 dX10_years_17 cx_ic_1 ?_
    refine cx_cVi [.int 1] [] h (fun rs' h' => tw_fail_m H M2 1 rs' h') (tw_rc H) dX10_years_18 g_X10_250 hg_X10_250 ⟨cx_le rfl, cx_le rfl⟩ rfl ⟨rfl, rfl⟩ ⟨cx_le rfl, cx_le rfl⟩ rfl (cx_le rfl) (fun M10 v11 h => ?_)
    exact cx_iret h rfl rfl (cx_le rfl) (cx_le rfl) dX10_years_21
noncomputable def tw_years (N : Nat) (M : cx_M) (x1 : Int32) (x2 : Int32) (x3 : Int32) : Option cx_R := tw_years_0 N M x1 x2 x3
theorem tw_years_m {l : Launch} {g : cx_G} {adr : Nat → Nat} {N : Nat} (H : tw_H g adr) (M : cx_M) (x1 : Int32) (x2 : Int32) (x3 : Int32) (rs : cx_R) (h : tw_years N M x1 x2 x3 = some rs) : cx_Met l (g) yX10_years cX10_years sX10_years [.ref (adr 60), .int x1, .int x2, .int x3] M rs :=
  cx_met (by decide +kernel) rfl rfl (lv := [(0, .ref (adr 60)), (1, .int x1), (2, .int x2), (3, .int x3)]) rfl (cx_le rfl) (fun X => cx_sub (lv' := [(0, .ref (adr 60)), (1, .int x1), (2, .int x2), (3, .int x3)]) [0, 1, 2, 3] rfl (tw_years_0_v H M x1 x2 x3 rs h))
