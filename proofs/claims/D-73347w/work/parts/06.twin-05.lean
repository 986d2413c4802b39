abbrev sX10_look : cx_S := (6, RX10, cx_rI, { frames := 9, cells := 0, slots := 0, locals := 200 }, some .int, false)
noncomputable def tw_look_65 (N : Nat) (r_31 : cx_M → Int32 → Int32 → Int32 → Int32 → Option cx_R) (M : cx_M) (x1 : Int32) (x2 : Int32) (x3 : Int32) (x4 : Int32) : Option cx_R :=
  cx_let (x4 + 1) fun v1 =>
  r_31 M x1 x2 x3 v1
set_option maxRecDepth 100000 in
theorem tw_look_65_v {l : Launch} {g : cx_G} {adr : Nat → Nat} {X : cx_X} {N : Nat} {r_31 : cx_M → Int32 → Int32 → Int32 → Int32 → Option cx_R} (H : tw_H g adr) (hr_31 : ∀ (M : cx_M) (x1 : Int32) (x2 : Int32) (x3 : Int32) (x4 : Int32) (rs : cx_R), r_31 M x1 x2 x3 x4 = some rs → cx_V l (g) X sX10_look cX10_look 31 [(0, .ref (adr 60)), (1, .int x1), (2, .int x2), (3, .int x3), (4, .int x4)] [] M 0 0 rs) (M : cx_M) (x1 : Int32) (x2 : Int32) (x3 : Int32) (x4 : Int32) (rs : cx_R) (h : tw_look_65 N r_31 M x1 x2 x3 x4 = some rs) : cx_V l (g) X sX10_look cX10_look 65 [(0, .ref (adr 60)), (1, .int x1), (2, .int x2), (3, .int x3), (4, .int x4)] [] M 0 0 rs := by
  unfold tw_look_65 at h
  refine cx_iinc 4 1 (fun v1 => [(4, .int v1), (0, .ref (adr 60)), (1, .int x1), (2, .int x2), (3, .int x3)]) h dX10_look_65 rfl cx_ic_1 (cx_lt rfl) (fun _ => rfl) (fun v1 h => ?_)
  refine cx_goto 31 dX10_look_68 rfl ?_
  refine cx_sub (lv' := [(0, .ref (adr 60)), (1, .int x1), (2, .int x2), (3, .int x3), (4, .int v1)]) [1, 2, 3, 4, 0] rfl ?_
  exact hr_31 M x1 x2 x3 v1 _ h
noncomputable def tw_look_31b (N : Nat) (r_31 : cx_M → Int32 → Int32 → Int32 → Int32 → Option cx_R) (M : cx_M) (x1 : Int32) (x2 : Int32) (x3 : Int32) (x4 : Int32) : Option cx_R :=
  if 5 ≤ x4 then (
    if x1 = 0 then (
      some (M, x2, 0))
    else (
      some (M, x3, 0)))
  else (
    cx_cal (tw_unlikeAt N M x4) fun M1 v2 =>
    if x3 < v2 then (
      cx_let ((10 : Int32) * (x4 + 1)) fun v3 =>
      tw_look_65 N r_31 M1 x1 v3 v2 x4)
    else (
      tw_look_65 N r_31 M1 x1 x2 x3 x4))
set_option maxRecDepth 100000 in
theorem tw_look_31b_v {l : Launch} {g : cx_G} {adr : Nat → Nat} {X : cx_X} {N : Nat} {r_31 : cx_M → Int32 → Int32 → Int32 → Int32 → Option cx_R} (H : tw_H g adr) (hr_31 : ∀ (M : cx_M) (x1 : Int32) (x2 : Int32) (x3 : Int32) (x4 : Int32) (rs : cx_R), r_31 M x1 x2 x3 x4 = some rs → cx_V l (g) X sX10_look cX10_look 31 [(0, .ref (adr 60)), (1, .int x1), (2, .int x2), (3, .int x3), (4, .int x4)] [] M 0 0 rs) (M : cx_M) (x1 : Int32) (x2 : Int32) (x3 : Int32) (x4 : Int32) (rs : cx_R) (h : tw_look_31b N r_31 M x1 x2 x3 x4 = some rs) : cx_V l (g) X sX10_look cX10_look 31 [(0, .ref (adr 60)), (1, .int x1), (2, .int x2), (3, .int x3), (4, .int x4)] [] M 0 0 rs := by
  unfold tw_look_31b at h
  refine cx_iload 4 dX10_look_31 rfl ?_
  refine cx_iconst 5 dX10_look_33 cx_ic_5 ?_
  refine cx_icmp_ge 71 h dX10_look_34 rfl (fun h => ?_) (fun h => ?_)
  · refine cx_iload_n 1 dX10_look_71 rfl ?_
    refine cx_if_ne 79 h dX10_look_72 rfl (fun h => ?_) (fun h => ?_)
    · refine cx_iload_n 3 dX10_look_79 rfl ?_
      exact cx_iret h rfl rfl (cx_le rfl) (cx_le rfl) dX10_look_80
    · refine cx_iload_n 2 dX10_look_75 rfl ?_
      refine cx_goto 80 dX10_look_76 rfl ?_
      exact cx_iret h rfl rfl (cx_le rfl) (cx_le rfl) dX10_look_80
  · refine cx_aload_n 0 dX10_look_37 rfl ?_
    refine cx_iload 4 dX10_look_38 rfl ?_
    refine cx_cVi [.int x4] [] h (fun rs' h' => tw_unlikeAt_m H M x4 rs' h') (tw_rc H) dX10_look_40 g_X10_444 hg_X10_444 ⟨cx_le rfl, cx_le rfl⟩ rfl ⟨rfl, rfl⟩ ⟨cx_le rfl, cx_le rfl⟩ rfl (cx_le rfl) (fun M1 v2 h => ?_)
    refine cx_istore [(5, .int v2), (0, .ref (adr 60)), (1, .int x1), (2, .int x2), (3, .int x3), (4, .int x4)] dX10_look_43 (cx_lt rfl) rfl ?_
    refine cx_iload 0 dX10_look_45 rfl ?_
    refine cx_iload_n 4 dX10_look_47 rfl ?_
    refine cx_icmp_gt 54 h dX10_look_48 rfl (fun h => ?_) (fun h => ?_)
    · refine cx_bipush 10 dX10_look_54 cx_bp_10 ?_
      refine cx_iload 5 dX10_look_56 rfl ?_
      refine cx_iconst 1 dX10_look_58 cx_ic_1 ?_
      refine cx_iadd dX10_look_59 ?_
      refine cx_imul dX10_look_60 ?_
      refine cx_letI h (fun v3 h => ?_)
      refine cx_istore_n [(2, .int v3), (5, .int v2), (0, .ref (adr 60)), (1, .int x1), (3, .int x3), (4, .int x4)] dX10_look_61 (cx_lt rfl) rfl ?_
      refine cx_iload 1 dX10_look_62 rfl ?_
      refine cx_istore_n [(3, .int v2), (2, .int v3), (5, .int v2), (0, .ref (adr 60)), (1, .int x1), (4, .int x4)] dX10_look_64 (cx_lt rfl) rfl ?_
      refine cx_sub (lv' := [(0, .ref (adr 60)), (1, .int x1), (2, .int v3), (3, .int v2), (4, .int x4)]) [3, 4, 1, 0, 5] rfl ?_
      exact tw_look_65_v H hr_31 M1 x1 v3 v2 x4 _ h
    · refine cx_goto 65 dX10_look_51 rfl ?_
      refine cx_sub (lv' := [(0, .ref (adr 60)), (1, .int x1), (2, .int x2), (3, .int x3), (4, .int x4)]) [1, 2, 3, 4, 5] rfl ?_
      exact tw_look_65_v H hr_31 M1 x1 x2 x3 x4 _ h
noncomputable def tw_look_31 (N : Nat) : Nat → cx_M → Int32 → Int32 → Int32 → Int32 → Option cx_R :=
  cx_fix (fun _ _ _ _ _ => none) (fun r_31 => tw_look_31b N r_31)
theorem tw_look_31_v {l : Launch} {g : cx_G} {adr : Nat → Nat} {X : cx_X} {N : Nat} (H : tw_H g adr) : ∀ (n : Nat) (M : cx_M) (x1 : Int32) (x2 : Int32) (x3 : Int32) (x4 : Int32) (rs : cx_R), tw_look_31 N n M x1 x2 x3 x4 = some rs → cx_V l (g) X sX10_look cX10_look 31 [(0, .ref (adr 60)), (1, .int x1), (2, .int x2), (3, .int x3), (4, .int x4)] [] M 0 0 rs :=
  cx_fixI (fun (r : cx_M → Int32 → Int32 → Int32 → Int32 → Option cx_R) => ∀ (M : cx_M) (x1 : Int32) (x2 : Int32) (x3 : Int32) (x4 : Int32) (rs : cx_R), r M x1 x2 x3 x4 = some rs → cx_V l (g) X sX10_look cX10_look 31 [(0, .ref (adr 60)), (1, .int x1), (2, .int x2), (3, .int x3), (4, .int x4)] [] M 0 0 rs) (fun _ _ _ _ _ _ h => by cases h) (fun r hr M x1 x2 x3 x4 rs h => tw_look_31b_v H hr M x1 x2 x3 x4 rs h)
noncomputable def tw_look_0 (N : Nat) (M : cx_M) (x1 : Int32) : Option cx_R :=
  cx_cal (tw_ready N M) fun M1 _ =>
  cx_cal (tw_isIn N M1 (Int32.toInt64 x1) 0 1) fun M2 v3 =>
  if v3 = 0 then (
    cx_cal (tw_fail N M2 1) fun M5 v6 =>
    some (M5, v6, 0))
  else (
    cx_cal (tw_tellFits N M2) fun M4 _ =>
    tw_look_31 N N M4 x1 (-1) 0 0)
set_option maxRecDepth 100000 in
theorem tw_look_0_v {l : Launch} {g : cx_G} {adr : Nat → Nat} {X : cx_X} {N : Nat} (H : tw_H g adr) (M : cx_M) (x1 : Int32) (rs : cx_R) (h : tw_look_0 N M x1 = some rs) : cx_V l (g) X sX10_look cX10_look 0 [(0, .ref (adr 60)), (1, .int x1)] [] M 0 0 rs := by
  unfold tw_look_0 at h
  refine cx_aload_n 0 dX10_look_0 rfl ?_
  refine cx_cVv [] [] h (fun rs' h' => tw_ready_m H M rs' h') (tw_rc H) dX10_look_1 g_X10_247 hg_X10_247 ⟨cx_le rfl, cx_le rfl⟩ rfl ⟨rfl, rfl⟩ ⟨cx_le rfl, cx_le rfl⟩ rfl (cx_le rfl) (fun M1 _ h => ?_)
  refine cx_iload_n 1 dX10_look_4 rfl ?_
  refine cx_i2l dX10_look_5 ?_
  refine cx_lconst 0 dX10_look_6 cx_lc_0 ?_
  refine cx_lconst 1 dX10_look_7 cx_lc_1 ?_
  refine cx_cSi [.long (Int32.toInt64 x1), .long 0, .long 1] [] h (fun rs' h' => tw_isIn_m H M1 (Int32.toInt64 x1) 0 1 rs' h') dX10_look_8 g_X10_358 hg_X10_358 ⟨cx_le rfl, cx_le rfl⟩ rfl ⟨rfl, rfl⟩ ⟨cx_le rfl, cx_le rfl⟩ rfl (cx_le rfl) (fun M2 v3 h => ?_)
  refine cx_if_ne 20 h dX10_look_11 rfl (fun h => ?_) (fun h => ?_)
  · refine cx_aload_n 0 dX10_look_20 rfl ?_
    refine cx_cVv [] [] h (fun rs' h' => tw_tellFits_m H M2 rs' h') (tw_rc H) dX10_look_21 g_X10_441 hg_X10_441 ⟨cx_le rfl, cx_le rfl⟩ rfl ⟨rfl, rfl⟩ ⟨cx_le rfl, cx_le rfl⟩ rfl (cx_le rfl) (fun M4 _ h => ?_)
    refine cx_iconst (-1) dX10_look_24 cx_ic_m1 ?_
    refine cx_istore_n [(2, .int (-1)), (0, .ref (adr 60)), (1, .int x1)] dX10_look_25 (cx_lt rfl) rfl ?_
    refine cx_iconst 0 dX10_look_26 cx_ic_0 ?_
    refine cx_istore_n [(3, .int 0), (2, .int (-1)), (0, .ref (adr 60)), (1, .int x1)] dX10_look_27 (cx_lt rfl) rfl ?_
    refine cx_iconst 0 dX10_look_28 cx_ic_0 ?_
    refine cx_istore [(4, .int 0), (3, .int 0), (2, .int (-1)), (0, .ref (adr 60)), (1, .int x1)] dX10_look_29 (cx_lt rfl) rfl ?_
    refine cx_sub (lv' := [(0, .ref (adr 60)), (1, .int x1), (2, .int (-1)), (3, .int 0), (4, .int 0)]) [3, 4, 2, 1, 0] rfl ?_
    exact tw_look_31_v H N M4 x1 (-1) 0 0 _ h
  · refine cx_aload_n 0 dX10_look_14 rfl ?_
    refine cx_iconst 1 dX10_look_15 cx_ic_1 ?_
    refine cx_cVi [.int 1] [] h (fun rs' h' => tw_fail_m H M2 1 rs' h') (tw_rc H) dX10_look_16 g_X10_250 hg_X10_250 ⟨cx_le rfl, cx_le rfl⟩ rfl ⟨rfl, rfl⟩ ⟨cx_le rfl, cx_le rfl⟩ rfl (cx_le rfl) (fun M5 v6 h => ?_)
    exact cx_iret h rfl rfl (cx_le rfl) (cx_le rfl) dX10_look_19
noncomputable def tw_look (N : Nat) (M : cx_M) (x1 : Int32) : Option cx_R := tw_look_0 N M x1
theorem tw_look_m {l : Launch} {g : cx_G} {adr : Nat → Nat} {N : Nat} (H : tw_H g adr) (M : cx_M) (x1 : Int32) (rs : cx_R) (h : tw_look N M x1 = some rs) : cx_Met l (g) yX10_look cX10_look sX10_look [.ref (adr 60), .int x1] M rs :=
  cx_met (by decide +kernel) rfl rfl (lv := [(0, .ref (adr 60)), (1, .int x1)]) rfl (cx_le rfl) (fun X => cx_sub (lv' := [(0, .ref (adr 60)), (1, .int x1)]) [0, 1] rfl (tw_look_0_v H M x1 rs h))

abbrev sX10_refuse : cx_S := (2, RX10, cx_rI, { frames := 0, cells := 0, slots := 0, locals := 0 }, some .int, false)
noncomputable def tw_refuse_0 (N : Nat) (M : cx_M) (x1 : Int32) : Option cx_R :=
  cx_ld M 7 3 x1 fun v1 =>
  cx_st M 7 3 x1 (v1 + 1) fun M2 =>
  some (M2, (-1), 0)
set_option maxRecDepth 100000 in
theorem tw_refuse_0_v {l : Launch} {g : cx_G} {adr : Nat → Nat} {X : cx_X} {N : Nat} (H : tw_H g adr) (M : cx_M) (x1 : Int32) (rs : cx_R) (h : tw_refuse_0 N M x1 = some rs) : cx_V l (g) X sX10_refuse cX10_refuse 0 [(0, .ref (adr 60)), (1, .int x1)] [] M 0 0 rs := by
  unfold tw_refuse_0 at h
  refine cx_aload_n 0 dX10_refuse_0 rfl ?_
  refine cx_getR (tw_R7 H) q2397 dX10_refuse_1 ?_
  refine cx_iload_n 1 dX10_refuse_4 rfl ?_
  refine cx_dup2 dX10_refuse_5 rfl rfl ?_
  refine cx_ldI h (tw_A7 H) dX10_refuse_6 (fun v1 h => ?_)
  refine cx_iconst 1 dX10_refuse_7 cx_ic_1 ?_
  refine cx_iadd dX10_refuse_8 ?_
  refine cx_stI h (tw_A7 H) dX10_refuse_9 (fun M2 h => ?_)
  refine cx_iconst (-1) dX10_refuse_10 cx_ic_m1 ?_
  exact cx_iret h rfl rfl (cx_le rfl) (cx_le rfl) dX10_refuse_11
noncomputable def tw_refuse (N : Nat) (M : cx_M) (x1 : Int32) : Option cx_R := tw_refuse_0 N M x1
theorem tw_refuse_m {l : Launch} {g : cx_G} {adr : Nat → Nat} {N : Nat} (H : tw_H g adr) (M : cx_M) (x1 : Int32) (rs : cx_R) (h : tw_refuse N M x1 = some rs) : cx_Met l (g) yX10_refuse cX10_refuse sX10_refuse [.ref (adr 60), .int x1] M rs :=
  cx_met (by decide +kernel) rfl rfl (lv := [(0, .ref (adr 60)), (1, .int x1)]) rfl (cx_le rfl) (fun X => cx_sub (lv' := [(0, .ref (adr 60)), (1, .int x1)]) [0, 1] rfl (tw_refuse_0_v H M x1 rs h))

abbrev sX10_turnTo : cx_S := (7, RX10, cx_rI, { frames := 1, cells := 0, slots := 0, locals := 25 }, some .int, false)
noncomputable def tw_turnTo_27 (N : Nat) (M : cx_M) (x5 : Int32) : Option cx_R :=
  cx_cal (tw_refuse N M 1) fun M1 v2 =>
  some (M1, x5, 0)
set_option maxRecDepth 100000 in
theorem tw_turnTo_27_v {l : Launch} {g : cx_G} {adr : Nat → Nat} {X : cx_X} {N : Nat} (H : tw_H g adr) (M : cx_M) (x5 : Int32) (rs : cx_R) (h : tw_turnTo_27 N M x5 = some rs) : cx_V l (g) X sX10_turnTo cX10_turnTo 27 [(0, .ref (adr 60)), (5, .int x5)] [] M 0 0 rs := by
  unfold tw_turnTo_27 at h
  refine cx_aload_n 0 dX10_turnTo_27 rfl ?_
  refine cx_iconst 1 dX10_turnTo_28 cx_ic_1 ?_
  refine cx_cVi [.int 1] [] h (fun rs' h' => tw_refuse_m H M 1 rs' h') (tw_rc H) dX10_turnTo_29 g_X10_381 hg_X10_381 ⟨cx_le rfl, cx_le rfl⟩ rfl ⟨rfl, rfl⟩ ⟨cx_le rfl, cx_le rfl⟩ rfl (cx_le rfl) (fun M1 v2 h => ?_)
  refine cx_pop dX10_turnTo_32 rfl ?_
  refine cx_iload 1 dX10_turnTo_33 rfl ?_
  exact cx_iret h rfl rfl (cx_le rfl) (cx_le rfl) dX10_turnTo_35
noncomputable def tw_turnTo_0 (N : Nat) (M : cx_M) (x1 : Int32) (x2 : Int32) (x3 : Int32) (x4 : Int32) (x5 : Int32) : Option cx_R :=
  cx_ld M 8 665 x1 fun v1 =>
  cx_cal (tw_isIn N M (Int32.toInt64 x2) (Int32.toInt64 x3) (Int32.toInt64 x4)) fun M2 v3 =>
  if v3 = 0 then (
    tw_turnTo_27 N M2 x5)
  else (
    if x2 = v1 then (
      tw_turnTo_27 N M2 x5)
    else (
      cx_cal (tw_keep N M2) fun M4 _ =>
      cx_st M4 8 665 x1 x2 fun M5 =>
      some (M5, v1, 0)))
set_option maxRecDepth 100000 in
theorem tw_turnTo_0_v {l : Launch} {g : cx_G} {adr : Nat → Nat} {X : cx_X} {N : Nat} (H : tw_H g adr) (M : cx_M) (x1 : Int32) (x2 : Int32) (x3 : Int32) (x4 : Int32) (x5 : Int32) (rs : cx_R) (h : tw_turnTo_0 N M x1 x2 x3 x4 x5 = some rs) : cx_V l (g) X sX10_turnTo cX10_turnTo 0 [(0, .ref (adr 60)), (1, .int x1), (2, .int x2), (3, .int x3), (4, .int x4), (5, .int x5)] [] M 0 0 rs := by
  unfold tw_turnTo_0 at h
  refine cx_aload_n 0 dX10_turnTo_0 rfl ?_
  refine cx_getR (tw_R8 H) q2398 dX10_turnTo_1 ?_
  refine cx_iload_n 1 dX10_turnTo_4 rfl ?_
  refine cx_ldI h (tw_A8 H) dX10_turnTo_5 (fun v1 h => ?_)
  refine cx_istore [(6, .int v1), (0, .ref (adr 60)), (1, .int x1), (2, .int x2), (3, .int x3), (4, .int x4), (5, .int x5)] dX10_turnTo_6 (cx_lt rfl) rfl ?_
  refine cx_iload_n 3 dX10_turnTo_8 rfl ?_
  refine cx_i2l dX10_turnTo_9 ?_
  refine cx_iload_n 4 dX10_turnTo_10 rfl ?_
  refine cx_i2l dX10_turnTo_11 ?_
  refine cx_iload 5 dX10_turnTo_12 rfl ?_
  refine cx_i2l dX10_turnTo_14 ?_
  refine cx_cSi [.long (Int32.toInt64 x2), .long (Int32.toInt64 x3), .long (Int32.toInt64 x4)] [] h (fun rs' h' => tw_isIn_m H M (Int32.toInt64 x2) (Int32.toInt64 x3) (Int32.toInt64 x4) rs' h') dX10_turnTo_15 g_X10_358 hg_X10_358 ⟨cx_le rfl, cx_le rfl⟩ rfl ⟨rfl, rfl⟩ ⟨cx_le rfl, cx_le rfl⟩ rfl (cx_le rfl) (fun M2 v3 h => ?_)
  refine cx_if_eq 27 h dX10_turnTo_18 rfl (fun h => ?_) (fun h => ?_)
  · refine cx_sub (lv' := [(0, .ref (adr 60)), (5, .int x5)]) [1, 6] rfl ?_
    exact tw_turnTo_27_v H M2 x5 _ h
  · refine cx_iload_n 3 dX10_turnTo_21 rfl ?_
    refine cx_iload 0 dX10_turnTo_22 rfl ?_
    refine cx_icmp_ne 36 h dX10_turnTo_24 rfl (fun h => ?_) (fun h => ?_)
    · refine cx_aload_n 1 dX10_turnTo_36 rfl ?_
      refine cx_cVv [] [] h (fun rs' h' => tw_keep_m H M2 rs' h') (tw_rc H) dX10_turnTo_37 g_X10_384 hg_X10_384 ⟨cx_le rfl, cx_le rfl⟩ rfl ⟨rfl, rfl⟩ ⟨cx_le rfl, cx_le rfl⟩ rfl (cx_le rfl) (fun M4 _ h => ?_)
      refine cx_aload_n 1 dX10_turnTo_40 rfl ?_
      refine cx_getR (tw_R8 H) q2398 dX10_turnTo_41 ?_
      refine cx_iload_n 2 dX10_turnTo_44 rfl ?_
      refine cx_iload_n 3 dX10_turnTo_45 rfl ?_
      refine cx_stI h (tw_A8 H) dX10_turnTo_46 (fun M5 h => ?_)
      refine cx_iload 0 dX10_turnTo_47 rfl ?_
      exact cx_iret h rfl rfl (cx_le rfl) (cx_le rfl) dX10_turnTo_49
    · refine cx_sub (lv' := [(0, .ref (adr 60)), (5, .int x5)]) [1, 6] rfl ?_
      exact tw_turnTo_27_v H M2 x5 _ h
noncomputable def tw_turnTo (N : Nat) (M : cx_M) (x1 : Int32) (x2 : Int32) (x3 : Int32) (x4 : Int32) (x5 : Int32) : Option cx_R := tw_turnTo_0 N M x1 x2 x3 x4 x5
theorem tw_turnTo_m {l : Launch} {g : cx_G} {adr : Nat → Nat} {N : Nat} (H : tw_H g adr) (M : cx_M) (x1 : Int32) (x2 : Int32) (x3 : Int32) (x4 : Int32) (x5 : Int32) (rs : cx_R) (h : tw_turnTo N M x1 x2 x3 x4 x5 = some rs) : cx_Met l (g) yX10_turnTo cX10_turnTo sX10_turnTo [.ref (adr 60), .int x1, .int x2, .int x3, .int x4, .int x5] M rs :=
  cx_met (by decide +kernel) rfl rfl (lv := [(0, .ref (adr 60)), (1, .int x1), (2, .int x2), (3, .int x3), (4, .int x4), (5, .int x5)]) rfl (cx_le rfl) (fun X => cx_sub (lv' := [(0, .ref (adr 60)), (1, .int x1), (2, .int x2), (3, .int x3), (4, .int x4), (5, .int x5)]) [0, 1, 2, 3, 4, 5] rfl (tw_turnTo_0_v H M x1 x2 x3 x4 x5 rs h))

abbrev sX10_lose : cx_S := (2, RX10, cx_rI, { frames := 3, cells := 0, slots := 0, locals := 62 }, some .int, false)
noncomputable def tw_lose_0 (N : Nat) (M : cx_M) (x1 : Int32) : Option cx_R :=
  cx_cal (tw_ready N M) fun M1 _ =>
  cx_cal (tw_turnTo N M1 25 x1 0 20 (-1)) fun M2 v3 =>
  some (M2, v3, 0)
set_option maxRecDepth 100000 in
theorem tw_lose_0_v {l : Launch} {g : cx_G} {adr : Nat → Nat} {X : cx_X} {N : Nat} (H : tw_H g adr) (M : cx_M) (x1 : Int32) (rs : cx_R) (h : tw_lose_0 N M x1 = some rs) : cx_V l (g) X sX10_lose cX10_lose 0 [(0, .ref (adr 60)), (1, .int x1)] [] M 0 0 rs := by
  unfold tw_lose_0 at h
  refine cx_aload_n 0 dX10_lose_0 rfl ?_
  refine cx_cVv [] [] h (fun rs' h' => tw_ready_m H M rs' h') (tw_rc H) dX10_lose_1 g_X10_247 hg_X10_247 ⟨cx_le rfl, cx_le rfl⟩ rfl ⟨rfl, rfl⟩ ⟨cx_le rfl, cx_le rfl⟩ rfl (cx_le rfl) (fun M1 _ h => ?_)
  refine cx_aload_n 0 dX10_lose_4 rfl ?_
  refine cx_bipush 25 dX10_lose_5 cx_bp_25 ?_
  refine cx_iload_n 1 dX10_lose_7 rfl ?_
  refine cx_iconst 0 dX10_lose_8 cx_ic_0 ?_
  refine cx_bipush 20 dX10_lose_9 cx_bp_20 ?_
  refine cx_iconst (-1) dX10_lose_11 cx_ic_m1 ?_
  refine cx_cVi [.int 25, .int x1, .int 0, .int 20, .int (-1)] [] h (fun rs' h' => tw_turnTo_m H M1 25 x1 0 20 (-1) rs' h') (tw_rc H) dX10_lose_12 g_X10_390 hg_X10_390 ⟨cx_le rfl, cx_le rfl⟩ rfl ⟨rfl, rfl⟩ ⟨cx_le rfl, cx_le rfl⟩ rfl (cx_le rfl) (fun M2 v3 h => ?_)
  exact cx_iret h rfl rfl (cx_le rfl) (cx_le rfl) dX10_lose_15
noncomputable def tw_lose (N : Nat) (M : cx_M) (x1 : Int32) : Option cx_R := tw_lose_0 N M x1
theorem tw_lose_m {l : Launch} {g : cx_G} {adr : Nat → Nat} {N : Nat} (H : tw_H g adr) (M : cx_M) (x1 : Int32) (rs : cx_R) (h : tw_lose N M x1 = some rs) : cx_Met l (g) yX10_lose cX10_lose sX10_lose [.ref (adr 60), .int x1] M rs :=
  cx_met (by decide +kernel) rfl rfl (lv := [(0, .ref (adr 60)), (1, .int x1)]) rfl (cx_le rfl) (fun X => cx_sub (lv' := [(0, .ref (adr 60)), (1, .int x1)]) [0, 1] rfl (tw_lose_0_v H M x1 rs h))

abbrev sX10_note : cx_S := (3, RX10, cx_rI, { frames := 3, cells := 0, slots := 0, locals := 62 }, some .int, false)
noncomputable def tw_note_37 (N : Nat) (M : cx_M) : Option cx_R :=
  cx_cal (tw_refuse N M 2) fun M1 v2 =>
  some (M1, v2, 0)
set_option maxRecDepth 100000 in
theorem tw_note_37_v {l : Launch} {g : cx_G} {adr : Nat → Nat} {X : cx_X} {N : Nat} (H : tw_H g adr) (M : cx_M) (rs : cx_R) (h : tw_note_37 N M = some rs) : cx_V l (g) X sX10_note cX10_note 37 [(0, .ref (adr 60))] [] M 0 0 rs := by
  unfold tw_note_37 at h
  refine cx_aload_n 0 dX10_note_37 rfl ?_
  refine cx_iconst 2 dX10_note_38 cx_ic_2 ?_
  refine cx_cVi [.int 2] [] h (fun rs' h' => tw_refuse_m H M 2 rs' h') (tw_rc H) dX10_note_39 g_X10_381 hg_X10_381 ⟨cx_le rfl, cx_le rfl⟩ rfl ⟨rfl, rfl⟩ ⟨cx_le rfl, cx_le rfl⟩ rfl (cx_le rfl) (fun M1 v2 h => ?_)
  exact cx_iret h rfl rfl (cx_le rfl) (cx_le rfl) dX10_note_42
noncomputable def tw_note_0 (N : Nat) (M : cx_M) (x1 : Int32) (x2 : Int32) : Option cx_R :=
  cx_cal (tw_ready N M) fun M1 _ =>
  cx_get M1 60 32 fun v2 =>
  if v2 = 8 then (
    tw_note_37 N M1)
  else (
    cx_cal (tw_isIn N M1 (Int32.toInt64 x1) 0 60) fun M3 v4 =>
    if v4 = 0 then (
      tw_note_37 N M3)
    else (
      cx_cal (tw_isIn N M3 (Int32.toInt64 x2) 0 999) fun M5 v6 =>
      if v6 = 0 then (
        tw_note_37 N M5)
      else (
        cx_get M5 60 32 fun v7 =>
        cx_st M5 38 8 v7 x1 fun M8 =>
        cx_get M8 60 32 fun v9 =>
        cx_st M8 39 8 v9 x2 fun M10 =>
        cx_get M10 60 32 fun v11 =>
        cx_put M10 60 32 (v11 + 1) fun M12 =>
        cx_get M12 60 32 fun v13 =>
        some (M12, v13, 0))))
set_option maxRecDepth 100000 in
theorem tw_note_0_v {l : Launch} {g : cx_G} {adr : Nat → Nat} {X : cx_X} {N : Nat} (H : tw_H g adr) (M : cx_M) (x1 : Int32) (x2 : Int32) (rs : cx_R) (h : tw_note_0 N M x1 x2 = some rs) : cx_V l (g) X sX10_note cX10_note 0 [(0, .ref (adr 60)), (1, .int x1), (2, .int x2)] [] M 0 0 rs := by
  unfold tw_note_0 at h
  refine cx_aload_n 0 dX10_note_0 rfl ?_
  refine cx_cVv [] [] h (fun rs' h' => tw_ready_m H M rs' h') (tw_rc H) dX10_note_1 g_X10_247 hg_X10_247 ⟨cx_le rfl, cx_le rfl⟩ rfl ⟨rfl, rfl⟩ ⟨cx_le rfl, cx_le rfl⟩ rfl (cx_le rfl) (fun M1 _ h => ?_)
  refine cx_aload_n 0 dX10_note_4 rfl ?_
  refine cx_getI h (tw_F32 H) q2422 dX10_note_5 (fun v2 h => ?_)
  refine cx_bipush 8 dX10_note_8 cx_bp_8 ?_
  refine cx_icmp_eq 37 h dX10_note_10 rfl (fun h => ?_) (fun h => ?_)
  · refine cx_sub (lv' := [(0, .ref (adr 60))]) [0] rfl ?_
    exact tw_note_37_v H M1 _ h
  · refine cx_iload_n 1 dX10_note_13 rfl ?_
    refine cx_i2l dX10_note_14 ?_
    refine cx_lconst 0 dX10_note_15 cx_lc_0 ?_
    refine cx_ldc2 60 dX10_note_16 q2901 ?_
    refine cx_cSi [.long (Int32.toInt64 x1), .long 0, .long 60] [] h (fun rs' h' => tw_isIn_m H M1 (Int32.toInt64 x1) 0 60 rs' h') dX10_note_19 g_X10_358 hg_X10_358 ⟨cx_le rfl, cx_le rfl⟩ rfl ⟨rfl, rfl⟩ ⟨cx_le rfl, cx_le rfl⟩ rfl (cx_le rfl) (fun M3 v4 h => ?_)
    refine cx_if_eq 37 h dX10_note_22 rfl (fun h => ?_) (fun h => ?_)
    · refine cx_sub (lv' := [(0, .ref (adr 60))]) [0] rfl ?_
      exact tw_note_37_v H M3 _ h
    · refine cx_iload_n 2 dX10_note_25 rfl ?_
      refine cx_i2l dX10_note_26 ?_
      refine cx_lconst 0 dX10_note_27 cx_lc_0 ?_
      refine cx_ldc2 999 dX10_note_28 q2902 ?_
      refine cx_cSi [.long (Int32.toInt64 x2), .long 0, .long 999] [] h (fun rs' h' => tw_isIn_m H M3 (Int32.toInt64 x2) 0 999 rs' h') dX10_note_31 g_X10_358 hg_X10_358 ⟨cx_le rfl, cx_le rfl⟩ rfl ⟨rfl, rfl⟩ ⟨cx_le rfl, cx_le rfl⟩ rfl (cx_le rfl) (fun M5 v6 h => ?_)
      refine cx_if_ne 43 h dX10_note_34 rfl (fun h => ?_) (fun h => ?_)
      · refine cx_aload_n 0 dX10_note_43 rfl ?_
        refine cx_getR (tw_R38 H) q2428 dX10_note_44 ?_
        refine cx_aload_n 0 dX10_note_47 rfl ?_
        refine cx_getI h (tw_F32 H) q2422 dX10_note_48 (fun v7 h => ?_)
        refine cx_iload_n 1 dX10_note_51 rfl ?_
        refine cx_stI h (tw_A38 H) dX10_note_52 (fun M8 h => ?_)
        refine cx_aload_n 0 dX10_note_53 rfl ?_
        refine cx_getR (tw_R39 H) q2429 dX10_note_54 ?_
        refine cx_aload_n 0 dX10_note_57 rfl ?_
        refine cx_getI h (tw_F32 H) q2422 dX10_note_58 (fun v9 h => ?_)
        refine cx_iload_n 2 dX10_note_61 rfl ?_
        refine cx_stI h (tw_A39 H) dX10_note_62 (fun M10 h => ?_)
        refine cx_aload_n 0 dX10_note_63 rfl ?_
        refine cx_dup dX10_note_64 rfl ?_
        refine cx_getI h (tw_F32 H) q2422 dX10_note_65 (fun v11 h => ?_)
        refine cx_iconst 1 dX10_note_68 cx_ic_1 ?_
        refine cx_iadd dX10_note_69 ?_
        refine cx_putI h (tw_F32 H) rfl rfl rfl q2422 dX10_note_70 (fun M12 h => ?_)
        refine cx_aload_n 0 dX10_note_73 rfl ?_
        refine cx_getI h (tw_F32 H) q2422 dX10_note_74 (fun v13 h => ?_)
        exact cx_iret h rfl rfl (cx_le rfl) (cx_le rfl) dX10_note_77
      · refine cx_sub (lv' := [(0, .ref (adr 60))]) [0] rfl ?_
        exact tw_note_37_v H M5 _ h
noncomputable def tw_note (N : Nat) (M : cx_M) (x1 : Int32) (x2 : Int32) : Option cx_R := tw_note_0 N M x1 x2
theorem tw_note_m {l : Launch} {g : cx_G} {adr : Nat → Nat} {N : Nat} (H : tw_H g adr) (M : cx_M) (x1 : Int32) (x2 : Int32) (rs : cx_R) (h : tw_note N M x1 x2 = some rs) : cx_Met l (g) yX10_note cX10_note sX10_note [.ref (adr 60), .int x1, .int x2] M rs :=
  cx_met (by decide +kernel) rfl rfl (lv := [(0, .ref (adr 60)), (1, .int x1), (2, .int x2)]) rfl (cx_le rfl) (fun X => cx_sub (lv' := [(0, .ref (adr 60)), (1, .int x1), (2, .int x2)]) [0, 1, 2] rfl (tw_note_0_v H M x1 x2 rs h))

abbrev sX10_other : cx_S := (2, RX10, cx_rI, { frames := 9, cells := 0, slots := 0, locals := 200 }, some .int, false)
noncomputable def tw_other_0 (N : Nat) (M : cx_M) (x1 : Int32) : Option cx_R :=
  cx_cal (tw_ready N M) fun M1 _ =>
  cx_cal (tw_isIn N M1 (Int32.toInt64 x1) 0 2) fun M2 v3 =>
  if v3 = 0 then (
    cx_cal (tw_fail N M2 1) fun M11 v12 =>
    some (M11, v12, 0))
  else (
    if x1 = 2 then (
      cx_cal (tw_rememberNow N M2) fun M8 _ =>
      cx_cal (tw_isAsNoted N M8 0) fun M9 v10 =>
      if v10 = 0 then (
        some (M9, 0, 0))
      else (
        some (M9, 1, 0)))
    else (
      cx_cal (tw_tellFits N M2) fun M4 _ =>
      if x1 = 0 then (
        cx_get M4 60 42 fun v7 =>
        some (M4, v7, 0))
      else (
        cx_get M4 60 42 fun v5 =>
        if v5 = 0 then (
          some (M4, 100, 0))
        else (
          cx_get M4 40 0 fun v6 =>
          some (M4, v6, 0)))))
set_option maxRecDepth 100000 in
theorem tw_other_0_v {l : Launch} {g : cx_G} {adr : Nat → Nat} {X : cx_X} {N : Nat} (H : tw_H g adr) (M : cx_M) (x1 : Int32) (rs : cx_R) (h : tw_other_0 N M x1 = some rs) : cx_V l (g) X sX10_other cX10_other 0 [(0, .ref (adr 60)), (1, .int x1)] [] M 0 0 rs := by
  unfold tw_other_0 at h
  refine cx_aload_n 0 dX10_other_0 rfl ?_
  refine cx_cVv [] [] h (fun rs' h' => tw_ready_m H M rs' h') (tw_rc H) dX10_other_1 g_X10_247 hg_X10_247 ⟨cx_le rfl, cx_le rfl⟩ rfl ⟨rfl, rfl⟩ ⟨cx_le rfl, cx_le rfl⟩ rfl (cx_le rfl) (fun M1 _ h => ?_)
  refine cx_iload_n 1 dX10_other_4 rfl ?_
  refine cx_i2l dX10_other_5 ?_
  refine cx_lconst 0 dX10_other_6 cx_lc_0 ?_
  refine cx_ldc2 2 dX10_other_7 q2714 ?_
  refine cx_cSi [.long (Int32.toInt64 x1), .long 0, .long 2] [] h (fun rs' h' => tw_isIn_m H M1 (Int32.toInt64 x1) 0 2 rs' h') dX10_other_10 g_X10_358 hg_X10_358 ⟨cx_le rfl, cx_le rfl⟩ rfl ⟨rfl, rfl⟩ ⟨cx_le rfl, cx_le rfl⟩ rfl (cx_le rfl) (fun M2 v3 h => ?_)
  refine cx_if_ne 22 h dX10_other_13 rfl (fun h => ?_) (fun h => ?_)
  · refine cx_iload_n 1 dX10_other_22 rfl ?_
    refine cx_iconst 2 dX10_other_23 cx_ic_2 ?_
    refine cx_icmp_ne 45 h dX10_other_24 rfl (fun h => ?_) (fun h => ?_)
    · refine cx_aload_n 0 dX10_other_45 rfl ?_
      refine cx_cVv [] [] h (fun rs' h' => tw_tellFits_m H M2 rs' h') (tw_rc H) dX10_other_46 g_X10_441 hg_X10_441 ⟨cx_le rfl, cx_le rfl⟩ rfl ⟨rfl, rfl⟩ ⟨cx_le rfl, cx_le rfl⟩ rfl (cx_le rfl) (fun M4 _ h => ?_)
      refine cx_iload_n 1 dX10_other_49 rfl ?_
      refine cx_if_ne 60 h dX10_other_50 rfl (fun h => ?_) (fun h => ?_)
      · refine cx_aload_n 0 dX10_other_60 rfl ?_
        refine cx_getI h (tw_F42 H) q2432 dX10_other_61 (fun v5 h => ?_)
        refine cx_if_ne 72 h dX10_other_64 rfl (fun h => ?_) (fun h => ?_)
        · refine cx_aload_n 0 dX10_other_72 rfl ?_
          refine cx_getR (tw_R40 H) q2430 dX10_other_73 ?_
          refine cx_iconst 0 dX10_other_76 cx_ic_0 ?_
          refine cx_ldC h (tw_A40 H) cx_cl_0 cx_vin_0_199 dX10_other_77 (fun v6 h => ?_)
          exact cx_iret h rfl rfl (cx_le rfl) (cx_le rfl) dX10_other_78
        · refine cx_bipush 100 dX10_other_67 cx_bp_100 ?_
          refine cx_goto 78 dX10_other_69 rfl ?_
          exact cx_iret h rfl rfl (cx_le rfl) (cx_le rfl) dX10_other_78
      · refine cx_aload_n 0 dX10_other_53 rfl ?_
        refine cx_getI h (tw_F42 H) q2432 dX10_other_54 (fun v7 h => ?_)
        refine cx_goto 78 dX10_other_57 rfl ?_
        exact cx_iret h rfl rfl (cx_le rfl) (cx_le rfl) dX10_other_78
    · refine cx_aload_n 0 dX10_other_27 rfl ?_
      refine cx_cVv [] [] h (fun rs' h' => tw_rememberNow_m H M2 rs' h') (tw_rc H) dX10_other_28 g_X10_402 hg_X10_402 ⟨cx_le rfl, cx_le rfl⟩ rfl ⟨rfl, rfl⟩ ⟨cx_le rfl, cx_le rfl⟩ rfl (cx_le rfl) (fun M8 _ h => ?_)
      refine cx_aload_n 0 dX10_other_31 rfl ?_
      refine cx_iconst 0 dX10_other_32 cx_ic_0 ?_
      refine cx_cVi [.int 0] [] h (fun rs' h' => tw_isAsNoted_m H M8 0 rs' h') (tw_rc H) dX10_other_33 g_X10_438 hg_X10_438 ⟨cx_le rfl, cx_le rfl⟩ rfl ⟨rfl, rfl⟩ ⟨cx_le rfl, cx_le rfl⟩ rfl (cx_le rfl) (fun M9 v10 h => ?_)
      refine cx_if_eq 43 h dX10_other_36 rfl (fun h => ?_) (fun h => ?_)
      · refine cx_iconst 0 dX10_other_43 cx_ic_0 ?_
        exact cx_iret h rfl rfl (cx_le rfl) (cx_le rfl) dX10_other_44
      · refine cx_iconst 1 dX10_other_39 cx_ic_1 ?_
        refine cx_goto 44 dX10_other_40 rfl ?_
        exact cx_iret h rfl rfl (cx_le rfl) (cx_le rfl) dX10_other_44
  · refine cx_aload_n 0 dX10_other_16 rfl ?_
    refine cx_iconst 1 dX10_other_17 cx_ic_1 ?_
    refine cx_cVi [.int 1] [] h (fun rs' h' => tw_fail_m H M2 1 rs' h') (tw_rc H) dX10_other_18 g_X10_250 hg_X10_250 ⟨cx_le rfl, cx_le rfl⟩ rfl ⟨rfl, rfl⟩ ⟨cx_le rfl, cx_le rfl⟩ rfl (cx_le rfl) (fun M11 v12 h => ?_)
    exact cx_iret h rfl rfl (cx_le rfl) (cx_le rfl) dX10_other_21
noncomputable def tw_other (N : Nat) (M : cx_M) (x1 : Int32) : Option cx_R := tw_other_0 N M x1
theorem tw_other_m {l : Launch} {g : cx_G} {adr : Nat → Nat} {N : Nat} (H : tw_H g adr) (M : cx_M) (x1 : Int32) (rs : cx_R) (h : tw_other N M x1 = some rs) : cx_Met l (g) yX10_other cX10_other sX10_other [.ref (adr 60), .int x1] M rs :=
  cx_met (by decide +kernel) rfl rfl (lv := [(0, .ref (adr 60)), (1, .int x1)]) rfl (cx_le rfl) (fun X => cx_sub (lv' := [(0, .ref (adr 60)), (1, .int x1)]) [0, 1] rfl (tw_other_0_v H M x1 rs h))

abbrev sX10_playedKept : cx_S := (1, RX10, cx_rI, { frames := 1, cells := 0, slots := 0, locals := 13 }, some .int, false)
noncomputable def tw_playedKept_0 (N : Nat) (M : cx_M) : Option cx_R :=
  cx_get M 8 6 fun v1 =>
  some (M, cx_min 128 v1, 0)
set_option maxRecDepth 100000 in
theorem tw_playedKept_0_v {l : Launch} {g : cx_G} {adr : Nat → Nat} {X : cx_X} {N : Nat} (H : tw_H g adr) (M : cx_M) (rs : cx_R) (h : tw_playedKept_0 N M = some rs) : cx_V l (g) X sX10_playedKept cX10_playedKept 0 [(0, .ref (adr 60))] [] M 0 0 rs := by
  unfold tw_playedKept_0 at h
  refine cx_sipush 128 dX10_playedKept_0 cx_sp_128 ?_
  refine cx_aload_n 0 dX10_playedKept_3 rfl ?_
  refine cx_getR (tw_R8 H) q2398 dX10_playedKept_4 ?_
  refine cx_bipush 6 dX10_playedKept_7 cx_bp_6 ?_
  refine cx_ldC h (tw_A8 H) cx_cl_6 cx_vin_6_665 dX10_playedKept_9 (fun v1 h => ?_)
  refine cx_mmin dX10_playedKept_10 q2602 (cx_le rfl) (cx_le rfl) (cx_le rfl) (cx_le rfl) ?_
  exact cx_iret h rfl rfl (cx_le rfl) (cx_le rfl) dX10_playedKept_13
noncomputable def tw_playedKept (N : Nat) (M : cx_M) : Option cx_R := tw_playedKept_0 N M
theorem tw_playedKept_m {l : Launch} {g : cx_G} {adr : Nat → Nat} {N : Nat} (H : tw_H g adr) (M : cx_M) (rs : cx_R) (h : tw_playedKept N M = some rs) : cx_Met l (g) yX10_playedKept cX10_playedKept sX10_playedKept [.ref (adr 60)] M rs :=
  cx_met (by decide +kernel) rfl rfl (lv := [(0, .ref (adr 60))]) rfl (cx_le rfl) (fun X => cx_sub (lv' := [(0, .ref (adr 60))]) [0] rfl (tw_playedKept_0_v H M rs h))

abbrev sX10_played : cx_S := (3, RX10, cx_rI, { frames := 3, cells := 0, slots := 0, locals := 62 }, some .int, false)
noncomputable def tw_played_30 (N : Nat) (M : cx_M) : Option cx_R :=
  cx_cal (tw_fail N M 1) fun M1 v2 =>
  some (M1, v2, 0)
set_option maxRecDepth 100000 in
theorem tw_played_30_v {l : Launch} {g : cx_G} {adr : Nat → Nat} {X : cx_X} {N : Nat} (H : tw_H g adr) (M : cx_M) (rs : cx_R) (h : tw_played_30 N M = some rs) : cx_V l (g) X sX10_played cX10_played 30 [(0, .ref (adr 60))] [] M 0 0 rs := by
  unfold tw_played_30 at h
  refine cx_aload_n 0 dX10_played_30 rfl ?_
  refine cx_iconst 1 dX10_played_31 cx_ic_1 ?_
  refine cx_cVi [.int 1] [] h (fun rs' h' => tw_fail_m H M 1 rs' h') (tw_rc H) dX10_played_32 g_X10_250 hg_X10_250 ⟨cx_le rfl, cx_le rfl⟩ rfl ⟨rfl, rfl⟩ ⟨cx_le rfl, cx_le rfl⟩ rfl (cx_le rfl) (fun M1 v2 h => ?_)
  exact cx_iret h rfl rfl (cx_le rfl) (cx_le rfl) dX10_played_35
noncomputable def tw_played_53 (N : Nat) (M : cx_M) (x1 : Int32) (z1 : Int32) : Option cx_R :=
  cx_get M 8 6 fun v1 =>
  cx_ld M 8 665 (z1 + (cx_rem ((v1 - 1) - x1) 128)) fun v2 =>
  some (M, v2, 0)
set_option maxRecDepth 100000 in
theorem tw_played_53_v {l : Launch} {g : cx_G} {adr : Nat → Nat} {X : cx_X} {N : Nat} (H : tw_H g adr) (M : cx_M) (x1 : Int32) (z1 : Int32) (rs : cx_R) (h : tw_played_53 N M x1 z1 = some rs) : cx_V l (g) X sX10_played cX10_played 53 [(0, .ref (adr 60)), (1, .int x1)] [.int z1, .ref (adr 8)] M 0 0 rs := by
  unfold tw_played_53 at h
  refine cx_aload_n 0 dX10_played_53 rfl ?_
  refine cx_getR (tw_R8 H) q2398 dX10_played_54 ?_
  refine cx_bipush 6 dX10_played_57 cx_bp_6 ?_
  refine cx_ldC h (tw_A8 H) cx_cl_6 cx_vin_6_665 dX10_played_59 (fun v1 h => ?_)
  refine cx_iconst 1 dX10_played_60 cx_ic_1 ?_
  refine cx_isub dX10_played_61 ?_
  refine cx_iload_n 1 dX10_played_62 rfl ?_
  refine cx_isub dX10_played_63 ?_
  refine cx_sipush 128 dX10_played_64 cx_sp_128 ?_
  refine cx_iremC cx_ne_128 dX10_played_67 ?_
  refine cx_iadd dX10_played_68 ?_
  refine cx_ldI h (tw_A8 H) dX10_played_69 (fun v2 h => ?_)
  exact cx_iret h rfl rfl (cx_le rfl) (cx_le rfl) dX10_played_70
noncomputable def tw_played_0 (N : Nat) (M : cx_M) (x1 : Int32) (x2 : Int32) : Option cx_R :=
  cx_cal (tw_ready N M) fun M1 _ =>
  cx_cal (tw_playedKept N M1) fun M2 v3 =>
  cx_cal (tw_isIn N M2 (Int32.toInt64 x1) 0 (Int32.toInt64 (v3 - 1))) fun M4 v5 =>
  if v5 = 0 then (
    tw_played_30 N M4)
  else (
    cx_cal (tw_isIn N M4 (Int32.toInt64 x2) 0 1) fun M6 v7 =>
    if v7 = 0 then (
      tw_played_30 N M6)
    else (
      if x2 = 0 then (
        tw_played_53 N M6 x1 409)
      else (
        tw_played_53 N M6 x1 537)))
set_option maxRecDepth 100000 in
theorem tw_played_0_v {l : Launch} {g : cx_G} {adr : Nat → Nat} {X : cx_X} {N : Nat} (H : tw_H g adr) (M : cx_M) (x1 : Int32) (x2 : Int32) (rs : cx_R) (h : tw_played_0 N M x1 x2 = some rs) : cx_V l (g) X sX10_played cX10_played 0 [(0, .ref (adr 60)), (1, .int x1), (2, .int x2)] [] M 0 0 rs := by
  unfold tw_played_0 at h
  refine cx_aload_n 0 dX10_played_0 rfl ?_
  refine cx_cVv [] [] h (fun rs' h' => tw_ready_m H M rs' h') (tw_rc H) dX10_played_1 g_X10_247 hg_X10_247 ⟨cx_le rfl, cx_le rfl⟩ rfl ⟨rfl, rfl⟩ ⟨cx_le rfl, cx_le rfl⟩ rfl (cx_le rfl) (fun M1 _ h => ?_)
  refine cx_iload_n 1 dX10_played_4 rfl ?_
  refine cx_i2l dX10_played_5 ?_
  refine cx_lconst 0 dX10_played_6 cx_lc_0 ?_
  refine cx_aload_n 0 dX10_played_7 rfl ?_
  refine cx_cVi [] [.long 0, .long (Int32.toInt64 x1)] h (fun rs' h' => tw_playedKept_m H M1 rs' h') (tw_rc H) dX10_played_8 g_X10_366 hg_X10_366 ⟨cx_le rfl, cx_le rfl⟩ rfl ⟨rfl, rfl⟩ ⟨cx_le rfl, cx_le rfl⟩ rfl (cx_le rfl) (fun M2 v3 h => ?_)
  refine cx_iconst 1 dX10_played_11 cx_ic_1 ?_
  refine cx_isub dX10_played_12 ?_
  refine cx_i2l dX10_played_13 ?_
  refine cx_cSi [.long (Int32.toInt64 x1), .long 0, .long (Int32.toInt64 (v3 - 1))] [] h (fun rs' h' => tw_isIn_m H M2 (Int32.toInt64 x1) 0 (Int32.toInt64 (v3 - 1)) rs' h') dX10_played_14 g_X10_358 hg_X10_358 ⟨cx_le rfl, cx_le rfl⟩ rfl ⟨rfl, rfl⟩ ⟨cx_le rfl, cx_le rfl⟩ rfl (cx_le rfl) (fun M4 v5 h => ?_)
  refine cx_if_eq 30 h dX10_played_17 rfl (fun h => ?_) (fun h => ?_)
  · refine cx_sub (lv' := [(0, .ref (adr 60))]) [0] rfl ?_
    exact tw_played_30_v H M4 _ h
  · refine cx_iload_n 2 dX10_played_20 rfl ?_
    refine cx_i2l dX10_played_21 ?_
    refine cx_lconst 0 dX10_played_22 cx_lc_0 ?_
    refine cx_lconst 1 dX10_played_23 cx_lc_1 ?_
    refine cx_cSi [.long (Int32.toInt64 x2), .long 0, .long 1] [] h (fun rs' h' => tw_isIn_m H M4 (Int32.toInt64 x2) 0 1 rs' h') dX10_played_24 g_X10_358 hg_X10_358 ⟨cx_le rfl, cx_le rfl⟩ rfl ⟨rfl, rfl⟩ ⟨cx_le rfl, cx_le rfl⟩ rfl (cx_le rfl) (fun M6 v7 h => ?_)
    refine cx_if_ne 36 h dX10_played_27 rfl (fun h => ?_) (fun h => ?_)
    · refine cx_aload_n 0 dX10_played_36 rfl ?_
      refine cx_getR (tw_R8 H) q2398 dX10_played_37 ?_
      refine cx_iload_n 2 dX10_played_40 rfl ?_
      refine cx_if_ne 50 h dX10_played_41 rfl (fun h => ?_) (fun h => ?_)
      · refine cx_sipush 537 dX10_played_50 cx_sp_537 ?_
        refine cx_sub (lv' := [(0, .ref (adr 60)), (1, .int x1)]) [0, 1] rfl ?_
        exact tw_played_53_v H M6 x1 537 _ h
      · refine cx_sipush 409 dX10_played_44 cx_sp_409 ?_
        refine cx_goto 53 dX10_played_47 rfl ?_
        refine cx_sub (lv' := [(0, .ref (adr 60)), (1, .int x1)]) [0, 1] rfl ?_
        exact tw_played_53_v H M6 x1 409 _ h
    · refine cx_sub (lv' := [(0, .ref (adr 60))]) [0] rfl ?_
      exact tw_played_30_v H M6 _ h
noncomputable def tw_played (N : Nat) (M : cx_M) (x1 : Int32) (x2 : Int32) : Option cx_R := tw_played_0 N M x1 x2
theorem tw_played_m {l : Launch} {g : cx_G} {adr : Nat → Nat} {N : Nat} (H : tw_H g adr) (M : cx_M) (x1 : Int32) (x2 : Int32) (rs : cx_R) (h : tw_played N M x1 x2 = some rs) : cx_Met l (g) yX10_played cX10_played sX10_played [.ref (adr 60), .int x1, .int x2] M rs :=
  cx_met (by decide +kernel) rfl rfl (lv := [(0, .ref (adr 60)), (1, .int x1), (2, .int x2)]) rfl (cx_le rfl) (fun X => cx_sub (lv' := [(0, .ref (adr 60)), (1, .int x1), (2, .int x2)]) [0, 1, 2] rfl (tw_played_0_v H M x1 x2 rs h))

abbrev sX10_sampleAt : cx_S := (2, RX10, cx_rI, { frames := 2, cells := 0, slots := 0, locals := 33 }, some .int, false)
noncomputable def tw_sampleAt_0 (N : Nat) (M : cx_M) (x1 : Int32) : Option cx_R :=
  cx_get M 8 32 fun v1 =>
  cx_cal (tw_samplesKept N M) fun M2 v3 =>
  cx_ld M2 8 665 ((281 : Int32) + (cx_rem ((v1 - v3) + x1) 128)) fun v4 =>
  some (M2, v4, 0)
set_option maxRecDepth 100000 in
theorem tw_sampleAt_0_v {l : Launch} {g : cx_G} {adr : Nat → Nat} {X : cx_X} {N : Nat} (H : tw_H g adr) (M : cx_M) (x1 : Int32) (rs : cx_R) (h : tw_sampleAt_0 N M x1 = some rs) : cx_V l (g) X sX10_sampleAt cX10_sampleAt 0 [(0, .ref (adr 60)), (1, .int x1)] [] M 0 0 rs := by
  unfold tw_sampleAt_0 at h
  refine cx_aload_n 0 dX10_sampleAt_0 rfl ?_
  refine cx_getR (tw_R8 H) q2398 dX10_sampleAt_1 ?_
  refine cx_sipush 281 dX10_sampleAt_4 cx_sp_281 ?_
  refine cx_aload_n 0 dX10_sampleAt_7 rfl ?_
  refine cx_getR (tw_R8 H) q2398 dX10_sampleAt_8 ?_
  refine cx_bipush 32 dX10_sampleAt_11 cx_bp_32 ?_
  refine cx_ldC h (tw_A8 H) cx_cl_32 cx_vin_32_665 dX10_sampleAt_13 (fun v1 h => ?_)
  refine cx_aload_n 0 dX10_sampleAt_14 rfl ?_
  refine cx_cVi [] [.int v1, .int 281, .ref (adr 8)] h (fun rs' h' => tw_samplesKept_m H M rs' h') (tw_rc H) dX10_sampleAt_15 g_X10_355 hg_X10_355 ⟨cx_le rfl, cx_le rfl⟩ rfl ⟨rfl, rfl⟩ ⟨cx_le rfl, cx_le rfl⟩ rfl (cx_le rfl) (fun M2 v3 h => ?_)
  refine cx_isub dX10_sampleAt_18 ?_
  refine cx_iload_n 1 dX10_sampleAt_19 rfl ?_
  refine cx_iadd dX10_sampleAt_20 ?_
  refine cx_sipush 128 dX10_sampleAt_21 cx_sp_128 ?_
  refine cx_iremC cx_ne_128 dX10_sampleAt_24 ?_
  refine cx_iadd dX10_sampleAt_25 ?_
  refine cx_ldI h (tw_A8 H) dX10_sampleAt_26 (fun v4 h => ?_)
  exact cx_iret h rfl rfl (cx_le rfl) (cx_le rfl) dX10_sampleAt_27
noncomputable def tw_sampleAt (N : Nat) (M : cx_M) (x1 : Int32) : Option cx_R := tw_sampleAt_0 N M x1
theorem tw_sampleAt_m {l : Launch} {g : cx_G} {adr : Nat → Nat} {N : Nat} (H : tw_H g adr) (M : cx_M) (x1 : Int32) (rs : cx_R) (h : tw_sampleAt N M x1 = some rs) : cx_Met l (g) yX10_sampleAt cX10_sampleAt sX10_sampleAt [.ref (adr 60), .int x1] M rs :=
  cx_met (by decide +kernel) rfl rfl (lv := [(0, .ref (adr 60)), (1, .int x1)]) rfl (cx_le rfl) (fun X => cx_sub (lv' := [(0, .ref (adr 60)), (1, .int x1)]) [0, 1] rfl (tw_sampleAt_0_v H M x1 rs h))

abbrev sX10_rangeOf : cx_S := (6, RX10, cx_rI, { frames := 3, cells := 0, slots := 0, locals := 54 }, some .int, false)
noncomputable def tw_rangeOf_12b (N : Nat) (r_12 : cx_M → Int32 → Int32 → Int32 → Int32 → Int32 → Option cx_R) (M : cx_M) (x1 : Int32) (x2 : Int32) (x3 : Int32) (x4 : Int32) (x5 : Int32) : Option cx_R :=
  if (x1 + x2) ≤ x5 then (
    some (M, x4 - x3, 0))
  else (
    cx_cal (tw_sampleAt N M x5) fun M1 v2 =>
    cx_let (cx_min x3 v2) fun v3 =>
    cx_cal (tw_sampleAt N M1 x5) fun M4 v5 =>
    cx_let (cx_max x4 v5) fun v6 =>
    cx_let (x5 + 1) fun v7 =>
    r_12 M4 x1 x2 v3 v6 v7)
set_option maxRecDepth 100000 in
theorem tw_rangeOf_12b_v {l : Launch} {g : cx_G} {adr : Nat → Nat} {X : cx_X} {N : Nat} {r_12 : cx_M → Int32 → Int32 → Int32 → Int32 → Int32 → Option cx_R} (H : tw_H g adr) (hr_12 : ∀ (M : cx_M) (x1 : Int32) (x2 : Int32) (x3 : Int32) (x4 : Int32) (x5 : Int32) (rs : cx_R), r_12 M x1 x2 x3 x4 x5 = some rs → cx_V l (g) X sX10_rangeOf cX10_rangeOf 12 [(0, .ref (adr 60)), (1, .int x1), (2, .int x2), (3, .int x3), (4, .int x4), (5, .int x5)] [] M 0 0 rs) (M : cx_M) (x1 : Int32) (x2 : Int32) (x3 : Int32) (x4 : Int32) (x5 : Int32) (rs : cx_R) (h : tw_rangeOf_12b N r_12 M x1 x2 x3 x4 x5 = some rs) : cx_V l (g) X sX10_rangeOf cX10_rangeOf 12 [(0, .ref (adr 60)), (1, .int x1), (2, .int x2), (3, .int x3), (4, .int x4), (5, .int x5)] [] M 0 0 rs := by
  unfold tw_rangeOf_12b at h
  refine cx_iload 5 dX10_rangeOf_12 rfl ?_
  refine cx_iload_n 1 dX10_rangeOf_14 rfl ?_
  refine cx_iload_n 2 dX10_rangeOf_15 rfl ?_
  refine cx_iadd dX10_rangeOf_16 ?_
  refine cx_icmp_ge 50 h dX10_rangeOf_17 rfl (fun h => ?_) (fun h => ?_)
  · refine cx_iload 4 dX10_rangeOf_50 rfl ?_
    refine cx_iload_n 3 dX10_rangeOf_52 rfl ?_
    refine cx_isub dX10_rangeOf_53 ?_
    exact cx_iret h rfl rfl (cx_le rfl) (cx_le rfl) dX10_rangeOf_54
  · refine cx_iload_n 3 dX10_rangeOf_20 rfl ?_
    refine cx_aload_n 0 dX10_rangeOf_21 rfl ?_
    refine cx_iload 5 dX10_rangeOf_22 rfl ?_
    refine cx_cVi [.int x5] [.int x3] h (fun rs' h' => tw_sampleAt_m H M x5 rs' h') (tw_rc H) dX10_rangeOf_24 g_X10_371 hg_X10_371 ⟨cx_le rfl, cx_le rfl⟩ rfl ⟨rfl, rfl⟩ ⟨cx_le rfl, cx_le rfl⟩ rfl (cx_le rfl) (fun M1 v2 h => ?_)
    refine cx_mmin dX10_rangeOf_27 q2602 (cx_le rfl) (cx_le rfl) (cx_le rfl) (cx_le rfl) ?_
    refine cx_letI h (fun v3 h => ?_)
    refine cx_istore_n [(3, .int v3), (0, .ref (adr 60)), (1, .int x1), (2, .int x2), (4, .int x4), (5, .int x5)] dX10_rangeOf_30 (cx_lt rfl) rfl ?_
    refine cx_iload 4 dX10_rangeOf_31 rfl ?_
    refine cx_aload_n 1 dX10_rangeOf_33 rfl ?_
    refine cx_iload 5 dX10_rangeOf_34 rfl ?_
    refine cx_cVi [.int x5] [.int x4] h (fun rs' h' => tw_sampleAt_m H M1 x5 rs' h') (tw_rc H) dX10_rangeOf_36 g_X10_371 hg_X10_371 ⟨cx_le rfl, cx_le rfl⟩ rfl ⟨rfl, rfl⟩ ⟨cx_le rfl, cx_le rfl⟩ rfl (cx_le rfl) (fun M4 v5 h => ?_)
    refine cx_mmax dX10_rangeOf_39 q2694 (cx_le rfl) (cx_le rfl) (cx_le rfl) (cx_le rfl) ?_
    refine cx_letI h (fun v6 h => ?_)
    refine cx_istore [(4, .int v6), (3, .int v3), (0, .ref (adr 60)), (1, .int x1), (2, .int x2), (5, .int x5)] dX10_rangeOf_42 (cx_lt rfl) rfl ?_
    refine cx_iinc 5 1 (fun v7 => [(5, .int v7), (4, .int v6), (3, .int v3), (0, .ref (adr 60)), (1, .int x1), (2, .int x2)]) h dX10_rangeOf_44 rfl cx_ic_1 (cx_lt rfl) (fun _ => rfl) (fun v7 h => ?_)
    refine cx_goto 12 dX10_rangeOf_47 rfl ?_
    refine cx_sub (lv' := [(0, .ref (adr 60)), (1, .int x1), (2, .int x2), (3, .int v3), (4, .int v6), (5, .int v7)]) [3, 4, 5, 2, 1, 0] rfl ?_
    exact hr_12 M4 x1 x2 v3 v6 v7 _ h
noncomputable def tw_rangeOf_12 (N : Nat) : Nat → cx_M → Int32 → Int32 → Int32 → Int32 → Int32 → Option cx_R :=
  cx_fix (fun _ _ _ _ _ _ => none) (fun r_12 => tw_rangeOf_12b N r_12)
theorem tw_rangeOf_12_v {l : Launch} {g : cx_G} {adr : Nat → Nat} {X : cx_X} {N : Nat} (H : tw_H g adr) : ∀ (n : Nat) (M : cx_M) (x1 : Int32) (x2 : Int32) (x3 : Int32) (x4 : Int32) (x5 : Int32) (rs : cx_R), tw_rangeOf_12 N n M x1 x2 x3 x4 x5 = some rs → cx_V l (g) X sX10_rangeOf cX10_rangeOf 12 [(0, .ref (adr 60)), (1, .int x1), (2, .int x2), (3, .int x3), (4, .int x4), (5, .int x5)] [] M 0 0 rs :=
  cx_fixI (fun (r : cx_M → Int32 → Int32 → Int32 → Int32 → Int32 → Option cx_R) => ∀ (M : cx_M) (x1 : Int32) (x2 : Int32) (x3 : Int32) (x4 : Int32) (x5 : Int32) (rs : cx_R), r M x1 x2 x3 x4 x5 = some rs → cx_V l (g) X sX10_rangeOf cX10_rangeOf 12 [(0, .ref (adr 60)), (1, .int x1), (2, .int x2), (3, .int x3), (4, .int x4), (5, .int x5)] [] M 0 0 rs) (fun _ _ _ _ _ _ _ h => by cases h) (fun r hr M x1 x2 x3 x4 x5 rs h => tw_rangeOf_12b_v H hr M x1 x2 x3 x4 x5 rs h)
noncomputable def tw_rangeOf_0 (N : Nat) (M : cx_M) (x1 : Int32) (x2 : Int32) : Option cx_R :=
  tw_rangeOf_12 N N M x1 x2 100000000 (-100000000) x1
set_option maxRecDepth 100000 in
theorem tw_rangeOf_0_v {l : Launch} {g : cx_G} {adr : Nat → Nat} {X : cx_X} {N : Nat} (H : tw_H g adr) (M : cx_M) (x1 : Int32) (x2 : Int32) (rs : cx_R) (h : tw_rangeOf_0 N M x1 x2 = some rs) : cx_V l (g) X sX10_rangeOf cX10_rangeOf 0 [(0, .ref (adr 60)), (1, .int x1), (2, .int x2)] [] M 0 0 rs := by
  unfold tw_rangeOf_0 at h
  refine cx_ldcw 100000000 dX10_rangeOf_0 q2749 ?_
  refine cx_istore_n [(3, .int 100000000), (0, .ref (adr 60)), (1, .int x1), (2, .int x2)] dX10_rangeOf_3 (cx_lt rfl) rfl ?_
  refine cx_ldcw (-100000000) dX10_rangeOf_4 q2750 ?_
  refine cx_istore [(4, .int (-100000000)), (3, .int 100000000), (0, .ref (adr 60)), (1, .int x1), (2, .int x2)] dX10_rangeOf_7 (cx_lt rfl) rfl ?_
  refine cx_iload_n 3 dX10_rangeOf_9 rfl ?_
  refine cx_istore [(5, .int x1), (4, .int (-100000000)), (3, .int 100000000), (0, .ref (adr 60)), (1, .int x1), (2, .int x2)] dX10_rangeOf_10 (cx_lt rfl) rfl ?_
  refine cx_sub (lv' := [(0, .ref (adr 60)), (1, .int x1), (2, .int x2), (3, .int 100000000), (4, .int (-100000000)), (5, .int x1)]) [3, 4, 5, 2, 1, 0] rfl ?_
  exact tw_rangeOf_12_v H N M x1 x2 100000000 (-100000000) x1 _ h
noncomputable def tw_rangeOf (N : Nat) (M : cx_M) (x1 : Int32) (x2 : Int32) : Option cx_R := tw_rangeOf_0 N M x1 x2
theorem tw_rangeOf_m {l : Launch} {g : cx_G} {adr : Nat → Nat} {N : Nat} (H : tw_H g adr) (M : cx_M) (x1 : Int32) (x2 : Int32) (rs : cx_R) (h : tw_rangeOf N M x1 x2 = some rs) : cx_Met l (g) yX10_rangeOf cX10_rangeOf sX10_rangeOf [.ref (adr 60), .int x1, .int x2] M rs :=
  cx_met (by decide +kernel) rfl rfl (lv := [(0, .ref (adr 60)), (1, .int x1), (2, .int x2)]) rfl (cx_le rfl) (fun X => cx_sub (lv' := [(0, .ref (adr 60)), (1, .int x1), (2, .int x2)]) [0, 1, 2] rfl (tw_rangeOf_0_v H M x1 x2 rs h))

abbrev sX10_restore : cx_S := (1, RX10, cx_rI, { frames := 3, cells := 0, slots := 0, locals := 62 }, some .boolean, false)
noncomputable def tw_restore_0 (N : Nat) (M : cx_M) : Option cx_R :=
  cx_cal (tw_ready N M) fun M1 _ =>
  cx_get M1 60 44 fun v2 =>
  if v2 = 0 then (
    some (M1, 0, 0))
  else (
    cx_get M1 60 45 fun v3 =>
    cx_put M1 60 31 v3 fun M4 =>
    cx_get M4 60 46 fun v5 =>
    cx_put M4 60 32 v5 fun M6 =>
    cx_cal (tw_copyTo N 8 47 M6) fun M7 _ =>
    cx_cal (tw_copyTo N 33 48 M7) fun M8 _ =>
    cx_cal (tw_copyTo N 38 49 M8) fun M9 _ =>
    cx_cal (tw_copyTo N 39 50 M9) fun M10 _ =>
    cx_cal (tw_copyTo N 7 51 M10) fun M11 _ =>
    some (M11, 1, 0))
set_option maxRecDepth 100000 in
theorem tw_restore_0_v {l : Launch} {g : cx_G} {adr : Nat → Nat} {X : cx_X} {N : Nat} (H : tw_H g adr) (M : cx_M) (rs : cx_R) (h : tw_restore_0 N M = some rs) : cx_V l (g) X sX10_restore cX10_restore 0 [(0, .ref (adr 60))] [] M 0 0 rs := by
  unfold tw_restore_0 at h
  refine cx_aload_n 0 dX10_restore_0 rfl ?_
  refine cx_cVv [] [] h (fun rs' h' => tw_ready_m H M rs' h') (tw_rc H) dX10_restore_1 g_X10_247 hg_X10_247 ⟨cx_le rfl, cx_le rfl⟩ rfl ⟨rfl, rfl⟩ ⟨cx_le rfl, cx_le rfl⟩ rfl (cx_le rfl) (fun M1 _ h => ?_)
  refine cx_aload_n 0 dX10_restore_4 rfl ?_
  refine cx_getI h (tw_F44 H) q2434 dX10_restore_5 (fun v2 h => ?_)
  refine cx_if_ne 13 h dX10_restore_8 rfl (fun h => ?_) (fun h => ?_)
  · refine cx_aload_n 0 dX10_restore_13 rfl ?_
    refine cx_aload_n 0 dX10_restore_14 rfl ?_
    refine cx_getI h (tw_F45 H) q2435 dX10_restore_15 (fun v3 h => ?_)
    refine cx_putI h (tw_F31 H) rfl rfl rfl q2421 dX10_restore_18 (fun M4 h => ?_)
    refine cx_aload_n 0 dX10_restore_21 rfl ?_
    refine cx_aload_n 0 dX10_restore_22 rfl ?_
    refine cx_getI h (tw_F46 H) q2436 dX10_restore_23 (fun v5 h => ?_)
    refine cx_putI h (tw_F32 H) rfl rfl rfl q2422 dX10_restore_26 (fun M6 h => ?_)
    refine cx_aload_n 0 dX10_restore_29 rfl ?_
    refine cx_getR (tw_R8 H) q2398 dX10_restore_30 ?_
    refine cx_aload_n 0 dX10_restore_33 rfl ?_
    refine cx_getR (tw_R47 H) q2437 dX10_restore_34 ?_
    refine cx_cSv [.ref (adr 8), .ref (adr 47)] [] h (fun rs' h' => tw_copyTo_m H (rfl : twIA 8 = true) (rfl : twIA 47 = true) M6 rs' h') dX10_restore_37 g_X10_394 hg_X10_394 ⟨cx_le rfl, cx_le rfl⟩ rfl ⟨rfl, rfl⟩ ⟨cx_le rfl, cx_le rfl⟩ rfl (cx_le rfl) (fun M7 _ h => ?_)
    refine cx_aload_n 0 dX10_restore_40 rfl ?_
    refine cx_getR (tw_R33 H) q2423 dX10_restore_41 ?_
    refine cx_aload_n 0 dX10_restore_44 rfl ?_
    refine cx_getR (tw_R48 H) q2438 dX10_restore_45 ?_
    refine cx_cSv [.ref (adr 33), .ref (adr 48)] [] h (fun rs' h' => tw_copyTo_m H (rfl : twIA 33 = true) (rfl : twIA 48 = true) M7 rs' h') dX10_restore_48 g_X10_394 hg_X10_394 ⟨cx_le rfl, cx_le rfl⟩ rfl ⟨rfl, rfl⟩ ⟨cx_le rfl, cx_le rfl⟩ rfl (cx_le rfl) (fun M8 _ h => ?_)
    refine cx_aload_n 0 dX10_restore_51 rfl ?_
    refine cx_getR (tw_R38 H) q2428 dX10_restore_52 ?_
    refine cx_aload_n 0 dX10_restore_55 rfl ?_
    refine cx_getR (tw_R49 H) q2439 dX10_restore_56 ?_
    refine cx_cSv [.ref (adr 38), .ref (adr 49)] [] h (fun rs' h' => tw_copyTo_m H (rfl : twIA 38 = true) (rfl : twIA 49 = true) M8 rs' h') dX10_restore_59 g_X10_394 hg_X10_394 ⟨cx_le rfl, cx_le rfl⟩ rfl ⟨rfl, rfl⟩ ⟨cx_le rfl, cx_le rfl⟩ rfl (cx_le rfl) (fun M9 _ h => ?_)
    refine cx_aload_n 0 dX10_restore_62 rfl ?_
    refine cx_getR (tw_R39 H) q2429 dX10_restore_63 ?_
    refine cx_aload_n 0 dX10_restore_66 rfl ?_
    refine cx_getR (tw_R50 H) q2440 dX10_restore_67 ?_
    refine cx_cSv [.ref (adr 39), .ref (adr 50)] [] h (fun rs' h' => tw_copyTo_m H (rfl : twIA 39 = true) (rfl : twIA 50 = true) M9 rs' h') dX10_restore_70 g_X10_394 hg_X10_394 ⟨cx_le rfl, cx_le rfl⟩ rfl ⟨rfl, rfl⟩ ⟨cx_le rfl, cx_le rfl⟩ rfl (cx_le rfl) (fun M10 _ h => ?_)
    refine cx_aload_n 0 dX10_restore_73 rfl ?_
    refine cx_getR (tw_R7 H) q2397 dX10_restore_74 ?_
    refine cx_aload_n 0 dX10_restore_77 rfl ?_
    refine cx_getR (tw_R51 H) q2441 dX10_restore_78 ?_
    refine cx_cSv [.ref (adr 7), .ref (adr 51)] [] h (fun rs' h' => tw_copyTo_m H (rfl : twIA 7 = true) (rfl : twIA 51 = true) M10 rs' h') dX10_restore_81 g_X10_394 hg_X10_394 ⟨cx_le rfl, cx_le rfl⟩ rfl ⟨rfl, rfl⟩ ⟨cx_le rfl, cx_le rfl⟩ rfl (cx_le rfl) (fun M11 _ h => ?_)
    refine cx_iconst 1 dX10_restore_84 cx_ic_1 ?_
    exact cx_zret h cx_z_1 rfl rfl (cx_le rfl) (cx_le rfl) dX10_restore_85
  · refine cx_iconst 0 dX10_restore_11 cx_ic_0 ?_
    exact cx_zret h cx_z_0 rfl rfl (cx_le rfl) (cx_le rfl) dX10_restore_12
noncomputable def tw_restore (N : Nat) (M : cx_M) : Option cx_R := tw_restore_0 N M
theorem tw_restore_m {l : Launch} {g : cx_G} {adr : Nat → Nat} {N : Nat} (H : tw_H g adr) (M : cx_M) (rs : cx_R) (h : tw_restore N M = some rs) : cx_Met l (g) yX10_restore cX10_restore sX10_restore [.ref (adr 60)] M rs :=
  cx_met (by decide +kernel) rfl rfl (lv := [(0, .ref (adr 60))]) rfl (cx_le rfl) (fun X => cx_sub (lv' := [(0, .ref (adr 60))]) [0] rfl (tw_restore_0_v H M rs h))

abbrev sX10_sample : cx_S := (2, RX10, cx_rI, { frames := 3, cells := 0, slots := 0, locals := 62 }, some .int, false)
noncomputable def tw_sample_0 (N : Nat) (M : cx_M) (x1 : Int32) : Option cx_R :=
  cx_cal (tw_ready N M) fun M1 _ =>
  cx_cal (tw_samplesKept N M1) fun M2 v3 =>
  cx_cal (tw_isIn N M2 (Int32.toInt64 x1) 0 (Int32.toInt64 (v3 - 1))) fun M4 v5 =>
  if v5 = 0 then (
    cx_cal (tw_fail N M4 1) fun M6 v7 =>
    some (M6, v7, 0))
  else (
    cx_cal (tw_sampleAt N M4 x1) fun M8 v9 =>
    some (M8, v9, 0))
set_option maxRecDepth 100000 in
theorem tw_sample_0_v {l : Launch} {g : cx_G} {adr : Nat → Nat} {X : cx_X} {N : Nat} (H : tw_H g adr) (M : cx_M) (x1 : Int32) (rs : cx_R) (h : tw_sample_0 N M x1 = some rs) : cx_V l (g) X sX10_sample cX10_sample 0 [(0, .ref (adr 60)), (1, .int x1)] [] M 0 0 rs := by
  unfold tw_sample_0 at h
  refine cx_aload_n 0 dX10_sample_0 rfl ?_
  refine cx_cVv [] [] h (fun rs' h' => tw_ready_m H M rs' h') (tw_rc H) dX10_sample_1 g_X10_247 hg_X10_247 ⟨cx_le rfl, cx_le rfl⟩ rfl ⟨rfl, rfl⟩ ⟨cx_le rfl, cx_le rfl⟩ rfl (cx_le rfl) (fun M1 _ h => ?_)
  refine cx_iload_n 1 dX10_sample_4 rfl ?_
  refine cx_i2l dX10_sample_5 ?_
  refine cx_lconst 0 dX10_sample_6 cx_lc_0 ?_
  refine cx_aload_n 0 dX10_sample_7 rfl ?_
  refine cx_cVi [] [.long 0, .long (Int32.toInt64 x1)] h (fun rs' h' => tw_samplesKept_m H M1 rs' h') (tw_rc H) dX10_sample_8 g_X10_355 hg_X10_355 ⟨cx_le rfl, cx_le rfl⟩ rfl ⟨rfl, rfl⟩ ⟨cx_le rfl, cx_le rfl⟩ rfl (cx_le rfl) (fun M2 v3 h => ?_)
  refine cx_iconst 1 dX10_sample_11 cx_ic_1 ?_
  refine cx_isub dX10_sample_12 ?_
  refine cx_i2l dX10_sample_13 ?_
  refine cx_cSi [.long (Int32.toInt64 x1), .long 0, .long (Int32.toInt64 (v3 - 1))] [] h (fun rs' h' => tw_isIn_m H M2 (Int32.toInt64 x1) 0 (Int32.toInt64 (v3 - 1)) rs' h') dX10_sample_14 g_X10_358 hg_X10_358 ⟨cx_le rfl, cx_le rfl⟩ rfl ⟨rfl, rfl⟩ ⟨cx_le rfl, cx_le rfl⟩ rfl (cx_le rfl) (fun M4 v5 h => ?_)
  refine cx_if_eq 28 h dX10_sample_17 rfl (fun h => ?_) (fun h => ?_)
  · refine cx_aload_n 0 dX10_sample_28 rfl ?_
    refine cx_iconst 1 dX10_sample_29 cx_ic_1 ?_
    refine cx_cVi [.int 1] [] h (fun rs' h' => tw_fail_m H M4 1 rs' h') (tw_rc H) dX10_sample_30 g_X10_250 hg_X10_250 ⟨cx_le rfl, cx_le rfl⟩ rfl ⟨rfl, rfl⟩ ⟨cx_le rfl, cx_le rfl⟩ rfl (cx_le rfl) (fun M6 v7 h => ?_)
    exact cx_iret h rfl rfl (cx_le rfl) (cx_le rfl) dX10_sample_33
  · refine cx_aload_n 0 dX10_sample_20 rfl ?_
    refine cx_iload_n 1 dX10_sample_21 rfl ?_
    refine cx_cVi [.int x1] [] h (fun rs' h' => tw_sampleAt_m H M4 x1 rs' h') (tw_rc H) dX10_sample_22 g_X10_371 hg_X10_371 ⟨cx_le rfl, cx_le rfl⟩ rfl ⟨rfl, rfl⟩ ⟨cx_le rfl, cx_le rfl⟩ rfl (cx_le rfl) (fun M8 v9 h => ?_)
    refine cx_goto 33 dX10_sample_25 rfl ?_
    exact cx_iret h rfl rfl (cx_le rfl) (cx_le rfl) dX10_sample_33
noncomputable def tw_sample (N : Nat) (M : cx_M) (x1 : Int32) : Option cx_R := tw_sample_0 N M x1
theorem tw_sample_m {l : Launch} {g : cx_G} {adr : Nat → Nat} {N : Nat} (H : tw_H g adr) (M : cx_M) (x1 : Int32) (rs : cx_R) (h : tw_sample N M x1 = some rs) : cx_Met l (g) yX10_sample cX10_sample sX10_sample [.ref (adr 60), .int x1] M rs :=
  cx_met (by decide +kernel) rfl rfl (lv := [(0, .ref (adr 60)), (1, .int x1)]) rfl (cx_le rfl) (fun X => cx_sub (lv' := [(0, .ref (adr 60)), (1, .int x1)]) [0, 1] rfl (tw_sample_0_v H M x1 rs h))

abbrev sX10_set : cx_S := (2, RX10, cx_rI, { frames := 3, cells := 0, slots := 0, locals := 62 }, some .int, false)
noncomputable def tw_set_0 (N : Nat) (M : cx_M) (x1 : Int32) : Option cx_R :=
  cx_cal (tw_ready N M) fun M1 _ =>
  cx_sw x1 0 [
      (cx_get M1 3 0 fun v4 =>
      some (M1, v4, 0)),
      (cx_get M1 8 29 fun v5 =>
      some (M1, v5, 0)),
      (cx_get M1 60 24 fun v6 =>
      some (M1, v6, 0)),
      (cx_get M1 60 25 fun v7 =>
      some (M1, v7, 0)),
      (cx_get M1 3 4 fun v8 =>
      some (M1, v8, 0)),
      (cx_get M1 8 27 fun v9 =>
      some (M1, v9, 0)),
      (cx_get M1 3 6 fun v10 =>
      some (M1, v10, 0)),
      (cx_get M1 3 7 fun v11 =>
      some (M1, v11, 0)),
      (cx_get M1 8 28 fun v12 =>
      some (M1, v12, 0)),
      (cx_get M1 8 25 fun v13 =>
      some (M1, v13, 0)),
      (cx_get M1 8 26 fun v14 =>
      some (M1, v14, 0)),
      (cx_get M1 8 22 fun v15 =>
      some (M1, v15, 0)),
      (cx_get M1 8 23 fun v16 =>
      some (M1, v16, 0)),
      (cx_get M1 8 14 fun v17 =>
      cx_get M1 3 0 fun v18 =>
      cx_nz ((64 : Int32) * v18) <|
      some (M1, cx_rem v17 ((64 : Int32) * v18), 0)),
      (cx_get M1 8 11 fun v19 =>
      some (M1, v19, 0))
    ] (
      cx_cal (tw_fail N M1 1) fun M2 v3 =>
      some (M2, v3, 0))
set_option maxRecDepth 100000 in
theorem tw_set_0_v {l : Launch} {g : cx_G} {adr : Nat → Nat} {X : cx_X} {N : Nat} (H : tw_H g adr) (M : cx_M) (x1 : Int32) (rs : cx_R) (h : tw_set_0 N M x1 = some rs) : cx_V l (g) X sX10_set cX10_set 0 [(0, .ref (adr 60)), (1, .int x1)] [] M 0 0 rs := by
  unfold tw_set_0 at h
  refine cx_aload_n 0 dX10_set_0 rfl ?_
  refine cx_cVv [] [] h (fun rs' h' => tw_ready_m H M rs' h') (tw_rc H) dX10_set_1 g_X10_247 hg_X10_247 ⟨cx_le rfl, cx_le rfl⟩ rfl ⟨rfl, rfl⟩ ⟨cx_le rfl, cx_le rfl⟩ rfl (cx_le rfl) (fun M1 _ h => ?_)
  refine cx_iload_n 1 dX10_set_4 rfl ?_
  refine cx_table 202 [80, 87, 95, 100, 105, 112, 120, 128, 136, 144, 152, 160, 168, 176, 194] 15 h dX10_set_5 (by decide +kernel) rfl rfl rfl (by decide +kernel) (fun h => ?_) (fun j B hB h => ?_)
  · refine cx_aload_n 0 dX10_set_202 rfl ?_
    refine cx_iconst 1 dX10_set_203 cx_ic_1 ?_
    refine cx_cVi [.int 1] [] h (fun rs' h' => tw_fail_m H M1 1 rs' h') (tw_rc H) dX10_set_204 g_X10_250 hg_X10_250 ⟨cx_le rfl, cx_le rfl⟩ rfl ⟨rfl, rfl⟩ ⟨cx_le rfl, cx_le rfl⟩ rfl (cx_le rfl) (fun M2 v3 h => ?_)
    exact cx_iret h rfl rfl (cx_le rfl) (cx_le rfl) dX10_set_207
  · match j, hB with
    | 0, hB =>
      cases hB
      refine cx_at (pc2 := 80) rfl ?_
      refine cx_aload_n 0 dX10_set_80 rfl ?_
      refine cx_getR (tw_R3 H) q2393 dX10_set_81 ?_
      refine cx_iconst 0 dX10_set_84 cx_ic_0 ?_
      refine cx_ldC h (tw_A3 H) cx_cl_0 cx_vin_0_20 dX10_set_85 (fun v4 h => ?_)
      exact cx_iret h rfl rfl (cx_le rfl) (cx_le rfl) dX10_set_86
    | 1, hB =>
      cases hB
      refine cx_at (pc2 := 87) rfl ?_
      refine cx_aload_n 0 dX10_set_87 rfl ?_
      refine cx_getR (tw_R8 H) q2398 dX10_set_88 ?_
      refine cx_bipush 29 dX10_set_91 cx_bp_29 ?_
      refine cx_ldC h (tw_A8 H) cx_cl_29 cx_vin_29_665 dX10_set_93 (fun v5 h => ?_)
      exact cx_iret h rfl rfl (cx_le rfl) (cx_le rfl) dX10_set_94
    | 2, hB =>
      cases hB
      refine cx_at (pc2 := 95) rfl ?_
      refine cx_aload_n 0 dX10_set_95 rfl ?_
      refine cx_getI h (tw_F24 H) q2414 dX10_set_96 (fun v6 h => ?_)
      exact cx_iret h rfl rfl (cx_le rfl) (cx_le rfl) dX10_set_99
    | 3, hB =>
      cases hB
      refine cx_at (pc2 := 100) rfl ?_
      refine cx_aload_n 0 dX10_set_100 rfl ?_
      refine cx_getI h (tw_F25 H) q2415 dX10_set_101 (fun v7 h => ?_)
      exact cx_iret h rfl rfl (cx_le rfl) (cx_le rfl) dX10_set_104
    | 4, hB =>
      cases hB
      refine cx_at (pc2 := 105) rfl ?_
      refine cx_aload_n 0 dX10_set_105 rfl ?_
      refine cx_getR (tw_R3 H) q2393 dX10_set_106 ?_
      refine cx_iconst 4 dX10_set_109 cx_ic_4 ?_
      refine cx_ldC h (tw_A3 H) cx_cl_4 cx_vin_4_20 dX10_set_110 (fun v8 h => ?_)
      exact cx_iret h rfl rfl (cx_le rfl) (cx_le rfl) dX10_set_111
    | 5, hB =>
      cases hB
      refine cx_at (pc2 := 112) rfl ?_
      refine cx_aload_n 0 dX10_set_112 rfl ?_
      refine cx_getR (tw_R8 H) q2398 dX10_set_113 ?_
      refine cx_bipush 27 dX10_set_116 cx_bp_27 ?_
      refine cx_ldC h (tw_A8 H) cx_cl_27 cx_vin_27_665 dX10_set_118 (fun v9 h => ?_)
      exact cx_iret h rfl rfl (cx_le rfl) (cx_le rfl) dX10_set_119
    | 6, hB =>
      cases hB
      refine cx_at (pc2 := 120) rfl ?_
      refine cx_aload_n 0 dX10_set_120 rfl ?_
      refine cx_getR (tw_R3 H) q2393 dX10_set_121 ?_
      refine cx_bipush 6 dX10_set_124 cx_bp_6 ?_
      refine cx_ldC h (tw_A3 H) cx_cl_6 cx_vin_6_20 dX10_set_126 (fun v10 h => ?_)
      exact cx_iret h rfl rfl (cx_le rfl) (cx_le rfl) dX10_set_127
    | 7, hB =>
      cases hB
      refine cx_at (pc2 := 128) rfl ?_
      refine cx_aload_n 0 dX10_set_128 rfl ?_
      refine cx_getR (tw_R3 H) q2393 dX10_set_129 ?_
      refine cx_bipush 7 dX10_set_132 cx_bp_7 ?_
      refine cx_ldC h (tw_A3 H) cx_cl_7 cx_vin_7_20 dX10_set_134 (fun v11 h => ?_)
      exact cx_iret h rfl rfl (cx_le rfl) (cx_le rfl) dX10_set_135
    | 8, hB =>
      cases hB
      refine cx_at (pc2 := 136) rfl ?_
      refine cx_aload_n 0 dX10_set_136 rfl ?_
      refine cx_getR (tw_R8 H) q2398 dX10_set_137 ?_
      refine cx_bipush 28 dX10_set_140 cx_bp_28 ?_
      refine cx_ldC h (tw_A8 H) cx_cl_28 cx_vin_28_665 dX10_set_142 (fun v12 h => ?_)
      exact cx_iret h rfl rfl (cx_le rfl) (cx_le rfl) dX10_set_143
    | 9, hB =>
      cases hB
      refine cx_at (pc2 := 144) rfl ?_
      refine cx_aload_n 0 dX10_set_144 rfl ?_
      refine cx_getR (tw_R8 H) q2398 dX10_set_145 ?_
      refine cx_bipush 25 dX10_set_148 cx_bp_25 ?_
      refine cx_ldC h (tw_A8 H) cx_cl_25 cx_vin_25_665 dX10_set_150 (fun v13 h => ?_)
      exact cx_iret h rfl rfl (cx_le rfl) (cx_le rfl) dX10_set_151
    | 10, hB =>
      cases hB
      refine cx_at (pc2 := 152) rfl ?_
      refine cx_aload_n 0 dX10_set_152 rfl ?_
      refine cx_getR (tw_R8 H) q2398 dX10_set_153 ?_
      refine cx_bipush 26 dX10_set_156 cx_bp_26 ?_
      refine cx_ldC h (tw_A8 H) cx_cl_26 cx_vin_26_665 dX10_set_158 (fun v14 h => ?_)
      exact cx_iret h rfl rfl (cx_le rfl) (cx_le rfl) dX10_set_159
    | 11, hB =>
      cases hB
      refine cx_at (pc2 := 160) rfl ?_
      refine cx_aload_n 0 dX10_set_160 rfl ?_
      refine cx_getR (tw_R8 H) q2398 dX10_set_161 ?_
      refine cx_bipush 22 dX10_set_164 cx_bp_22 ?_
      refine cx_ldC h (tw_A8 H) cx_cl_22 cx_vin_22_665 dX10_set_166 (fun v15 h => ?_)
      exact cx_iret h rfl rfl (cx_le rfl) (cx_le rfl) dX10_set_167
    | 12, hB =>
      cases hB
      refine cx_at (pc2 := 168) rfl ?_
      refine cx_aload_n 0 dX10_set_168 rfl ?_
      refine cx_getR (tw_R8 H) q2398 dX10_set_169 ?_
      refine cx_bipush 23 dX10_set_172 cx_bp_23 ?_
      refine cx_ldC h (tw_A8 H) cx_cl_23 cx_vin_23_665 dX10_set_174 (fun v16 h => ?_)
      exact cx_iret h rfl rfl (cx_le rfl) (cx_le rfl) dX10_set_175
    | 13, hB =>
      cases hB
      refine cx_at (pc2 := 176) rfl ?_
      refine cx_aload_n 0 dX10_set_176 rfl ?_
      refine cx_getR (tw_R8 H) q2398 dX10_set_177 ?_
      refine cx_bipush 14 dX10_set_180 cx_bp_14 ?_
      refine cx_ldC h (tw_A8 H) cx_cl_14 cx_vin_14_665 dX10_set_182 (fun v17 h => ?_)
      refine cx_bipush 64 dX10_set_183 cx_bp_64 ?_
      refine cx_aload_n 0 dX10_set_185 rfl ?_
      refine cx_getR (tw_R3 H) q2393 dX10_set_186 ?_
      refine cx_iconst 0 dX10_set_189 cx_ic_0 ?_
      refine cx_ldC h (tw_A3 H) cx_cl_0 cx_vin_0_20 dX10_set_190 (fun v18 h => ?_)
      refine cx_imul dX10_set_191 ?_
      refine cx_irem h dX10_set_192 (fun h => ?_)
      exact cx_iret h rfl rfl (cx_le rfl) (cx_le rfl) dX10_set_193
    | 14, hB =>
      cases hB
      refine cx_at (pc2 := 194) rfl ?_
      refine cx_aload_n 0 dX10_set_194 rfl ?_
      refine cx_getR (tw_R8 H) q2398 dX10_set_195 ?_
      refine cx_bipush 11 dX10_set_198 cx_bp_11 ?_
      refine cx_ldC h (tw_A8 H) cx_cl_11 cx_vin_11_665 dX10_set_200 (fun v19 h => ?_)
      exact cx_iret h rfl rfl (cx_le rfl) (cx_le rfl) dX10_set_201
    | j + 15, hB => cases hB
noncomputable def tw_set (N : Nat) (M : cx_M) (x1 : Int32) : Option cx_R := tw_set_0 N M x1
theorem tw_set_m {l : Launch} {g : cx_G} {adr : Nat → Nat} {N : Nat} (H : tw_H g adr) (M : cx_M) (x1 : Int32) (rs : cx_R) (h : tw_set N M x1 = some rs) : cx_Met l (g) yX10_set cX10_set sX10_set [.ref (adr 60), .int x1] M rs :=
  cx_met (by decide +kernel) rfl rfl (lv := [(0, .ref (adr 60)), (1, .int x1)]) rfl (cx_le rfl) (fun X => cx_sub (lv' := [(0, .ref (adr 60)), (1, .int x1)]) [0, 1] rfl (tw_set_0_v H M x1 rs h))

abbrev sX10_settles : cx_S := (3, RX10, cx_rI, { frames := 7, cells := 0, slots := 0, locals := 153 }, some .int, false)
noncomputable def tw_settles_110 (N : Nat) (r_34 : cx_M → Int32 → Int32 → Option cx_R) (M : cx_M) (x1 : Int32) (x2 : Int32) : Option cx_R :=
  cx_let (x2 + 1) fun v1 =>
  r_34 M x1 v1
set_option maxRecDepth 100000 in
theorem tw_settles_110_v {l : Launch} {g : cx_G} {adr : Nat → Nat} {X : cx_X} {N : Nat} {r_34 : cx_M → Int32 → Int32 → Option cx_R} (H : tw_H g adr) (hr_34 : ∀ (M : cx_M) (x1 : Int32) (x2 : Int32) (rs : cx_R), r_34 M x1 x2 = some rs → cx_V l (g) X sX10_settles cX10_settles 34 [(0, .ref (adr 60)), (1, .int x1), (2, .int x2)] [] M 0 0 rs) (M : cx_M) (x1 : Int32) (x2 : Int32) (rs : cx_R) (h : tw_settles_110 N r_34 M x1 x2 = some rs) : cx_V l (g) X sX10_settles cX10_settles 110 [(0, .ref (adr 60)), (1, .int x1), (2, .int x2)] [] M 0 0 rs := by
  unfold tw_settles_110 at h
  refine cx_iinc 2 1 (fun v1 => [(2, .int v1), (0, .ref (adr 60)), (1, .int x1)]) h dX10_settles_110 rfl cx_ic_1 (cx_lt rfl) (fun _ => rfl) (fun v1 h => ?_)
  refine cx_goto 34 dX10_settles_113 rfl ?_
  refine cx_sub (lv' := [(0, .ref (adr 60)), (1, .int x1), (2, .int v1)]) [1, 2, 0] rfl ?_
  exact hr_34 M x1 v1 _ h
noncomputable def tw_settles_81 (N : Nat) (r_34 : cx_M → Int32 → Int32 → Option cx_R) (M : cx_M) (x2 : Int32) (z0 : Int32) : Option cx_R :=
  if z0 < 40 then (
    tw_settles_110 N r_34 M z0 x2)
  else (
    cx_ld M 35 441 (x2 - 40) fun v1 =>
    if v1 = 1 then (
      cx_cal (tw_back N M (x2 - 40)) fun M2 v3 =>
      some (M2, v3, 0))
    else (
      tw_settles_110 N r_34 M z0 x2))
set_option maxRecDepth 100000 in
theorem tw_settles_81_v {l : Launch} {g : cx_G} {adr : Nat → Nat} {X : cx_X} {N : Nat} {r_34 : cx_M → Int32 → Int32 → Option cx_R} (H : tw_H g adr) (hr_34 : ∀ (M : cx_M) (x1 : Int32) (x2 : Int32) (rs : cx_R), r_34 M x1 x2 = some rs → cx_V l (g) X sX10_settles cX10_settles 34 [(0, .ref (adr 60)), (1, .int x1), (2, .int x2)] [] M 0 0 rs) (M : cx_M) (x2 : Int32) (z0 : Int32) (rs : cx_R) (h : tw_settles_81 N r_34 M x2 z0 = some rs) : cx_V l (g) X sX10_settles cX10_settles 81 [(0, .ref (adr 60)), (2, .int x2)] [.int z0] M 0 0 rs := by
  unfold tw_settles_81 at h
  refine cx_istore_n [(1, .int z0), (0, .ref (adr 60)), (2, .int x2)] dX10_settles_81 (cx_lt rfl) rfl ?_
  refine cx_iload_n 0 dX10_settles_82 rfl ?_
  refine cx_bipush 40 dX10_settles_83 cx_bp_40 ?_
  refine cx_icmp_lt 110 h dX10_settles_85 rfl (fun h => ?_) (fun h => ?_)
  · refine cx_sub (lv' := [(0, .ref (adr 60)), (1, .int z0), (2, .int x2)]) [1, 0, 2] rfl ?_
    exact tw_settles_110_v H hr_34 M z0 x2 _ h
  · refine cx_aload_n 1 dX10_settles_88 rfl ?_
    refine cx_getR (tw_R35 H) q2425 dX10_settles_89 ?_
    refine cx_iload_n 2 dX10_settles_92 rfl ?_
    refine cx_bipush 40 dX10_settles_93 cx_bp_40 ?_
    refine cx_isub dX10_settles_95 ?_
    refine cx_ldI h (tw_A35 H) dX10_settles_96 (fun v1 h => ?_)
    refine cx_iconst 1 dX10_settles_97 cx_ic_1 ?_
    refine cx_icmp_ne 110 h dX10_settles_98 rfl (fun h => ?_) (fun h => ?_)
    · refine cx_sub (lv' := [(0, .ref (adr 60)), (1, .int z0), (2, .int x2)]) [1, 0, 2] rfl ?_
      exact tw_settles_110_v H hr_34 M z0 x2 _ h
    · refine cx_aload_n 1 dX10_settles_101 rfl ?_
      refine cx_iload_n 2 dX10_settles_102 rfl ?_
      refine cx_bipush 40 dX10_settles_103 cx_bp_40 ?_
      refine cx_isub dX10_settles_105 ?_
      refine cx_cVi [.int (x2 - 40)] [] h (fun rs' h' => tw_back_m H M (x2 - 40) rs' h') (tw_rc H) dX10_settles_106 g_X10_405 hg_X10_405 ⟨cx_le rfl, cx_le rfl⟩ rfl ⟨rfl, rfl⟩ ⟨cx_le rfl, cx_le rfl⟩ rfl (cx_le rfl) (fun M2 v3 h => ?_)
      exact cx_iret h rfl rfl (cx_le rfl) (cx_le rfl) dX10_settles_109
noncomputable def tw_settles_66 (N : Nat) (r_34 : cx_M → Int32 → Int32 → Option cx_R) (M : cx_M) (x1 : Int32) (x2 : Int32) (z1 : Int32) (z2 : Int32) : Option cx_R :=
  cx_st M 35 441 z1 z2 fun M1 =>
  cx_cal (tw_isNear N M1) fun M2 v3 =>
  if v3 = 0 then (
    tw_settles_81 N r_34 M2 x2 0)
  else (
    tw_settles_81 N r_34 M2 x2 (x1 + 1))
set_option maxRecDepth 100000 in
theorem tw_settles_66_v {l : Launch} {g : cx_G} {adr : Nat → Nat} {X : cx_X} {N : Nat} {r_34 : cx_M → Int32 → Int32 → Option cx_R} (H : tw_H g adr) (hr_34 : ∀ (M : cx_M) (x1 : Int32) (x2 : Int32) (rs : cx_R), r_34 M x1 x2 = some rs → cx_V l (g) X sX10_settles cX10_settles 34 [(0, .ref (adr 60)), (1, .int x1), (2, .int x2)] [] M 0 0 rs) (M : cx_M) (x1 : Int32) (x2 : Int32) (z1 : Int32) (z2 : Int32) (rs : cx_R) (h : tw_settles_66 N r_34 M x1 x2 z1 z2 = some rs) : cx_V l (g) X sX10_settles cX10_settles 66 [(0, .ref (adr 60)), (1, .int x1), (2, .int x2)] [.int z2, .int z1, .ref (adr 35)] M 0 0 rs := by
  unfold tw_settles_66 at h
  refine cx_stI h (tw_A35 H) dX10_settles_66 (fun M1 h => ?_)
  refine cx_aload_n 0 dX10_settles_67 rfl ?_
  refine cx_cVi [] [] h (fun rs' h' => tw_isNear_m H M1 rs' h') (tw_rc H) dX10_settles_68 g_X10_416 hg_X10_416 ⟨cx_le rfl, cx_le rfl⟩ rfl ⟨rfl, rfl⟩ ⟨cx_le rfl, cx_le rfl⟩ rfl (cx_le rfl) (fun M2 v3 h => ?_)
  refine cx_if_eq 80 h dX10_settles_71 rfl (fun h => ?_) (fun h => ?_)
  · refine cx_iconst 0 dX10_settles_80 cx_ic_0 ?_
    refine cx_sub (lv' := [(0, .ref (adr 60)), (2, .int x2)]) [0, 2] rfl ?_
    exact tw_settles_81_v H hr_34 M2 x2 0 _ h
  · refine cx_iload_n 1 dX10_settles_74 rfl ?_
    refine cx_iconst 1 dX10_settles_75 cx_ic_1 ?_
    refine cx_iadd dX10_settles_76 ?_
    refine cx_goto 81 dX10_settles_77 rfl ?_
    refine cx_sub (lv' := [(0, .ref (adr 60)), (2, .int x2)]) [0, 2] rfl ?_
    exact tw_settles_81_v H hr_34 M2 x2 (x1 + 1) _ h
noncomputable def tw_settles_34b (N : Nat) (r_34 : cx_M → Int32 → Int32 → Option cx_R) (M : cx_M) (x1 : Int32) (x2 : Int32) : Option cx_R :=
  if 440 < x2 then (
    cx_cal (tw_back N M (-1)) fun M1 v2 =>
    some (M1, v2, 0))
  else (
    cx_cal (tw_aStep N M) fun M3 _ =>
    cx_get M3 8 8 fun v4 =>
    if v4 = 2 then (
      tw_settles_66 N r_34 M3 x1 x2 x2 1)
    else (
      tw_settles_66 N r_34 M3 x1 x2 x2 0))
set_option maxRecDepth 100000 in
theorem tw_settles_34b_v {l : Launch} {g : cx_G} {adr : Nat → Nat} {X : cx_X} {N : Nat} {r_34 : cx_M → Int32 → Int32 → Option cx_R} (H : tw_H g adr) (hr_34 : ∀ (M : cx_M) (x1 : Int32) (x2 : Int32) (rs : cx_R), r_34 M x1 x2 = some rs → cx_V l (g) X sX10_settles cX10_settles 34 [(0, .ref (adr 60)), (1, .int x1), (2, .int x2)] [] M 0 0 rs) (M : cx_M) (x1 : Int32) (x2 : Int32) (rs : cx_R) (h : tw_settles_34b N r_34 M x1 x2 = some rs) : cx_V l (g) X sX10_settles cX10_settles 34 [(0, .ref (adr 60)), (1, .int x1), (2, .int x2)] [] M 0 0 rs := by
  unfold tw_settles_34b at h
  refine cx_iload_n 2 dX10_settles_34 rfl ?_
  refine cx_sipush 440 dX10_settles_35 cx_sp_440 ?_
  refine cx_icmp_gt 116 h dX10_settles_38 rfl (fun h => ?_) (fun h => ?_)
  · refine cx_aload_n 0 dX10_settles_116 rfl ?_
    refine cx_iconst (-1) dX10_settles_117 cx_ic_m1 ?_
    refine cx_cVi [.int (-1)] [] h (fun rs' h' => tw_back_m H M (-1) rs' h') (tw_rc H) dX10_settles_118 g_X10_405 hg_X10_405 ⟨cx_le rfl, cx_le rfl⟩ rfl ⟨rfl, rfl⟩ ⟨cx_le rfl, cx_le rfl⟩ rfl (cx_le rfl) (fun M1 v2 h => ?_)
    exact cx_iret h rfl rfl (cx_le rfl) (cx_le rfl) dX10_settles_121
  · refine cx_aload_n 0 dX10_settles_41 rfl ?_
    refine cx_cVv [] [] h (fun rs' h' => tw_aStep_m H M rs' h') (tw_rc H) dX10_settles_42 g_X10_349 hg_X10_349 ⟨cx_le rfl, cx_le rfl⟩ rfl ⟨rfl, rfl⟩ ⟨cx_le rfl, cx_le rfl⟩ rfl (cx_le rfl) (fun M3 _ h => ?_)
    refine cx_aload_n 0 dX10_settles_45 rfl ?_
    refine cx_getR (tw_R35 H) q2425 dX10_settles_46 ?_
    refine cx_iload_n 2 dX10_settles_49 rfl ?_
    refine cx_aload_n 0 dX10_settles_50 rfl ?_
    refine cx_getR (tw_R8 H) q2398 dX10_settles_51 ?_
    refine cx_bipush 8 dX10_settles_54 cx_bp_8 ?_
    refine cx_ldC h (tw_A8 H) cx_cl_8 cx_vin_8_665 dX10_settles_56 (fun v4 h => ?_)
    refine cx_iconst 2 dX10_settles_57 cx_ic_2 ?_
    refine cx_icmp_ne 65 h dX10_settles_58 rfl (fun h => ?_) (fun h => ?_)
    · refine cx_iconst 0 dX10_settles_65 cx_ic_0 ?_
      exact tw_settles_66_v H hr_34 M3 x1 x2 x2 0 _ h
    · refine cx_iconst 1 dX10_settles_61 cx_ic_1 ?_
      refine cx_goto 66 dX10_settles_62 rfl ?_
      exact tw_settles_66_v H hr_34 M3 x1 x2 x2 1 _ h
noncomputable def tw_settles_34 (N : Nat) : Nat → cx_M → Int32 → Int32 → Option cx_R :=
  cx_fix (fun _ _ _ => none) (fun r_34 => tw_settles_34b N r_34)
theorem tw_settles_34_v {l : Launch} {g : cx_G} {adr : Nat → Nat} {X : cx_X} {N : Nat} (H : tw_H g adr) : ∀ (n : Nat) (M : cx_M) (x1 : Int32) (x2 : Int32) (rs : cx_R), tw_settles_34 N n M x1 x2 = some rs → cx_V l (g) X sX10_settles cX10_settles 34 [(0, .ref (adr 60)), (1, .int x1), (2, .int x2)] [] M 0 0 rs :=
  cx_fixI (fun (r : cx_M → Int32 → Int32 → Option cx_R) => ∀ (M : cx_M) (x1 : Int32) (x2 : Int32) (rs : cx_R), r M x1 x2 = some rs → cx_V l (g) X sX10_settles cX10_settles 34 [(0, .ref (adr 60)), (1, .int x1), (2, .int x2)] [] M 0 0 rs) (fun _ _ _ _ h => by cases h) (fun r hr M x1 x2 rs h => tw_settles_34b_v H hr M x1 x2 rs h)
noncomputable def tw_settles_29 (N : Nat) (M : cx_M) (z1 : Int32) (z2 : Int32) : Option cx_R :=
  cx_st M 35 441 z1 z2 fun M1 =>
  tw_settles_34 N N M1 0 1
set_option maxRecDepth 100000 in
theorem tw_settles_29_v {l : Launch} {g : cx_G} {adr : Nat → Nat} {X : cx_X} {N : Nat} (H : tw_H g adr) (M : cx_M) (z1 : Int32) (z2 : Int32) (rs : cx_R) (h : tw_settles_29 N M z1 z2 = some rs) : cx_V l (g) X sX10_settles cX10_settles 29 [(0, .ref (adr 60))] [.int z2, .int z1, .ref (adr 35)] M 0 0 rs := by
  unfold tw_settles_29 at h
  refine cx_stI h (tw_A35 H) dX10_settles_29 (fun M1 h => ?_)
  refine cx_iconst 0 dX10_settles_30 cx_ic_0 ?_
  refine cx_istore_n [(1, .int 0), (0, .ref (adr 60))] dX10_settles_31 (cx_lt rfl) rfl ?_
  refine cx_iconst 1 dX10_settles_32 cx_ic_1 ?_
  refine cx_istore_n [(2, .int 1), (1, .int 0), (0, .ref (adr 60))] dX10_settles_33 (cx_lt rfl) rfl ?_
  refine cx_sub (lv' := [(0, .ref (adr 60)), (1, .int 0), (2, .int 1)]) [2, 1, 0] rfl ?_
  exact tw_settles_34_v H N M1 0 1 _ h
noncomputable def tw_settles_0 (N : Nat) (M : cx_M) : Option cx_R :=
  cx_cal (tw_ready N M) fun M1 _ =>
  cx_cal (tw_rememberNow N M1) fun M2 _ =>
  cx_get M2 8 8 fun v3 =>
  if v3 = 2 then (
    tw_settles_29 N M2 0 1)
  else (
    tw_settles_29 N M2 0 0)
set_option maxRecDepth 100000 in
theorem tw_settles_0_v {l : Launch} {g : cx_G} {adr : Nat → Nat} {X : cx_X} {N : Nat} (H : tw_H g adr) (M : cx_M) (rs : cx_R) (h : tw_settles_0 N M = some rs) : cx_V l (g) X sX10_settles cX10_settles 0 [(0, .ref (adr 60))] [] M 0 0 rs := by
  unfold tw_settles_0 at h
  refine cx_aload_n 0 dX10_settles_0 rfl ?_
  refine cx_cVv [] [] h (fun rs' h' => tw_ready_m H M rs' h') (tw_rc H) dX10_settles_1 g_X10_247 hg_X10_247 ⟨cx_le rfl, cx_le rfl⟩ rfl ⟨rfl, rfl⟩ ⟨cx_le rfl, cx_le rfl⟩ rfl (cx_le rfl) (fun M1 _ h => ?_)
  refine cx_aload_n 0 dX10_settles_4 rfl ?_
  refine cx_cVv [] [] h (fun rs' h' => tw_rememberNow_m H M1 rs' h') (tw_rc H) dX10_settles_5 g_X10_402 hg_X10_402 ⟨cx_le rfl, cx_le rfl⟩ rfl ⟨rfl, rfl⟩ ⟨cx_le rfl, cx_le rfl⟩ rfl (cx_le rfl) (fun M2 _ h => ?_)
  refine cx_aload_n 0 dX10_settles_8 rfl ?_
  refine cx_getR (tw_R35 H) q2425 dX10_settles_9 ?_
  refine cx_iconst 0 dX10_settles_12 cx_ic_0 ?_
  refine cx_aload_n 0 dX10_settles_13 rfl ?_
  refine cx_getR (tw_R8 H) q2398 dX10_settles_14 ?_
  refine cx_bipush 8 dX10_settles_17 cx_bp_8 ?_
  refine cx_ldC h (tw_A8 H) cx_cl_8 cx_vin_8_665 dX10_settles_19 (fun v3 h => ?_)
  refine cx_iconst 2 dX10_settles_20 cx_ic_2 ?_
  refine cx_icmp_ne 28 h dX10_settles_21 rfl (fun h => ?_) (fun h => ?_)
  · refine cx_iconst 0 dX10_settles_28 cx_ic_0 ?_
    exact tw_settles_29_v H M2 0 0 _ h
  · refine cx_iconst 1 dX10_settles_24 cx_ic_1 ?_
    refine cx_goto 29 dX10_settles_25 rfl ?_
    exact tw_settles_29_v H M2 0 1 _ h
noncomputable def tw_settles (N : Nat) (M : cx_M) : Option cx_R := tw_settles_0 N M
theorem tw_settles_m {l : Launch} {g : cx_G} {adr : Nat → Nat} {N : Nat} (H : tw_H g adr) (M : cx_M) (rs : cx_R) (h : tw_settles N M = some rs) : cx_Met l (g) yX10_settles cX10_settles sX10_settles [.ref (adr 60)] M rs :=
  cx_met (by decide +kernel) rfl rfl (lv := [(0, .ref (adr 60))]) rfl (cx_le rfl) (fun X => cx_sub (lv' := [(0, .ref (adr 60))]) [0] rfl (tw_settles_0_v H M rs h))

abbrev sX10_slot : cx_S := (2, RX10, cx_rI, { frames := 3, cells := 0, slots := 0, locals := 62 }, some .int, false)
noncomputable def tw_slot_0 (N : Nat) (M : cx_M) (x1 : Int32) : Option cx_R :=
  cx_cal (tw_ready N M) fun M1 _ =>
  cx_cal (tw_isIn N M1 (Int32.toInt64 x1) 0 63) fun M2 v3 =>
  if v3 = 0 then (
    cx_cal (tw_fail N M2 1) fun M9 v10 =>
    some (M9, v10, 0))
  else (
    cx_ld M2 8 665 ((153 : Int32) + x1) fun v4 =>
    if v4 = (-1) then (
      some (M2, (-1), 0))
    else (
      cx_ld M2 8 665 ((217 : Int32) + x1) fun v5 =>
      cx_cal (tw_spotNow N M2) fun M6 v7 =>
      if v5 < v7 then (
        some (M6, (-1), 0))
      else (
        cx_ld M6 8 665 ((153 : Int32) + x1) fun v8 =>
        some (M6, v8, 0))))
set_option maxRecDepth 100000 in
theorem tw_slot_0_v {l : Launch} {g : cx_G} {adr : Nat → Nat} {X : cx_X} {N : Nat} (H : tw_H g adr) (M : cx_M) (x1 : Int32) (rs : cx_R) (h : tw_slot_0 N M x1 = some rs) : cx_V l (g) X sX10_slot cX10_slot 0 [(0, .ref (adr 60)), (1, .int x1)] [] M 0 0 rs := by
  unfold tw_slot_0 at h
  refine cx_aload_n 0 dX10_slot_0 rfl ?_
  refine cx_cVv [] [] h (fun rs' h' => tw_ready_m H M rs' h') (tw_rc H) dX10_slot_1 g_X10_247 hg_X10_247 ⟨cx_le rfl, cx_le rfl⟩ rfl ⟨rfl, rfl⟩ ⟨cx_le rfl, cx_le rfl⟩ rfl (cx_le rfl) (fun M1 _ h => ?_)
  refine cx_iload_n 1 dX10_slot_4 rfl ?_
  refine cx_i2l dX10_slot_5 ?_
  refine cx_lconst 0 dX10_slot_6 cx_lc_0 ?_
  refine cx_ldc2 63 dX10_slot_7 q2719 ?_
  refine cx_cSi [.long (Int32.toInt64 x1), .long 0, .long 63] [] h (fun rs' h' => tw_isIn_m H M1 (Int32.toInt64 x1) 0 63 rs' h') dX10_slot_10 g_X10_358 hg_X10_358 ⟨cx_le rfl, cx_le rfl⟩ rfl ⟨rfl, rfl⟩ ⟨cx_le rfl, cx_le rfl⟩ rfl (cx_le rfl) (fun M2 v3 h => ?_)
  refine cx_if_ne 22 h dX10_slot_13 rfl (fun h => ?_) (fun h => ?_)
  · refine cx_aload_n 0 dX10_slot_22 rfl ?_
    refine cx_getR (tw_R8 H) q2398 dX10_slot_23 ?_
    refine cx_sipush 153 dX10_slot_26 cx_sp_153 ?_
    refine cx_iload_n 1 dX10_slot_29 rfl ?_
    refine cx_iadd dX10_slot_30 ?_
    refine cx_ldI h (tw_A8 H) dX10_slot_31 (fun v4 h => ?_)
    refine cx_iconst (-1) dX10_slot_32 cx_ic_m1 ?_
    refine cx_icmp_eq 66 h dX10_slot_33 rfl (fun h => ?_) (fun h => ?_)
    · refine cx_iconst (-1) dX10_slot_66 cx_ic_m1 ?_
      exact cx_iret h rfl rfl (cx_le rfl) (cx_le rfl) dX10_slot_67
    · refine cx_aload_n 0 dX10_slot_36 rfl ?_
      refine cx_getR (tw_R8 H) q2398 dX10_slot_37 ?_
      refine cx_sipush 217 dX10_slot_40 cx_sp_217 ?_
      refine cx_iload_n 1 dX10_slot_43 rfl ?_
      refine cx_iadd dX10_slot_44 ?_
      refine cx_ldI h (tw_A8 H) dX10_slot_45 (fun v5 h => ?_)
      refine cx_aload_n 0 dX10_slot_46 rfl ?_
      refine cx_cVi [] [.int v5] h (fun rs' h' => tw_spotNow_m H M2 rs' h') (tw_rc H) dX10_slot_47 g_X10_318 hg_X10_318 ⟨cx_le rfl, cx_le rfl⟩ rfl ⟨rfl, rfl⟩ ⟨cx_le rfl, cx_le rfl⟩ rfl (cx_le rfl) (fun M6 v7 h => ?_)
      refine cx_icmp_lt 66 h dX10_slot_50 rfl (fun h => ?_) (fun h => ?_)
      · refine cx_iconst (-1) dX10_slot_66 cx_ic_m1 ?_
        exact cx_iret h rfl rfl (cx_le rfl) (cx_le rfl) dX10_slot_67
      · refine cx_aload_n 0 dX10_slot_53 rfl ?_
        refine cx_getR (tw_R8 H) q2398 dX10_slot_54 ?_
        refine cx_sipush 153 dX10_slot_57 cx_sp_153 ?_
        refine cx_iload_n 1 dX10_slot_60 rfl ?_
        refine cx_iadd dX10_slot_61 ?_
        refine cx_ldI h (tw_A8 H) dX10_slot_62 (fun v8 h => ?_)
        refine cx_goto 67 dX10_slot_63 rfl ?_
        exact cx_iret h rfl rfl (cx_le rfl) (cx_le rfl) dX10_slot_67
  · refine cx_aload_n 0 dX10_slot_16 rfl ?_
    refine cx_iconst 1 dX10_slot_17 cx_ic_1 ?_
    refine cx_cVi [.int 1] [] h (fun rs' h' => tw_fail_m H M2 1 rs' h') (tw_rc H) dX10_slot_18 g_X10_250 hg_X10_250 ⟨cx_le rfl, cx_le rfl⟩ rfl ⟨rfl, rfl⟩ ⟨cx_le rfl, cx_le rfl⟩ rfl (cx_le rfl) (fun M9 v10 h => ?_)
    exact cx_iret h rfl rfl (cx_le rfl) (cx_le rfl) dX10_slot_21
noncomputable def tw_slot (N : Nat) (M : cx_M) (x1 : Int32) : Option cx_R := tw_slot_0 N M x1
theorem tw_slot_m {l : Launch} {g : cx_G} {adr : Nat → Nat} {N : Nat} (H : tw_H g adr) (M : cx_M) (x1 : Int32) (rs : cx_R) (h : tw_slot N M x1 = some rs) : cx_Met l (g) yX10_slot cX10_slot sX10_slot [.ref (adr 60), .int x1] M rs :=
  cx_met (by decide +kernel) rfl rfl (lv := [(0, .ref (adr 60)), (1, .int x1)]) rfl (cx_le rfl) (fun X => cx_sub (lv' := [(0, .ref (adr 60)), (1, .int x1)]) [0, 1] rfl (tw_slot_0_v H M x1 rs h))

abbrev sX10_spans : cx_S := (7, RX10, cx_rI, { frames := 3, cells := 0, slots := 0, locals := 62 }, some .int, false)
noncomputable def tw_spans_112 (N : Nat) (r_33 : cx_M → Int32 → Int32 → Int32 → Int32 → Int32 → Option cx_R) (M : cx_M) (x1 : Int32) (x2 : Int32) (x3 : Int32) (x5 : Int32) (z0 : Int32) : Option cx_R :=
  cx_let (x5 + (-1)) fun v1 =>
  r_33 M x1 x2 x3 z0 v1
set_option maxRecDepth 100000 in
theorem tw_spans_112_v {l : Launch} {g : cx_G} {adr : Nat → Nat} {X : cx_X} {N : Nat} {r_33 : cx_M → Int32 → Int32 → Int32 → Int32 → Int32 → Option cx_R} (H : tw_H g adr) (hr_33 : ∀ (M : cx_M) (x1 : Int32) (x2 : Int32) (x3 : Int32) (x4 : Int32) (x5 : Int32) (rs : cx_R), r_33 M x1 x2 x3 x4 x5 = some rs → cx_V l (g) X sX10_spans cX10_spans 33 [(0, .ref (adr 60)), (1, .int x1), (2, .int x2), (3, .int x3), (4, .int x4), (5, .int x5)] [] M 0 0 rs) (M : cx_M) (x1 : Int32) (x2 : Int32) (x3 : Int32) (x5 : Int32) (z0 : Int32) (rs : cx_R) (h : tw_spans_112 N r_33 M x1 x2 x3 x5 z0 = some rs) : cx_V l (g) X sX10_spans cX10_spans 112 [(0, .ref (adr 60)), (1, .int x1), (2, .int x2), (3, .int x3), (5, .int x5)] [.int z0] M 0 0 rs := by
  unfold tw_spans_112 at h
  refine cx_istore [(4, .int z0), (0, .ref (adr 60)), (1, .int x1), (2, .int x2), (3, .int x3), (5, .int x5)] dX10_spans_112 (cx_lt rfl) rfl ?_
  refine cx_iinc 5 (-1) (fun v1 => [(5, .int v1), (4, .int z0), (0, .ref (adr 60)), (1, .int x1), (2, .int x2), (3, .int x3)]) h dX10_spans_114 rfl cx_ic_m1 (cx_lt rfl) (fun _ => rfl) (fun v1 h => ?_)
  refine cx_goto 33 dX10_spans_117 rfl ?_
  refine cx_sub (lv' := [(0, .ref (adr 60)), (1, .int x1), (2, .int x2), (3, .int x3), (4, .int z0), (5, .int v1)]) [2, 3, 4, 5, 1, 0] rfl ?_
  exact hr_33 M x1 x2 x3 z0 v1 _ h
noncomputable def tw_spans_99 (N : Nat) (r_33 : cx_M → Int32 → Int32 → Int32 → Int32 → Int32 → Option cx_R) (M : cx_M) (x1 : Int32) (x2 : Int32) (x3 : Int32) (x4 : Int32) (x5 : Int32) (x6 : Int32) : Option cx_R :=
  if x6 = 0 then (
    tw_spans_112 N r_33 M x1 x2 x3 x5 0)
  else (
    tw_spans_112 N r_33 M x1 x2 x3 x5 (x4 + 1))
set_option maxRecDepth 100000 in
theorem tw_spans_99_v {l : Launch} {g : cx_G} {adr : Nat → Nat} {X : cx_X} {N : Nat} {r_33 : cx_M → Int32 → Int32 → Int32 → Int32 → Int32 → Option cx_R} (H : tw_H g adr) (hr_33 : ∀ (M : cx_M) (x1 : Int32) (x2 : Int32) (x3 : Int32) (x4 : Int32) (x5 : Int32) (rs : cx_R), r_33 M x1 x2 x3 x4 x5 = some rs → cx_V l (g) X sX10_spans cX10_spans 33 [(0, .ref (adr 60)), (1, .int x1), (2, .int x2), (3, .int x3), (4, .int x4), (5, .int x5)] [] M 0 0 rs) (M : cx_M) (x1 : Int32) (x2 : Int32) (x3 : Int32) (x4 : Int32) (x5 : Int32) (x6 : Int32) (rs : cx_R) (h : tw_spans_99 N r_33 M x1 x2 x3 x4 x5 x6 = some rs) : cx_V l (g) X sX10_spans cX10_spans 99 [(0, .ref (adr 60)), (1, .int x1), (2, .int x2), (3, .int x3), (4, .int x4), (5, .int x5), (6, .int x6)] [] M 0 0 rs := by
  unfold tw_spans_99 at h
  refine cx_iload 6 dX10_spans_99 rfl ?_
  refine cx_if_eq 111 h dX10_spans_101 rfl (fun h => ?_) (fun h => ?_)
  · refine cx_iconst 0 dX10_spans_111 cx_ic_0 ?_
    refine cx_sub (lv' := [(0, .ref (adr 60)), (1, .int x1), (2, .int x2), (3, .int x3), (5, .int x5)]) [0, 1, 2, 3, 5] rfl ?_
    exact tw_spans_112_v H hr_33 M x1 x2 x3 x5 0 _ h
  · refine cx_iload 4 dX10_spans_104 rfl ?_
    refine cx_iconst 1 dX10_spans_106 cx_ic_1 ?_
    refine cx_iadd dX10_spans_107 ?_
    refine cx_goto 112 dX10_spans_108 rfl ?_
    refine cx_sub (lv' := [(0, .ref (adr 60)), (1, .int x1), (2, .int x2), (3, .int x3), (5, .int x5)]) [0, 1, 2, 3, 5] rfl ?_
    exact tw_spans_112_v H hr_33 M x1 x2 x3 x5 (x4 + 1) _ h
noncomputable def tw_spans_75 (N : Nat) (r_33 : cx_M → Int32 → Int32 → Int32 → Int32 → Int32 → Option cx_R) (M : cx_M) (x1 : Int32) (x2 : Int32) (x3 : Int32) (x4 : Int32) (x5 : Int32) (z0 : Int32) : Option cx_R :=
  if z0 = 0 then (
    if x4 < x1 then (
      tw_spans_99 N r_33 M x1 x2 x3 x4 x5 z0)
    else (
      if x3 = x2 then (
        some (M, x4, 0))
      else (
        cx_let (x3 + 1) fun v1 =>
        tw_spans_99 N r_33 M x1 x2 v1 x4 x5 z0)))
  else (
    tw_spans_99 N r_33 M x1 x2 x3 x4 x5 z0)
set_option maxRecDepth 100000 in
theorem tw_spans_75_v {l : Launch} {g : cx_G} {adr : Nat → Nat} {X : cx_X} {N : Nat} {r_33 : cx_M → Int32 → Int32 → Int32 → Int32 → Int32 → Option cx_R} (H : tw_H g adr) (hr_33 : ∀ (M : cx_M) (x1 : Int32) (x2 : Int32) (x3 : Int32) (x4 : Int32) (x5 : Int32) (rs : cx_R), r_33 M x1 x2 x3 x4 x5 = some rs → cx_V l (g) X sX10_spans cX10_spans 33 [(0, .ref (adr 60)), (1, .int x1), (2, .int x2), (3, .int x3), (4, .int x4), (5, .int x5)] [] M 0 0 rs) (M : cx_M) (x1 : Int32) (x2 : Int32) (x3 : Int32) (x4 : Int32) (x5 : Int32) (z0 : Int32) (rs : cx_R) (h : tw_spans_75 N r_33 M x1 x2 x3 x4 x5 z0 = some rs) : cx_V l (g) X sX10_spans cX10_spans 75 [(0, .ref (adr 60)), (1, .int x1), (2, .int x2), (3, .int x3), (4, .int x4), (5, .int x5)] [.int z0] M 0 0 rs := by
  unfold tw_spans_75 at h
  refine cx_istore [(6, .int z0), (0, .ref (adr 60)), (1, .int x1), (2, .int x2), (3, .int x3), (4, .int x4), (5, .int x5)] dX10_spans_75 (cx_lt rfl) rfl ?_
  refine cx_iload 0 dX10_spans_77 rfl ?_
  refine cx_if_ne 99 h dX10_spans_79 rfl (fun h => ?_) (fun h => ?_)
  · refine cx_sub (lv' := [(0, .ref (adr 60)), (1, .int x1), (2, .int x2), (3, .int x3), (4, .int x4), (5, .int x5), (6, .int z0)]) [1, 2, 3, 4, 5, 6, 0] rfl ?_
    exact tw_spans_99_v H hr_33 M x1 x2 x3 x4 x5 z0 _ h
  · refine cx_iload 5 dX10_spans_82 rfl ?_
    refine cx_iload_n 2 dX10_spans_84 rfl ?_
    refine cx_icmp_lt 99 h dX10_spans_85 rfl (fun h => ?_) (fun h => ?_)
    · refine cx_sub (lv' := [(0, .ref (adr 60)), (1, .int x1), (2, .int x2), (3, .int x3), (4, .int x4), (5, .int x5), (6, .int z0)]) [1, 2, 3, 4, 5, 6, 0] rfl ?_
      exact tw_spans_99_v H hr_33 M x1 x2 x3 x4 x5 z0 _ h
    · refine cx_iload_n 4 dX10_spans_88 rfl ?_
      refine cx_iload_n 3 dX10_spans_89 rfl ?_
      refine cx_icmp_ne 96 h dX10_spans_90 rfl (fun h => ?_) (fun h => ?_)
      · refine cx_iinc 4 1 (fun v1 => [(3, .int v1), (6, .int z0), (0, .ref (adr 60)), (1, .int x1), (2, .int x2), (4, .int x4), (5, .int x5)]) h dX10_spans_96 rfl cx_ic_1 (cx_lt rfl) (fun _ => rfl) (fun v1 h => ?_)
        refine cx_sub (lv' := [(0, .ref (adr 60)), (1, .int x1), (2, .int x2), (3, .int v1), (4, .int x4), (5, .int x5), (6, .int z0)]) [2, 3, 4, 0, 5, 6, 1] rfl ?_
        exact tw_spans_99_v H hr_33 M x1 x2 v1 x4 x5 z0 _ h
      · refine cx_iload 5 dX10_spans_93 rfl ?_
        exact cx_iret h rfl rfl (cx_le rfl) (cx_le rfl) dX10_spans_95
noncomputable def tw_spans_74 (N : Nat) (r_33 : cx_M → Int32 → Int32 → Int32 → Int32 → Int32 → Option cx_R) (M : cx_M) (x1 : Int32) (x2 : Int32) (x3 : Int32) (x4 : Int32) (x5 : Int32) : Option cx_R :=
  tw_spans_75 N r_33 M x1 x2 x3 x4 x5 0
set_option maxRecDepth 100000 in
theorem tw_spans_74_v {l : Launch} {g : cx_G} {adr : Nat → Nat} {X : cx_X} {N : Nat} {r_33 : cx_M → Int32 → Int32 → Int32 → Int32 → Int32 → Option cx_R} (H : tw_H g adr) (hr_33 : ∀ (M : cx_M) (x1 : Int32) (x2 : Int32) (x3 : Int32) (x4 : Int32) (x5 : Int32) (rs : cx_R), r_33 M x1 x2 x3 x4 x5 = some rs → cx_V l (g) X sX10_spans cX10_spans 33 [(0, .ref (adr 60)), (1, .int x1), (2, .int x2), (3, .int x3), (4, .int x4), (5, .int x5)] [] M 0 0 rs) (M : cx_M) (x1 : Int32) (x2 : Int32) (x3 : Int32) (x4 : Int32) (x5 : Int32) (rs : cx_R) (h : tw_spans_74 N r_33 M x1 x2 x3 x4 x5 = some rs) : cx_V l (g) X sX10_spans cX10_spans 74 [(0, .ref (adr 60)), (1, .int x1), (2, .int x2), (3, .int x3), (4, .int x4), (5, .int x5)] [] M 0 0 rs := by
  unfold tw_spans_74 at h
  refine cx_iconst 0 dX10_spans_74 cx_ic_0 ?_
  exact tw_spans_75_v H hr_33 M x1 x2 x3 x4 x5 0 _ h
noncomputable def tw_spans_33b (N : Nat) (r_33 : cx_M → Int32 → Int32 → Int32 → Int32 → Int32 → Option cx_R) (M : cx_M) (x1 : Int32) (x2 : Int32) (x3 : Int32) (x4 : Int32) (x5 : Int32) : Option cx_R :=
  if x5 < 0 then (
    if x2 = (-1) then (
      some (M, x3, 0))
    else (
      cx_cal (tw_fail N M 1) fun M1 v2 =>
      some (M1, v2, 0)))
  else (
    if x5 ≤ 0 then (
      tw_spans_74 N r_33 M x1 x2 x3 x4 x5)
    else (
      cx_get M 8 6 fun v3 =>
      cx_ld M 8 665 ((537 : Int32) + (cx_rem (v3 - x5) 128)) fun v4 =>
      if v4 = 1 then (
        tw_spans_75 N r_33 M x1 x2 x3 x4 x5 1)
      else (
        tw_spans_74 N r_33 M x1 x2 x3 x4 x5)))
set_option maxRecDepth 100000 in
theorem tw_spans_33b_v {l : Launch} {g : cx_G} {adr : Nat → Nat} {X : cx_X} {N : Nat} {r_33 : cx_M → Int32 → Int32 → Int32 → Int32 → Int32 → Option cx_R} (H : tw_H g adr) (hr_33 : ∀ (M : cx_M) (x1 : Int32) (x2 : Int32) (x3 : Int32) (x4 : Int32) (x5 : Int32) (rs : cx_R), r_33 M x1 x2 x3 x4 x5 = some rs → cx_V l (g) X sX10_spans cX10_spans 33 [(0, .ref (adr 60)), (1, .int x1), (2, .int x2), (3, .int x3), (4, .int x4), (5, .int x5)] [] M 0 0 rs) (M : cx_M) (x1 : Int32) (x2 : Int32) (x3 : Int32) (x4 : Int32) (x5 : Int32) (rs : cx_R) (h : tw_spans_33b N r_33 M x1 x2 x3 x4 x5 = some rs) : cx_V l (g) X sX10_spans cX10_spans 33 [(0, .ref (adr 60)), (1, .int x1), (2, .int x2), (3, .int x3), (4, .int x4), (5, .int x5)] [] M 0 0 rs := by
  unfold tw_spans_33b at h
  refine cx_iload 5 dX10_spans_33 rfl ?_
  refine cx_if_lt 120 h dX10_spans_35 rfl (fun h => ?_) (fun h => ?_)
  · refine cx_iload_n 2 dX10_spans_120 rfl ?_
    refine cx_iconst (-1) dX10_spans_121 cx_ic_m1 ?_
    refine cx_icmp_ne 129 h dX10_spans_122 rfl (fun h => ?_) (fun h => ?_)
    · refine cx_aload_n 0 dX10_spans_129 rfl ?_
      refine cx_iconst 1 dX10_spans_130 cx_ic_1 ?_
      refine cx_cVi [.int 1] [] h (fun rs' h' => tw_fail_m H M 1 rs' h') (tw_rc H) dX10_spans_131 g_X10_250 hg_X10_250 ⟨cx_le rfl, cx_le rfl⟩ rfl ⟨rfl, rfl⟩ ⟨cx_le rfl, cx_le rfl⟩ rfl (cx_le rfl) (fun M1 v2 h => ?_)
      exact cx_iret h rfl rfl (cx_le rfl) (cx_le rfl) dX10_spans_134
    · refine cx_iload_n 3 dX10_spans_125 rfl ?_
      refine cx_goto 134 dX10_spans_126 rfl ?_
      exact cx_iret h rfl rfl (cx_le rfl) (cx_le rfl) dX10_spans_134
  · refine cx_iload 5 dX10_spans_38 rfl ?_
    refine cx_if_le 74 h dX10_spans_40 rfl (fun h => ?_) (fun h => ?_)
    · exact tw_spans_74_v H hr_33 M x1 x2 x3 x4 x5 _ h
    · refine cx_aload_n 0 dX10_spans_43 rfl ?_
      refine cx_getR (tw_R8 H) q2398 dX10_spans_44 ?_
      refine cx_sipush 537 dX10_spans_47 cx_sp_537 ?_
      refine cx_aload_n 0 dX10_spans_50 rfl ?_
      refine cx_getR (tw_R8 H) q2398 dX10_spans_51 ?_
      refine cx_bipush 6 dX10_spans_54 cx_bp_6 ?_
      refine cx_ldC h (tw_A8 H) cx_cl_6 cx_vin_6_665 dX10_spans_56 (fun v3 h => ?_)
      refine cx_iload 5 dX10_spans_57 rfl ?_
      refine cx_isub dX10_spans_59 ?_
      refine cx_sipush 128 dX10_spans_60 cx_sp_128 ?_
      refine cx_iremC cx_ne_128 dX10_spans_63 ?_
      refine cx_iadd dX10_spans_64 ?_
      refine cx_ldI h (tw_A8 H) dX10_spans_65 (fun v4 h => ?_)
      refine cx_iconst 1 dX10_spans_66 cx_ic_1 ?_
      refine cx_icmp_ne 74 h dX10_spans_67 rfl (fun h => ?_) (fun h => ?_)
      · exact tw_spans_74_v H hr_33 M x1 x2 x3 x4 x5 _ h
      · refine cx_iconst 1 dX10_spans_70 cx_ic_1 ?_
        refine cx_goto 75 dX10_spans_71 rfl ?_
        exact tw_spans_75_v H hr_33 M x1 x2 x3 x4 x5 1 _ h
noncomputable def tw_spans_33 (N : Nat) : Nat → cx_M → Int32 → Int32 → Int32 → Int32 → Int32 → Option cx_R :=
  cx_fix (fun _ _ _ _ _ _ => none) (fun r_33 => tw_spans_33b N r_33)
theorem tw_spans_33_v {l : Launch} {g : cx_G} {adr : Nat → Nat} {X : cx_X} {N : Nat} (H : tw_H g adr) : ∀ (n : Nat) (M : cx_M) (x1 : Int32) (x2 : Int32) (x3 : Int32) (x4 : Int32) (x5 : Int32) (rs : cx_R), tw_spans_33 N n M x1 x2 x3 x4 x5 = some rs → cx_V l (g) X sX10_spans cX10_spans 33 [(0, .ref (adr 60)), (1, .int x1), (2, .int x2), (3, .int x3), (4, .int x4), (5, .int x5)] [] M 0 0 rs :=
  cx_fixI (fun (r : cx_M → Int32 → Int32 → Int32 → Int32 → Int32 → Option cx_R) => ∀ (M : cx_M) (x1 : Int32) (x2 : Int32) (x3 : Int32) (x4 : Int32) (x5 : Int32) (rs : cx_R), r M x1 x2 x3 x4 x5 = some rs → cx_V l (g) X sX10_spans cX10_spans 33 [(0, .ref (adr 60)), (1, .int x1), (2, .int x2), (3, .int x3), (4, .int x4), (5, .int x5)] [] M 0 0 rs) (fun _ _ _ _ _ _ _ h => by cases h) (fun r hr M x1 x2 x3 x4 x5 rs h => tw_spans_33b_v H hr M x1 x2 x3 x4 x5 rs h)
noncomputable def tw_spans_0 (N : Nat) (M : cx_M) (x1 : Int32) (x2 : Int32) : Option cx_R :=
  cx_cal (tw_ready N M) fun M1 _ =>
  cx_cal (tw_isIn N M1 (Int32.toInt64 x1) 1 128) fun M2 v3 =>
  if v3 = 0 then (
    cx_cal (tw_fail N M2 2) fun M6 v7 =>
    some (M6, v7, 0))
  else (
    cx_cal (tw_playedKept N M2) fun M4 v5 =>
    tw_spans_33 N N M4 x1 x2 0 0 v5)
set_option maxRecDepth 100000 in
theorem tw_spans_0_v {l : Launch} {g : cx_G} {adr : Nat → Nat} {X : cx_X} {N : Nat} (H : tw_H g adr) (M : cx_M) (x1 : Int32) (x2 : Int32) (rs : cx_R) (h : tw_spans_0 N M x1 x2 = some rs) : cx_V l (g) X sX10_spans cX10_spans 0 [(0, .ref (adr 60)), (1, .int x1), (2, .int x2)] [] M 0 0 rs := by
  unfold tw_spans_0 at h
  refine cx_aload_n 0 dX10_spans_0 rfl ?_
  refine cx_cVv [] [] h (fun rs' h' => tw_ready_m H M rs' h') (tw_rc H) dX10_spans_1 g_X10_247 hg_X10_247 ⟨cx_le rfl, cx_le rfl⟩ rfl ⟨rfl, rfl⟩ ⟨cx_le rfl, cx_le rfl⟩ rfl (cx_le rfl) (fun M1 _ h => ?_)
  refine cx_iload_n 1 dX10_spans_4 rfl ?_
  refine cx_i2l dX10_spans_5 ?_
  refine cx_lconst 1 dX10_spans_6 cx_lc_1 ?_
  refine cx_ldc2 128 dX10_spans_7 q2732 ?_
  refine cx_cSi [.long (Int32.toInt64 x1), .long 1, .long 128] [] h (fun rs' h' => tw_isIn_m H M1 (Int32.toInt64 x1) 1 128 rs' h') dX10_spans_10 g_X10_358 hg_X10_358 ⟨cx_le rfl, cx_le rfl⟩ rfl ⟨rfl, rfl⟩ ⟨cx_le rfl, cx_le rfl⟩ rfl (cx_le rfl) (fun M2 v3 h => ?_)
  refine cx_if_ne 22 h dX10_spans_13 rfl (fun h => ?_) (fun h => ?_)
  · refine cx_iconst 0 dX10_spans_22 cx_ic_0 ?_
    refine cx_istore_n [(3, .int 0), (0, .ref (adr 60)), (1, .int x1), (2, .int x2)] dX10_spans_23 (cx_lt rfl) rfl ?_
    refine cx_iconst 0 dX10_spans_24 cx_ic_0 ?_
    refine cx_istore [(4, .int 0), (3, .int 0), (0, .ref (adr 60)), (1, .int x1), (2, .int x2)] dX10_spans_25 (cx_lt rfl) rfl ?_
    refine cx_aload_n 2 dX10_spans_27 rfl ?_
    refine cx_cVi [] [] h (fun rs' h' => tw_playedKept_m H M2 rs' h') (tw_rc H) dX10_spans_28 g_X10_366 hg_X10_366 ⟨cx_le rfl, cx_le rfl⟩ rfl ⟨rfl, rfl⟩ ⟨cx_le rfl, cx_le rfl⟩ rfl (cx_le rfl) (fun M4 v5 h => ?_)
    refine cx_istore [(5, .int v5), (4, .int 0), (3, .int 0), (0, .ref (adr 60)), (1, .int x1), (2, .int x2)] dX10_spans_31 (cx_lt rfl) rfl ?_
    refine cx_sub (lv' := [(0, .ref (adr 60)), (1, .int x1), (2, .int x2), (3, .int 0), (4, .int 0), (5, .int v5)]) [3, 4, 5, 2, 1, 0] rfl ?_
    exact tw_spans_33_v H N M4 x1 x2 0 0 v5 _ h
  · refine cx_aload_n 0 dX10_spans_16 rfl ?_
    refine cx_iconst 2 dX10_spans_17 cx_ic_2 ?_
    refine cx_cVi [.int 2] [] h (fun rs' h' => tw_fail_m H M2 2 rs' h') (tw_rc H) dX10_spans_18 g_X10_250 hg_X10_250 ⟨cx_le rfl, cx_le rfl⟩ rfl ⟨rfl, rfl⟩ ⟨cx_le rfl, cx_le rfl⟩ rfl (cx_le rfl) (fun M6 v7 h => ?_)
    exact cx_iret h rfl rfl (cx_le rfl) (cx_le rfl) dX10_spans_21
noncomputable def tw_spans (N : Nat) (M : cx_M) (x1 : Int32) (x2 : Int32) : Option cx_R := tw_spans_0 N M x1 x2
theorem tw_spans_m {l : Launch} {g : cx_G} {adr : Nat → Nat} {N : Nat} (H : tw_H g adr) (M : cx_M) (x1 : Int32) (x2 : Int32) (rs : cx_R) (h : tw_spans N M x1 x2 = some rs) : cx_Met l (g) yX10_spans cX10_spans sX10_spans [.ref (adr 60), .int x1, .int x2] M rs :=
  cx_met (by decide +kernel) rfl rfl (lv := [(0, .ref (adr 60)), (1, .int x1), (2, .int x2)]) rfl (cx_le rfl) (fun X => cx_sub (lv' := [(0, .ref (adr 60)), (1, .int x1), (2, .int x2)]) [0, 1, 2] rfl (tw_spans_0_v H M x1 x2 rs h))
