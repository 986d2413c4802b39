abbrev sX10_reckon : cx_S := (3, RX10, cx_rI, { frames := 0, cells := 0, slots := 0, locals := 0 }, some .int, false)
noncomputable def tw_reckon_0 (N : Nat) (M : cx_M) (x0 : Int32) (x1 : Int32) (x2 : Int32) : Option cx_R :=
  cx_sw x0 (-26) [
      (if x1 = 0 then (
        some (M, 0, 0))
      else (
        if x2 = 0 then (
          some (M, 0, 0))
        else (
          some (M, 1, 0)))),
      (if x1 = x2 then (
        some (M, 1, 0))
      else (
        some (M, 0, 0))),
      (if x2 ≤ x1 then (
        some (M, 0, 0))
      else (
        some (M, 1, 0))),
      (if x2 = 0 then (
        some (M, 0, 0))
      else (
        cx_nz x2 <|
        some (M, x1 / x2, 0))),
      (some (M, x1 * x2, 0)),
      (some (M, x1 - x2, 0)),
      (some (M, x1 + x2, 0))
    ] (
      if x1 = 0 then (
        if x2 = 0 then (
          some (M, 0, 0))
        else (
          some (M, 1, 0)))
      else (
        some (M, 1, 0)))
set_option maxRecDepth 100000 in
theorem tw_reckon_0_v {l : Launch} {g : cx_G} {adr : Nat → Nat} {X : cx_X} {N : Nat} (H : tw_H g adr) (M : cx_M) (x0 : Int32) (x1 : Int32) (x2 : Int32) (rs : cx_R) (h : tw_reckon_0 N M x0 x1 x2 = some rs) : cx_V l (g) X sX10_reckon cX10_reckon 0 [(0, .int x0), (1, .int x1), (2, .int x2)] [] M 0 0 rs := by
  unfold tw_reckon_0 at h
  refine cx_iload_n 0 dX10_reckon_0 rfl ?_
  refine cx_table 104 [90, 79, 68, 56, 52, 48, 44] 7 h dX10_reckon_1 (by decide +kernel) rfl rfl rfl (by decide +kernel) (fun h => ?_) (fun j B hB h => ?_)
  · refine cx_iload_n 1 dX10_reckon_104 rfl ?_
    refine cx_if_ne 112 h dX10_reckon_105 rfl (fun h => ?_) (fun h => ?_)
    · refine cx_iconst 1 dX10_reckon_112 cx_ic_1 ?_
      refine cx_goto 117 dX10_reckon_113 rfl ?_
      exact cx_iret h rfl rfl (cx_le rfl) (cx_le rfl) dX10_reckon_117
    · refine cx_iload_n 2 dX10_reckon_108 rfl ?_
      refine cx_if_eq 116 h dX10_reckon_109 rfl (fun h => ?_) (fun h => ?_)
      · refine cx_iconst 0 dX10_reckon_116 cx_ic_0 ?_
        exact cx_iret h rfl rfl (cx_le rfl) (cx_le rfl) dX10_reckon_117
      · refine cx_iconst 1 dX10_reckon_112 cx_ic_1 ?_
        refine cx_goto 117 dX10_reckon_113 rfl ?_
        exact cx_iret h rfl rfl (cx_le rfl) (cx_le rfl) dX10_reckon_117
  · match j, hB with
    | 0, hB =>
      cases hB
      refine cx_at (pc2 := 90) rfl ?_
      refine cx_iload_n 1 dX10_reckon_90 rfl ?_
      refine cx_if_eq 102 h dX10_reckon_91 rfl (fun h => ?_) (fun h => ?_)
      · refine cx_iconst 0 dX10_reckon_102 cx_ic_0 ?_
        exact cx_iret h rfl rfl (cx_le rfl) (cx_le rfl) dX10_reckon_103
      · refine cx_iload_n 2 dX10_reckon_94 rfl ?_
        refine cx_if_eq 102 h dX10_reckon_95 rfl (fun h => ?_) (fun h => ?_)
        · refine cx_iconst 0 dX10_reckon_102 cx_ic_0 ?_
          exact cx_iret h rfl rfl (cx_le rfl) (cx_le rfl) dX10_reckon_103
        · refine cx_iconst 1 dX10_reckon_98 cx_ic_1 ?_
          refine cx_goto 103 dX10_reckon_99 rfl ?_
          exact cx_iret h rfl rfl (cx_le rfl) (cx_le rfl) dX10_reckon_103
    | 1, hB =>
      cases hB
      refine cx_at (pc2 := 79) rfl ?_
      refine cx_iload_n 1 dX10_reckon_79 rfl ?_
      refine cx_iload_n 2 dX10_reckon_80 rfl ?_
      refine cx_icmp_ne 88 h dX10_reckon_81 rfl (fun h => ?_) (fun h => ?_)
      · refine cx_iconst 0 dX10_reckon_88 cx_ic_0 ?_
        exact cx_iret h rfl rfl (cx_le rfl) (cx_le rfl) dX10_reckon_89
      · refine cx_iconst 1 dX10_reckon_84 cx_ic_1 ?_
        refine cx_goto 89 dX10_reckon_85 rfl ?_
        exact cx_iret h rfl rfl (cx_le rfl) (cx_le rfl) dX10_reckon_89
    | 2, hB =>
      cases hB
      refine cx_at (pc2 := 68) rfl ?_
      refine cx_iload_n 1 dX10_reckon_68 rfl ?_
      refine cx_iload_n 2 dX10_reckon_69 rfl ?_
      refine cx_icmp_ge 77 h dX10_reckon_70 rfl (fun h => ?_) (fun h => ?_)
      · refine cx_iconst 0 dX10_reckon_77 cx_ic_0 ?_
        exact cx_iret h rfl rfl (cx_le rfl) (cx_le rfl) dX10_reckon_78
      · refine cx_iconst 1 dX10_reckon_73 cx_ic_1 ?_
        refine cx_goto 78 dX10_reckon_74 rfl ?_
        exact cx_iret h rfl rfl (cx_le rfl) (cx_le rfl) dX10_reckon_78
    | 3, hB =>
      cases hB
      refine cx_at (pc2 := 56) rfl ?_
      refine cx_iload_n 2 dX10_reckon_56 rfl ?_
      refine cx_if_ne 64 h dX10_reckon_57 rfl (fun h => ?_) (fun h => ?_)
      · refine cx_iload_n 1 dX10_reckon_64 rfl ?_
        refine cx_iload_n 2 dX10_reckon_65 rfl ?_
        refine cx_idiv h dX10_reckon_66 (fun h => ?_)
        exact cx_iret h rfl rfl (cx_le rfl) (cx_le rfl) dX10_reckon_67
      · refine cx_iconst 0 dX10_reckon_60 cx_ic_0 ?_
        refine cx_goto 67 dX10_reckon_61 rfl ?_
        exact cx_iret h rfl rfl (cx_le rfl) (cx_le rfl) dX10_reckon_67
    | 4, hB =>
      cases hB
      refine cx_at (pc2 := 52) rfl ?_
      refine cx_iload_n 1 dX10_reckon_52 rfl ?_
      refine cx_iload_n 2 dX10_reckon_53 rfl ?_
      refine cx_imul dX10_reckon_54 ?_
      exact cx_iret h rfl rfl (cx_le rfl) (cx_le rfl) dX10_reckon_55
    | 5, hB =>
      cases hB
      refine cx_at (pc2 := 48) rfl ?_
      refine cx_iload_n 1 dX10_reckon_48 rfl ?_
      refine cx_iload_n 2 dX10_reckon_49 rfl ?_
      refine cx_isub dX10_reckon_50 ?_
      exact cx_iret h rfl rfl (cx_le rfl) (cx_le rfl) dX10_reckon_51
    | 6, hB =>
      cases hB
      refine cx_at (pc2 := 44) rfl ?_
      refine cx_iload_n 1 dX10_reckon_44 rfl ?_
      refine cx_iload_n 2 dX10_reckon_45 rfl ?_
      refine cx_iadd dX10_reckon_46 ?_
      exact cx_iret h rfl rfl (cx_le rfl) (cx_le rfl) dX10_reckon_47
    | j + 7, hB => cases hB
noncomputable def tw_reckon (N : Nat) (M : cx_M) (x0 : Int32) (x1 : Int32) (x2 : Int32) : Option cx_R := tw_reckon_0 N M x0 x1 x2
theorem tw_reckon_m {l : Launch} {g : cx_G} {adr : Nat → Nat} {N : Nat} (H : tw_H g adr) (M : cx_M) (x0 : Int32) (x1 : Int32) (x2 : Int32) (rs : cx_R) (h : tw_reckon N M x0 x1 x2 = some rs) : cx_Met l (g) yX10_reckon cX10_reckon sX10_reckon [.int x0, .int x1, .int x2] M rs :=
  cx_met (by decide +kernel) rfl rfl (lv := [(0, .int x0), (1, .int x1), (2, .int x2)]) rfl (cx_le rfl) (fun X => cx_sub (lv' := [(0, .int x0), (1, .int x1), (2, .int x2)]) [0, 1, 2] rfl (tw_reckon_0_v H M x0 x1 x2 rs h))

abbrev sX10_valueNow : cx_S := (6, RX10, cx_rI, { frames := 1, cells := 0, slots := 0, locals := 22 }, some .int, false)
noncomputable def tw_valueNow_119 (N : Nat) (c0 : Nat) (r_5 : cx_M → Int32 → Int32 → Int32 → Option cx_R) (M : cx_M) (x2 : Int32) (x3 : Int32) (x4 : Int32) : Option cx_R :=
  cx_let (x4 + 1) fun v1 =>
  r_5 M x2 x3 v1
set_option maxRecDepth 100000 in
theorem tw_valueNow_119_v {l : Launch} {g : cx_G} {adr : Nat → Nat} {X : cx_X} {N : Nat} {c0 : Nat} {r_5 : cx_M → Int32 → Int32 → Int32 → Option cx_R} (H : tw_H g adr) (hc0 : twIA c0 = true) (hr_5 : ∀ (M : cx_M) (x2 : Int32) (x3 : Int32) (x4 : Int32) (rs : cx_R), r_5 M x2 x3 x4 = some rs → cx_V l (g) X sX10_valueNow cX10_valueNow 5 [(0, .ref (adr 60)), (1, .ref (adr c0)), (2, .int x2), (3, .int x3), (4, .int x4)] [] M 0 0 rs) (M : cx_M) (x2 : Int32) (x3 : Int32) (x4 : Int32) (rs : cx_R) (h : tw_valueNow_119 N c0 r_5 M x2 x3 x4 = some rs) : cx_V l (g) X sX10_valueNow cX10_valueNow 119 [(0, .ref (adr 60)), (1, .ref (adr c0)), (2, .int x2), (3, .int x3), (4, .int x4)] [] M 0 0 rs := by
  unfold tw_valueNow_119 at h
  refine cx_iinc 4 1 (fun v1 => [(4, .int v1), (0, .ref (adr 60)), (1, .ref (adr c0)), (2, .int x2), (3, .int x3)]) h dX10_valueNow_119 rfl cx_ic_1 (cx_lt rfl) (fun _ => rfl) (fun v1 h => ?_)
  refine cx_goto 5 dX10_valueNow_122 rfl ?_
  refine cx_sub (lv' := [(0, .ref (adr 60)), (1, .ref (adr c0)), (2, .int x2), (3, .int x3), (4, .int v1)]) [1, 2, 3, 4, 0] rfl ?_
  exact hr_5 M x2 x3 v1 _ h
noncomputable def tw_valueNow_48 (N : Nat) (c0 : Nat) (r_5 : cx_M → Int32 → Int32 → Int32 → Option cx_R) (M : cx_M) (x2 : Int32) (x3 : Int32) (x4 : Int32) (z1 : Int32) (z2 : Int32) : Option cx_R :=
  cx_st M 23 64 z1 z2 fun M1 =>
  cx_let (x3 + 1) fun v2 =>
  tw_valueNow_119 N c0 r_5 M1 x2 v2 x4
set_option maxRecDepth 100000 in
theorem tw_valueNow_48_v {l : Launch} {g : cx_G} {adr : Nat → Nat} {X : cx_X} {N : Nat} {c0 : Nat} {r_5 : cx_M → Int32 → Int32 → Int32 → Option cx_R} (H : tw_H g adr) (hc0 : twIA c0 = true) (hr_5 : ∀ (M : cx_M) (x2 : Int32) (x3 : Int32) (x4 : Int32) (rs : cx_R), r_5 M x2 x3 x4 = some rs → cx_V l (g) X sX10_valueNow cX10_valueNow 5 [(0, .ref (adr 60)), (1, .ref (adr c0)), (2, .int x2), (3, .int x3), (4, .int x4)] [] M 0 0 rs) (M : cx_M) (x2 : Int32) (x3 : Int32) (x4 : Int32) (z1 : Int32) (z2 : Int32) (rs : cx_R) (h : tw_valueNow_48 N c0 r_5 M x2 x3 x4 z1 z2 = some rs) : cx_V l (g) X sX10_valueNow cX10_valueNow 48 [(0, .ref (adr 60)), (1, .ref (adr c0)), (2, .int x2), (3, .int x3), (4, .int x4)] [.int z2, .int z1, .ref (adr 23)] M 0 0 rs := by
  unfold tw_valueNow_48 at h
  refine cx_stI h (tw_A23 H) dX10_valueNow_48 (fun M1 h => ?_)
  refine cx_iinc 3 1 (fun v2 => [(3, .int v2), (0, .ref (adr 60)), (1, .ref (adr c0)), (2, .int x2), (4, .int x4)]) h dX10_valueNow_49 rfl cx_ic_1 (cx_lt rfl) (fun _ => rfl) (fun v2 h => ?_)
  refine cx_goto 119 dX10_valueNow_52 rfl ?_
  refine cx_sub (lv' := [(0, .ref (adr 60)), (1, .ref (adr c0)), (2, .int x2), (3, .int v2), (4, .int x4)]) [1, 2, 3, 0, 4] rfl ?_
  exact tw_valueNow_119_v H hc0 hr_5 M1 x2 v2 x4 _ h
noncomputable def tw_valueNow_85 (N : Nat) (c0 : Nat) (r_5 : cx_M → Int32 → Int32 → Int32 → Option cx_R) (M : cx_M) (x2 : Int32) (x3 : Int32) (x4 : Int32) (z1 : Int32) (z2 : Int32) : Option cx_R :=
  cx_st M 23 64 z1 z2 fun M1 =>
  tw_valueNow_119 N c0 r_5 M1 x2 x3 x4
set_option maxRecDepth 100000 in
theorem tw_valueNow_85_v {l : Launch} {g : cx_G} {adr : Nat → Nat} {X : cx_X} {N : Nat} {c0 : Nat} {r_5 : cx_M → Int32 → Int32 → Int32 → Option cx_R} (H : tw_H g adr) (hc0 : twIA c0 = true) (hr_5 : ∀ (M : cx_M) (x2 : Int32) (x3 : Int32) (x4 : Int32) (rs : cx_R), r_5 M x2 x3 x4 = some rs → cx_V l (g) X sX10_valueNow cX10_valueNow 5 [(0, .ref (adr 60)), (1, .ref (adr c0)), (2, .int x2), (3, .int x3), (4, .int x4)] [] M 0 0 rs) (M : cx_M) (x2 : Int32) (x3 : Int32) (x4 : Int32) (z1 : Int32) (z2 : Int32) (rs : cx_R) (h : tw_valueNow_85 N c0 r_5 M x2 x3 x4 z1 z2 = some rs) : cx_V l (g) X sX10_valueNow cX10_valueNow 85 [(0, .ref (adr 60)), (1, .ref (adr c0)), (2, .int x2), (3, .int x3), (4, .int x4)] [.int z2, .int z1, .ref (adr 23)] M 0 0 rs := by
  unfold tw_valueNow_85 at h
  refine cx_stI h (tw_A23 H) dX10_valueNow_85 (fun M1 h => ?_)
  refine cx_goto 119 dX10_valueNow_86 rfl ?_
  exact tw_valueNow_119_v H hc0 hr_5 M1 x2 x3 x4 _ h
noncomputable def tw_valueNow_5b (N : Nat) (c0 : Nat) (r_5 : cx_M → Int32 → Int32 → Int32 → Option cx_R) (M : cx_M) (x2 : Int32) (x3 : Int32) (x4 : Int32) : Option cx_R :=
  if x2 ≤ x4 then (
    cx_get M 23 0 fun v1 =>
    some (M, v1, 0))
  else (
    cx_ld M c0 (twLen c0) x4 fun v2 =>
    if v2 ≤ (-20) then (
      if v2 = (-28) then (
        cx_ld M 23 64 (x3 - 1) fun v9 =>
        if v9 = 0 then (
          tw_valueNow_85 N c0 r_5 M x2 x3 x4 (x3 - 1) 1)
        else (
          tw_valueNow_85 N c0 r_5 M x2 x3 x4 (x3 - 1) 0))
      else (
        cx_let (x3 + (-1)) fun v3 =>
        cx_ld M 23 64 (v3 - 1) fun v4 =>
        cx_ld M 23 64 v3 fun v5 =>
        cx_cal (tw_reckon N M v2 v4 v5) fun M6 v7 =>
        cx_st M6 23 64 (v3 - 1) v7 fun M8 =>
        tw_valueNow_119 N c0 r_5 M8 x2 v3 x4))
    else (
      if v2 < 0 then (
        cx_ld M 22 4 ((-1 : Int32) - v2) fun v10 =>
        tw_valueNow_48 N c0 r_5 M x2 x3 x4 x3 v10)
      else (
        tw_valueNow_48 N c0 r_5 M x2 x3 x4 x3 v2)))
set_option maxRecDepth 100000 in
theorem tw_valueNow_5b_v {l : Launch} {g : cx_G} {adr : Nat → Nat} {X : cx_X} {N : Nat} {c0 : Nat} {r_5 : cx_M → Int32 → Int32 → Int32 → Option cx_R} (H : tw_H g adr) (hc0 : twIA c0 = true) (hr_5 : ∀ (M : cx_M) (x2 : Int32) (x3 : Int32) (x4 : Int32) (rs : cx_R), r_5 M x2 x3 x4 = some rs → cx_V l (g) X sX10_valueNow cX10_valueNow 5 [(0, .ref (adr 60)), (1, .ref (adr c0)), (2, .int x2), (3, .int x3), (4, .int x4)] [] M 0 0 rs) (M : cx_M) (x2 : Int32) (x3 : Int32) (x4 : Int32) (rs : cx_R) (h : tw_valueNow_5b N c0 r_5 M x2 x3 x4 = some rs) : cx_V l (g) X sX10_valueNow cX10_valueNow 5 [(0, .ref (adr 60)), (1, .ref (adr c0)), (2, .int x2), (3, .int x3), (4, .int x4)] [] M 0 0 rs := by
  unfold tw_valueNow_5b at h
  refine cx_iload 4 dX10_valueNow_5 rfl ?_
  refine cx_iload_n 2 dX10_valueNow_7 rfl ?_
  refine cx_icmp_ge 125 h dX10_valueNow_8 rfl (fun h => ?_) (fun h => ?_)
  · refine cx_aload_n 0 dX10_valueNow_125 rfl ?_
    refine cx_getR (tw_R23 H) q2413 dX10_valueNow_126 ?_
    refine cx_iconst 0 dX10_valueNow_129 cx_ic_0 ?_
    refine cx_ldC h (tw_A23 H) cx_cl_0 cx_vin_0_64 dX10_valueNow_130 (fun v1 h => ?_)
    exact cx_iret h rfl rfl (cx_le rfl) (cx_le rfl) dX10_valueNow_131
  · refine cx_aload_n 1 dX10_valueNow_11 rfl ?_
    refine cx_iload 4 dX10_valueNow_12 rfl ?_
    refine cx_ldI h (tw_A H hc0) dX10_valueNow_14 (fun v2 h => ?_)
    refine cx_istore [(5, .int v2), (0, .ref (adr 60)), (1, .ref (adr c0)), (2, .int x2), (3, .int x3), (4, .int x4)] dX10_valueNow_15 (cx_lt rfl) rfl ?_
    refine cx_iload 0 dX10_valueNow_17 rfl ?_
    refine cx_bipush (-20) dX10_valueNow_19 cx_bp_m20 ?_
    refine cx_icmp_le 55 h dX10_valueNow_21 rfl (fun h => ?_) (fun h => ?_)
    · refine cx_iload 0 dX10_valueNow_55 rfl ?_
      refine cx_bipush (-28) dX10_valueNow_57 cx_bp_m28 ?_
      refine cx_icmp_ne 89 h dX10_valueNow_59 rfl (fun h => ?_) (fun h => ?_)
      · refine cx_iinc 4 (-1) (fun v3 => [(3, .int v3), (5, .int v2), (0, .ref (adr 60)), (1, .ref (adr c0)), (2, .int x2), (4, .int x4)]) h dX10_valueNow_89 rfl cx_ic_m1 (cx_lt rfl) (fun _ => rfl) (fun v3 h => ?_)
        refine cx_aload_n 2 dX10_valueNow_92 rfl ?_
        refine cx_getR (tw_R23 H) q2413 dX10_valueNow_93 ?_
        refine cx_iload_n 0 dX10_valueNow_96 rfl ?_
        refine cx_iconst 1 dX10_valueNow_97 cx_ic_1 ?_
        refine cx_isub dX10_valueNow_98 ?_
        refine cx_iload 1 dX10_valueNow_99 rfl ?_
        refine cx_aload_n 2 dX10_valueNow_101 rfl ?_
        refine cx_getR (tw_R23 H) q2413 dX10_valueNow_102 ?_
        refine cx_iload_n 0 dX10_valueNow_105 rfl ?_
        refine cx_iconst 1 dX10_valueNow_106 cx_ic_1 ?_
        refine cx_isub dX10_valueNow_107 ?_
        refine cx_ldI h (tw_A23 H) dX10_valueNow_108 (fun v4 h => ?_)
        refine cx_aload_n 2 dX10_valueNow_109 rfl ?_
        refine cx_getR (tw_R23 H) q2413 dX10_valueNow_110 ?_
        refine cx_iload_n 0 dX10_valueNow_113 rfl ?_
        refine cx_ldI h (tw_A23 H) dX10_valueNow_114 (fun v5 h => ?_)
        refine cx_cSi [.int v2, .int v4, .int v5] [.int (v3 - 1), .ref (adr 23)] h (fun rs' h' => tw_reckon_m H M v2 v4 v5 rs' h') dX10_valueNow_115 g_X10_294 hg_X10_294 ⟨cx_le rfl, cx_le rfl⟩ rfl ⟨rfl, rfl⟩ ⟨cx_le rfl, cx_le rfl⟩ rfl (cx_le rfl) (fun M6 v7 h => ?_)
        refine cx_stI h (tw_A23 H) dX10_valueNow_118 (fun M8 h => ?_)
        refine cx_sub (lv' := [(0, .ref (adr 60)), (1, .ref (adr c0)), (2, .int x2), (3, .int v3), (4, .int x4)]) [2, 3, 4, 0, 5] rfl ?_
        exact tw_valueNow_119_v H hc0 hr_5 M8 x2 v3 x4 _ h
      · refine cx_aload_n 1 dX10_valueNow_62 rfl ?_
        refine cx_getR (tw_R23 H) q2413 dX10_valueNow_63 ?_
        refine cx_iload_n 4 dX10_valueNow_66 rfl ?_
        refine cx_iconst 1 dX10_valueNow_67 cx_ic_1 ?_
        refine cx_isub dX10_valueNow_68 ?_
        refine cx_aload_n 1 dX10_valueNow_69 rfl ?_
        refine cx_getR (tw_R23 H) q2413 dX10_valueNow_70 ?_
        refine cx_iload_n 4 dX10_valueNow_73 rfl ?_
        refine cx_iconst 1 dX10_valueNow_74 cx_ic_1 ?_
        refine cx_isub dX10_valueNow_75 ?_
        refine cx_ldI h (tw_A23 H) dX10_valueNow_76 (fun v9 h => ?_)
        refine cx_if_eq 84 h dX10_valueNow_77 rfl (fun h => ?_) (fun h => ?_)
        · refine cx_iconst 1 dX10_valueNow_84 cx_ic_1 ?_
          refine cx_sub (lv' := [(0, .ref (adr 60)), (1, .ref (adr c0)), (2, .int x2), (3, .int x3), (4, .int x4)]) [1, 2, 3, 4, 5] rfl ?_
          exact tw_valueNow_85_v H hc0 hr_5 M x2 x3 x4 (x3 - 1) 1 _ h
        · refine cx_iconst 0 dX10_valueNow_80 cx_ic_0 ?_
          refine cx_goto 85 dX10_valueNow_81 rfl ?_
          refine cx_sub (lv' := [(0, .ref (adr 60)), (1, .ref (adr c0)), (2, .int x2), (3, .int x3), (4, .int x4)]) [1, 2, 3, 4, 5] rfl ?_
          exact tw_valueNow_85_v H hc0 hr_5 M x2 x3 x4 (x3 - 1) 0 _ h
    · refine cx_aload_n 1 dX10_valueNow_24 rfl ?_
      refine cx_getR (tw_R23 H) q2413 dX10_valueNow_25 ?_
      refine cx_iload_n 4 dX10_valueNow_28 rfl ?_
      refine cx_iload 0 dX10_valueNow_29 rfl ?_
      refine cx_if_lt 39 h dX10_valueNow_31 rfl (fun h => ?_) (fun h => ?_)
      · refine cx_aload_n 1 dX10_valueNow_39 rfl ?_
        refine cx_getR (tw_R22 H) q2412 dX10_valueNow_40 ?_
        refine cx_iconst (-1) dX10_valueNow_43 cx_ic_m1 ?_
        refine cx_iload 0 dX10_valueNow_44 rfl ?_
        refine cx_isub dX10_valueNow_46 ?_
        refine cx_ldI h (tw_A22 H) dX10_valueNow_47 (fun v10 h => ?_)
        refine cx_sub (lv' := [(0, .ref (adr 60)), (1, .ref (adr c0)), (2, .int x2), (3, .int x3), (4, .int x4)]) [1, 2, 3, 4, 5] rfl ?_
        exact tw_valueNow_48_v H hc0 hr_5 M x2 x3 x4 x3 v10 _ h
      · refine cx_iload 0 dX10_valueNow_34 rfl ?_
        refine cx_goto 48 dX10_valueNow_36 rfl ?_
        refine cx_sub (lv' := [(0, .ref (adr 60)), (1, .ref (adr c0)), (2, .int x2), (3, .int x3), (4, .int x4)]) [1, 2, 3, 4, 5] rfl ?_
        exact tw_valueNow_48_v H hc0 hr_5 M x2 x3 x4 x3 v2 _ h
noncomputable def tw_valueNow_5 (N : Nat) (c0 : Nat) : Nat → cx_M → Int32 → Int32 → Int32 → Option cx_R :=
  cx_fix (fun _ _ _ _ => none) (fun r_5 => tw_valueNow_5b N c0 r_5)
theorem tw_valueNow_5_v {l : Launch} {g : cx_G} {adr : Nat → Nat} {X : cx_X} {N : Nat} {c0 : Nat} (H : tw_H g adr) (hc0 : twIA c0 = true) : ∀ (n : Nat) (M : cx_M) (x2 : Int32) (x3 : Int32) (x4 : Int32) (rs : cx_R), tw_valueNow_5 N c0 n M x2 x3 x4 = some rs → cx_V l (g) X sX10_valueNow cX10_valueNow 5 [(0, .ref (adr 60)), (1, .ref (adr c0)), (2, .int x2), (3, .int x3), (4, .int x4)] [] M 0 0 rs :=
  cx_fixI (fun (r : cx_M → Int32 → Int32 → Int32 → Option cx_R) => ∀ (M : cx_M) (x2 : Int32) (x3 : Int32) (x4 : Int32) (rs : cx_R), r M x2 x3 x4 = some rs → cx_V l (g) X sX10_valueNow cX10_valueNow 5 [(0, .ref (adr 60)), (1, .ref (adr c0)), (2, .int x2), (3, .int x3), (4, .int x4)] [] M 0 0 rs) (fun _ _ _ _ _ h => by cases h) (fun r hr M x2 x3 x4 rs h => tw_valueNow_5b_v H hc0 hr M x2 x3 x4 rs h)
noncomputable def tw_valueNow_0 (N : Nat) (c0 : Nat) (M : cx_M) (x2 : Int32) : Option cx_R :=
  tw_valueNow_5 N c0 N M x2 0 0
set_option maxRecDepth 100000 in
theorem tw_valueNow_0_v {l : Launch} {g : cx_G} {adr : Nat → Nat} {X : cx_X} {N : Nat} {c0 : Nat} (H : tw_H g adr) (hc0 : twIA c0 = true) (M : cx_M) (x2 : Int32) (rs : cx_R) (h : tw_valueNow_0 N c0 M x2 = some rs) : cx_V l (g) X sX10_valueNow cX10_valueNow 0 [(0, .ref (adr 60)), (1, .ref (adr c0)), (2, .int x2)] [] M 0 0 rs := by
  unfold tw_valueNow_0 at h
  refine cx_iconst 0 dX10_valueNow_0 cx_ic_0 ?_
  refine cx_istore_n [(3, .int 0), (0, .ref (adr 60)), (1, .ref (adr c0)), (2, .int x2)] dX10_valueNow_1 (cx_lt rfl) rfl ?_
  refine cx_iconst 0 dX10_valueNow_2 cx_ic_0 ?_
  refine cx_istore [(4, .int 0), (3, .int 0), (0, .ref (adr 60)), (1, .ref (adr c0)), (2, .int x2)] dX10_valueNow_3 (cx_lt rfl) rfl ?_
  refine cx_sub (lv' := [(0, .ref (adr 60)), (1, .ref (adr c0)), (2, .int x2), (3, .int 0), (4, .int 0)]) [2, 3, 4, 1, 0] rfl ?_
  exact tw_valueNow_5_v H hc0 N M x2 0 0 _ h
noncomputable def tw_valueNow (N : Nat) (c0 : Nat) (M : cx_M) (x2 : Int32) : Option cx_R := tw_valueNow_0 N c0 M x2
theorem tw_valueNow_m {l : Launch} {g : cx_G} {adr : Nat → Nat} {N : Nat} {c0 : Nat} (H : tw_H g adr) (hc0 : twIA c0 = true) (M : cx_M) (x2 : Int32) (rs : cx_R) (h : tw_valueNow N c0 M x2 = some rs) : cx_Met l (g) yX10_valueNow cX10_valueNow sX10_valueNow [.ref (adr 60), .ref (adr c0), .int x2] M rs :=
  cx_met (by decide +kernel) rfl rfl (lv := [(0, .ref (adr 60)), (1, .ref (adr c0)), (2, .int x2)]) rfl (cx_le rfl) (fun X => cx_sub (lv' := [(0, .ref (adr 60)), (1, .ref (adr c0)), (2, .int x2)]) [0, 1, 2] rfl (tw_valueNow_0_v H hc0 M x2 rs h))

abbrev sX10_ruleNow : cx_S := (5, RX10, cx_rI, { frames := 2, cells := 0, slots := 0, locals := 47 }, some .int, false)
noncomputable def tw_ruleNow_91 (N : Nat) (r_55 : cx_M → Int32 → Int32 → Int32 → Int32 → Option cx_R) (M : cx_M) (x1 : Int32) (x2 : Int32) (x4 : Int32) (z0 : Int32) : Option cx_R :=
  cx_let (x4 + 1) fun v1 =>
  r_55 M x1 x2 z0 v1
set_option maxRecDepth 100000 in
theorem tw_ruleNow_91_v {l : Launch} {g : cx_G} {adr : Nat → Nat} {X : cx_X} {N : Nat} {r_55 : cx_M → Int32 → Int32 → Int32 → Int32 → Option cx_R} (H : tw_H g adr) (hr_55 : ∀ (M : cx_M) (x1 : Int32) (x2 : Int32) (x3 : Int32) (x4 : Int32) (rs : cx_R), r_55 M x1 x2 x3 x4 = some rs → cx_V l (g) X sX10_ruleNow cX10_ruleNow 55 [(0, .ref (adr 60)), (1, .int x1), (2, .int x2), (3, .int x3), (4, .int x4)] [] M 0 0 rs) (M : cx_M) (x1 : Int32) (x2 : Int32) (x4 : Int32) (z0 : Int32) (rs : cx_R) (h : tw_ruleNow_91 N r_55 M x1 x2 x4 z0 = some rs) : cx_V l (g) X sX10_ruleNow cX10_ruleNow 91 [(0, .ref (adr 60)), (1, .int x1), (2, .int x2), (4, .int x4)] [.int z0] M 0 0 rs := by
  unfold tw_ruleNow_91 at h
  refine cx_istore_n [(3, .int z0), (0, .ref (adr 60)), (1, .int x1), (2, .int x2), (4, .int x4)] dX10_ruleNow_91 (cx_lt rfl) rfl ?_
  refine cx_iinc 4 1 (fun v1 => [(4, .int v1), (3, .int z0), (0, .ref (adr 60)), (1, .int x1), (2, .int x2)]) h dX10_ruleNow_92 rfl cx_ic_1 (cx_lt rfl) (fun _ => rfl) (fun v1 h => ?_)
  refine cx_goto 55 dX10_ruleNow_95 rfl ?_
  refine cx_sub (lv' := [(0, .ref (adr 60)), (1, .int x1), (2, .int x2), (3, .int z0), (4, .int v1)]) [2, 3, 4, 1, 0] rfl ?_
  exact hr_55 M x1 x2 z0 v1 _ h
noncomputable def tw_ruleNow_184 (N : Nat) (M : cx_M) (x2 : Int32) (z1 : Int32) (z2 : Int32) : Option cx_R :=
  cx_st M 27 2048 z1 z2 fun M1 =>
  cx_st M1 28 2048 x2 1 fun M2 =>
  cx_ld M2 27 2048 x2 fun v3 =>
  some (M2, v3, 0)
set_option maxRecDepth 100000 in
theorem tw_ruleNow_184_v {l : Launch} {g : cx_G} {adr : Nat → Nat} {X : cx_X} {N : Nat} (H : tw_H g adr) (M : cx_M) (x2 : Int32) (z1 : Int32) (z2 : Int32) (rs : cx_R) (h : tw_ruleNow_184 N M x2 z1 z2 = some rs) : cx_V l (g) X sX10_ruleNow cX10_ruleNow 184 [(0, .ref (adr 60)), (2, .int x2)] [.int z2, .int z1, .ref (adr 27)] M 0 0 rs := by
  unfold tw_ruleNow_184 at h
  refine cx_stI h (tw_A27 H) dX10_ruleNow_184 (fun M1 h => ?_)
  refine cx_aload_n 0 dX10_ruleNow_185 rfl ?_
  refine cx_getR (tw_R28 H) q2418 dX10_ruleNow_186 ?_
  refine cx_iload_n 1 dX10_ruleNow_189 rfl ?_
  refine cx_iconst 1 dX10_ruleNow_190 cx_ic_1 ?_
  refine cx_stZ h (tw_Z28 H) cx_v_1 dX10_ruleNow_191 (fun M2 h => ?_)
  refine cx_aload_n 0 dX10_ruleNow_192 rfl ?_
  refine cx_getR (tw_R27 H) q2417 dX10_ruleNow_193 ?_
  refine cx_iload_n 1 dX10_ruleNow_196 rfl ?_
  refine cx_ldI h (tw_A27 H) dX10_ruleNow_197 (fun v3 h => ?_)
  exact cx_iret h rfl rfl (cx_le rfl) (cx_le rfl) dX10_ruleNow_198
noncomputable def tw_ruleNow_112b (N : Nat) (r_112 : cx_M → Int32 → Int32 → Int32 → Option cx_R) (M : cx_M) (x1 : Int32) (x2 : Int32) (x4 : Int32) : Option cx_R :=
  if 4 ≤ x4 then (
    if x1 = 0 then (
      cx_get M 3 8 fun v1 =>
      cx_cal (tw_valueNow N 5 M v1) fun M2 v3 =>
      tw_ruleNow_184 N M2 x2 x2 v3)
    else (
      cx_get M 3 9 fun v4 =>
      cx_cal (tw_valueNow N 6 M v4) fun M5 v6 =>
      tw_ruleNow_184 N M5 x2 x2 v6))
  else (
    cx_ld M 22 4 x4 fun v7 =>
    cx_st M 26 8192 (((4 : Int32) * x2) + x4) v7 fun M8 =>
    cx_let (x4 + 1) fun v9 =>
    r_112 M8 x1 x2 v9)
set_option maxRecDepth 100000 in
theorem tw_ruleNow_112b_v {l : Launch} {g : cx_G} {adr : Nat → Nat} {X : cx_X} {N : Nat} {r_112 : cx_M → Int32 → Int32 → Int32 → Option cx_R} (H : tw_H g adr) (hr_112 : ∀ (M : cx_M) (x1 : Int32) (x2 : Int32) (x4 : Int32) (rs : cx_R), r_112 M x1 x2 x4 = some rs → cx_V l (g) X sX10_ruleNow cX10_ruleNow 112 [(0, .ref (adr 60)), (1, .int x1), (2, .int x2), (4, .int x4)] [] M 0 0 rs) (M : cx_M) (x1 : Int32) (x2 : Int32) (x4 : Int32) (rs : cx_R) (h : tw_ruleNow_112b N r_112 M x1 x2 x4 = some rs) : cx_V l (g) X sX10_ruleNow cX10_ruleNow 112 [(0, .ref (adr 60)), (1, .int x1), (2, .int x2), (4, .int x4)] [] M 0 0 rs := by
  unfold tw_ruleNow_112b at h
  refine cx_iload 3 dX10_ruleNow_112 rfl ?_
  refine cx_iconst 4 dX10_ruleNow_114 cx_ic_4 ?_
  refine cx_icmp_ge 142 h dX10_ruleNow_115 rfl (fun h => ?_) (fun h => ?_)
  · refine cx_aload_n 0 dX10_ruleNow_142 rfl ?_
    refine cx_getR (tw_R27 H) q2417 dX10_ruleNow_143 ?_
    refine cx_iload_n 2 dX10_ruleNow_146 rfl ?_
    refine cx_iload_n 1 dX10_ruleNow_147 rfl ?_
    refine cx_if_eq 169 h dX10_ruleNow_148 rfl (fun h => ?_) (fun h => ?_)
    · refine cx_aload_n 0 dX10_ruleNow_169 rfl ?_
      refine cx_aload_n 0 dX10_ruleNow_170 rfl ?_
      refine cx_getR (tw_R5 H) q2395 dX10_ruleNow_171 ?_
      refine cx_aload_n 0 dX10_ruleNow_174 rfl ?_
      refine cx_getR (tw_R3 H) q2393 dX10_ruleNow_175 ?_
      refine cx_bipush 8 dX10_ruleNow_178 cx_bp_8 ?_
      refine cx_ldC h (tw_A3 H) cx_cl_8 cx_vin_8_20 dX10_ruleNow_180 (fun v1 h => ?_)
      refine cx_cVi [.ref (adr 5), .int v1] [.int x2, .ref (adr 27)] h (fun rs' h' => tw_valueNow_m H (rfl : twIA 5 = true) M v1 rs' h') (tw_rc H) dX10_ruleNow_181 g_X10_290 hg_X10_290 ⟨cx_le rfl, cx_le rfl⟩ rfl ⟨rfl, rfl⟩ ⟨cx_le rfl, cx_le rfl⟩ rfl (cx_le rfl) (fun M2 v3 h => ?_)
      refine cx_sub (lv' := [(0, .ref (adr 60)), (2, .int x2)]) [0, 2] rfl ?_
      exact tw_ruleNow_184_v H M2 x2 x2 v3 _ h
    · refine cx_aload_n 0 dX10_ruleNow_151 rfl ?_
      refine cx_aload_n 0 dX10_ruleNow_152 rfl ?_
      refine cx_getR (tw_R6 H) q2396 dX10_ruleNow_153 ?_
      refine cx_aload_n 0 dX10_ruleNow_156 rfl ?_
      refine cx_getR (tw_R3 H) q2393 dX10_ruleNow_157 ?_
      refine cx_bipush 9 dX10_ruleNow_160 cx_bp_9 ?_
      refine cx_ldC h (tw_A3 H) cx_cl_9 cx_vin_9_20 dX10_ruleNow_162 (fun v4 h => ?_)
      refine cx_cVi [.ref (adr 6), .int v4] [.int x2, .ref (adr 27)] h (fun rs' h' => tw_valueNow_m H (rfl : twIA 6 = true) M v4 rs' h') (tw_rc H) dX10_ruleNow_163 g_X10_290 hg_X10_290 ⟨cx_le rfl, cx_le rfl⟩ rfl ⟨rfl, rfl⟩ ⟨cx_le rfl, cx_le rfl⟩ rfl (cx_le rfl) (fun M5 v6 h => ?_)
      refine cx_goto 184 dX10_ruleNow_166 rfl ?_
      refine cx_sub (lv' := [(0, .ref (adr 60)), (2, .int x2)]) [0, 2] rfl ?_
      exact tw_ruleNow_184_v H M5 x2 x2 v6 _ h
  · refine cx_aload_n 0 dX10_ruleNow_118 rfl ?_
    refine cx_getR (tw_R26 H) q2416 dX10_ruleNow_119 ?_
    refine cx_iconst 4 dX10_ruleNow_122 cx_ic_4 ?_
    refine cx_iload_n 2 dX10_ruleNow_123 rfl ?_
    refine cx_imul dX10_ruleNow_124 ?_
    refine cx_iload 3 dX10_ruleNow_125 rfl ?_
    refine cx_iadd dX10_ruleNow_127 ?_
    refine cx_aload_n 0 dX10_ruleNow_128 rfl ?_
    refine cx_getR (tw_R22 H) q2412 dX10_ruleNow_129 ?_
    refine cx_iload 3 dX10_ruleNow_132 rfl ?_
    refine cx_ldI h (tw_A22 H) dX10_ruleNow_134 (fun v7 h => ?_)
    refine cx_stI h (tw_A26 H) dX10_ruleNow_135 (fun M8 h => ?_)
    refine cx_iinc 3 1 (fun v9 => [(4, .int v9), (0, .ref (adr 60)), (1, .int x1), (2, .int x2)]) h dX10_ruleNow_136 rfl cx_ic_1 (cx_lt rfl) (fun _ => rfl) (fun v9 h => ?_)
    refine cx_goto 112 dX10_ruleNow_139 rfl ?_
    refine cx_sub (lv' := [(0, .ref (adr 60)), (1, .int x1), (2, .int x2), (4, .int v9)]) [1, 2, 3, 0] rfl ?_
    exact hr_112 M8 x1 x2 v9 _ h
noncomputable def tw_ruleNow_112 (N : Nat) : Nat → cx_M → Int32 → Int32 → Int32 → Option cx_R :=
  cx_fix (fun _ _ _ _ => none) (fun r_112 => tw_ruleNow_112b N r_112)
theorem tw_ruleNow_112_v {l : Launch} {g : cx_G} {adr : Nat → Nat} {X : cx_X} {N : Nat} (H : tw_H g adr) : ∀ (n : Nat) (M : cx_M) (x1 : Int32) (x2 : Int32) (x4 : Int32) (rs : cx_R), tw_ruleNow_112 N n M x1 x2 x4 = some rs → cx_V l (g) X sX10_ruleNow cX10_ruleNow 112 [(0, .ref (adr 60)), (1, .int x1), (2, .int x2), (4, .int x4)] [] M 0 0 rs :=
  cx_fixI (fun (r : cx_M → Int32 → Int32 → Int32 → Option cx_R) => ∀ (M : cx_M) (x1 : Int32) (x2 : Int32) (x4 : Int32) (rs : cx_R), r M x1 x2 x4 = some rs → cx_V l (g) X sX10_ruleNow cX10_ruleNow 112 [(0, .ref (adr 60)), (1, .int x1), (2, .int x2), (4, .int x4)] [] M 0 0 rs) (fun _ _ _ _ _ h => by cases h) (fun r hr M x1 x2 x4 rs h => tw_ruleNow_112b_v H hr M x1 x2 x4 rs h)
noncomputable def tw_ruleNow_98 (N : Nat) (M : cx_M) (x1 : Int32) (x2 : Int32) (x3 : Int32) : Option cx_R :=
  if x3 = 0 then (
    tw_ruleNow_112 N N M x1 x2 0)
  else (
    cx_ld M 27 2048 x2 fun v1 =>
    some (M, v1, 0))
set_option maxRecDepth 100000 in
theorem tw_ruleNow_98_v {l : Launch} {g : cx_G} {adr : Nat → Nat} {X : cx_X} {N : Nat} (H : tw_H g adr) (M : cx_M) (x1 : Int32) (x2 : Int32) (x3 : Int32) (rs : cx_R) (h : tw_ruleNow_98 N M x1 x2 x3 = some rs) : cx_V l (g) X sX10_ruleNow cX10_ruleNow 98 [(0, .ref (adr 60)), (1, .int x1), (2, .int x2), (3, .int x3)] [] M 0 0 rs := by
  unfold tw_ruleNow_98 at h
  refine cx_iload_n 3 dX10_ruleNow_98 rfl ?_
  refine cx_if_eq 109 h dX10_ruleNow_99 rfl (fun h => ?_) (fun h => ?_)
  · refine cx_iconst 0 dX10_ruleNow_109 cx_ic_0 ?_
    refine cx_istore [(4, .int 0), (0, .ref (adr 60)), (1, .int x1), (2, .int x2), (3, .int x3)] dX10_ruleNow_110 (cx_lt rfl) rfl ?_
    refine cx_sub (lv' := [(0, .ref (adr 60)), (1, .int x1), (2, .int x2), (4, .int 0)]) [1, 2, 3, 0] rfl ?_
    exact tw_ruleNow_112_v H N M x1 x2 0 _ h
  · refine cx_aload_n 0 dX10_ruleNow_102 rfl ?_
    refine cx_getR (tw_R27 H) q2417 dX10_ruleNow_103 ?_
    refine cx_iload_n 2 dX10_ruleNow_106 rfl ?_
    refine cx_ldI h (tw_A27 H) dX10_ruleNow_107 (fun v1 h => ?_)
    exact cx_iret h rfl rfl (cx_le rfl) (cx_le rfl) dX10_ruleNow_108
noncomputable def tw_ruleNow_55b (N : Nat) (r_55 : cx_M → Int32 → Int32 → Int32 → Int32 → Option cx_R) (M : cx_M) (x1 : Int32) (x2 : Int32) (x3 : Int32) (x4 : Int32) : Option cx_R :=
  if x3 = 0 then (
    tw_ruleNow_98 N M x1 x2 x3)
  else (
    if 4 ≤ x4 then (
      tw_ruleNow_98 N M x1 x2 x3)
    else (
      cx_ld M 26 8192 (((4 : Int32) * x2) + x4) fun v1 =>
      cx_ld M 22 4 x4 fun v2 =>
      if v1 = v2 then (
        tw_ruleNow_91 N r_55 M x1 x2 x4 1)
      else (
        tw_ruleNow_91 N r_55 M x1 x2 x4 0)))
set_option maxRecDepth 100000 in
theorem tw_ruleNow_55b_v {l : Launch} {g : cx_G} {adr : Nat → Nat} {X : cx_X} {N : Nat} {r_55 : cx_M → Int32 → Int32 → Int32 → Int32 → Option cx_R} (H : tw_H g adr) (hr_55 : ∀ (M : cx_M) (x1 : Int32) (x2 : Int32) (x3 : Int32) (x4 : Int32) (rs : cx_R), r_55 M x1 x2 x3 x4 = some rs → cx_V l (g) X sX10_ruleNow cX10_ruleNow 55 [(0, .ref (adr 60)), (1, .int x1), (2, .int x2), (3, .int x3), (4, .int x4)] [] M 0 0 rs) (M : cx_M) (x1 : Int32) (x2 : Int32) (x3 : Int32) (x4 : Int32) (rs : cx_R) (h : tw_ruleNow_55b N r_55 M x1 x2 x3 x4 = some rs) : cx_V l (g) X sX10_ruleNow cX10_ruleNow 55 [(0, .ref (adr 60)), (1, .int x1), (2, .int x2), (3, .int x3), (4, .int x4)] [] M 0 0 rs := by
  unfold tw_ruleNow_55b at h
  refine cx_iload_n 3 dX10_ruleNow_55 rfl ?_
  refine cx_if_eq 98 h dX10_ruleNow_56 rfl (fun h => ?_) (fun h => ?_)
  · refine cx_sub (lv' := [(0, .ref (adr 60)), (1, .int x1), (2, .int x2), (3, .int x3)]) [0, 1, 2, 3] rfl ?_
    exact tw_ruleNow_98_v H M x1 x2 x3 _ h
  · refine cx_iload 4 dX10_ruleNow_59 rfl ?_
    refine cx_iconst 4 dX10_ruleNow_61 cx_ic_4 ?_
    refine cx_icmp_ge 98 h dX10_ruleNow_62 rfl (fun h => ?_) (fun h => ?_)
    · refine cx_sub (lv' := [(0, .ref (adr 60)), (1, .int x1), (2, .int x2), (3, .int x3)]) [0, 1, 2, 3] rfl ?_
      exact tw_ruleNow_98_v H M x1 x2 x3 _ h
    · refine cx_aload_n 0 dX10_ruleNow_65 rfl ?_
      refine cx_getR (tw_R26 H) q2416 dX10_ruleNow_66 ?_
      refine cx_iconst 4 dX10_ruleNow_69 cx_ic_4 ?_
      refine cx_iload_n 2 dX10_ruleNow_70 rfl ?_
      refine cx_imul dX10_ruleNow_71 ?_
      refine cx_iload 4 dX10_ruleNow_72 rfl ?_
      refine cx_iadd dX10_ruleNow_74 ?_
      refine cx_ldI h (tw_A26 H) dX10_ruleNow_75 (fun v1 h => ?_)
      refine cx_aload_n 0 dX10_ruleNow_76 rfl ?_
      refine cx_getR (tw_R22 H) q2412 dX10_ruleNow_77 ?_
      refine cx_iload 4 dX10_ruleNow_80 rfl ?_
      refine cx_ldI h (tw_A22 H) dX10_ruleNow_82 (fun v2 h => ?_)
      refine cx_icmp_ne 90 h dX10_ruleNow_83 rfl (fun h => ?_) (fun h => ?_)
      · refine cx_iconst 0 dX10_ruleNow_90 cx_ic_0 ?_
        refine cx_sub (lv' := [(0, .ref (adr 60)), (1, .int x1), (2, .int x2), (4, .int x4)]) [0, 1, 2, 4] rfl ?_
        exact tw_ruleNow_91_v H hr_55 M x1 x2 x4 0 _ h
      · refine cx_iconst 1 dX10_ruleNow_86 cx_ic_1 ?_
        refine cx_goto 91 dX10_ruleNow_87 rfl ?_
        refine cx_sub (lv' := [(0, .ref (adr 60)), (1, .int x1), (2, .int x2), (4, .int x4)]) [0, 1, 2, 4] rfl ?_
        exact tw_ruleNow_91_v H hr_55 M x1 x2 x4 1 _ h
noncomputable def tw_ruleNow_55 (N : Nat) : Nat → cx_M → Int32 → Int32 → Int32 → Int32 → Option cx_R :=
  cx_fix (fun _ _ _ _ _ => none) (fun r_55 => tw_ruleNow_55b N r_55)
theorem tw_ruleNow_55_v {l : Launch} {g : cx_G} {adr : Nat → Nat} {X : cx_X} {N : Nat} (H : tw_H g adr) : ∀ (n : Nat) (M : cx_M) (x1 : Int32) (x2 : Int32) (x3 : Int32) (x4 : Int32) (rs : cx_R), tw_ruleNow_55 N n M x1 x2 x3 x4 = some rs → cx_V l (g) X sX10_ruleNow cX10_ruleNow 55 [(0, .ref (adr 60)), (1, .int x1), (2, .int x2), (3, .int x3), (4, .int x4)] [] M 0 0 rs :=
  cx_fixI (fun (r : cx_M → Int32 → Int32 → Int32 → Int32 → Option cx_R) => ∀ (M : cx_M) (x1 : Int32) (x2 : Int32) (x3 : Int32) (x4 : Int32) (rs : cx_R), r M x1 x2 x3 x4 = some rs → cx_V l (g) X sX10_ruleNow cX10_ruleNow 55 [(0, .ref (adr 60)), (1, .int x1), (2, .int x2), (3, .int x3), (4, .int x4)] [] M 0 0 rs) (fun _ _ _ _ _ _ h => by cases h) (fun r hr M x1 x2 x3 x4 rs h => tw_ruleNow_55b_v H hr M x1 x2 x3 x4 rs h)
noncomputable def tw_ruleNow_43 (N : Nat) (M : cx_M) (x1 : Int32) (z0 : Int32) (z1 : Int32) : Option cx_R :=
  cx_let (z0 + z1) fun v1 =>
  cx_ld M 28 2048 v1 fun v2 =>
  tw_ruleNow_55 N N M x1 v1 v2 0
set_option maxRecDepth 100000 in
theorem tw_ruleNow_43_v {l : Launch} {g : cx_G} {adr : Nat → Nat} {X : cx_X} {N : Nat} (H : tw_H g adr) (M : cx_M) (x1 : Int32) (z0 : Int32) (z1 : Int32) (rs : cx_R) (h : tw_ruleNow_43 N M x1 z0 z1 = some rs) : cx_V l (g) X sX10_ruleNow cX10_ruleNow 43 [(0, .ref (adr 60)), (1, .int x1)] [.int z1, .int z0] M 0 0 rs := by
  unfold tw_ruleNow_43 at h
  refine cx_iadd dX10_ruleNow_43 ?_
  refine cx_letI h (fun v1 h => ?_)
  refine cx_istore_n [(2, .int v1), (0, .ref (adr 60)), (1, .int x1)] dX10_ruleNow_44 (cx_lt rfl) rfl ?_
  refine cx_aload_n 1 dX10_ruleNow_45 rfl ?_
  refine cx_getR (tw_R28 H) q2418 dX10_ruleNow_46 ?_
  refine cx_iload_n 0 dX10_ruleNow_49 rfl ?_
  refine cx_ldZ h (tw_Z28 H) dX10_ruleNow_50 (fun v2 h => ?_)
  refine cx_istore_n [(3, .int v2), (2, .int v1), (0, .ref (adr 60)), (1, .int x1)] dX10_ruleNow_51 (cx_lt rfl) rfl ?_
  refine cx_iconst 0 dX10_ruleNow_52 cx_ic_0 ?_
  refine cx_istore [(4, .int 0), (3, .int v2), (2, .int v1), (0, .ref (adr 60)), (1, .int x1)] dX10_ruleNow_53 (cx_lt rfl) rfl ?_
  refine cx_sub (lv' := [(0, .ref (adr 60)), (1, .int x1), (2, .int v1), (3, .int v2), (4, .int 0)]) [3, 4, 2, 1, 0] rfl ?_
  exact tw_ruleNow_55_v H N M x1 v1 v2 0 _ h
noncomputable def tw_ruleNow_4b (N : Nat) (r_4 : cx_M → Int32 → Int32 → Int32 → Option cx_R) (M : cx_M) (x1 : Int32) (x2 : Int32) (x3 : Int32) : Option cx_R :=
  if 4 ≤ x3 then (
    if x1 = 0 then (
      tw_ruleNow_43 N M x1 (x2 &&& 1023) 0)
    else (
      tw_ruleNow_43 N M x1 (x2 &&& 1023) 1024))
  else (
    cx_ld M 22 4 x3 fun v1 =>
    cx_let (((31 : Int32) * x2) + v1) fun v2 =>
    cx_let (x3 + 1) fun v3 =>
    r_4 M x1 v2 v3)
set_option maxRecDepth 100000 in
theorem tw_ruleNow_4b_v {l : Launch} {g : cx_G} {adr : Nat → Nat} {X : cx_X} {N : Nat} {r_4 : cx_M → Int32 → Int32 → Int32 → Option cx_R} (H : tw_H g adr) (hr_4 : ∀ (M : cx_M) (x1 : Int32) (x2 : Int32) (x3 : Int32) (rs : cx_R), r_4 M x1 x2 x3 = some rs → cx_V l (g) X sX10_ruleNow cX10_ruleNow 4 [(0, .ref (adr 60)), (1, .int x1), (2, .int x2), (3, .int x3)] [] M 0 0 rs) (M : cx_M) (x1 : Int32) (x2 : Int32) (x3 : Int32) (rs : cx_R) (h : tw_ruleNow_4b N r_4 M x1 x2 x3 = some rs) : cx_V l (g) X sX10_ruleNow cX10_ruleNow 4 [(0, .ref (adr 60)), (1, .int x1), (2, .int x2), (3, .int x3)] [] M 0 0 rs := by
  unfold tw_ruleNow_4b at h
  refine cx_iload_n 3 dX10_ruleNow_4 rfl ?_
  refine cx_iconst 4 dX10_ruleNow_5 cx_ic_4 ?_
  refine cx_icmp_ge 27 h dX10_ruleNow_6 rfl (fun h => ?_) (fun h => ?_)
  · refine cx_iload_n 2 dX10_ruleNow_27 rfl ?_
    refine cx_sipush 1023 dX10_ruleNow_28 cx_sp_1023 ?_
    refine cx_iand dX10_ruleNow_31 ?_
    refine cx_iload_n 1 dX10_ruleNow_32 rfl ?_
    refine cx_if_eq 42 h dX10_ruleNow_33 rfl (fun h => ?_) (fun h => ?_)
    · refine cx_iconst 0 dX10_ruleNow_42 cx_ic_0 ?_
      refine cx_sub (lv' := [(0, .ref (adr 60)), (1, .int x1)]) [0, 1] rfl ?_
      exact tw_ruleNow_43_v H M x1 (x2 &&& 1023) 0 _ h
    · refine cx_sipush 1024 dX10_ruleNow_36 cx_sp_1024 ?_
      refine cx_goto 43 dX10_ruleNow_39 rfl ?_
      refine cx_sub (lv' := [(0, .ref (adr 60)), (1, .int x1)]) [0, 1] rfl ?_
      exact tw_ruleNow_43_v H M x1 (x2 &&& 1023) 1024 _ h
  · refine cx_bipush 31 dX10_ruleNow_9 cx_bp_31 ?_
    refine cx_iload_n 2 dX10_ruleNow_11 rfl ?_
    refine cx_imul dX10_ruleNow_12 ?_
    refine cx_aload_n 0 dX10_ruleNow_13 rfl ?_
    refine cx_getR (tw_R22 H) q2412 dX10_ruleNow_14 ?_
    refine cx_iload_n 3 dX10_ruleNow_17 rfl ?_
    refine cx_ldI h (tw_A22 H) dX10_ruleNow_18 (fun v1 h => ?_)
    refine cx_iadd dX10_ruleNow_19 ?_
    refine cx_letI h (fun v2 h => ?_)
    refine cx_istore_n [(2, .int v2), (0, .ref (adr 60)), (1, .int x1), (3, .int x3)] dX10_ruleNow_20 (cx_lt rfl) rfl ?_
    refine cx_iinc 3 1 (fun v3 => [(3, .int v3), (2, .int v2), (0, .ref (adr 60)), (1, .int x1)]) h dX10_ruleNow_21 rfl cx_ic_1 (cx_lt rfl) (fun _ => rfl) (fun v3 h => ?_)
    refine cx_goto 4 dX10_ruleNow_24 rfl ?_
    refine cx_sub (lv' := [(0, .ref (adr 60)), (1, .int x1), (2, .int v2), (3, .int v3)]) [2, 3, 1, 0] rfl ?_
    exact hr_4 M x1 v2 v3 _ h
noncomputable def tw_ruleNow_4 (N : Nat) : Nat → cx_M → Int32 → Int32 → Int32 → Option cx_R :=
  cx_fix (fun _ _ _ _ => none) (fun r_4 => tw_ruleNow_4b N r_4)
theorem tw_ruleNow_4_v {l : Launch} {g : cx_G} {adr : Nat → Nat} {X : cx_X} {N : Nat} (H : tw_H g adr) : ∀ (n : Nat) (M : cx_M) (x1 : Int32) (x2 : Int32) (x3 : Int32) (rs : cx_R), tw_ruleNow_4 N n M x1 x2 x3 = some rs → cx_V l (g) X sX10_ruleNow cX10_ruleNow 4 [(0, .ref (adr 60)), (1, .int x1), (2, .int x2), (3, .int x3)] [] M 0 0 rs :=
  cx_fixI (fun (r : cx_M → Int32 → Int32 → Int32 → Option cx_R) => ∀ (M : cx_M) (x1 : Int32) (x2 : Int32) (x3 : Int32) (rs : cx_R), r M x1 x2 x3 = some rs → cx_V l (g) X sX10_ruleNow cX10_ruleNow 4 [(0, .ref (adr 60)), (1, .int x1), (2, .int x2), (3, .int x3)] [] M 0 0 rs) (fun _ _ _ _ _ h => by cases h) (fun r hr M x1 x2 x3 rs h => tw_ruleNow_4b_v H hr M x1 x2 x3 rs h)
noncomputable def tw_ruleNow_0 (N : Nat) (M : cx_M) (x1 : Int32) : Option cx_R :=
  tw_ruleNow_4 N N M x1 0 0
set_option maxRecDepth 100000 in
theorem tw_ruleNow_0_v {l : Launch} {g : cx_G} {adr : Nat → Nat} {X : cx_X} {N : Nat} (H : tw_H g adr) (M : cx_M) (x1 : Int32) (rs : cx_R) (h : tw_ruleNow_0 N M x1 = some rs) : cx_V l (g) X sX10_ruleNow cX10_ruleNow 0 [(0, .ref (adr 60)), (1, .int x1)] [] M 0 0 rs := by
  unfold tw_ruleNow_0 at h
  refine cx_iconst 0 dX10_ruleNow_0 cx_ic_0 ?_
  refine cx_istore_n [(2, .int 0), (0, .ref (adr 60)), (1, .int x1)] dX10_ruleNow_1 (cx_lt rfl) rfl ?_
  refine cx_iconst 0 dX10_ruleNow_2 cx_ic_0 ?_
  refine cx_istore_n [(3, .int 0), (2, .int 0), (0, .ref (adr 60)), (1, .int x1)] dX10_ruleNow_3 (cx_lt rfl) rfl ?_
  refine cx_sub (lv' := [(0, .ref (adr 60)), (1, .int x1), (2, .int 0), (3, .int 0)]) [2, 3, 1, 0] rfl ?_
  exact tw_ruleNow_4_v H N M x1 0 0 _ h
noncomputable def tw_ruleNow (N : Nat) (M : cx_M) (x1 : Int32) : Option cx_R := tw_ruleNow_0 N M x1
theorem tw_ruleNow_m {l : Launch} {g : cx_G} {adr : Nat → Nat} {N : Nat} (H : tw_H g adr) (M : cx_M) (x1 : Int32) (rs : cx_R) (h : tw_ruleNow N M x1 = some rs) : cx_Met l (g) yX10_ruleNow cX10_ruleNow sX10_ruleNow [.ref (adr 60), .int x1] M rs :=
  cx_met (by decide +kernel) rfl rfl (lv := [(0, .ref (adr 60)), (1, .int x1)]) rfl (cx_le rfl) (fun X => cx_sub (lv' := [(0, .ref (adr 60)), (1, .int x1)]) [0, 1] rfl (tw_ruleNow_0_v H M x1 rs h))

abbrev sX10_within : cx_S := (3, RX10, cx_rI, { frames := 1, cells := 0, slots := 0, locals := 14 }, some .int, false)
noncomputable def tw_within_0 (N : Nat) (M : cx_M) (x0 : Int32) (x1 : Int32) (x2 : Int32) : Option cx_R :=
  some (M, cx_max x1 (cx_min x2 x0), 0)
set_option maxRecDepth 100000 in
theorem tw_within_0_v {l : Launch} {g : cx_G} {adr : Nat → Nat} {X : cx_X} {N : Nat} (H : tw_H g adr) (M : cx_M) (x0 : Int32) (x1 : Int32) (x2 : Int32) (rs : cx_R) (h : tw_within_0 N M x0 x1 x2 = some rs) : cx_V l (g) X sX10_within cX10_within 0 [(0, .int x0), (1, .int x1), (2, .int x2)] [] M 0 0 rs := by
  unfold tw_within_0 at h
  refine cx_iload_n 1 dX10_within_0 rfl ?_
  refine cx_iload_n 2 dX10_within_1 rfl ?_
  refine cx_iload_n 0 dX10_within_2 rfl ?_
  refine cx_mmin dX10_within_3 q2602 (cx_le rfl) (cx_le rfl) (cx_le rfl) (cx_le rfl) ?_
  refine cx_mmax dX10_within_6 q2694 (cx_le rfl) (cx_le rfl) (cx_le rfl) (cx_le rfl) ?_
  exact cx_iret h rfl rfl (cx_le rfl) (cx_le rfl) dX10_within_9
noncomputable def tw_within (N : Nat) (M : cx_M) (x0 : Int32) (x1 : Int32) (x2 : Int32) : Option cx_R := tw_within_0 N M x0 x1 x2
theorem tw_within_m {l : Launch} {g : cx_G} {adr : Nat → Nat} {N : Nat} (H : tw_H g adr) (M : cx_M) (x0 : Int32) (x1 : Int32) (x2 : Int32) (rs : cx_R) (h : tw_within N M x0 x1 x2 = some rs) : cx_Met l (g) yX10_within cX10_within sX10_within [.int x0, .int x1, .int x2] M rs :=
  cx_met (by decide +kernel) rfl rfl (lv := [(0, .int x0), (1, .int x1), (2, .int x2)]) rfl (cx_le rfl) (fun X => cx_sub (lv' := [(0, .int x0), (1, .int x1), (2, .int x2)]) [0, 1, 2] rfl (tw_within_0_v H M x0 x1 x2 rs h))

abbrev sX10_isOf : cx_S := (2, RX10, cx_rI, { frames := 0, cells := 0, slots := 0, locals := 0 }, some .boolean, false)
noncomputable def tw_isOf_0 (N : Nat) (M : cx_M) (x0 : Int32) (x1 : Int32) : Option cx_R :=
  if ((x0 >>> (x1 &&& 31)) &&& 1) = 1 then (
    some (M, 1, 0))
  else (
    some (M, 0, 0))
set_option maxRecDepth 100000 in
theorem tw_isOf_0_v {l : Launch} {g : cx_G} {adr : Nat → Nat} {X : cx_X} {N : Nat} (H : tw_H g adr) (M : cx_M) (x0 : Int32) (x1 : Int32) (rs : cx_R) (h : tw_isOf_0 N M x0 x1 = some rs) : cx_V l (g) X sX10_isOf cX10_isOf 0 [(0, .int x0), (1, .int x1)] [] M 0 0 rs := by
  unfold tw_isOf_0 at h
  refine cx_iload_n 0 dX10_isOf_0 rfl ?_
  refine cx_iload_n 1 dX10_isOf_1 rfl ?_
  refine cx_ishr dX10_isOf_2 ?_
  refine cx_iconst 1 dX10_isOf_3 cx_ic_1 ?_
  refine cx_iand dX10_isOf_4 ?_
  refine cx_iconst 1 dX10_isOf_5 cx_ic_1 ?_
  refine cx_icmp_ne 13 h dX10_isOf_6 rfl (fun h => ?_) (fun h => ?_)
  · refine cx_iconst 0 dX10_isOf_13 cx_ic_0 ?_
    exact cx_zret h cx_z_0 rfl rfl (cx_le rfl) (cx_le rfl) dX10_isOf_14
  · refine cx_iconst 1 dX10_isOf_9 cx_ic_1 ?_
    refine cx_goto 14 dX10_isOf_10 rfl ?_
    exact cx_zret h cx_z_1 rfl rfl (cx_le rfl) (cx_le rfl) dX10_isOf_14
noncomputable def tw_isOf (N : Nat) (M : cx_M) (x0 : Int32) (x1 : Int32) : Option cx_R := tw_isOf_0 N M x0 x1
theorem tw_isOf_m {l : Launch} {g : cx_G} {adr : Nat → Nat} {N : Nat} (H : tw_H g adr) (M : cx_M) (x0 : Int32) (x1 : Int32) (rs : cx_R) (h : tw_isOf N M x0 x1 = some rs) : cx_Met l (g) yX10_isOf cX10_isOf sX10_isOf [.int x0, .int x1] M rs :=
  cx_met (by decide +kernel) rfl rfl (lv := [(0, .int x0), (1, .int x1)]) rfl (cx_le rfl) (fun X => cx_sub (lv' := [(0, .int x0), (1, .int x1)]) [0, 1] rfl (tw_isOf_0_v H M x0 x1 rs h))

abbrev sX10_isLost : cx_S := (1, RX10, cx_rI, { frames := 3, cells := 0, slots := 0, locals := 71 }, some .boolean, false)
noncomputable def tw_isLost_74 (N : Nat) (M : cx_M) : Option cx_R :=
  cx_get M 8 31 fun v1 =>
  if v1 = 40 then (
    some (M, 1, 0))
  else (
    some (M, 0, 0))
set_option maxRecDepth 100000 in
theorem tw_isLost_74_v {l : Launch} {g : cx_G} {adr : Nat → Nat} {X : cx_X} {N : Nat} (H : tw_H g adr) (M : cx_M) (rs : cx_R) (h : tw_isLost_74 N M = some rs) : cx_V l (g) X sX10_isLost cX10_isLost 74 [(0, .ref (adr 60))] [] M 0 0 rs := by
  unfold tw_isLost_74 at h
  refine cx_aload_n 0 dX10_isLost_74 rfl ?_
  refine cx_getR (tw_R8 H) q2398 dX10_isLost_75 ?_
  refine cx_bipush 31 dX10_isLost_78 cx_bp_31 ?_
  refine cx_ldC h (tw_A8 H) cx_cl_31 cx_vin_31_665 dX10_isLost_80 (fun v1 h => ?_)
  refine cx_bipush 40 dX10_isLost_81 cx_bp_40 ?_
  refine cx_icmp_ne 90 h dX10_isLost_83 rfl (fun h => ?_) (fun h => ?_)
  · refine cx_iconst 0 dX10_isLost_90 cx_ic_0 ?_
    exact cx_zret h cx_z_0 rfl rfl (cx_le rfl) (cx_le rfl) dX10_isLost_91
  · refine cx_iconst 1 dX10_isLost_86 cx_ic_1 ?_
    refine cx_goto 91 dX10_isLost_87 rfl ?_
    exact cx_zret h cx_z_1 rfl rfl (cx_le rfl) (cx_le rfl) dX10_isLost_91
noncomputable def tw_isLost_56 (N : Nat) (M : cx_M) : Option cx_R :=
  cx_get M 3 9 fun v1 =>
  if v1 ≤ 0 then (
    tw_isLost_74 N M)
  else (
    cx_cal (tw_ruleNow N M 1) fun M2 v3 =>
    if 0 < v3 then (
      some (M2, 1, 0))
    else (
      tw_isLost_74 N M2))
set_option maxRecDepth 100000 in
theorem tw_isLost_56_v {l : Launch} {g : cx_G} {adr : Nat → Nat} {X : cx_X} {N : Nat} (H : tw_H g adr) (M : cx_M) (rs : cx_R) (h : tw_isLost_56 N M = some rs) : cx_V l (g) X sX10_isLost cX10_isLost 56 [(0, .ref (adr 60))] [] M 0 0 rs := by
  unfold tw_isLost_56 at h
  refine cx_aload_n 0 dX10_isLost_56 rfl ?_
  refine cx_getR (tw_R3 H) q2393 dX10_isLost_57 ?_
  refine cx_bipush 9 dX10_isLost_60 cx_bp_9 ?_
  refine cx_ldC h (tw_A3 H) cx_cl_9 cx_vin_9_20 dX10_isLost_62 (fun v1 h => ?_)
  refine cx_if_le 74 h dX10_isLost_63 rfl (fun h => ?_) (fun h => ?_)
  · exact tw_isLost_74_v H M _ h
  · refine cx_aload_n 0 dX10_isLost_66 rfl ?_
    refine cx_iconst 1 dX10_isLost_67 cx_ic_1 ?_
    refine cx_cVi [.int 1] [] h (fun rs' h' => tw_ruleNow_m H M 1 rs' h') (tw_rc H) dX10_isLost_68 g_X10_304 hg_X10_304 ⟨cx_le rfl, cx_le rfl⟩ rfl ⟨rfl, rfl⟩ ⟨cx_le rfl, cx_le rfl⟩ rfl (cx_le rfl) (fun M2 v3 h => ?_)
    refine cx_if_gt 86 h dX10_isLost_71 rfl (fun h => ?_) (fun h => ?_)
    · refine cx_iconst 1 dX10_isLost_86 cx_ic_1 ?_
      refine cx_goto 91 dX10_isLost_87 rfl ?_
      exact cx_zret h cx_z_1 rfl rfl (cx_le rfl) (cx_le rfl) dX10_isLost_91
    · exact tw_isLost_74_v H M2 _ h
noncomputable def tw_isLost_0 (N : Nat) (M : cx_M) : Option cx_R :=
  cx_get M 60 29 fun v1 =>
  if v1 ≤ 0 then (
    cx_get M 8 25 fun v2 =>
    if v2 ≤ 0 then (
      tw_isLost_56 N M)
    else (
      cx_get M 8 25 fun v3 =>
      cx_put M 8 25 (v3 - 1) fun M4 =>
      some (M4, 1, 0)))
  else (
    cx_get M 60 29 fun v5 =>
    cx_put M 60 29 (v5 - 1) fun M6 =>
    cx_get M6 60 30 fun v7 =>
    cx_get M6 60 29 fun v8 =>
    cx_cal (tw_isOf N M6 v7 v8) fun M9 v10 =>
    if v10 = 0 then (
      tw_isLost_56 N M9)
    else (
      some (M9, 1, 0)))
set_option maxRecDepth 100000 in
theorem tw_isLost_0_v {l : Launch} {g : cx_G} {adr : Nat → Nat} {X : cx_X} {N : Nat} (H : tw_H g adr) (M : cx_M) (rs : cx_R) (h : tw_isLost_0 N M = some rs) : cx_V l (g) X sX10_isLost cX10_isLost 0 [(0, .ref (adr 60))] [] M 0 0 rs := by
  unfold tw_isLost_0 at h
  refine cx_aload_n 0 dX10_isLost_0 rfl ?_
  refine cx_getI h (tw_F29 H) q2419 dX10_isLost_1 (fun v1 h => ?_)
  refine cx_if_le 33 h dX10_isLost_4 rfl (fun h => ?_) (fun h => ?_)
  · refine cx_aload_n 0 dX10_isLost_33 rfl ?_
    refine cx_getR (tw_R8 H) q2398 dX10_isLost_34 ?_
    refine cx_bipush 25 dX10_isLost_37 cx_bp_25 ?_
    refine cx_ldC h (tw_A8 H) cx_cl_25 cx_vin_25_665 dX10_isLost_39 (fun v2 h => ?_)
    refine cx_if_le 56 h dX10_isLost_40 rfl (fun h => ?_) (fun h => ?_)
    · exact tw_isLost_56_v H M _ h
    · refine cx_aload_n 0 dX10_isLost_43 rfl ?_
      refine cx_getR (tw_R8 H) q2398 dX10_isLost_44 ?_
      refine cx_bipush 25 dX10_isLost_47 cx_bp_25 ?_
      refine cx_dup2 dX10_isLost_49 rfl rfl ?_
      refine cx_ldC h (tw_A8 H) cx_cl_25 cx_vin_25_665 dX10_isLost_50 (fun v3 h => ?_)
      refine cx_iconst 1 dX10_isLost_51 cx_ic_1 ?_
      refine cx_isub dX10_isLost_52 ?_
      refine cx_stC h (tw_A8 H) cx_cl_25 cx_vin_25_665 dX10_isLost_53 (fun M4 h => ?_)
      refine cx_iconst 1 dX10_isLost_54 cx_ic_1 ?_
      exact cx_zret h cx_z_1 rfl rfl (cx_le rfl) (cx_le rfl) dX10_isLost_55
  · refine cx_aload_n 0 dX10_isLost_7 rfl ?_
    refine cx_dup dX10_isLost_8 rfl ?_
    refine cx_getI h (tw_F29 H) q2419 dX10_isLost_9 (fun v5 h => ?_)
    refine cx_iconst 1 dX10_isLost_12 cx_ic_1 ?_
    refine cx_isub dX10_isLost_13 ?_
    refine cx_putI h (tw_F29 H) rfl rfl rfl q2419 dX10_isLost_14 (fun M6 h => ?_)
    refine cx_aload_n 0 dX10_isLost_17 rfl ?_
    refine cx_getI h (tw_F30 H) q2420 dX10_isLost_18 (fun v7 h => ?_)
    refine cx_aload_n 0 dX10_isLost_21 rfl ?_
    refine cx_getI h (tw_F29 H) q2419 dX10_isLost_22 (fun v8 h => ?_)
    refine cx_cSi [.int v7, .int v8] [] h (fun rs' h' => tw_isOf_m H M6 v7 v8 rs' h') dX10_isLost_25 g_X10_240 hg_X10_240 ⟨cx_le rfl, cx_le rfl⟩ rfl ⟨rfl, rfl⟩ ⟨cx_le rfl, cx_le rfl⟩ rfl (cx_le rfl) (fun M9 v10 h => ?_)
    refine cx_if_eq 56 h dX10_isLost_28 rfl (fun h => ?_) (fun h => ?_)
    · exact tw_isLost_56_v H M9 _ h
    · refine cx_iconst 1 dX10_isLost_31 cx_ic_1 ?_
      exact cx_zret h cx_z_1 rfl rfl (cx_le rfl) (cx_le rfl) dX10_isLost_32
noncomputable def tw_isLost (N : Nat) (M : cx_M) : Option cx_R := tw_isLost_0 N M
theorem tw_isLost_m {l : Launch} {g : cx_G} {adr : Nat → Nat} {N : Nat} (H : tw_H g adr) (M : cx_M) (rs : cx_R) (h : tw_isLost N M = some rs) : cx_Met l (g) yX10_isLost cX10_isLost sX10_isLost [.ref (adr 60)] M rs :=
  cx_met (by decide +kernel) rfl rfl (lv := [(0, .ref (adr 60))]) rfl (cx_le rfl) (fun X => cx_sub (lv' := [(0, .ref (adr 60))]) [0] rfl (tw_isLost_0_v H M rs h))

abbrev sX10_send : cx_S := (3, RX10, cx_rV, { frames := 4, cells := 0, slots := 0, locals := 91 }, none, false)
noncomputable def tw_send_174 (N : Nat) (M : cx_M) (x1 : Int32) : Option cx_R :=
  cx_put M 8 24 x1 fun M1 =>
  cx_get M1 8 2 fun v2 =>
  cx_put M1 8 2 (v2 + 1) fun M3 =>
  some (M3, 0, 0)
set_option maxRecDepth 100000 in
theorem tw_send_174_v {l : Launch} {g : cx_G} {adr : Nat → Nat} {X : cx_X} {N : Nat} (H : tw_H g adr) (M : cx_M) (x1 : Int32) (rs : cx_R) (h : tw_send_174 N M x1 = some rs) : cx_V l (g) X sX10_send cX10_send 174 [(0, .ref (adr 60)), (1, .int x1)] [] M 0 0 rs := by
  unfold tw_send_174 at h
  refine cx_aload_n 0 dX10_send_174 rfl ?_
  refine cx_getR (tw_R8 H) q2398 dX10_send_175 ?_
  refine cx_bipush 24 dX10_send_178 cx_bp_24 ?_
  refine cx_iload_n 1 dX10_send_180 rfl ?_
  refine cx_stC h (tw_A8 H) cx_cl_24 cx_vin_24_665 dX10_send_181 (fun M1 h => ?_)
  refine cx_aload_n 0 dX10_send_182 rfl ?_
  refine cx_getR (tw_R8 H) q2398 dX10_send_183 ?_
  refine cx_iconst 2 dX10_send_186 cx_ic_2 ?_
  refine cx_dup2 dX10_send_187 rfl rfl ?_
  refine cx_ldC h (tw_A8 H) cx_cl_2 cx_vin_2_665 dX10_send_188 (fun v2 h => ?_)
  refine cx_iconst 1 dX10_send_189 cx_ic_1 ?_
  refine cx_iadd dX10_send_190 ?_
  refine cx_stC h (tw_A8 H) cx_cl_2 cx_vin_2_665 dX10_send_191 (fun M3 h => ?_)
  exact cx_vret h rfl rfl (cx_le rfl) (cx_le rfl) dX10_send_192
noncomputable def tw_send_75 (N : Nat) (M : cx_M) (z0 : Int32) : Option cx_R :=
  cx_cal (tw_isLost N M) fun M1 v2 =>
  if v2 = 0 then (
    cx_get M1 8 31 fun v3 =>
    cx_let ((33 : Int32) + ((3 : Int32) * v3)) fun v4 =>
    cx_get M1 8 2 fun v5 =>
    cx_st M1 8 665 v4 v5 fun M6 =>
    cx_get M6 8 0 fun v7 =>
    cx_get M6 8 26 fun v8 =>
    cx_st M6 8 665 (v4 + 1) ((v7 + z0) + v8) fun M9 =>
    cx_get M9 8 0 fun v10 =>
    cx_st M9 8 665 (v4 + 2) (v10 &&& 255) fun M11 =>
    cx_get M11 8 31 fun v12 =>
    cx_put M11 8 31 (v12 + 1) fun M13 =>
    tw_send_174 N M13 z0)
  else (
    cx_get M1 8 3 fun v14 =>
    cx_put M1 8 3 (v14 + 1) fun M15 =>
    tw_send_174 N M15 z0)
set_option maxRecDepth 100000 in
theorem tw_send_75_v {l : Launch} {g : cx_G} {adr : Nat → Nat} {X : cx_X} {N : Nat} (H : tw_H g adr) (M : cx_M) (z0 : Int32) (rs : cx_R) (h : tw_send_75 N M z0 = some rs) : cx_V l (g) X sX10_send cX10_send 75 [(0, .ref (adr 60))] [.int z0] M 0 0 rs := by
  unfold tw_send_75 at h
  refine cx_istore_n [(1, .int z0), (0, .ref (adr 60))] dX10_send_75 (cx_lt rfl) rfl ?_
  refine cx_aload_n 1 dX10_send_76 rfl ?_
  refine cx_cVi [] [] h (fun rs' h' => tw_isLost_m H M rs' h') (tw_rc H) dX10_send_77 g_X10_311 hg_X10_311 ⟨cx_le rfl, cx_le rfl⟩ rfl ⟨rfl, rfl⟩ ⟨cx_le rfl, cx_le rfl⟩ rfl (cx_le rfl) (fun M1 v2 h => ?_)
  refine cx_if_eq 96 h dX10_send_80 rfl (fun h => ?_) (fun h => ?_)
  · refine cx_bipush 33 dX10_send_96 cx_bp_33 ?_
    refine cx_iconst 3 dX10_send_98 cx_ic_3 ?_
    refine cx_aload_n 1 dX10_send_99 rfl ?_
    refine cx_getR (tw_R8 H) q2398 dX10_send_100 ?_
    refine cx_bipush 31 dX10_send_103 cx_bp_31 ?_
    refine cx_ldC h (tw_A8 H) cx_cl_31 cx_vin_31_665 dX10_send_105 (fun v3 h => ?_)
    refine cx_imul dX10_send_106 ?_
    refine cx_iadd dX10_send_107 ?_
    refine cx_letI h (fun v4 h => ?_)
    refine cx_istore_n [(2, .int v4), (1, .int z0), (0, .ref (adr 60))] dX10_send_108 (cx_lt rfl) rfl ?_
    refine cx_aload_n 2 dX10_send_109 rfl ?_
    refine cx_getR (tw_R8 H) q2398 dX10_send_110 ?_
    refine cx_iload_n 0 dX10_send_113 rfl ?_
    refine cx_aload_n 2 dX10_send_114 rfl ?_
    refine cx_getR (tw_R8 H) q2398 dX10_send_115 ?_
    refine cx_iconst 2 dX10_send_118 cx_ic_2 ?_
    refine cx_ldC h (tw_A8 H) cx_cl_2 cx_vin_2_665 dX10_send_119 (fun v5 h => ?_)
    refine cx_stI h (tw_A8 H) dX10_send_120 (fun M6 h => ?_)
    refine cx_aload_n 2 dX10_send_121 rfl ?_
    refine cx_getR (tw_R8 H) q2398 dX10_send_122 ?_
    refine cx_iload_n 0 dX10_send_125 rfl ?_
    refine cx_iconst 1 dX10_send_126 cx_ic_1 ?_
    refine cx_iadd dX10_send_127 ?_
    refine cx_aload_n 2 dX10_send_128 rfl ?_
    refine cx_getR (tw_R8 H) q2398 dX10_send_129 ?_
    refine cx_iconst 0 dX10_send_132 cx_ic_0 ?_
    refine cx_ldC h (tw_A8 H) cx_cl_0 cx_vin_0_665 dX10_send_133 (fun v7 h => ?_)
    refine cx_iload_n 1 dX10_send_134 rfl ?_
    refine cx_iadd dX10_send_135 ?_
    refine cx_aload_n 2 dX10_send_136 rfl ?_
    refine cx_getR (tw_R8 H) q2398 dX10_send_137 ?_
    refine cx_bipush 26 dX10_send_140 cx_bp_26 ?_
    refine cx_ldC h (tw_A8 H) cx_cl_26 cx_vin_26_665 dX10_send_142 (fun v8 h => ?_)
    refine cx_iadd dX10_send_143 ?_
    refine cx_stI h (tw_A8 H) dX10_send_144 (fun M9 h => ?_)
    refine cx_aload_n 2 dX10_send_145 rfl ?_
    refine cx_getR (tw_R8 H) q2398 dX10_send_146 ?_
    refine cx_iload_n 0 dX10_send_149 rfl ?_
    refine cx_iconst 2 dX10_send_150 cx_ic_2 ?_
    refine cx_iadd dX10_send_151 ?_
    refine cx_aload_n 2 dX10_send_152 rfl ?_
    refine cx_getR (tw_R8 H) q2398 dX10_send_153 ?_
    refine cx_iconst 0 dX10_send_156 cx_ic_0 ?_
    refine cx_ldC h (tw_A8 H) cx_cl_0 cx_vin_0_665 dX10_send_157 (fun v10 h => ?_)
    refine cx_sipush 255 dX10_send_158 cx_sp_255 ?_
    refine cx_iand dX10_send_161 ?_
    refine cx_stI h (tw_A8 H) dX10_send_162 (fun M11 h => ?_)
    refine cx_aload_n 2 dX10_send_163 rfl ?_
    refine cx_getR (tw_R8 H) q2398 dX10_send_164 ?_
    refine cx_bipush 31 dX10_send_167 cx_bp_31 ?_
    refine cx_dup2 dX10_send_169 rfl rfl ?_
    refine cx_ldC h (tw_A8 H) cx_cl_31 cx_vin_31_665 dX10_send_170 (fun v12 h => ?_)
    refine cx_iconst 1 dX10_send_171 cx_ic_1 ?_
    refine cx_iadd dX10_send_172 ?_
    refine cx_stC h (tw_A8 H) cx_cl_31 cx_vin_31_665 dX10_send_173 (fun M13 h => ?_)
    refine cx_sub (lv' := [(0, .ref (adr 60)), (1, .int z0)]) [2, 1] rfl ?_
    exact tw_send_174_v H M13 z0 _ h
  · refine cx_aload_n 1 dX10_send_83 rfl ?_
    refine cx_getR (tw_R8 H) q2398 dX10_send_84 ?_
    refine cx_iconst 3 dX10_send_87 cx_ic_3 ?_
    refine cx_dup2 dX10_send_88 rfl rfl ?_
    refine cx_ldC h (tw_A8 H) cx_cl_3 cx_vin_3_665 dX10_send_89 (fun v14 h => ?_)
    refine cx_iconst 1 dX10_send_90 cx_ic_1 ?_
    refine cx_iadd dX10_send_91 ?_
    refine cx_stC h (tw_A8 H) cx_cl_3 cx_vin_3_665 dX10_send_92 (fun M15 h => ?_)
    refine cx_goto 174 dX10_send_93 rfl ?_
    refine cx_sub (lv' := [(0, .ref (adr 60)), (1, .int z0)]) [1, 0] rfl ?_
    exact tw_send_174_v H M15 z0 _ h
noncomputable def tw_send_0 (N : Nat) (M : cx_M) : Option cx_R :=
  cx_get M 8 2 fun v1 =>
  cx_put M 22 0 v1 fun M2 =>
  cx_get M2 8 0 fun v3 =>
  cx_put M2 22 1 v3 fun M4 =>
  cx_get M4 8 24 fun v5 =>
  cx_put M4 22 2 v5 fun M6 =>
  cx_get M6 8 31 fun v7 =>
  cx_put M6 22 3 v7 fun M8 =>
  cx_get M8 3 8 fun v9 =>
  if v9 = 0 then (
    tw_send_75 N M8 3)
  else (
    cx_cal (tw_ruleNow N M8 0) fun M10 v11 =>
    cx_cal (tw_within N M10 v11 0 60) fun M12 v13 =>
    tw_send_75 N M12 v13)
set_option maxRecDepth 100000 in
theorem tw_send_0_v {l : Launch} {g : cx_G} {adr : Nat → Nat} {X : cx_X} {N : Nat} (H : tw_H g adr) (M : cx_M) (rs : cx_R) (h : tw_send_0 N M = some rs) : cx_V l (g) X sX10_send cX10_send 0 [(0, .ref (adr 60))] [] M 0 0 rs := by
  unfold tw_send_0 at h
  refine cx_aload_n 0 dX10_send_0 rfl ?_
  refine cx_getR (tw_R22 H) q2412 dX10_send_1 ?_
  refine cx_iconst 0 dX10_send_4 cx_ic_0 ?_
  refine cx_aload_n 0 dX10_send_5 rfl ?_
  refine cx_getR (tw_R8 H) q2398 dX10_send_6 ?_
  refine cx_iconst 2 dX10_send_9 cx_ic_2 ?_
  refine cx_ldC h (tw_A8 H) cx_cl_2 cx_vin_2_665 dX10_send_10 (fun v1 h => ?_)
  refine cx_stC h (tw_A22 H) cx_cl_0 cx_vin_0_4 dX10_send_11 (fun M2 h => ?_)
  refine cx_aload_n 0 dX10_send_12 rfl ?_
  refine cx_getR (tw_R22 H) q2412 dX10_send_13 ?_
  refine cx_iconst 1 dX10_send_16 cx_ic_1 ?_
  refine cx_aload_n 0 dX10_send_17 rfl ?_
  refine cx_getR (tw_R8 H) q2398 dX10_send_18 ?_
  refine cx_iconst 0 dX10_send_21 cx_ic_0 ?_
  refine cx_ldC h (tw_A8 H) cx_cl_0 cx_vin_0_665 dX10_send_22 (fun v3 h => ?_)
  refine cx_stC h (tw_A22 H) cx_cl_1 cx_vin_1_4 dX10_send_23 (fun M4 h => ?_)
  refine cx_aload_n 0 dX10_send_24 rfl ?_
  refine cx_getR (tw_R22 H) q2412 dX10_send_25 ?_
  refine cx_iconst 2 dX10_send_28 cx_ic_2 ?_
  refine cx_aload_n 0 dX10_send_29 rfl ?_
  refine cx_getR (tw_R8 H) q2398 dX10_send_30 ?_
  refine cx_bipush 24 dX10_send_33 cx_bp_24 ?_
  refine cx_ldC h (tw_A8 H) cx_cl_24 cx_vin_24_665 dX10_send_35 (fun v5 h => ?_)
  refine cx_stC h (tw_A22 H) cx_cl_2 cx_vin_2_4 dX10_send_36 (fun M6 h => ?_)
  refine cx_aload_n 0 dX10_send_37 rfl ?_
  refine cx_getR (tw_R22 H) q2412 dX10_send_38 ?_
  refine cx_iconst 3 dX10_send_41 cx_ic_3 ?_
  refine cx_aload_n 0 dX10_send_42 rfl ?_
  refine cx_getR (tw_R8 H) q2398 dX10_send_43 ?_
  refine cx_bipush 31 dX10_send_46 cx_bp_31 ?_
  refine cx_ldC h (tw_A8 H) cx_cl_31 cx_vin_31_665 dX10_send_48 (fun v7 h => ?_)
  refine cx_stC h (tw_A22 H) cx_cl_3 cx_vin_3_4 dX10_send_49 (fun M8 h => ?_)
  refine cx_aload_n 0 dX10_send_50 rfl ?_
  refine cx_getR (tw_R3 H) q2393 dX10_send_51 ?_
  refine cx_bipush 8 dX10_send_54 cx_bp_8 ?_
  refine cx_ldC h (tw_A3 H) cx_cl_8 cx_vin_8_20 dX10_send_56 (fun v9 h => ?_)
  refine cx_if_ne 64 h dX10_send_57 rfl (fun h => ?_) (fun h => ?_)
  · refine cx_aload_n 0 dX10_send_64 rfl ?_
    refine cx_iconst 0 dX10_send_65 cx_ic_0 ?_
    refine cx_cVi [.int 0] [] h (fun rs' h' => tw_ruleNow_m H M8 0 rs' h') (tw_rc H) dX10_send_66 g_X10_304 hg_X10_304 ⟨cx_le rfl, cx_le rfl⟩ rfl ⟨rfl, rfl⟩ ⟨cx_le rfl, cx_le rfl⟩ rfl (cx_le rfl) (fun M10 v11 h => ?_)
    refine cx_iconst 0 dX10_send_69 cx_ic_0 ?_
    refine cx_bipush 60 dX10_send_70 cx_bp_60 ?_
    refine cx_cSi [.int v11, .int 0, .int 60] [] h (fun rs' h' => tw_within_m H M10 v11 0 60 rs' h') dX10_send_72 g_X10_308 hg_X10_308 ⟨cx_le rfl, cx_le rfl⟩ rfl ⟨rfl, rfl⟩ ⟨cx_le rfl, cx_le rfl⟩ rfl (cx_le rfl) (fun M12 v13 h => ?_)
    exact tw_send_75_v H M12 v13 _ h
  · refine cx_iconst 3 dX10_send_60 cx_ic_3 ?_
    refine cx_goto 75 dX10_send_61 rfl ?_
    exact tw_send_75_v H M8 3 _ h
noncomputable def tw_send (N : Nat) (M : cx_M) : Option cx_R := tw_send_0 N M
theorem tw_send_m {l : Launch} {g : cx_G} {adr : Nat → Nat} {N : Nat} (H : tw_H g adr) (M : cx_M) (rs : cx_R) (h : tw_send N M = some rs) : cx_Met l (g) yX10_send cX10_send sX10_send [.ref (adr 60)] M rs :=
  cx_met (by decide +kernel) rfl rfl (lv := [(0, .ref (adr 60))]) rfl (cx_le rfl) (fun X => cx_sub (lv' := [(0, .ref (adr 60))]) [0] rfl (tw_send_0_v H M rs h))

abbrev sX10_makeOctets : cx_S := (1, RX10, cx_rV, { frames := 5, cells := 0, slots := 0, locals := 113 }, none, false)
noncomputable def tw_makeOctets_21b (N : Nat) (r_21 : cx_M → Option cx_R) (M : cx_M) : Option cx_R :=
  cx_get M 8 22 fun v1 =>
  if v1 < 1000 then (
    some (M, 0, 0))
  else (
    cx_get M 8 22 fun v2 =>
    cx_put M 8 22 (v2 - 1000) fun M3 =>
    cx_get M3 8 1 fun v4 =>
    cx_put M3 8 1 (v4 + 1) fun M5 =>
    cx_get M5 8 1 fun v6 =>
    cx_get M5 3 0 fun v7 =>
    cx_nz v7 <|
    if (cx_rem v6 v7) = 0 then (
      cx_cal (tw_send N M5) fun M8 _ =>
      r_21 M8)
    else (
      r_21 M5))
set_option maxRecDepth 100000 in
theorem tw_makeOctets_21b_v {l : Launch} {g : cx_G} {adr : Nat → Nat} {X : cx_X} {N : Nat} {r_21 : cx_M → Option cx_R} (H : tw_H g adr) (hr_21 : ∀ (M : cx_M) (rs : cx_R), r_21 M = some rs → cx_V l (g) X sX10_makeOctets cX10_makeOctets 21 [(0, .ref (adr 60))] [] M 0 0 rs) (M : cx_M) (rs : cx_R) (h : tw_makeOctets_21b N r_21 M = some rs) : cx_V l (g) X sX10_makeOctets cX10_makeOctets 21 [(0, .ref (adr 60))] [] M 0 0 rs := by
  unfold tw_makeOctets_21b at h
  refine cx_aload_n 0 dX10_makeOctets_21 rfl ?_
  refine cx_getR (tw_R8 H) q2398 dX10_makeOctets_22 ?_
  refine cx_bipush 22 dX10_makeOctets_25 cx_bp_22 ?_
  refine cx_ldC h (tw_A8 H) cx_cl_22 cx_vin_22_665 dX10_makeOctets_27 (fun v1 h => ?_)
  refine cx_sipush 1000 dX10_makeOctets_28 cx_sp_1000 ?_
  refine cx_icmp_lt 80 h dX10_makeOctets_31 rfl (fun h => ?_) (fun h => ?_)
  · exact cx_vret h rfl rfl (cx_le rfl) (cx_le rfl) dX10_makeOctets_80
  · refine cx_aload_n 0 dX10_makeOctets_34 rfl ?_
    refine cx_getR (tw_R8 H) q2398 dX10_makeOctets_35 ?_
    refine cx_bipush 22 dX10_makeOctets_38 cx_bp_22 ?_
    refine cx_dup2 dX10_makeOctets_40 rfl rfl ?_
    refine cx_ldC h (tw_A8 H) cx_cl_22 cx_vin_22_665 dX10_makeOctets_41 (fun v2 h => ?_)
    refine cx_sipush 1000 dX10_makeOctets_42 cx_sp_1000 ?_
    refine cx_isub dX10_makeOctets_45 ?_
    refine cx_stC h (tw_A8 H) cx_cl_22 cx_vin_22_665 dX10_makeOctets_46 (fun M3 h => ?_)
    refine cx_aload_n 0 dX10_makeOctets_47 rfl ?_
    refine cx_getR (tw_R8 H) q2398 dX10_makeOctets_48 ?_
    refine cx_iconst 1 dX10_makeOctets_51 cx_ic_1 ?_
    refine cx_dup2 dX10_makeOctets_52 rfl rfl ?_
    refine cx_ldC h (tw_A8 H) cx_cl_1 cx_vin_1_665 dX10_makeOctets_53 (fun v4 h => ?_)
    refine cx_iconst 1 dX10_makeOctets_54 cx_ic_1 ?_
    refine cx_iadd dX10_makeOctets_55 ?_
    refine cx_stC h (tw_A8 H) cx_cl_1 cx_vin_1_665 dX10_makeOctets_56 (fun M5 h => ?_)
    refine cx_aload_n 0 dX10_makeOctets_57 rfl ?_
    refine cx_getR (tw_R8 H) q2398 dX10_makeOctets_58 ?_
    refine cx_iconst 1 dX10_makeOctets_61 cx_ic_1 ?_
    refine cx_ldC h (tw_A8 H) cx_cl_1 cx_vin_1_665 dX10_makeOctets_62 (fun v6 h => ?_)
    refine cx_aload_n 0 dX10_makeOctets_63 rfl ?_
    refine cx_getR (tw_R3 H) q2393 dX10_makeOctets_64 ?_
    refine cx_iconst 0 dX10_makeOctets_67 cx_ic_0 ?_
    refine cx_ldC h (tw_A3 H) cx_cl_0 cx_vin_0_20 dX10_makeOctets_68 (fun v7 h => ?_)
    refine cx_irem h dX10_makeOctets_69 (fun h => ?_)
    refine cx_if_ne 21 h dX10_makeOctets_70 rfl (fun h => ?_) (fun h => ?_)
    · exact hr_21 M5 _ h
    · refine cx_aload_n 0 dX10_makeOctets_73 rfl ?_
      refine cx_cVv [] [] h (fun rs' h' => tw_send_m H M5 rs' h') (tw_rc H) dX10_makeOctets_74 g_X10_315 hg_X10_315 ⟨cx_le rfl, cx_le rfl⟩ rfl ⟨rfl, rfl⟩ ⟨cx_le rfl, cx_le rfl⟩ rfl (cx_le rfl) (fun M8 _ h => ?_)
      refine cx_goto 21 dX10_makeOctets_77 rfl ?_
      exact hr_21 M8 _ h
noncomputable def tw_makeOctets_21 (N : Nat) : Nat → cx_M → Option cx_R :=
  cx_fix (fun _ => none) (fun r_21 => tw_makeOctets_21b N r_21)
theorem tw_makeOctets_21_v {l : Launch} {g : cx_G} {adr : Nat → Nat} {X : cx_X} {N : Nat} (H : tw_H g adr) : ∀ (n : Nat) (M : cx_M) (rs : cx_R), tw_makeOctets_21 N n M = some rs → cx_V l (g) X sX10_makeOctets cX10_makeOctets 21 [(0, .ref (adr 60))] [] M 0 0 rs :=
  cx_fixI (fun (r : cx_M → Option cx_R) => ∀ (M : cx_M) (rs : cx_R), r M = some rs → cx_V l (g) X sX10_makeOctets cX10_makeOctets 21 [(0, .ref (adr 60))] [] M 0 0 rs) (fun _ _ h => by cases h) (fun r hr M rs h => tw_makeOctets_21b_v H hr M rs h)
noncomputable def tw_makeOctets_0 (N : Nat) (M : cx_M) : Option cx_R :=
  cx_get M 8 22 fun v1 =>
  cx_get M 8 27 fun v2 =>
  cx_put M 8 22 (v1 + ((1000 : Int32) + v2)) fun M3 =>
  tw_makeOctets_21 N N M3
set_option maxRecDepth 100000 in
theorem tw_makeOctets_0_v {l : Launch} {g : cx_G} {adr : Nat → Nat} {X : cx_X} {N : Nat} (H : tw_H g adr) (M : cx_M) (rs : cx_R) (h : tw_makeOctets_0 N M = some rs) : cx_V l (g) X sX10_makeOctets cX10_makeOctets 0 [(0, .ref (adr 60))] [] M 0 0 rs := by
  unfold tw_makeOctets_0 at h
  refine cx_aload_n 0 dX10_makeOctets_0 rfl ?_
  refine cx_getR (tw_R8 H) q2398 dX10_makeOctets_1 ?_
  refine cx_bipush 22 dX10_makeOctets_4 cx_bp_22 ?_
  refine cx_dup2 dX10_makeOctets_6 rfl rfl ?_
  refine cx_ldC h (tw_A8 H) cx_cl_22 cx_vin_22_665 dX10_makeOctets_7 (fun v1 h => ?_)
  refine cx_sipush 1000 dX10_makeOctets_8 cx_sp_1000 ?_
  refine cx_aload_n 0 dX10_makeOctets_11 rfl ?_
  refine cx_getR (tw_R8 H) q2398 dX10_makeOctets_12 ?_
  refine cx_bipush 27 dX10_makeOctets_15 cx_bp_27 ?_
  refine cx_ldC h (tw_A8 H) cx_cl_27 cx_vin_27_665 dX10_makeOctets_17 (fun v2 h => ?_)
  refine cx_iadd dX10_makeOctets_18 ?_
  refine cx_iadd dX10_makeOctets_19 ?_
  refine cx_stC h (tw_A8 H) cx_cl_22 cx_vin_22_665 dX10_makeOctets_20 (fun M3 h => ?_)
  exact tw_makeOctets_21_v H N M3 _ h
noncomputable def tw_makeOctets (N : Nat) (M : cx_M) : Option cx_R := tw_makeOctets_0 N M
theorem tw_makeOctets_m {l : Launch} {g : cx_G} {adr : Nat → Nat} {N : Nat} (H : tw_H g adr) (M : cx_M) (rs : cx_R) (h : tw_makeOctets N M = some rs) : cx_Met l (g) yX10_makeOctets cX10_makeOctets sX10_makeOctets [.ref (adr 60)] M rs :=
  cx_met (by decide +kernel) rfl rfl (lv := [(0, .ref (adr 60))]) rfl (cx_le rfl) (fun X => cx_sub (lv' := [(0, .ref (adr 60))]) [0] rfl (tw_makeOctets_0_v H M rs h))

abbrev sX10_spotNow : cx_S := (1, RX10, cx_rI, { frames := 0, cells := 0, slots := 0, locals := 0 }, some .int, false)
noncomputable def tw_spotNow_0 (N : Nat) (M : cx_M) : Option cx_R :=
  cx_get M 8 14 fun v1 =>
  cx_get M 3 0 fun v2 =>
  cx_nz v2 <|
  some (M, v1 / v2, 0)
set_option maxRecDepth 100000 in
theorem tw_spotNow_0_v {l : Launch} {g : cx_G} {adr : Nat → Nat} {X : cx_X} {N : Nat} (H : tw_H g adr) (M : cx_M) (rs : cx_R) (h : tw_spotNow_0 N M = some rs) : cx_V l (g) X sX10_spotNow cX10_spotNow 0 [(0, .ref (adr 60))] [] M 0 0 rs := by
  unfold tw_spotNow_0 at h
  refine cx_aload_n 0 dX10_spotNow_0 rfl ?_
  refine cx_getR (tw_R8 H) q2398 dX10_spotNow_1 ?_
  refine cx_bipush 14 dX10_spotNow_4 cx_bp_14 ?_
  refine cx_ldC h (tw_A8 H) cx_cl_14 cx_vin_14_665 dX10_spotNow_6 (fun v1 h => ?_)
  refine cx_aload_n 0 dX10_spotNow_7 rfl ?_
  refine cx_getR (tw_R3 H) q2393 dX10_spotNow_8 ?_
  refine cx_iconst 0 dX10_spotNow_11 cx_ic_0 ?_
  refine cx_ldC h (tw_A3 H) cx_cl_0 cx_vin_0_20 dX10_spotNow_12 (fun v2 h => ?_)
  refine cx_idiv h dX10_spotNow_13 (fun h => ?_)
  exact cx_iret h rfl rfl (cx_le rfl) (cx_le rfl) dX10_spotNow_14
noncomputable def tw_spotNow (N : Nat) (M : cx_M) : Option cx_R := tw_spotNow_0 N M
theorem tw_spotNow_m {l : Launch} {g : cx_G} {adr : Nat → Nat} {N : Nat} (H : tw_H g adr) (M : cx_M) (rs : cx_R) (h : tw_spotNow N M = some rs) : cx_Met l (g) yX10_spotNow cX10_spotNow sX10_spotNow [.ref (adr 60)] M rs :=
  cx_met (by decide +kernel) rfl rfl (lv := [(0, .ref (adr 60))]) rfl (cx_le rfl) (fun X => cx_sub (lv' := [(0, .ref (adr 60))]) [0] rfl (tw_spotNow_0_v H M rs h))

abbrev sX10_come : cx_S := (6, RX10, cx_rV, { frames := 1, cells := 0, slots := 0, locals := 20 }, none, false)
noncomputable def tw_come_100 (N : Nat) (M : cx_M) (x1 : Int32) (x2 : Int32) (x3 : Int32) : Option cx_R :=
  cx_cal (tw_spotNow N M) fun M1 v2 =>
  cx_let (cx_rem ((x3 - (cx_rem v2 64)) + 64) 64) fun v3 =>
  if v3 < 32 then (
    if v3 < 16 then (
      cx_cal (tw_spotNow N M1) fun M4 v5 =>
      cx_let (v5 + v3) fun v6 =>
      cx_st M4 8 665 ((153 : Int32) + x3) x1 fun M7 =>
      cx_st M7 8 665 ((217 : Int32) + x3) v6 fun M8 =>
      cx_get M8 8 18 fun v9 =>
      if v9 < v6 then (
        cx_get M8 8 17 fun v10 =>
        cx_put M8 8 21 (v6 - v10) fun M11 =>
        cx_get M11 8 20 fun v12 =>
        cx_get M11 8 19 fun v13 =>
        cx_put M11 8 20 (v12 + ((x2 - v13) &&& 255)) fun M14 =>
        cx_put M14 8 18 v6 fun M15 =>
        cx_put M15 8 19 x2 fun M16 =>
        some (M16, 0, 0))
      else (
        some (M8, 0, 0)))
    else (
      cx_get M1 8 5 fun v17 =>
      cx_put M1 8 5 (v17 + 1) fun M18 =>
      some (M18, 0, 0)))
  else (
    cx_get M1 8 4 fun v19 =>
    cx_put M1 8 4 (v19 + 1) fun M20 =>
    some (M20, 0, 0))
set_option maxRecDepth 100000 in
theorem tw_come_100_v {l : Launch} {g : cx_G} {adr : Nat → Nat} {X : cx_X} {N : Nat} (H : tw_H g adr) (M : cx_M) (x1 : Int32) (x2 : Int32) (x3 : Int32) (rs : cx_R) (h : tw_come_100 N M x1 x2 x3 = some rs) : cx_V l (g) X sX10_come cX10_come 100 [(0, .ref (adr 60)), (1, .int x1), (2, .int x2), (3, .int x3)] [] M 0 0 rs := by
  unfold tw_come_100 at h
  refine cx_iload_n 3 dX10_come_100 rfl ?_
  refine cx_aload_n 0 dX10_come_101 rfl ?_
  refine cx_cVi [] [.int x3] h (fun rs' h' => tw_spotNow_m H M rs' h') (tw_rc H) dX10_come_102 g_X10_318 hg_X10_318 ⟨cx_le rfl, cx_le rfl⟩ rfl ⟨rfl, rfl⟩ ⟨cx_le rfl, cx_le rfl⟩ rfl (cx_le rfl) (fun M1 v2 h => ?_)
  refine cx_bipush 64 dX10_come_105 cx_bp_64 ?_
  refine cx_iremC cx_ne_64 dX10_come_107 ?_
  refine cx_isub dX10_come_108 ?_
  refine cx_bipush 64 dX10_come_109 cx_bp_64 ?_
  refine cx_iadd dX10_come_111 ?_
  refine cx_bipush 64 dX10_come_112 cx_bp_64 ?_
  refine cx_iremC cx_ne_64 dX10_come_114 ?_
  refine cx_letI h (fun v3 h => ?_)
  refine cx_istore [(4, .int v3), (0, .ref (adr 60)), (1, .int x1), (2, .int x2), (3, .int x3)] dX10_come_115 (cx_lt rfl) rfl ?_
  refine cx_iload 0 dX10_come_117 rfl ?_
  refine cx_bipush 32 dX10_come_119 cx_bp_32 ?_
  refine cx_icmp_lt 135 h dX10_come_121 rfl (fun h => ?_) (fun h => ?_)
  · refine cx_iload 0 dX10_come_135 rfl ?_
    refine cx_bipush 16 dX10_come_137 cx_bp_16 ?_
    refine cx_icmp_lt 153 h dX10_come_139 rfl (fun h => ?_) (fun h => ?_)
    · refine cx_aload_n 1 dX10_come_153 rfl ?_
      refine cx_cVi [] [] h (fun rs' h' => tw_spotNow_m H M1 rs' h') (tw_rc H) dX10_come_154 g_X10_318 hg_X10_318 ⟨cx_le rfl, cx_le rfl⟩ rfl ⟨rfl, rfl⟩ ⟨cx_le rfl, cx_le rfl⟩ rfl (cx_le rfl) (fun M4 v5 h => ?_)
      refine cx_iload 0 dX10_come_157 rfl ?_
      refine cx_iadd dX10_come_159 ?_
      refine cx_letI h (fun v6 h => ?_)
      refine cx_istore [(5, .int v6), (4, .int v3), (0, .ref (adr 60)), (1, .int x1), (2, .int x2), (3, .int x3)] dX10_come_160 (cx_lt rfl) rfl ?_
      refine cx_aload_n 2 dX10_come_162 rfl ?_
      refine cx_getR (tw_R8 H) q2398 dX10_come_163 ?_
      refine cx_sipush 153 dX10_come_166 cx_sp_153 ?_
      refine cx_iload_n 5 dX10_come_169 rfl ?_
      refine cx_iadd dX10_come_170 ?_
      refine cx_iload_n 3 dX10_come_171 rfl ?_
      refine cx_stI h (tw_A8 H) dX10_come_172 (fun M7 h => ?_)
      refine cx_aload_n 2 dX10_come_173 rfl ?_
      refine cx_getR (tw_R8 H) q2398 dX10_come_174 ?_
      refine cx_sipush 217 dX10_come_177 cx_sp_217 ?_
      refine cx_iload_n 5 dX10_come_180 rfl ?_
      refine cx_iadd dX10_come_181 ?_
      refine cx_iload 0 dX10_come_182 rfl ?_
      refine cx_stI h (tw_A8 H) dX10_come_184 (fun M8 h => ?_)
      refine cx_iload 0 dX10_come_185 rfl ?_
      refine cx_aload_n 2 dX10_come_187 rfl ?_
      refine cx_getR (tw_R8 H) q2398 dX10_come_188 ?_
      refine cx_bipush 18 dX10_come_191 cx_bp_18 ?_
      refine cx_ldC h (tw_A8 H) cx_cl_18 cx_vin_18_665 dX10_come_193 (fun v9 h => ?_)
      refine cx_icmp_gt 198 h dX10_come_194 rfl (fun h => ?_) (fun h => ?_)
      · refine cx_aload_n 2 dX10_come_198 rfl ?_
        refine cx_getR (tw_R8 H) q2398 dX10_come_199 ?_
        refine cx_bipush 21 dX10_come_202 cx_bp_21 ?_
        refine cx_iload 0 dX10_come_204 rfl ?_
        refine cx_aload_n 2 dX10_come_206 rfl ?_
        refine cx_getR (tw_R8 H) q2398 dX10_come_207 ?_
        refine cx_bipush 17 dX10_come_210 cx_bp_17 ?_
        refine cx_ldC h (tw_A8 H) cx_cl_17 cx_vin_17_665 dX10_come_212 (fun v10 h => ?_)
        refine cx_isub dX10_come_213 ?_
        refine cx_stC h (tw_A8 H) cx_cl_21 cx_vin_21_665 dX10_come_214 (fun M11 h => ?_)
        refine cx_aload_n 2 dX10_come_215 rfl ?_
        refine cx_getR (tw_R8 H) q2398 dX10_come_216 ?_
        refine cx_bipush 20 dX10_come_219 cx_bp_20 ?_
        refine cx_dup2 dX10_come_221 rfl rfl ?_
        refine cx_ldC h (tw_A8 H) cx_cl_20 cx_vin_20_665 dX10_come_222 (fun v12 h => ?_)
        refine cx_iload_n 4 dX10_come_223 rfl ?_
        refine cx_aload_n 2 dX10_come_224 rfl ?_
        refine cx_getR (tw_R8 H) q2398 dX10_come_225 ?_
        refine cx_bipush 19 dX10_come_228 cx_bp_19 ?_
        refine cx_ldC h (tw_A8 H) cx_cl_19 cx_vin_19_665 dX10_come_230 (fun v13 h => ?_)
        refine cx_isub dX10_come_231 ?_
        refine cx_sipush 255 dX10_come_232 cx_sp_255 ?_
        refine cx_iand dX10_come_235 ?_
        refine cx_iadd dX10_come_236 ?_
        refine cx_stC h (tw_A8 H) cx_cl_20 cx_vin_20_665 dX10_come_237 (fun M14 h => ?_)
        refine cx_aload_n 2 dX10_come_238 rfl ?_
        refine cx_getR (tw_R8 H) q2398 dX10_come_239 ?_
        refine cx_bipush 18 dX10_come_242 cx_bp_18 ?_
        refine cx_iload 0 dX10_come_244 rfl ?_
        refine cx_stC h (tw_A8 H) cx_cl_18 cx_vin_18_665 dX10_come_246 (fun M15 h => ?_)
        refine cx_aload_n 2 dX10_come_247 rfl ?_
        refine cx_getR (tw_R8 H) q2398 dX10_come_248 ?_
        refine cx_bipush 19 dX10_come_251 cx_bp_19 ?_
        refine cx_iload_n 4 dX10_come_253 rfl ?_
        refine cx_stC h (tw_A8 H) cx_cl_19 cx_vin_19_665 dX10_come_254 (fun M16 h => ?_)
        exact cx_vret h rfl rfl (cx_le rfl) (cx_le rfl) dX10_come_255
      · exact cx_vret h rfl rfl (cx_le rfl) (cx_le rfl) dX10_come_197
    · refine cx_aload_n 1 dX10_come_142 rfl ?_
      refine cx_getR (tw_R8 H) q2398 dX10_come_143 ?_
      refine cx_iconst 5 dX10_come_146 cx_ic_5 ?_
      refine cx_dup2 dX10_come_147 rfl rfl ?_
      refine cx_ldC h (tw_A8 H) cx_cl_5 cx_vin_5_665 dX10_come_148 (fun v17 h => ?_)
      refine cx_iconst 1 dX10_come_149 cx_ic_1 ?_
      refine cx_iadd dX10_come_150 ?_
      refine cx_stC h (tw_A8 H) cx_cl_5 cx_vin_5_665 dX10_come_151 (fun M18 h => ?_)
      exact cx_vret h rfl rfl (cx_le rfl) (cx_le rfl) dX10_come_152
  · refine cx_aload_n 1 dX10_come_124 rfl ?_
    refine cx_getR (tw_R8 H) q2398 dX10_come_125 ?_
    refine cx_iconst 4 dX10_come_128 cx_ic_4 ?_
    refine cx_dup2 dX10_come_129 rfl rfl ?_
    refine cx_ldC h (tw_A8 H) cx_cl_4 cx_vin_4_665 dX10_come_130 (fun v19 h => ?_)
    refine cx_iconst 1 dX10_come_131 cx_ic_1 ?_
    refine cx_iadd dX10_come_132 ?_
    refine cx_stC h (tw_A8 H) cx_cl_4 cx_vin_4_665 dX10_come_133 (fun M20 h => ?_)
    exact cx_vret h rfl rfl (cx_le rfl) (cx_le rfl) dX10_come_134
noncomputable def tw_come_0 (N : Nat) (M : cx_M) (x1 : Int32) (x2 : Int32) : Option cx_R :=
  cx_let (cx_rem x1 64) fun v1 =>
  cx_get M 8 8 fun v2 =>
  if v2 = 0 then (
    cx_get M 3 0 fun v3 =>
    cx_put M 8 14 (v3 * v1) fun M4 =>
    cx_put M4 8 8 1 fun M5 =>
    cx_put M5 8 16 x1 fun M6 =>
    cx_get M6 8 14 fun v7 =>
    cx_put M6 8 15 v7 fun M8 =>
    cx_put M8 8 17 v1 fun M9 =>
    cx_put M9 8 18 v1 fun M10 =>
    cx_put M10 8 19 x2 fun M11 =>
    cx_put M11 8 20 0 fun M12 =>
    cx_put M12 8 21 0 fun M13 =>
    tw_come_100 N M13 x1 x2 v1)
  else (
    tw_come_100 N M x1 x2 v1)
set_option maxRecDepth 100000 in
theorem tw_come_0_v {l : Launch} {g : cx_G} {adr : Nat → Nat} {X : cx_X} {N : Nat} (H : tw_H g adr) (M : cx_M) (x1 : Int32) (x2 : Int32) (rs : cx_R) (h : tw_come_0 N M x1 x2 = some rs) : cx_V l (g) X sX10_come cX10_come 0 [(0, .ref (adr 60)), (1, .int x1), (2, .int x2)] [] M 0 0 rs := by
  unfold tw_come_0 at h
  refine cx_iload_n 1 dX10_come_0 rfl ?_
  refine cx_bipush 64 dX10_come_1 cx_bp_64 ?_
  refine cx_iremC cx_ne_64 dX10_come_3 ?_
  refine cx_letI h (fun v1 h => ?_)
  refine cx_istore_n [(3, .int v1), (0, .ref (adr 60)), (1, .int x1), (2, .int x2)] dX10_come_4 (cx_lt rfl) rfl ?_
  refine cx_aload_n 1 dX10_come_5 rfl ?_
  refine cx_getR (tw_R8 H) q2398 dX10_come_6 ?_
  refine cx_bipush 8 dX10_come_9 cx_bp_8 ?_
  refine cx_ldC h (tw_A8 H) cx_cl_8 cx_vin_8_665 dX10_come_11 (fun v2 h => ?_)
  refine cx_if_ne 100 h dX10_come_12 rfl (fun h => ?_) (fun h => ?_)
  · refine cx_sub (lv' := [(0, .ref (adr 60)), (1, .int x1), (2, .int x2), (3, .int v1)]) [1, 2, 3, 0] rfl ?_
    exact tw_come_100_v H M x1 x2 v1 _ h
  · refine cx_aload_n 1 dX10_come_15 rfl ?_
    refine cx_getR (tw_R8 H) q2398 dX10_come_16 ?_
    refine cx_bipush 14 dX10_come_19 cx_bp_14 ?_
    refine cx_aload_n 1 dX10_come_21 rfl ?_
    refine cx_getR (tw_R3 H) q2393 dX10_come_22 ?_
    refine cx_iconst 0 dX10_come_25 cx_ic_0 ?_
    refine cx_ldC h (tw_A3 H) cx_cl_0 cx_vin_0_20 dX10_come_26 (fun v3 h => ?_)
    refine cx_iload_n 0 dX10_come_27 rfl ?_
    refine cx_imul dX10_come_28 ?_
    refine cx_stC h (tw_A8 H) cx_cl_14 cx_vin_14_665 dX10_come_29 (fun M4 h => ?_)
    refine cx_aload_n 1 dX10_come_30 rfl ?_
    refine cx_getR (tw_R8 H) q2398 dX10_come_31 ?_
    refine cx_bipush 8 dX10_come_34 cx_bp_8 ?_
    refine cx_iconst 1 dX10_come_36 cx_ic_1 ?_
    refine cx_stC h (tw_A8 H) cx_cl_8 cx_vin_8_665 dX10_come_37 (fun M5 h => ?_)
    refine cx_aload_n 1 dX10_come_38 rfl ?_
    refine cx_getR (tw_R8 H) q2398 dX10_come_39 ?_
    refine cx_bipush 16 dX10_come_42 cx_bp_16 ?_
    refine cx_iload_n 2 dX10_come_44 rfl ?_
    refine cx_stC h (tw_A8 H) cx_cl_16 cx_vin_16_665 dX10_come_45 (fun M6 h => ?_)
    refine cx_aload_n 1 dX10_come_46 rfl ?_
    refine cx_getR (tw_R8 H) q2398 dX10_come_47 ?_
    refine cx_bipush 15 dX10_come_50 cx_bp_15 ?_
    refine cx_aload_n 1 dX10_come_52 rfl ?_
    refine cx_getR (tw_R8 H) q2398 dX10_come_53 ?_
    refine cx_bipush 14 dX10_come_56 cx_bp_14 ?_
    refine cx_ldC h (tw_A8 H) cx_cl_14 cx_vin_14_665 dX10_come_58 (fun v7 h => ?_)
    refine cx_stC h (tw_A8 H) cx_cl_15 cx_vin_15_665 dX10_come_59 (fun M8 h => ?_)
    refine cx_aload_n 1 dX10_come_60 rfl ?_
    refine cx_getR (tw_R8 H) q2398 dX10_come_61 ?_
    refine cx_bipush 17 dX10_come_64 cx_bp_17 ?_
    refine cx_iload_n 0 dX10_come_66 rfl ?_
    refine cx_stC h (tw_A8 H) cx_cl_17 cx_vin_17_665 dX10_come_67 (fun M9 h => ?_)
    refine cx_aload_n 1 dX10_come_68 rfl ?_
    refine cx_getR (tw_R8 H) q2398 dX10_come_69 ?_
    refine cx_bipush 18 dX10_come_72 cx_bp_18 ?_
    refine cx_iload_n 0 dX10_come_74 rfl ?_
    refine cx_stC h (tw_A8 H) cx_cl_18 cx_vin_18_665 dX10_come_75 (fun M10 h => ?_)
    refine cx_aload_n 1 dX10_come_76 rfl ?_
    refine cx_getR (tw_R8 H) q2398 dX10_come_77 ?_
    refine cx_bipush 19 dX10_come_80 cx_bp_19 ?_
    refine cx_iload_n 3 dX10_come_82 rfl ?_
    refine cx_stC h (tw_A8 H) cx_cl_19 cx_vin_19_665 dX10_come_83 (fun M11 h => ?_)
    refine cx_aload_n 1 dX10_come_84 rfl ?_
    refine cx_getR (tw_R8 H) q2398 dX10_come_85 ?_
    refine cx_bipush 20 dX10_come_88 cx_bp_20 ?_
    refine cx_iconst 0 dX10_come_90 cx_ic_0 ?_
    refine cx_stC h (tw_A8 H) cx_cl_20 cx_vin_20_665 dX10_come_91 (fun M12 h => ?_)
    refine cx_aload_n 1 dX10_come_92 rfl ?_
    refine cx_getR (tw_R8 H) q2398 dX10_come_93 ?_
    refine cx_bipush 21 dX10_come_96 cx_bp_21 ?_
    refine cx_iconst 0 dX10_come_98 cx_ic_0 ?_
    refine cx_stC h (tw_A8 H) cx_cl_21 cx_vin_21_665 dX10_come_99 (fun M13 h => ?_)
    refine cx_sub (lv' := [(0, .ref (adr 60)), (1, .int x1), (2, .int x2), (3, .int v1)]) [1, 2, 3, 0] rfl ?_
    exact tw_come_100_v H M13 x1 x2 v1 _ h
noncomputable def tw_come (N : Nat) (M : cx_M) (x1 : Int32) (x2 : Int32) : Option cx_R := tw_come_0 N M x1 x2
theorem tw_come_m {l : Launch} {g : cx_G} {adr : Nat → Nat} {N : Nat} (H : tw_H g adr) (M : cx_M) (x1 : Int32) (x2 : Int32) (rs : cx_R) (h : tw_come N M x1 x2 = some rs) : cx_Met l (g) yX10_come cX10_come sX10_come [.ref (adr 60), .int x1, .int x2] M rs :=
  cx_met (by decide +kernel) rfl rfl (lv := [(0, .ref (adr 60)), (1, .int x1), (2, .int x2)]) rfl (cx_le rfl) (fun X => cx_sub (lv' := [(0, .ref (adr 60)), (1, .int x1), (2, .int x2)]) [0, 1, 2] rfl (tw_come_0_v H M x1 x2 rs h))

abbrev sX10_receive : cx_S := (8, RX10, cx_rV, { frames := 2, cells := 0, slots := 0, locals := 45 }, none, false)
noncomputable def tw_receive_124 (N : Nat) (r_12 : cx_M → Int32 → Int32 → Int32 → Option cx_R) (M : cx_M) (x1 : Int32) (x2 : Int32) (x3 : Int32) : Option cx_R :=
  cx_let (x3 + 1) fun v1 =>
  r_12 M x1 x2 v1
set_option maxRecDepth 100000 in
theorem tw_receive_124_v {l : Launch} {g : cx_G} {adr : Nat → Nat} {X : cx_X} {N : Nat} {r_12 : cx_M → Int32 → Int32 → Int32 → Option cx_R} (H : tw_H g adr) (hr_12 : ∀ (M : cx_M) (x1 : Int32) (x2 : Int32) (x3 : Int32) (rs : cx_R), r_12 M x1 x2 x3 = some rs → cx_V l (g) X sX10_receive cX10_receive 12 [(0, .ref (adr 60)), (1, .int x1), (2, .int x2), (3, .int x3)] [] M 0 0 rs) (M : cx_M) (x1 : Int32) (x2 : Int32) (x3 : Int32) (rs : cx_R) (h : tw_receive_124 N r_12 M x1 x2 x3 = some rs) : cx_V l (g) X sX10_receive cX10_receive 124 [(0, .ref (adr 60)), (1, .int x1), (2, .int x2), (3, .int x3)] [] M 0 0 rs := by
  unfold tw_receive_124 at h
  refine cx_iinc 3 1 (fun v1 => [(3, .int v1), (0, .ref (adr 60)), (1, .int x1), (2, .int x2)]) h dX10_receive_124 rfl cx_ic_1 (cx_lt rfl) (fun _ => rfl) (fun v1 h => ?_)
  refine cx_goto 12 dX10_receive_127 rfl ?_
  refine cx_sub (lv' := [(0, .ref (adr 60)), (1, .int x1), (2, .int x2), (3, .int v1)]) [1, 2, 3, 0] rfl ?_
  exact hr_12 M x1 x2 v1 _ h
noncomputable def tw_receive_137b (N : Nat) (r_137 : cx_M → Int32 → Int32 → Int32 → Option cx_R) (M : cx_M) (x1 : Int32) (x2 : Int32) (x3 : Int32) : Option cx_R :=
  if ((33 : Int32) + ((3 : Int32) * x1)) ≤ x3 then (
    cx_put M 8 31 x2 fun M1 =>
    some (M1, 0, 0))
  else (
    cx_st M 8 665 x3 0 fun M2 =>
    cx_let (x3 + 1) fun v3 =>
    r_137 M2 x1 x2 v3)
set_option maxRecDepth 100000 in
theorem tw_receive_137b_v {l : Launch} {g : cx_G} {adr : Nat → Nat} {X : cx_X} {N : Nat} {r_137 : cx_M → Int32 → Int32 → Int32 → Option cx_R} (H : tw_H g adr) (hr_137 : ∀ (M : cx_M) (x1 : Int32) (x2 : Int32) (x3 : Int32) (rs : cx_R), r_137 M x1 x2 x3 = some rs → cx_V l (g) X sX10_receive cX10_receive 137 [(0, .ref (adr 60)), (1, .int x1), (2, .int x2), (3, .int x3)] [] M 0 0 rs) (M : cx_M) (x1 : Int32) (x2 : Int32) (x3 : Int32) (rs : cx_R) (h : tw_receive_137b N r_137 M x1 x2 x3 = some rs) : cx_V l (g) X sX10_receive cX10_receive 137 [(0, .ref (adr 60)), (1, .int x1), (2, .int x2), (3, .int x3)] [] M 0 0 rs := by
  unfold tw_receive_137b at h
  refine cx_iload_n 3 dX10_receive_137 rfl ?_
  refine cx_bipush 33 dX10_receive_138 cx_bp_33 ?_
  refine cx_iconst 3 dX10_receive_140 cx_ic_3 ?_
  refine cx_iload_n 1 dX10_receive_141 rfl ?_
  refine cx_imul dX10_receive_142 ?_
  refine cx_iadd dX10_receive_143 ?_
  refine cx_icmp_ge 160 h dX10_receive_144 rfl (fun h => ?_) (fun h => ?_)
  · refine cx_aload_n 0 dX10_receive_160 rfl ?_
    refine cx_getR (tw_R8 H) q2398 dX10_receive_161 ?_
    refine cx_bipush 31 dX10_receive_164 cx_bp_31 ?_
    refine cx_iload_n 2 dX10_receive_166 rfl ?_
    refine cx_stC h (tw_A8 H) cx_cl_31 cx_vin_31_665 dX10_receive_167 (fun M1 h => ?_)
    exact cx_vret h rfl rfl (cx_le rfl) (cx_le rfl) dX10_receive_168
  · refine cx_aload_n 0 dX10_receive_147 rfl ?_
    refine cx_getR (tw_R8 H) q2398 dX10_receive_148 ?_
    refine cx_iload_n 3 dX10_receive_151 rfl ?_
    refine cx_iconst 0 dX10_receive_152 cx_ic_0 ?_
    refine cx_stI h (tw_A8 H) dX10_receive_153 (fun M2 h => ?_)
    refine cx_iinc 3 1 (fun v3 => [(3, .int v3), (0, .ref (adr 60)), (1, .int x1), (2, .int x2)]) h dX10_receive_154 rfl cx_ic_1 (cx_lt rfl) (fun _ => rfl) (fun v3 h => ?_)
    refine cx_goto 137 dX10_receive_157 rfl ?_
    refine cx_sub (lv' := [(0, .ref (adr 60)), (1, .int x1), (2, .int x2), (3, .int v3)]) [1, 2, 3, 0] rfl ?_
    exact hr_137 M2 x1 x2 v3 _ h
noncomputable def tw_receive_137 (N : Nat) : Nat → cx_M → Int32 → Int32 → Int32 → Option cx_R :=
  cx_fix (fun _ _ _ _ => none) (fun r_137 => tw_receive_137b N r_137)
theorem tw_receive_137_v {l : Launch} {g : cx_G} {adr : Nat → Nat} {X : cx_X} {N : Nat} (H : tw_H g adr) : ∀ (n : Nat) (M : cx_M) (x1 : Int32) (x2 : Int32) (x3 : Int32) (rs : cx_R), tw_receive_137 N n M x1 x2 x3 = some rs → cx_V l (g) X sX10_receive cX10_receive 137 [(0, .ref (adr 60)), (1, .int x1), (2, .int x2), (3, .int x3)] [] M 0 0 rs :=
  cx_fixI (fun (r : cx_M → Int32 → Int32 → Int32 → Option cx_R) => ∀ (M : cx_M) (x1 : Int32) (x2 : Int32) (x3 : Int32) (rs : cx_R), r M x1 x2 x3 = some rs → cx_V l (g) X sX10_receive cX10_receive 137 [(0, .ref (adr 60)), (1, .int x1), (2, .int x2), (3, .int x3)] [] M 0 0 rs) (fun _ _ _ _ _ h => by cases h) (fun r hr M x1 x2 x3 rs h => tw_receive_137b_v H hr M x1 x2 x3 rs h)
noncomputable def tw_receive_12b (N : Nat) (r_12 : cx_M → Int32 → Int32 → Int32 → Option cx_R) (M : cx_M) (x1 : Int32) (x2 : Int32) (x3 : Int32) : Option cx_R :=
  if x1 ≤ x3 then (
    cx_let ((33 : Int32) + ((3 : Int32) * x2)) fun v1 =>
    tw_receive_137 N N M x1 x2 v1)
  else (
    cx_let ((33 : Int32) + ((3 : Int32) * x3)) fun v2 =>
    cx_ld M 8 665 v2 fun v3 =>
    cx_ld M 8 665 (v2 + 1) fun v4 =>
    cx_ld M 8 665 (v2 + 2) fun v5 =>
    cx_get M 8 0 fun v6 =>
    if v6 < v4 then (
      cx_st M 8 665 ((33 : Int32) + ((3 : Int32) * x2)) v3 fun M7 =>
      cx_st M7 8 665 (((33 : Int32) + ((3 : Int32) * x2)) + 1) v4 fun M8 =>
      cx_st M8 8 665 (((33 : Int32) + ((3 : Int32) * x2)) + 2) v5 fun M9 =>
      cx_let (x2 + 1) fun v10 =>
      tw_receive_124 N r_12 M9 x1 v10 x3)
    else (
      cx_cal (tw_come N M v3 v5) fun M11 _ =>
      tw_receive_124 N r_12 M11 x1 x2 x3))
set_option maxRecDepth 100000 in
theorem tw_receive_12b_v {l : Launch} {g : cx_G} {adr : Nat → Nat} {X : cx_X} {N : Nat} {r_12 : cx_M → Int32 → Int32 → Int32 → Option cx_R} (H : tw_H g adr) (hr_12 : ∀ (M : cx_M) (x1 : Int32) (x2 : Int32) (x3 : Int32) (rs : cx_R), r_12 M x1 x2 x3 = some rs → cx_V l (g) X sX10_receive cX10_receive 12 [(0, .ref (adr 60)), (1, .int x1), (2, .int x2), (3, .int x3)] [] M 0 0 rs) (M : cx_M) (x1 : Int32) (x2 : Int32) (x3 : Int32) (rs : cx_R) (h : tw_receive_12b N r_12 M x1 x2 x3 = some rs) : cx_V l (g) X sX10_receive cX10_receive 12 [(0, .ref (adr 60)), (1, .int x1), (2, .int x2), (3, .int x3)] [] M 0 0 rs := by
  unfold tw_receive_12b at h
  refine cx_iload_n 3 dX10_receive_12 rfl ?_
  refine cx_iload_n 1 dX10_receive_13 rfl ?_
  refine cx_icmp_ge 130 h dX10_receive_14 rfl (fun h => ?_) (fun h => ?_)
  · refine cx_bipush 33 dX10_receive_130 cx_bp_33 ?_
    refine cx_iconst 3 dX10_receive_132 cx_ic_3 ?_
    refine cx_iload_n 2 dX10_receive_133 rfl ?_
    refine cx_imul dX10_receive_134 ?_
    refine cx_iadd dX10_receive_135 ?_
    refine cx_letI h (fun v1 h => ?_)
    refine cx_istore_n [(3, .int v1), (0, .ref (adr 60)), (1, .int x1), (2, .int x2)] dX10_receive_136 (cx_lt rfl) rfl ?_
    refine cx_sub (lv' := [(0, .ref (adr 60)), (1, .int x1), (2, .int x2), (3, .int v1)]) [1, 2, 3, 0] rfl ?_
    exact tw_receive_137_v H N M x1 x2 v1 _ h
  · refine cx_bipush 33 dX10_receive_17 cx_bp_33 ?_
    refine cx_iconst 3 dX10_receive_19 cx_ic_3 ?_
    refine cx_iload_n 3 dX10_receive_20 rfl ?_
    refine cx_imul dX10_receive_21 ?_
    refine cx_iadd dX10_receive_22 ?_
    refine cx_letI h (fun v2 h => ?_)
    refine cx_istore [(4, .int v2), (0, .ref (adr 60)), (1, .int x1), (2, .int x2), (3, .int x3)] dX10_receive_23 (cx_lt rfl) rfl ?_
    refine cx_aload_n 1 dX10_receive_25 rfl ?_
    refine cx_getR (tw_R8 H) q2398 dX10_receive_26 ?_
    refine cx_iload 0 dX10_receive_29 rfl ?_
    refine cx_ldI h (tw_A8 H) dX10_receive_31 (fun v3 h => ?_)
    refine cx_istore [(5, .int v3), (4, .int v2), (0, .ref (adr 60)), (1, .int x1), (2, .int x2), (3, .int x3)] dX10_receive_32 (cx_lt rfl) rfl ?_
    refine cx_aload_n 2 dX10_receive_34 rfl ?_
    refine cx_getR (tw_R8 H) q2398 dX10_receive_35 ?_
    refine cx_iload 1 dX10_receive_38 rfl ?_
    refine cx_iconst 1 dX10_receive_40 cx_ic_1 ?_
    refine cx_iadd dX10_receive_41 ?_
    refine cx_ldI h (tw_A8 H) dX10_receive_42 (fun v4 h => ?_)
    refine cx_istore [(6, .int v4), (5, .int v3), (4, .int v2), (0, .ref (adr 60)), (1, .int x1), (2, .int x2), (3, .int x3)] dX10_receive_43 (cx_lt rfl) rfl ?_
    refine cx_aload_n 3 dX10_receive_45 rfl ?_
    refine cx_getR (tw_R8 H) q2398 dX10_receive_46 ?_
    refine cx_iload 2 dX10_receive_49 rfl ?_
    refine cx_iconst 2 dX10_receive_51 cx_ic_2 ?_
    refine cx_iadd dX10_receive_52 ?_
    refine cx_ldI h (tw_A8 H) dX10_receive_53 (fun v5 h => ?_)
    refine cx_istore [(7, .int v5), (6, .int v4), (5, .int v3), (4, .int v2), (0, .ref (adr 60)), (1, .int x1), (2, .int x2), (3, .int x3)] dX10_receive_54 (cx_lt rfl) rfl ?_
    refine cx_iload 1 dX10_receive_56 rfl ?_
    refine cx_aload_n 4 dX10_receive_58 rfl ?_
    refine cx_getR (tw_R8 H) q2398 dX10_receive_59 ?_
    refine cx_iconst 0 dX10_receive_62 cx_ic_0 ?_
    refine cx_ldC h (tw_A8 H) cx_cl_0 cx_vin_0_665 dX10_receive_63 (fun v6 h => ?_)
    refine cx_icmp_gt 78 h dX10_receive_64 rfl (fun h => ?_) (fun h => ?_)
    · refine cx_aload_n 4 dX10_receive_78 rfl ?_
      refine cx_getR (tw_R8 H) q2398 dX10_receive_79 ?_
      refine cx_bipush 33 dX10_receive_82 cx_bp_33 ?_
      refine cx_iconst 3 dX10_receive_84 cx_ic_3 ?_
      refine cx_iload_n 6 dX10_receive_85 rfl ?_
      refine cx_imul dX10_receive_86 ?_
      refine cx_iadd dX10_receive_87 ?_
      refine cx_iload 2 dX10_receive_88 rfl ?_
      refine cx_stI h (tw_A8 H) dX10_receive_90 (fun M7 h => ?_)
      refine cx_aload_n 4 dX10_receive_91 rfl ?_
      refine cx_getR (tw_R8 H) q2398 dX10_receive_92 ?_
      refine cx_bipush 33 dX10_receive_95 cx_bp_33 ?_
      refine cx_iconst 3 dX10_receive_97 cx_ic_3 ?_
      refine cx_iload_n 6 dX10_receive_98 rfl ?_
      refine cx_imul dX10_receive_99 ?_
      refine cx_iadd dX10_receive_100 ?_
      refine cx_iconst 1 dX10_receive_101 cx_ic_1 ?_
      refine cx_iadd dX10_receive_102 ?_
      refine cx_iload 1 dX10_receive_103 rfl ?_
      refine cx_stI h (tw_A8 H) dX10_receive_105 (fun M8 h => ?_)
      refine cx_aload_n 4 dX10_receive_106 rfl ?_
      refine cx_getR (tw_R8 H) q2398 dX10_receive_107 ?_
      refine cx_bipush 33 dX10_receive_110 cx_bp_33 ?_
      refine cx_iconst 3 dX10_receive_112 cx_ic_3 ?_
      refine cx_iload_n 6 dX10_receive_113 rfl ?_
      refine cx_imul dX10_receive_114 ?_
      refine cx_iadd dX10_receive_115 ?_
      refine cx_iconst 2 dX10_receive_116 cx_ic_2 ?_
      refine cx_iadd dX10_receive_117 ?_
      refine cx_iload 0 dX10_receive_118 rfl ?_
      refine cx_stI h (tw_A8 H) dX10_receive_120 (fun M9 h => ?_)
      refine cx_iinc 6 1 (fun v10 => [(2, .int v10), (7, .int v5), (6, .int v4), (5, .int v3), (4, .int v2), (0, .ref (adr 60)), (1, .int x1), (3, .int x3)]) h dX10_receive_121 rfl cx_ic_1 (cx_lt rfl) (fun _ => rfl) (fun v10 h => ?_)
      refine cx_sub (lv' := [(0, .ref (adr 60)), (1, .int x1), (2, .int v10), (3, .int x3)]) [5, 6, 0, 7] rfl ?_
      exact tw_receive_124_v H hr_12 M9 x1 v10 x3 _ h
    · refine cx_aload_n 4 dX10_receive_67 rfl ?_
      refine cx_iload 2 dX10_receive_68 rfl ?_
      refine cx_iload 0 dX10_receive_70 rfl ?_
      refine cx_cVv [.int v3, .int v5] [] h (fun rs' h' => tw_come_m H M v3 v5 rs' h') (tw_rc H) dX10_receive_72 g_X10_321 hg_X10_321 ⟨cx_le rfl, cx_le rfl⟩ rfl ⟨rfl, rfl⟩ ⟨cx_le rfl, cx_le rfl⟩ rfl (cx_le rfl) (fun M11 _ h => ?_)
      refine cx_goto 124 dX10_receive_75 rfl ?_
      refine cx_sub (lv' := [(0, .ref (adr 60)), (1, .int x1), (2, .int x2), (3, .int x3)]) [4, 5, 6, 7] rfl ?_
      exact tw_receive_124_v H hr_12 M11 x1 x2 x3 _ h
noncomputable def tw_receive_12 (N : Nat) : Nat → cx_M → Int32 → Int32 → Int32 → Option cx_R :=
  cx_fix (fun _ _ _ _ => none) (fun r_12 => tw_receive_12b N r_12)
theorem tw_receive_12_v {l : Launch} {g : cx_G} {adr : Nat → Nat} {X : cx_X} {N : Nat} (H : tw_H g adr) : ∀ (n : Nat) (M : cx_M) (x1 : Int32) (x2 : Int32) (x3 : Int32) (rs : cx_R), tw_receive_12 N n M x1 x2 x3 = some rs → cx_V l (g) X sX10_receive cX10_receive 12 [(0, .ref (adr 60)), (1, .int x1), (2, .int x2), (3, .int x3)] [] M 0 0 rs :=
  cx_fixI (fun (r : cx_M → Int32 → Int32 → Int32 → Option cx_R) => ∀ (M : cx_M) (x1 : Int32) (x2 : Int32) (x3 : Int32) (rs : cx_R), r M x1 x2 x3 = some rs → cx_V l (g) X sX10_receive cX10_receive 12 [(0, .ref (adr 60)), (1, .int x1), (2, .int x2), (3, .int x3)] [] M 0 0 rs) (fun _ _ _ _ _ h => by cases h) (fun r hr M x1 x2 x3 rs h => tw_receive_12b_v H hr M x1 x2 x3 rs h)
noncomputable def tw_receive_0 (N : Nat) (M : cx_M) : Option cx_R :=
  cx_get M 8 31 fun v1 =>
  tw_receive_12 N N M v1 0 0
set_option maxRecDepth 100000 in
theorem tw_receive_0_v {l : Launch} {g : cx_G} {adr : Nat → Nat} {X : cx_X} {N : Nat} (H : tw_H g adr) (M : cx_M) (rs : cx_R) (h : tw_receive_0 N M = some rs) : cx_V l (g) X sX10_receive cX10_receive 0 [(0, .ref (adr 60))] [] M 0 0 rs := by
  unfold tw_receive_0 at h
  refine cx_aload_n 0 dX10_receive_0 rfl ?_
  refine cx_getR (tw_R8 H) q2398 dX10_receive_1 ?_
  refine cx_bipush 31 dX10_receive_4 cx_bp_31 ?_
  refine cx_ldC h (tw_A8 H) cx_cl_31 cx_vin_31_665 dX10_receive_6 (fun v1 h => ?_)
  refine cx_istore_n [(1, .int v1), (0, .ref (adr 60))] dX10_receive_7 (cx_lt rfl) rfl ?_
  refine cx_iconst 0 dX10_receive_8 cx_ic_0 ?_
  refine cx_istore_n [(2, .int 0), (1, .int v1), (0, .ref (adr 60))] dX10_receive_9 (cx_lt rfl) rfl ?_
  refine cx_iconst 0 dX10_receive_10 cx_ic_0 ?_
  refine cx_istore_n [(3, .int 0), (2, .int 0), (1, .int v1), (0, .ref (adr 60))] dX10_receive_11 (cx_lt rfl) rfl ?_
  refine cx_sub (lv' := [(0, .ref (adr 60)), (1, .int v1), (2, .int 0), (3, .int 0)]) [3, 2, 1, 0] rfl ?_
  exact tw_receive_12_v H N M v1 0 0 _ h
noncomputable def tw_receive (N : Nat) (M : cx_M) : Option cx_R := tw_receive_0 N M
theorem tw_receive_m {l : Launch} {g : cx_G} {adr : Nat → Nat} {N : Nat} (H : tw_H g adr) (M : cx_M) (rs : cx_R) (h : tw_receive N M = some rs) : cx_Met l (g) yX10_receive cX10_receive sX10_receive [.ref (adr 60)] M rs :=
  cx_met (by decide +kernel) rfl rfl (lv := [(0, .ref (adr 60))]) rfl (cx_le rfl) (fun X => cx_sub (lv' := [(0, .ref (adr 60))]) [0] rfl (tw_receive_0_v H M rs h))
