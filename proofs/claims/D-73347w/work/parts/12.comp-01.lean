abbrev sX7_has : cx_S := (2, RX7, cx_rI, { frames := 0, cells := 0, slots := 0, locals := 0 }, some .boolean, false)
noncomputable def cCo_has_0 (N : cx_N) (M : cx_M) (x1 : Int32) : Option cx_R :=
  cx_get M 9000 2 fun v1 =>
  if x1 < v1 then (
    some (M, 0, 0))
  else (
    cx_get M 9000 2 fun v2 =>
    if (v2 + 512) ≤ x1 then (
      some (M, 0, 0))
    else (
      some (M, 1, 0)))
set_option maxRecDepth 100000 in
theorem cCo_has_0_v {l : Launch} {g : cx_G} {adr : Nat → Nat} {X : cx_X} {N : cx_N} (H : cCp_H g adr N) (M : cx_M) (x1 : Int32) (rs : cx_R) (h : cCo_has_0 N M x1 = some rs) : cx_V l (g) X sX7_has cX7_has 0 [(0, .ref (adr 9000)), (1, .int x1)] [] M 0 0 rs := by
  unfold cCo_has_0 at h
  refine cx_iload_n 1 dX7_has_0 rfl ?_
  refine cx_aload_n 0 dX7_has_1 rfl ?_
  refine cx_getI h (cCo_F2 H) q949 dX7_has_2 (fun v1 h => ?_)
  refine cx_icmp_lt 24 h dX7_has_5 rfl (fun h => ?_) (fun h => ?_)
  · refine cx_iconst 0 dX7_has_24 cx_ic_0 ?_
    exact cx_zret h cx_z_0 rfl rfl (cx_le rfl) (cx_le rfl) dX7_has_25
  · refine cx_iload_n 1 dX7_has_8 rfl ?_
    refine cx_aload_n 0 dX7_has_9 rfl ?_
    refine cx_getI h (cCo_F2 H) q949 dX7_has_10 (fun v2 h => ?_)
    refine cx_sipush 512 dX7_has_13 cx_sp_512 ?_
    refine cx_iadd dX7_has_16 ?_
    refine cx_icmp_ge 24 h dX7_has_17 rfl (fun h => ?_) (fun h => ?_)
    · refine cx_iconst 0 dX7_has_24 cx_ic_0 ?_
      exact cx_zret h cx_z_0 rfl rfl (cx_le rfl) (cx_le rfl) dX7_has_25
    · refine cx_iconst 1 dX7_has_20 cx_ic_1 ?_
      refine cx_goto 25 dX7_has_21 rfl ?_
      exact cx_zret h cx_z_1 rfl rfl (cx_le rfl) (cx_le rfl) dX7_has_25
noncomputable def cCo_has (N : cx_N) (M : cx_M) (x1 : Int32) : Option cx_R := cCo_has_0 N M x1
theorem cCo_has_m {l : Launch} {g : cx_G} {adr : Nat → Nat} {N : cx_N} (H : cCp_H g adr N) (M : cx_M) (x1 : Int32) (rs : cx_R) (h : cCo_has N M x1 = some rs) : cx_Met l (g) yX7_has cX7_has sX7_has [.ref (adr 9000), .int x1] M rs :=
  cx_met (by decide +kernel) rfl rfl (lv := [(0, .ref (adr 9000)), (1, .int x1)]) rfl (cx_le rfl) (fun X => cx_sub (lv' := [(0, .ref (adr 9000)), (1, .int x1)]) [0, 1] rfl (cCo_has_0_v H M x1 rs h))

abbrev sX7_delay : cx_S := (2, RX7, cx_rI, { frames := 1, cells := 0, slots := 0, locals := 21 }, some .int, false)
noncomputable def cCo_delay_0 (N : cx_N) (M : cx_M) (x1 : Int32) : Option cx_R :=
  cx_cal (cCo_has N M x1) fun M1 v2 =>
  if v2 = 0 then (
    some (M1, (-1), 0))
  else (
    cx_get M1 9000 2 fun v3 =>
    cx_ld M1 9001 512 (x1 - v3) fun v4 =>
    some (M1, v4, 0))
set_option maxRecDepth 100000 in
theorem cCo_delay_0_v {l : Launch} {g : cx_G} {adr : Nat → Nat} {X : cx_X} {N : cx_N} (H : cCp_H g adr N) (M : cx_M) (x1 : Int32) (rs : cx_R) (h : cCo_delay_0 N M x1 = some rs) : cx_V l (g) X sX7_delay cX7_delay 0 [(0, .ref (adr 9000)), (1, .int x1)] [] M 0 0 rs := by
  unfold cCo_delay_0 at h
  refine cx_aload_n 0 dX7_delay_0 rfl ?_
  refine cx_iload_n 1 dX7_delay_1 rfl ?_
  refine cx_cVi [.int x1] [] h (fun rs' h' => cCo_has_m H M x1 rs' h') (cCo_rc H) dX7_delay_2 g_X7_22 hg_X7_22 ⟨cx_le rfl, cx_le rfl⟩ rfl ⟨rfl, rfl⟩ ⟨cx_le rfl, cx_le rfl⟩ rfl (cx_le rfl) (fun M1 v2 h => ?_)
  refine cx_if_eq 22 h dX7_delay_5 rfl (fun h => ?_) (fun h => ?_)
  · refine cx_iconst (-1) dX7_delay_22 cx_ic_m1 ?_
    exact cx_iret h rfl rfl (cx_le rfl) (cx_le rfl) dX7_delay_23
  · refine cx_aload_n 0 dX7_delay_8 rfl ?_
    refine cx_getR (cCo_R0 H) q947 dX7_delay_9 ?_
    refine cx_iload_n 1 dX7_delay_12 rfl ?_
    refine cx_aload_n 0 dX7_delay_13 rfl ?_
    refine cx_getI h (cCo_F2 H) q949 dX7_delay_14 (fun v3 h => ?_)
    refine cx_isub dX7_delay_17 ?_
    refine cx_ldI h (cCo_A0 H) dX7_delay_18 (fun v4 h => ?_)
    refine cx_goto 23 dX7_delay_19 rfl ?_
    exact cx_iret h rfl rfl (cx_le rfl) (cx_le rfl) dX7_delay_23
noncomputable def cCo_delay (N : cx_N) (M : cx_M) (x1 : Int32) : Option cx_R := cCo_delay_0 N M x1
theorem cCo_delay_m {l : Launch} {g : cx_G} {adr : Nat → Nat} {N : cx_N} (H : cCp_H g adr N) (M : cx_M) (x1 : Int32) (rs : cx_R) (h : cCo_delay N M x1 = some rs) : cx_Met l (g) yX7_delay cX7_delay sX7_delay [.ref (adr 9000), .int x1] M rs :=
  cx_met (by decide +kernel) rfl rfl (lv := [(0, .ref (adr 9000)), (1, .int x1)]) rfl (cx_le rfl) (fun X => cx_sub (lv' := [(0, .ref (adr 9000)), (1, .int x1)]) [0, 1] rfl (cCo_delay_0_v H M x1 rs h))

abbrev sX7_keepsDelay : cx_S := (3, RX7, cx_rV, { frames := 1, cells := 0, slots := 0, locals := 21 }, none, false)
noncomputable def cCo_keepsDelay_0 (N : cx_N) (M : cx_M) (x1 : Int32) (x2 : Int32) : Option cx_R :=
  cx_cal (cCo_has N M x1) fun M1 v2 =>
  if v2 = 0 then (
    some (M1, 0, 0))
  else (
    cx_get M1 9000 2 fun v3 =>
    cx_st M1 9001 512 (x1 - v3) x2 fun M4 =>
    some (M4, 0, 0))
set_option maxRecDepth 100000 in
theorem cCo_keepsDelay_0_v {l : Launch} {g : cx_G} {adr : Nat → Nat} {X : cx_X} {N : cx_N} (H : cCp_H g adr N) (M : cx_M) (x1 : Int32) (x2 : Int32) (rs : cx_R) (h : cCo_keepsDelay_0 N M x1 x2 = some rs) : cx_V l (g) X sX7_keepsDelay cX7_keepsDelay 0 [(0, .ref (adr 9000)), (1, .int x1), (2, .int x2)] [] M 0 0 rs := by
  unfold cCo_keepsDelay_0 at h
  refine cx_aload_n 0 dX7_keepsDelay_0 rfl ?_
  refine cx_iload_n 1 dX7_keepsDelay_1 rfl ?_
  refine cx_cVi [.int x1] [] h (fun rs' h' => cCo_has_m H M x1 rs' h') (cCo_rc H) dX7_keepsDelay_2 g_X7_22 hg_X7_22 ⟨cx_le rfl, cx_le rfl⟩ rfl ⟨rfl, rfl⟩ ⟨cx_le rfl, cx_le rfl⟩ rfl (cx_le rfl) (fun M1 v2 h => ?_)
  refine cx_if_eq 20 h dX7_keepsDelay_5 rfl (fun h => ?_) (fun h => ?_)
  · exact cx_vret h rfl rfl (cx_le rfl) (cx_le rfl) dX7_keepsDelay_20
  · refine cx_aload_n 0 dX7_keepsDelay_8 rfl ?_
    refine cx_getR (cCo_R0 H) q947 dX7_keepsDelay_9 ?_
    refine cx_iload_n 1 dX7_keepsDelay_12 rfl ?_
    refine cx_aload_n 0 dX7_keepsDelay_13 rfl ?_
    refine cx_getI h (cCo_F2 H) q949 dX7_keepsDelay_14 (fun v3 h => ?_)
    refine cx_isub dX7_keepsDelay_17 ?_
    refine cx_iload_n 2 dX7_keepsDelay_18 rfl ?_
    refine cx_stI h (cCo_A0 H) dX7_keepsDelay_19 (fun M4 h => ?_)
    exact cx_vret h rfl rfl (cx_le rfl) (cx_le rfl) dX7_keepsDelay_20
noncomputable def cCo_keepsDelay (N : cx_N) (M : cx_M) (x1 : Int32) (x2 : Int32) : Option cx_R := cCo_keepsDelay_0 N M x1 x2
theorem cCo_keepsDelay_m {l : Launch} {g : cx_G} {adr : Nat → Nat} {N : cx_N} (H : cCp_H g adr N) (M : cx_M) (x1 : Int32) (x2 : Int32) (rs : cx_R) (h : cCo_keepsDelay N M x1 x2 = some rs) : cx_Met l (g) yX7_keepsDelay cX7_keepsDelay sX7_keepsDelay [.ref (adr 9000), .int x1, .int x2] M rs :=
  cx_met (by decide +kernel) rfl rfl (lv := [(0, .ref (adr 9000)), (1, .int x1), (2, .int x2)]) rfl (cx_le rfl) (fun X => cx_sub (lv' := [(0, .ref (adr 9000)), (1, .int x1), (2, .int x2)]) [0, 1, 2] rfl (cCo_keepsDelay_0_v H M x1 x2 rs h))

abbrev sX6_delayBy : cx_S := (3, RX6, cx_rI, { frames := 900, cells := 0, slots := 0, locals := 30000 }, some .int, false)
noncomputable def cSt_delayBy_43 (N : cx_N) (b : Nat) (M : cx_M) : Option cx_R :=
  cx_get M 8000 8 fun v1 =>
  cx_nz v1 <|
  cx_cal (cEx_by N 0 M) fun M2 v3 =>
  cx_let (cx_max 0 (cx_min 60 v3)) fun v4 =>
  cx_get M2 b 45 fun v5 =>
  if v5 = 0 then (
    some (M2, v4, 0))
  else (
    cx_get M2 b 45 fun v6 =>
    cx_get M2 b 2 fun v7 =>
    cx_nz v6 <|
    cx_cal (cCo_keepsDelay N M2 v7 v4) fun M8 _ =>
    some (M8, v4, 0))
set_option maxRecDepth 100000 in
theorem cSt_delayBy_43_v {l : Launch} {g : cx_G} {adr : Nat → Nat} {X : cx_X} {N : cx_N} {b : Nat} (H : cCp_H g adr N) (hb : cSt_H g adr b) (M : cx_M) (rs : cx_R) (h : cSt_delayBy_43 N b M = some rs) : cx_V l (g) X sX6_delayBy cX6_delayBy 43 [(0, .ref (adr b)), (1, .ref (adr 8000))] [] M 0 0 rs := by
  unfold cSt_delayBy_43 at h
  refine cx_iconst 0 dX6_delayBy_43 cx_ic_0 ?_
  refine cx_bipush 60 dX6_delayBy_44 cx_bp_60 ?_
  refine cx_aload_n 1 dX6_delayBy_46 rfl ?_
  refine cx_getON h (cLn_O8 H) q583 dX6_delayBy_47 (fun v1 h => ?_)
  refine cx_aload_n 1 dX6_delayBy_50 rfl ?_
  refine cx_getRN (cLn_R10 H) q588 dX6_delayBy_51 ?_
  refine cx_nn (r := adr 8020) h (fun e h => ?_)
  rw [e]
  refine cLs_ex H (e := 0) (by decide) h dX6_delayBy_54 q1203 (cx_le rfl) (cx_le rfl) (cx_le rfl) (cx_le rfl) (cx_le rfl) (fun M2 v3 h => ?_)
  refine cx_mmin dX6_delayBy_57 q1221 (cx_le rfl) (cx_le rfl) (cx_le rfl) (cx_le rfl) ?_
  refine cx_mmax dX6_delayBy_60 q989 (cx_le rfl) (cx_le rfl) (cx_le rfl) (cx_le rfl) ?_
  refine cx_letI h (fun v4 h => ?_)
  refine cx_istore_n [(2, .int v4), (0, .ref (adr b)), (1, .ref (adr 8000))] dX6_delayBy_63 (cx_lt rfl) rfl ?_
  refine cx_aload_n 1 dX6_delayBy_64 rfl ?_
  refine cx_getO h (cSt_O45 hb) q729 dX6_delayBy_65 (fun v5 h => ?_)
  refine cx_ifnull 83 h dX6_delayBy_68 rfl (fun h => ?_) (fun h => ?_)
  · refine cx_iload_n 0 dX6_delayBy_83 rfl ?_
    exact cx_iret h rfl rfl (cx_le rfl) (cx_le rfl) dX6_delayBy_84
  · refine cx_aload_n 1 dX6_delayBy_71 rfl ?_
    refine cx_getO h (cSt_O45 hb) q729 dX6_delayBy_72 (fun v6 h => ?_)
    refine cx_aload_n 1 dX6_delayBy_75 rfl ?_
    refine cx_getI h (cSt_F2 hb) q652 dX6_delayBy_76 (fun v7 h => ?_)
    refine cx_iload_n 0 dX6_delayBy_79 rfl ?_
    refine cx_nn (r := adr 9000) h (fun e h => ?_)
    rw [e]
    refine cx_cVv [.int v7, .int v4] [] h (fun rs' h' => cCo_keepsDelay_m H M2 v7 v4 rs' h') (cCo_rc H) dX6_delayBy_80 g_X6_206 hg_X6_206 ⟨cx_le rfl, cx_le rfl⟩ rfl ⟨rfl, rfl⟩ ⟨cx_le rfl, cx_le rfl⟩ rfl (cx_le rfl) (fun M8 _ h => ?_)
    refine cx_iload_n 0 dX6_delayBy_83 rfl ?_
    exact cx_iret h rfl rfl (cx_le rfl) (cx_le rfl) dX6_delayBy_84
noncomputable def cSt_delayBy_0 (N : cx_N) (b : Nat) (M : cx_M) : Option cx_R :=
  cx_get M 8000 8 fun v1 =>
  if v1 = 0 then (
    some (M, 3, 0))
  else (
    cx_get M b 45 fun v2 =>
    if v2 = 0 then (
      cSt_delayBy_43 N b M)
    else (
      cx_get M b 45 fun v3 =>
      cx_get M b 2 fun v4 =>
      cx_nz v3 <|
      cx_cal (cCo_delay N M v4) fun M5 v6 =>
      if v6 = (-1) then (
        cSt_delayBy_43 N b M5)
      else (
        cx_get M5 b 45 fun v7 =>
        cx_get M5 b 2 fun v8 =>
        cx_nz v7 <|
        cx_cal (cCo_delay N M5 v8) fun M9 v10 =>
        some (M9, v10, 0))))
set_option maxRecDepth 100000 in
theorem cSt_delayBy_0_v {l : Launch} {g : cx_G} {adr : Nat → Nat} {X : cx_X} {N : cx_N} {b : Nat} (H : cCp_H g adr N) (hb : cSt_H g adr b) (M : cx_M) (rs : cx_R) (h : cSt_delayBy_0 N b M = some rs) : cx_V l (g) X sX6_delayBy cX6_delayBy 0 [(0, .ref (adr b)), (1, .ref (adr 8000))] [] M 0 0 rs := by
  unfold cSt_delayBy_0 at h
  refine cx_aload_n 1 dX6_delayBy_0 rfl ?_
  refine cx_getON h (cLn_O8 H) q583 dX6_delayBy_1 (fun v1 h => ?_)
  refine cx_ifnonnull 9 h dX6_delayBy_4 rfl (fun h => ?_) (fun h => ?_)
  · refine cx_aload_n 0 dX6_delayBy_9 rfl ?_
    refine cx_getO h (cSt_O45 hb) q729 dX6_delayBy_10 (fun v2 h => ?_)
    refine cx_ifnull 43 h dX6_delayBy_13 rfl (fun h => ?_) (fun h => ?_)
    · exact cSt_delayBy_43_v H hb M _ h
    · refine cx_aload_n 0 dX6_delayBy_16 rfl ?_
      refine cx_getO h (cSt_O45 hb) q729 dX6_delayBy_17 (fun v3 h => ?_)
      refine cx_aload_n 0 dX6_delayBy_20 rfl ?_
      refine cx_getI h (cSt_F2 hb) q652 dX6_delayBy_21 (fun v4 h => ?_)
      refine cx_nn (r := adr 9000) h (fun e h => ?_)
      rw [e]
      refine cx_cVi [.int v4] [] h (fun rs' h' => cCo_delay_m H M v4 rs' h') (cCo_rc H) dX6_delayBy_24 g_X6_182 hg_X6_182 ⟨cx_le rfl, cx_le rfl⟩ rfl ⟨rfl, rfl⟩ ⟨cx_le rfl, cx_le rfl⟩ rfl (cx_le rfl) (fun M5 v6 h => ?_)
      refine cx_iconst (-1) dX6_delayBy_27 cx_ic_m1 ?_
      refine cx_icmp_eq 43 h dX6_delayBy_28 rfl (fun h => ?_) (fun h => ?_)
      · exact cSt_delayBy_43_v H hb M5 _ h
      · refine cx_aload_n 0 dX6_delayBy_31 rfl ?_
        refine cx_getO h (cSt_O45 hb) q729 dX6_delayBy_32 (fun v7 h => ?_)
        refine cx_aload_n 0 dX6_delayBy_35 rfl ?_
        refine cx_getI h (cSt_F2 hb) q652 dX6_delayBy_36 (fun v8 h => ?_)
        refine cx_nn (r := adr 9000) h (fun e h => ?_)
        rw [e]
        refine cx_cVi [.int v8] [] h (fun rs' h' => cCo_delay_m H M5 v8 rs' h') (cCo_rc H) dX6_delayBy_39 g_X6_182 hg_X6_182 ⟨cx_le rfl, cx_le rfl⟩ rfl ⟨rfl, rfl⟩ ⟨cx_le rfl, cx_le rfl⟩ rfl (cx_le rfl) (fun M9 v10 h => ?_)
        exact cx_iret h rfl rfl (cx_le rfl) (cx_le rfl) dX6_delayBy_42
  · refine cx_iconst 3 dX6_delayBy_7 cx_ic_3 ?_
    exact cx_iret h rfl rfl (cx_le rfl) (cx_le rfl) dX6_delayBy_8
noncomputable def cSt_delayBy (N : cx_N) (b : Nat) (M : cx_M) : Option cx_R := cSt_delayBy_0 N b M
theorem cSt_delayBy_m {l : Launch} {g : cx_G} {adr : Nat → Nat} {N : cx_N} {b : Nat} (H : cCp_H g adr N) (hb : cSt_H g adr b) (M : cx_M) (rs : cx_R) (h : cSt_delayBy N b M = some rs) : cx_Met l (g) yX6_delayBy cX6_delayBy sX6_delayBy [.ref (adr b), .ref (adr 8000)] M rs :=
  cx_met (by decide +kernel) rfl rfl (lv := [(0, .ref (adr b)), (1, .ref (adr 8000))]) rfl (cx_le rfl) (fun X => cx_sub (lv' := [(0, .ref (adr b)), (1, .ref (adr 8000))]) [0, 1] rfl (cSt_delayBy_0_v H hb M rs h))

abbrev sX7_lost : cx_S := (2, RX7, cx_rI, { frames := 1, cells := 0, slots := 0, locals := 21 }, some .int, false)
noncomputable def cCo_lost_0 (N : cx_N) (M : cx_M) (x1 : Int32) : Option cx_R :=
  cx_cal (cCo_has N M x1) fun M1 v2 =>
  if v2 = 0 then (
    some (M1, (-1), 0))
  else (
    cx_get M1 9000 2 fun v3 =>
    cx_ld M1 9002 512 (x1 - v3) fun v4 =>
    some (M1, v4, 0))
set_option maxRecDepth 100000 in
theorem cCo_lost_0_v {l : Launch} {g : cx_G} {adr : Nat → Nat} {X : cx_X} {N : cx_N} (H : cCp_H g adr N) (M : cx_M) (x1 : Int32) (rs : cx_R) (h : cCo_lost_0 N M x1 = some rs) : cx_V l (g) X sX7_lost cX7_lost 0 [(0, .ref (adr 9000)), (1, .int x1)] [] M 0 0 rs := by
  unfold cCo_lost_0 at h
  refine cx_aload_n 0 dX7_lost_0 rfl ?_
  refine cx_iload_n 1 dX7_lost_1 rfl ?_
  refine cx_cVi [.int x1] [] h (fun rs' h' => cCo_has_m H M x1 rs' h') (cCo_rc H) dX7_lost_2 g_X7_22 hg_X7_22 ⟨cx_le rfl, cx_le rfl⟩ rfl ⟨rfl, rfl⟩ ⟨cx_le rfl, cx_le rfl⟩ rfl (cx_le rfl) (fun M1 v2 h => ?_)
  refine cx_if_eq 22 h dX7_lost_5 rfl (fun h => ?_) (fun h => ?_)
  · refine cx_iconst (-1) dX7_lost_22 cx_ic_m1 ?_
    exact cx_iret h rfl rfl (cx_le rfl) (cx_le rfl) dX7_lost_23
  · refine cx_aload_n 0 dX7_lost_8 rfl ?_
    refine cx_getR (cCo_R1 H) q948 dX7_lost_9 ?_
    refine cx_iload_n 1 dX7_lost_12 rfl ?_
    refine cx_aload_n 0 dX7_lost_13 rfl ?_
    refine cx_getI h (cCo_F2 H) q949 dX7_lost_14 (fun v3 h => ?_)
    refine cx_isub dX7_lost_17 ?_
    refine cx_ldI h (cCo_A1 H) dX7_lost_18 (fun v4 h => ?_)
    refine cx_goto 23 dX7_lost_19 rfl ?_
    exact cx_iret h rfl rfl (cx_le rfl) (cx_le rfl) dX7_lost_23
noncomputable def cCo_lost (N : cx_N) (M : cx_M) (x1 : Int32) : Option cx_R := cCo_lost_0 N M x1
theorem cCo_lost_m {l : Launch} {g : cx_G} {adr : Nat → Nat} {N : cx_N} (H : cCp_H g adr N) (M : cx_M) (x1 : Int32) (rs : cx_R) (h : cCo_lost N M x1 = some rs) : cx_Met l (g) yX7_lost cX7_lost sX7_lost [.ref (adr 9000), .int x1] M rs :=
  cx_met (by decide +kernel) rfl rfl (lv := [(0, .ref (adr 9000)), (1, .int x1)]) rfl (cx_le rfl) (fun X => cx_sub (lv' := [(0, .ref (adr 9000)), (1, .int x1)]) [0, 1] rfl (cCo_lost_0_v H M x1 rs h))

abbrev sX7_keepsLost : cx_S := (3, RX7, cx_rV, { frames := 1, cells := 0, slots := 0, locals := 21 }, none, false)
noncomputable def cCo_keepsLost_0 (N : cx_N) (M : cx_M) (x1 : Int32) (x2 : Int32) : Option cx_R :=
  cx_cal (cCo_has N M x1) fun M1 v2 =>
  if v2 = 0 then (
    some (M1, 0, 0))
  else (
    cx_get M1 9000 2 fun v3 =>
    if x2 = 0 then (
      cx_st M1 9002 512 (x1 - v3) 0 fun M4 =>
      some (M4, 0, 0))
    else (
      cx_st M1 9002 512 (x1 - v3) 1 fun M5 =>
      some (M5, 0, 0)))
set_option maxRecDepth 100000 in
theorem cCo_keepsLost_0_v {l : Launch} {g : cx_G} {adr : Nat → Nat} {X : cx_X} {N : cx_N} (H : cCp_H g adr N) (M : cx_M) (x1 : Int32) (x2 : Int32) (rs : cx_R) (h : cCo_keepsLost_0 N M x1 x2 = some rs) : cx_V l (g) X sX7_keepsLost cX7_keepsLost 0 [(0, .ref (adr 9000)), (1, .int x1), (2, .int x2)] [] M 0 0 rs := by
  unfold cCo_keepsLost_0 at h
  refine cx_aload_n 0 dX7_keepsLost_0 rfl ?_
  refine cx_iload_n 1 dX7_keepsLost_1 rfl ?_
  refine cx_cVi [.int x1] [] h (fun rs' h' => cCo_has_m H M x1 rs' h') (cCo_rc H) dX7_keepsLost_2 g_X7_22 hg_X7_22 ⟨cx_le rfl, cx_le rfl⟩ rfl ⟨rfl, rfl⟩ ⟨cx_le rfl, cx_le rfl⟩ rfl (cx_le rfl) (fun M1 v2 h => ?_)
  refine cx_if_eq 28 h dX7_keepsLost_5 rfl (fun h => ?_) (fun h => ?_)
  · exact cx_vret h rfl rfl (cx_le rfl) (cx_le rfl) dX7_keepsLost_28
  · refine cx_aload_n 0 dX7_keepsLost_8 rfl ?_
    refine cx_getR (cCo_R1 H) q948 dX7_keepsLost_9 ?_
    refine cx_iload_n 1 dX7_keepsLost_12 rfl ?_
    refine cx_aload_n 0 dX7_keepsLost_13 rfl ?_
    refine cx_getI h (cCo_F2 H) q949 dX7_keepsLost_14 (fun v3 h => ?_)
    refine cx_isub dX7_keepsLost_17 ?_
    refine cx_iload_n 2 dX7_keepsLost_18 rfl ?_
    refine cx_if_eq 26 h dX7_keepsLost_19 rfl (fun h => ?_) (fun h => ?_)
    · refine cx_iconst 0 dX7_keepsLost_26 cx_ic_0 ?_
      refine cx_stI h (cCo_A1 H) dX7_keepsLost_27 (fun M4 h => ?_)
      exact cx_vret h rfl rfl (cx_le rfl) (cx_le rfl) dX7_keepsLost_28
    · refine cx_iconst 1 dX7_keepsLost_22 cx_ic_1 ?_
      refine cx_goto 27 dX7_keepsLost_23 rfl ?_
      refine cx_stI h (cCo_A1 H) dX7_keepsLost_27 (fun M5 h => ?_)
      exact cx_vret h rfl rfl (cx_le rfl) (cx_le rfl) dX7_keepsLost_28
noncomputable def cCo_keepsLost (N : cx_N) (M : cx_M) (x1 : Int32) (x2 : Int32) : Option cx_R := cCo_keepsLost_0 N M x1 x2
theorem cCo_keepsLost_m {l : Launch} {g : cx_G} {adr : Nat → Nat} {N : cx_N} (H : cCp_H g adr N) (M : cx_M) (x1 : Int32) (x2 : Int32) (rs : cx_R) (h : cCo_keepsLost N M x1 x2 = some rs) : cx_Met l (g) yX7_keepsLost cX7_keepsLost sX7_keepsLost [.ref (adr 9000), .int x1, .int x2] M rs :=
  cx_met (by decide +kernel) rfl rfl (lv := [(0, .ref (adr 9000)), (1, .int x1), (2, .int x2)]) rfl (cx_le rfl) (fun X => cx_sub (lv' := [(0, .ref (adr 9000)), (1, .int x1), (2, .int x2)]) [0, 1, 2] rfl (cCo_keepsLost_0_v H M x1 x2 rs h))

abbrev sX6_isLostBy : cx_S := (3, RX6, cx_rI, { frames := 900, cells := 0, slots := 0, locals := 30000 }, some .boolean, false)
noncomputable def cSt_isLostBy_71 (N : cx_N) (b : Nat) (M : cx_M) (z0 : Int32) : Option cx_R :=
  cx_get M b 45 fun v1 =>
  if v1 = 0 then (
    cx_bl z0 (some (M, z0, 0)))
  else (
    cx_get M b 45 fun v2 =>
    cx_get M b 2 fun v3 =>
    cx_nz v2 <|
    cx_cal (cCo_keepsLost N M v3 z0) fun M4 _ =>
    cx_bl z0 (some (M4, z0, 0)))
set_option maxRecDepth 100000 in
theorem cSt_isLostBy_71_v {l : Launch} {g : cx_G} {adr : Nat → Nat} {X : cx_X} {N : cx_N} {b : Nat} (H : cCp_H g adr N) (hb : cSt_H g adr b) (M : cx_M) (z0 : Int32) (rs : cx_R) (h : cSt_isLostBy_71 N b M z0 = some rs) : cx_V l (g) X sX6_isLostBy cX6_isLostBy 71 [(0, .ref (adr b))] [.int z0] M 0 0 rs := by
  unfold cSt_isLostBy_71 at h
  refine cx_istore_n [(2, .int z0), (0, .ref (adr b))] dX6_isLostBy_71 (cx_lt rfl) rfl ?_
  refine cx_aload_n 1 dX6_isLostBy_72 rfl ?_
  refine cx_getO h (cSt_O45 hb) q729 dX6_isLostBy_73 (fun v1 h => ?_)
  refine cx_ifnull 91 h dX6_isLostBy_76 rfl (fun h => ?_) (fun h => ?_)
  · refine cx_iload_n 0 dX6_isLostBy_91 rfl ?_
    refine cx_blI h (fun hz h => ?_)
    exact cx_zret h hz.1 rfl rfl (cx_le rfl) (cx_le rfl) dX6_isLostBy_92
  · refine cx_aload_n 1 dX6_isLostBy_79 rfl ?_
    refine cx_getO h (cSt_O45 hb) q729 dX6_isLostBy_80 (fun v2 h => ?_)
    refine cx_aload_n 1 dX6_isLostBy_83 rfl ?_
    refine cx_getI h (cSt_F2 hb) q652 dX6_isLostBy_84 (fun v3 h => ?_)
    refine cx_iload_n 0 dX6_isLostBy_87 rfl ?_
    refine cx_nn (r := adr 9000) h (fun e h => ?_)
    rw [e]
    refine cx_cVv [.int v3, .int z0] [] h (fun rs' h' => cCo_keepsLost_m H M v3 z0 rs' h') (cCo_rc H) dX6_isLostBy_88 g_X6_214 hg_X6_214 ⟨cx_le rfl, cx_le rfl⟩ rfl ⟨rfl, rfl⟩ ⟨cx_le rfl, cx_le rfl⟩ rfl (cx_le rfl) (fun M4 _ h => ?_)
    refine cx_iload_n 0 dX6_isLostBy_91 rfl ?_
    refine cx_blI h (fun hz h => ?_)
    exact cx_zret h hz.1 rfl rfl (cx_le rfl) (cx_le rfl) dX6_isLostBy_92
noncomputable def cSt_isLostBy_52 (N : cx_N) (b : Nat) (M : cx_M) : Option cx_R :=
  cx_get M 8000 9 fun v1 =>
  cx_nz v1 <|
  cx_cal (cEx_by N 1 M) fun M2 v3 =>
  if v3 ≤ 0 then (
    cSt_isLostBy_71 N b M2 0)
  else (
    cSt_isLostBy_71 N b M2 1)
set_option maxRecDepth 100000 in
theorem cSt_isLostBy_52_v {l : Launch} {g : cx_G} {adr : Nat → Nat} {X : cx_X} {N : cx_N} {b : Nat} (H : cCp_H g adr N) (hb : cSt_H g adr b) (M : cx_M) (rs : cx_R) (h : cSt_isLostBy_52 N b M = some rs) : cx_V l (g) X sX6_isLostBy cX6_isLostBy 52 [(0, .ref (adr b)), (1, .ref (adr 8000))] [] M 0 0 rs := by
  unfold cSt_isLostBy_52 at h
  refine cx_aload_n 1 dX6_isLostBy_52 rfl ?_
  refine cx_getON h (cLn_O9 H) q585 dX6_isLostBy_53 (fun v1 h => ?_)
  refine cx_aload_n 1 dX6_isLostBy_56 rfl ?_
  refine cx_getRN (cLn_R10 H) q588 dX6_isLostBy_57 ?_
  refine cx_nn (r := adr 8021) h (fun e h => ?_)
  rw [e]
  refine cLs_ex H (e := 1) (by decide) h dX6_isLostBy_60 q1203 (cx_le rfl) (cx_le rfl) (cx_le rfl) (cx_le rfl) (cx_le rfl) (fun M2 v3 h => ?_)
  refine cx_if_le 70 h dX6_isLostBy_63 rfl (fun h => ?_) (fun h => ?_)
  · refine cx_iconst 0 dX6_isLostBy_70 cx_ic_0 ?_
    refine cx_sub (lv' := [(0, .ref (adr b))]) [0] rfl ?_
    exact cSt_isLostBy_71_v H hb M2 0 _ h
  · refine cx_iconst 1 dX6_isLostBy_66 cx_ic_1 ?_
    refine cx_goto 71 dX6_isLostBy_67 rfl ?_
    refine cx_sub (lv' := [(0, .ref (adr b))]) [0] rfl ?_
    exact cSt_isLostBy_71_v H hb M2 1 _ h
noncomputable def cSt_isLostBy_0 (N : cx_N) (b : Nat) (M : cx_M) : Option cx_R :=
  cx_get M 8000 9 fun v1 =>
  if v1 = 0 then (
    some (M, 0, 0))
  else (
    cx_get M b 45 fun v2 =>
    if v2 = 0 then (
      cSt_isLostBy_52 N b M)
    else (
      cx_get M b 45 fun v3 =>
      cx_get M b 2 fun v4 =>
      cx_nz v3 <|
      cx_cal (cCo_lost N M v4) fun M5 v6 =>
      if v6 = (-1) then (
        cSt_isLostBy_52 N b M5)
      else (
        cx_get M5 b 45 fun v7 =>
        cx_get M5 b 2 fun v8 =>
        cx_nz v7 <|
        cx_cal (cCo_lost N M5 v8) fun M9 v10 =>
        if v10 = 1 then (
          some (M9, 1, 0))
        else (
          some (M9, 0, 0)))))
set_option maxRecDepth 100000 in
theorem cSt_isLostBy_0_v {l : Launch} {g : cx_G} {adr : Nat → Nat} {X : cx_X} {N : cx_N} {b : Nat} (H : cCp_H g adr N) (hb : cSt_H g adr b) (M : cx_M) (rs : cx_R) (h : cSt_isLostBy_0 N b M = some rs) : cx_V l (g) X sX6_isLostBy cX6_isLostBy 0 [(0, .ref (adr b)), (1, .ref (adr 8000))] [] M 0 0 rs := by
  unfold cSt_isLostBy_0 at h
  refine cx_aload_n 1 dX6_isLostBy_0 rfl ?_
  refine cx_getON h (cLn_O9 H) q585 dX6_isLostBy_1 (fun v1 h => ?_)
  refine cx_ifnonnull 9 h dX6_isLostBy_4 rfl (fun h => ?_) (fun h => ?_)
  · refine cx_aload_n 0 dX6_isLostBy_9 rfl ?_
    refine cx_getO h (cSt_O45 hb) q729 dX6_isLostBy_10 (fun v2 h => ?_)
    refine cx_ifnull 52 h dX6_isLostBy_13 rfl (fun h => ?_) (fun h => ?_)
    · exact cSt_isLostBy_52_v H hb M _ h
    · refine cx_aload_n 0 dX6_isLostBy_16 rfl ?_
      refine cx_getO h (cSt_O45 hb) q729 dX6_isLostBy_17 (fun v3 h => ?_)
      refine cx_aload_n 0 dX6_isLostBy_20 rfl ?_
      refine cx_getI h (cSt_F2 hb) q652 dX6_isLostBy_21 (fun v4 h => ?_)
      refine cx_nn (r := adr 9000) h (fun e h => ?_)
      rw [e]
      refine cx_cVi [.int v4] [] h (fun rs' h' => cCo_lost_m H M v4 rs' h') (cCo_rc H) dX6_isLostBy_24 g_X6_212 hg_X6_212 ⟨cx_le rfl, cx_le rfl⟩ rfl ⟨rfl, rfl⟩ ⟨cx_le rfl, cx_le rfl⟩ rfl (cx_le rfl) (fun M5 v6 h => ?_)
      refine cx_iconst (-1) dX6_isLostBy_27 cx_ic_m1 ?_
      refine cx_icmp_eq 52 h dX6_isLostBy_28 rfl (fun h => ?_) (fun h => ?_)
      · exact cSt_isLostBy_52_v H hb M5 _ h
      · refine cx_aload_n 0 dX6_isLostBy_31 rfl ?_
        refine cx_getO h (cSt_O45 hb) q729 dX6_isLostBy_32 (fun v7 h => ?_)
        refine cx_aload_n 0 dX6_isLostBy_35 rfl ?_
        refine cx_getI h (cSt_F2 hb) q652 dX6_isLostBy_36 (fun v8 h => ?_)
        refine cx_nn (r := adr 9000) h (fun e h => ?_)
        rw [e]
        refine cx_cVi [.int v8] [] h (fun rs' h' => cCo_lost_m H M5 v8 rs' h') (cCo_rc H) dX6_isLostBy_39 g_X6_212 hg_X6_212 ⟨cx_le rfl, cx_le rfl⟩ rfl ⟨rfl, rfl⟩ ⟨cx_le rfl, cx_le rfl⟩ rfl (cx_le rfl) (fun M9 v10 h => ?_)
        refine cx_iconst 1 dX6_isLostBy_42 cx_ic_1 ?_
        refine cx_icmp_ne 50 h dX6_isLostBy_43 rfl (fun h => ?_) (fun h => ?_)
        · refine cx_iconst 0 dX6_isLostBy_50 cx_ic_0 ?_
          exact cx_zret h cx_z_0 rfl rfl (cx_le rfl) (cx_le rfl) dX6_isLostBy_51
        · refine cx_iconst 1 dX6_isLostBy_46 cx_ic_1 ?_
          refine cx_goto 51 dX6_isLostBy_47 rfl ?_
          exact cx_zret h cx_z_1 rfl rfl (cx_le rfl) (cx_le rfl) dX6_isLostBy_51
  · refine cx_iconst 0 dX6_isLostBy_7 cx_ic_0 ?_
    exact cx_zret h cx_z_0 rfl rfl (cx_le rfl) (cx_le rfl) dX6_isLostBy_8
noncomputable def cSt_isLostBy (N : cx_N) (b : Nat) (M : cx_M) : Option cx_R := cSt_isLostBy_0 N b M
theorem cSt_isLostBy_m {l : Launch} {g : cx_G} {adr : Nat → Nat} {N : cx_N} {b : Nat} (H : cCp_H g adr N) (hb : cSt_H g adr b) (M : cx_M) (rs : cx_R) (h : cSt_isLostBy N b M = some rs) : cx_Met l (g) yX6_isLostBy cX6_isLostBy sX6_isLostBy [.ref (adr b), .ref (adr 8000)] M rs :=
  cx_met (by decide +kernel) rfl rfl (lv := [(0, .ref (adr b)), (1, .ref (adr 8000))]) rfl (cx_le rfl) (fun X => cx_sub (lv' := [(0, .ref (adr b)), (1, .ref (adr 8000))]) [0, 1] rfl (cSt_isLostBy_0_v H hb M rs h))

abbrev sX6_isLost : cx_S := (3, RX6, cx_rI, { frames := 901, cells := 0, slots := 0, locals := 30022 }, some .boolean, false)
noncomputable def cSt_isLost_71 (N : cx_N) (b : Nat) (M : cx_M) : Option cx_R :=
  cx_cal (cSt_isLostBy N b M) fun M1 v2 =>
  if v2 = 0 then (
    cx_get M1 b 33 fun v3 =>
    if v3 = 40 then (
      some (M1, 1, 0))
    else (
      some (M1, 0, 0)))
  else (
    some (M1, 1, 0))
set_option maxRecDepth 100000 in
theorem cSt_isLost_71_v {l : Launch} {g : cx_G} {adr : Nat → Nat} {X : cx_X} {N : cx_N} {b : Nat} (H : cCp_H g adr N) (hb : cSt_H g adr b) (M : cx_M) (rs : cx_R) (h : cSt_isLost_71 N b M = some rs) : cx_V l (g) X sX6_isLost cX6_isLost 71 [(0, .ref (adr b)), (1, .ref (adr 8000))] [] M 0 0 rs := by
  unfold cSt_isLost_71 at h
  refine cx_aload_n 0 dX6_isLost_71 rfl ?_
  refine cx_aload_n 1 dX6_isLost_72 rfl ?_
  refine cx_cVi [.ref (adr 8000)] [] h (fun rs' h' => cSt_isLostBy_m H hb M rs' h') (cSt_rc hb) dX6_isLost_73 g_X6_221 hg_X6_221 ⟨cx_le rfl, cx_le rfl⟩ rfl ⟨rfl, rfl⟩ ⟨cx_le rfl, cx_le rfl⟩ rfl (cx_le rfl) (fun M1 v2 h => ?_)
  refine cx_if_ne 88 h dX6_isLost_76 rfl (fun h => ?_) (fun h => ?_)
  · refine cx_iconst 1 dX6_isLost_88 cx_ic_1 ?_
    refine cx_goto 93 dX6_isLost_89 rfl ?_
    exact cx_zret h cx_z_1 rfl rfl (cx_le rfl) (cx_le rfl) dX6_isLost_93
  · refine cx_aload_n 0 dX6_isLost_79 rfl ?_
    refine cx_getI h (cSt_F33 hb) q708 dX6_isLost_80 (fun v3 h => ?_)
    refine cx_bipush 40 dX6_isLost_83 cx_bp_40 ?_
    refine cx_icmp_ne 92 h dX6_isLost_85 rfl (fun h => ?_) (fun h => ?_)
    · refine cx_iconst 0 dX6_isLost_92 cx_ic_0 ?_
      exact cx_zret h cx_z_0 rfl rfl (cx_le rfl) (cx_le rfl) dX6_isLost_93
    · refine cx_iconst 1 dX6_isLost_88 cx_ic_1 ?_
      refine cx_goto 93 dX6_isLost_89 rfl ?_
      exact cx_zret h cx_z_1 rfl rfl (cx_le rfl) (cx_le rfl) dX6_isLost_93
noncomputable def cSt_isLost_32 (N : cx_N) (b : Nat) (M : cx_M) (z0 : Int32) : Option cx_R :=
  cx_get M b 44 fun v1 =>
  cx_put M b 44 (v1 >>> (1 &&& 31)) fun M2 =>
  if z0 = 0 then (
    cSt_isLost_71 N b M2)
  else (
    cx_bl z0 (some (M2, z0, 0)))
set_option maxRecDepth 100000 in
theorem cSt_isLost_32_v {l : Launch} {g : cx_G} {adr : Nat → Nat} {X : cx_X} {N : cx_N} {b : Nat} (H : cCp_H g adr N) (hb : cSt_H g adr b) (M : cx_M) (z0 : Int32) (rs : cx_R) (h : cSt_isLost_32 N b M z0 = some rs) : cx_V l (g) X sX6_isLost cX6_isLost 32 [(0, .ref (adr b)), (1, .ref (adr 8000))] [.int z0] M 0 0 rs := by
  unfold cSt_isLost_32 at h
  refine cx_istore_n [(2, .int z0), (0, .ref (adr b)), (1, .ref (adr 8000))] dX6_isLost_32 (cx_lt rfl) rfl ?_
  refine cx_aload_n 1 dX6_isLost_33 rfl ?_
  refine cx_dup dX6_isLost_34 rfl ?_
  refine cx_getI h (cSt_F44 hb) q727 dX6_isLost_35 (fun v1 h => ?_)
  refine cx_iconst 1 dX6_isLost_38 cx_ic_1 ?_
  refine cx_ishr dX6_isLost_39 ?_
  refine cx_putI h (cSt_F44 hb) rfl rfl rfl q727 dX6_isLost_40 (fun M2 h => ?_)
  refine cx_iload_n 0 dX6_isLost_43 rfl ?_
  refine cx_if_eq 49 h dX6_isLost_44 rfl (fun h => ?_) (fun h => ?_)
  · refine cx_goto 71 dX6_isLost_49 rfl ?_
    refine cx_sub (lv' := [(0, .ref (adr b)), (1, .ref (adr 8000))]) [1, 2] rfl ?_
    exact cSt_isLost_71_v H hb M2 _ h
  · refine cx_iload_n 0 dX6_isLost_47 rfl ?_
    refine cx_blI h (fun hz h => ?_)
    exact cx_zret h hz.1 rfl rfl (cx_le rfl) (cx_le rfl) dX6_isLost_48
noncomputable def cSt_isLost_0 (N : cx_N) (b : Nat) (M : cx_M) : Option cx_R :=
  cx_get M b 43 fun v1 =>
  if v1 ≤ 0 then (
    cx_get M b 26 fun v2 =>
    if v2 ≤ 0 then (
      cSt_isLost_71 N b M)
    else (
      cx_get M b 26 fun v3 =>
      cx_put M b 26 (v3 - 1) fun M4 =>
      some (M4, 1, 0)))
  else (
    cx_get M b 43 fun v5 =>
    cx_put M b 43 (v5 - 1) fun M6 =>
    cx_get M6 b 44 fun v7 =>
    if (v7 &&& 1) = 1 then (
      cSt_isLost_32 N b M6 1)
    else (
      cSt_isLost_32 N b M6 0))
set_option maxRecDepth 100000 in
theorem cSt_isLost_0_v {l : Launch} {g : cx_G} {adr : Nat → Nat} {X : cx_X} {N : cx_N} {b : Nat} (H : cCp_H g adr N) (hb : cSt_H g adr b) (M : cx_M) (rs : cx_R) (h : cSt_isLost_0 N b M = some rs) : cx_V l (g) X sX6_isLost cX6_isLost 0 [(0, .ref (adr b)), (1, .ref (adr 8000))] [] M 0 0 rs := by
  unfold cSt_isLost_0 at h
  refine cx_aload_n 0 dX6_isLost_0 rfl ?_
  refine cx_getI h (cSt_F43 hb) q725 dX6_isLost_1 (fun v1 h => ?_)
  refine cx_if_le 52 h dX6_isLost_4 rfl (fun h => ?_) (fun h => ?_)
  · refine cx_aload_n 0 dX6_isLost_52 rfl ?_
    refine cx_getI h (cSt_F26 hb) q694 dX6_isLost_53 (fun v2 h => ?_)
    refine cx_if_le 71 h dX6_isLost_56 rfl (fun h => ?_) (fun h => ?_)
    · exact cSt_isLost_71_v H hb M _ h
    · refine cx_aload_n 0 dX6_isLost_59 rfl ?_
      refine cx_dup dX6_isLost_60 rfl ?_
      refine cx_getI h (cSt_F26 hb) q694 dX6_isLost_61 (fun v3 h => ?_)
      refine cx_iconst 1 dX6_isLost_64 cx_ic_1 ?_
      refine cx_isub dX6_isLost_65 ?_
      refine cx_putI h (cSt_F26 hb) rfl rfl rfl q694 dX6_isLost_66 (fun M4 h => ?_)
      refine cx_iconst 1 dX6_isLost_69 cx_ic_1 ?_
      exact cx_zret h cx_z_1 rfl rfl (cx_le rfl) (cx_le rfl) dX6_isLost_70
  · refine cx_aload_n 0 dX6_isLost_7 rfl ?_
    refine cx_dup dX6_isLost_8 rfl ?_
    refine cx_getI h (cSt_F43 hb) q725 dX6_isLost_9 (fun v5 h => ?_)
    refine cx_iconst 1 dX6_isLost_12 cx_ic_1 ?_
    refine cx_isub dX6_isLost_13 ?_
    refine cx_putI h (cSt_F43 hb) rfl rfl rfl q725 dX6_isLost_14 (fun M6 h => ?_)
    refine cx_aload_n 0 dX6_isLost_17 rfl ?_
    refine cx_getI h (cSt_F44 hb) q727 dX6_isLost_18 (fun v7 h => ?_)
    refine cx_iconst 1 dX6_isLost_21 cx_ic_1 ?_
    refine cx_iand dX6_isLost_22 ?_
    refine cx_iconst 1 dX6_isLost_23 cx_ic_1 ?_
    refine cx_icmp_ne 31 h dX6_isLost_24 rfl (fun h => ?_) (fun h => ?_)
    · refine cx_iconst 0 dX6_isLost_31 cx_ic_0 ?_
      exact cSt_isLost_32_v H hb M6 0 _ h
    · refine cx_iconst 1 dX6_isLost_27 cx_ic_1 ?_
      refine cx_goto 32 dX6_isLost_28 rfl ?_
      exact cSt_isLost_32_v H hb M6 1 _ h
noncomputable def cSt_isLost (N : cx_N) (b : Nat) (M : cx_M) : Option cx_R := cSt_isLost_0 N b M
theorem cSt_isLost_m {l : Launch} {g : cx_G} {adr : Nat → Nat} {N : cx_N} {b : Nat} (H : cCp_H g adr N) (hb : cSt_H g adr b) (M : cx_M) (rs : cx_R) (h : cSt_isLost N b M = some rs) : cx_Met l (g) yX6_isLost cX6_isLost sX6_isLost [.ref (adr b), .ref (adr 8000)] M rs :=
  cx_met (by decide +kernel) rfl rfl (lv := [(0, .ref (adr b)), (1, .ref (adr 8000))]) rfl (cx_le rfl) (fun X => cx_sub (lv' := [(0, .ref (adr b)), (1, .ref (adr 8000))]) [0, 1] rfl (cSt_isLost_0_v H hb M rs h))

abbrev sX6_sends : cx_S := (3, RX6, cx_rV, { frames := 902, cells := 0, slots := 0, locals := 30044 }, none, false)
noncomputable def cSt_sends_143 (N : cx_N) (b : Nat) (M : cx_M) (x2 : Int32) : Option cx_R :=
  cx_put M b 25 x2 fun M1 =>
  cx_get M1 b 2 fun v2 =>
  cx_put M1 b 2 (v2 + 1) fun M3 =>
  some (M3, 0, 0)
set_option maxRecDepth 100000 in
theorem cSt_sends_143_v {l : Launch} {g : cx_G} {adr : Nat → Nat} {X : cx_X} {N : cx_N} {b : Nat} (H : cCp_H g adr N) (hb : cSt_H g adr b) (M : cx_M) (x2 : Int32) (rs : cx_R) (h : cSt_sends_143 N b M x2 = some rs) : cx_V l (g) X sX6_sends cX6_sends 143 [(0, .ref (adr b)), (2, .int x2)] [] M 0 0 rs := by
  unfold cSt_sends_143 at h
  refine cx_aload_n 0 dX6_sends_143 rfl ?_
  refine cx_iload_n 1 dX6_sends_144 rfl ?_
  refine cx_putI h (cSt_F25 hb) rfl rfl rfl q693 dX6_sends_145 (fun M1 h => ?_)
  refine cx_aload_n 0 dX6_sends_148 rfl ?_
  refine cx_dup dX6_sends_149 rfl ?_
  refine cx_getI h (cSt_F2 hb) q652 dX6_sends_150 (fun v2 h => ?_)
  refine cx_iconst 1 dX6_sends_153 cx_ic_1 ?_
  refine cx_iadd dX6_sends_154 ?_
  refine cx_putI h (cSt_F2 hb) rfl rfl rfl q652 dX6_sends_155 (fun M3 h => ?_)
  exact cx_vret h rfl rfl (cx_le rfl) (cx_le rfl) dX6_sends_158
noncomputable def cSt_sends_0 (N : cx_N) (b : Nat) (M : cx_M) : Option cx_R :=
  cx_get M b 2 fun v1 =>
  cx_cal (cVw_sees N 0 M v1) fun M2 _ =>
  cx_get M2 b 0 fun v3 =>
  cx_cal (cVw_sees N 1 M2 v3) fun M4 _ =>
  cx_get M4 b 25 fun v5 =>
  cx_cal (cVw_sees N 2 M4 v5) fun M6 _ =>
  cx_get M6 b 33 fun v7 =>
  cx_cal (cVw_sees N 3 M6 v7) fun M8 _ =>
  cx_cal (cSt_delayBy N b M8) fun M9 v10 =>
  cx_cal (cSt_isLost N b M9) fun M11 v12 =>
  if v12 = 0 then (
    cx_get M11 b 33 fun v13 =>
    cx_get M11 b 2 fun v14 =>
    cx_st M11 (b + 35) 40 v13 v14 fun M15 =>
    cx_get M15 b 33 fun v16 =>
    cx_get M15 b 0 fun v17 =>
    cx_get M15 b 27 fun v18 =>
    cx_st M15 (b + 36) 40 v16 ((v17 + v10) + v18) fun M19 =>
    cx_get M19 b 33 fun v20 =>
    cx_get M19 b 0 fun v21 =>
    cx_st M19 (b + 37) 40 v20 (cx_rem v21 256) fun M22 =>
    cx_get M22 b 33 fun v23 =>
    cx_put M22 b 33 (v23 + 1) fun M24 =>
    cSt_sends_143 N b M24 v10)
  else (
    cx_get M11 b 3 fun v25 =>
    cx_put M11 b 3 (v25 + 1) fun M26 =>
    cSt_sends_143 N b M26 v10)
set_option maxRecDepth 100000 in
theorem cSt_sends_0_v {l : Launch} {g : cx_G} {adr : Nat → Nat} {X : cx_X} {N : cx_N} {b : Nat} (H : cCp_H g adr N) (hb : cSt_H g adr b) (M : cx_M) (rs : cx_R) (h : cSt_sends_0 N b M = some rs) : cx_V l (g) X sX6_sends cX6_sends 0 [(0, .ref (adr b)), (1, .ref (adr 8000))] [] M 0 0 rs := by
  unfold cSt_sends_0 at h
  refine cx_aload_n 1 dX6_sends_0 rfl ?_
  refine cx_getRN (cLn_R10 H) q588 dX6_sends_1 ?_
  refine cx_gets (cEn_v0 H) q1173 dX6_sends_4 ?_
  refine cx_aload_n 0 dX6_sends_7 rfl ?_
  refine cx_getI h (cSt_F2 hb) q652 dX6_sends_8 (fun v1 h => ?_)
  refine cx_cVv [.ref (adr 9200), .int v1] [] h (fun rs' h' => cVw_sees_m H (by decide) M v1 rs' h') (cVw_rc H) dX6_sends_11 g_X6_231 hg_X6_231 ⟨cx_le rfl, cx_le rfl⟩ rfl ⟨rfl, rfl⟩ ⟨cx_le rfl, cx_le rfl⟩ rfl (cx_le rfl) (fun M2 _ h => ?_)
  refine cx_aload_n 1 dX6_sends_14 rfl ?_
  refine cx_getRN (cLn_R10 H) q588 dX6_sends_15 ?_
  refine cx_gets (cEn_v1 H) q1185 dX6_sends_18 ?_
  refine cx_aload_n 0 dX6_sends_21 rfl ?_
  refine cx_getI h (cSt_F0 hb) q648 dX6_sends_22 (fun v3 h => ?_)
  refine cx_cVv [.ref (adr 9201), .int v3] [] h (fun rs' h' => cVw_sees_m H (by decide) M2 v3 rs' h') (cVw_rc H) dX6_sends_25 g_X6_231 hg_X6_231 ⟨cx_le rfl, cx_le rfl⟩ rfl ⟨rfl, rfl⟩ ⟨cx_le rfl, cx_le rfl⟩ rfl (cx_le rfl) (fun M4 _ h => ?_)
  refine cx_aload_n 1 dX6_sends_28 rfl ?_
  refine cx_getRN (cLn_R10 H) q588 dX6_sends_29 ?_
  refine cx_gets (cEn_v2 H) q1187 dX6_sends_32 ?_
  refine cx_aload_n 0 dX6_sends_35 rfl ?_
  refine cx_getI h (cSt_F25 hb) q693 dX6_sends_36 (fun v5 h => ?_)
  refine cx_cVv [.ref (adr 9202), .int v5] [] h (fun rs' h' => cVw_sees_m H (by decide) M4 v5 rs' h') (cVw_rc H) dX6_sends_39 g_X6_231 hg_X6_231 ⟨cx_le rfl, cx_le rfl⟩ rfl ⟨rfl, rfl⟩ ⟨cx_le rfl, cx_le rfl⟩ rfl (cx_le rfl) (fun M6 _ h => ?_)
  refine cx_aload_n 1 dX6_sends_42 rfl ?_
  refine cx_getRN (cLn_R10 H) q588 dX6_sends_43 ?_
  refine cx_gets (cEn_v3 H) q1189 dX6_sends_46 ?_
  refine cx_aload_n 0 dX6_sends_49 rfl ?_
  refine cx_getI h (cSt_F33 hb) q708 dX6_sends_50 (fun v7 h => ?_)
  refine cx_cVv [.ref (adr 9203), .int v7] [] h (fun rs' h' => cVw_sees_m H (by decide) M6 v7 rs' h') (cVw_rc H) dX6_sends_53 g_X6_231 hg_X6_231 ⟨cx_le rfl, cx_le rfl⟩ rfl ⟨rfl, rfl⟩ ⟨cx_le rfl, cx_le rfl⟩ rfl (cx_le rfl) (fun M8 _ h => ?_)
  refine cx_aload_n 0 dX6_sends_56 rfl ?_
  refine cx_aload_n 1 dX6_sends_57 rfl ?_
  refine cx_cVi [.ref (adr 8000)] [] h (fun rs' h' => cSt_delayBy_m H hb M8 rs' h') (cSt_rc hb) dX6_sends_58 g_X6_246 hg_X6_246 ⟨cx_le rfl, cx_le rfl⟩ rfl ⟨rfl, rfl⟩ ⟨cx_le rfl, cx_le rfl⟩ rfl (cx_le rfl) (fun M9 v10 h => ?_)
  refine cx_istore_n [(2, .int v10), (0, .ref (adr b)), (1, .ref (adr 8000))] dX6_sends_61 (cx_lt rfl) rfl ?_
  refine cx_aload_n 1 dX6_sends_62 rfl ?_
  refine cx_aload_n 2 dX6_sends_63 rfl ?_
  refine cx_cVi [.ref (adr 8000)] [] h (fun rs' h' => cSt_isLost_m H hb M9 rs' h') (cSt_rc hb) dX6_sends_64 g_X6_250 hg_X6_250 ⟨cx_le rfl, cx_le rfl⟩ rfl ⟨rfl, rfl⟩ ⟨cx_le rfl, cx_le rfl⟩ rfl (cx_le rfl) (fun M11 v12 h => ?_)
  refine cx_if_eq 83 h dX6_sends_67 rfl (fun h => ?_) (fun h => ?_)
  · refine cx_aload_n 1 dX6_sends_83 rfl ?_
    refine cx_getR (cSt_R34 hb) q710 dX6_sends_84 ?_
    refine cx_aload_n 1 dX6_sends_87 rfl ?_
    refine cx_getI h (cSt_F33 hb) q708 dX6_sends_88 (fun v13 h => ?_)
    refine cx_aload_n 1 dX6_sends_91 rfl ?_
    refine cx_getI h (cSt_F2 hb) q652 dX6_sends_92 (fun v14 h => ?_)
    refine cx_stI h (cSt_A34 hb) dX6_sends_95 (fun M15 h => ?_)
    refine cx_aload_n 1 dX6_sends_96 rfl ?_
    refine cx_getR (cSt_R35 hb) q712 dX6_sends_97 ?_
    refine cx_aload_n 1 dX6_sends_100 rfl ?_
    refine cx_getI h (cSt_F33 hb) q708 dX6_sends_101 (fun v16 h => ?_)
    refine cx_aload_n 1 dX6_sends_104 rfl ?_
    refine cx_getI h (cSt_F0 hb) q648 dX6_sends_105 (fun v17 h => ?_)
    refine cx_iload_n 0 dX6_sends_108 rfl ?_
    refine cx_iadd dX6_sends_109 ?_
    refine cx_aload_n 1 dX6_sends_110 rfl ?_
    refine cx_getI h (cSt_F27 hb) q696 dX6_sends_111 (fun v18 h => ?_)
    refine cx_iadd dX6_sends_114 ?_
    refine cx_stI h (cSt_A35 hb) dX6_sends_115 (fun M19 h => ?_)
    refine cx_aload_n 1 dX6_sends_116 rfl ?_
    refine cx_getR (cSt_R36 hb) q714 dX6_sends_117 ?_
    refine cx_aload_n 1 dX6_sends_120 rfl ?_
    refine cx_getI h (cSt_F33 hb) q708 dX6_sends_121 (fun v20 h => ?_)
    refine cx_aload_n 1 dX6_sends_124 rfl ?_
    refine cx_getI h (cSt_F0 hb) q648 dX6_sends_125 (fun v21 h => ?_)
    refine cx_sipush 256 dX6_sends_128 cx_sp_256 ?_
    refine cx_iremC cx_ne_256 dX6_sends_131 ?_
    refine cx_stI h (cSt_A36 hb) dX6_sends_132 (fun M22 h => ?_)
    refine cx_aload_n 1 dX6_sends_133 rfl ?_
    refine cx_dup dX6_sends_134 rfl ?_
    refine cx_getI h (cSt_F33 hb) q708 dX6_sends_135 (fun v23 h => ?_)
    refine cx_iconst 1 dX6_sends_138 cx_ic_1 ?_
    refine cx_iadd dX6_sends_139 ?_
    refine cx_putI h (cSt_F33 hb) rfl rfl rfl q708 dX6_sends_140 (fun M24 h => ?_)
    refine cx_sub (lv' := [(0, .ref (adr b)), (2, .int v10)]) [1, 0] rfl ?_
    exact cSt_sends_143_v H hb M24 v10 _ h
  · refine cx_aload_n 1 dX6_sends_70 rfl ?_
    refine cx_dup dX6_sends_71 rfl ?_
    refine cx_getI h (cSt_F3 hb) q654 dX6_sends_72 (fun v25 h => ?_)
    refine cx_iconst 1 dX6_sends_75 cx_ic_1 ?_
    refine cx_iadd dX6_sends_76 ?_
    refine cx_putI h (cSt_F3 hb) rfl rfl rfl q654 dX6_sends_77 (fun M26 h => ?_)
    refine cx_goto 143 dX6_sends_80 rfl ?_
    refine cx_sub (lv' := [(0, .ref (adr b)), (2, .int v10)]) [1, 0] rfl ?_
    exact cSt_sends_143_v H hb M26 v10 _ h
noncomputable def cSt_sends (N : cx_N) (b : Nat) (M : cx_M) : Option cx_R := cSt_sends_0 N b M
theorem cSt_sends_m {l : Launch} {g : cx_G} {adr : Nat → Nat} {N : cx_N} {b : Nat} (H : cCp_H g adr N) (hb : cSt_H g adr b) (M : cx_M) (rs : cx_R) (h : cSt_sends N b M = some rs) : cx_Met l (g) yX6_sends cX6_sends sX6_sends [.ref (adr b), .ref (adr 8000)] M rs :=
  cx_met (by decide +kernel) rfl rfl (lv := [(0, .ref (adr b)), (1, .ref (adr 8000))]) rfl (cx_le rfl) (fun X => cx_sub (lv' := [(0, .ref (adr b)), (1, .ref (adr 8000))]) [0, 1] rfl (cSt_sends_0_v H hb M rs h))

abbrev sX6_comes : cx_S := (7, RX6, cx_rV, { frames := 0, cells := 0, slots := 0, locals := 0 }, none, false)
noncomputable def cSt_comes_160 (N : cx_N) (b : Nat) (M : cx_M) (x2 : Int32) (x3 : Int32) (x4 : Int32) (x5 : Int32) (x6 : Int32) (z1 : Int32) : Option cx_R :=
  cx_bl z1 <|
  cx_put M b 42 z1 fun M1 =>
  if x6 < 0 then (
    some (M1, 0, 0))
  else (
    if x6 < 16 then (
      cx_st M1 (b + 38) 64 x4 (x5 + x6) fun M2 =>
      cx_st M2 (b + 39) 64 x4 x2 fun M3 =>
      cx_get M3 b 17 fun v4 =>
      if v4 < (x5 + x6) then (
        cx_put M3 b 17 (x5 + x6) fun M5 =>
        cx_get M5 b 17 fun v6 =>
        cx_get M5 b 15 fun v7 =>
        cx_get M5 8000 0 fun v8 =>
        cx_nz v8 <|
        cx_put M5 b 20 (v6 - (v7 / v8)) fun M9 =>
        cx_get M9 b 19 fun v10 =>
        cx_get M9 b 18 fun v11 =>
        cx_put M9 b 19 (v10 + (cx_rem ((x3 - v11) + 256) 256)) fun M12 =>
        cx_put M12 b 18 x3 fun M13 =>
        some (M13, 0, 0))
      else (
        some (M3, 0, 0)))
    else (
      some (M1, 0, 0)))
set_option maxRecDepth 100000 in
theorem cSt_comes_160_v {l : Launch} {g : cx_G} {adr : Nat → Nat} {X : cx_X} {N : cx_N} {b : Nat} (H : cCp_H g adr N) (hb : cSt_H g adr b) (M : cx_M) (x2 : Int32) (x3 : Int32) (x4 : Int32) (x5 : Int32) (x6 : Int32) (z1 : Int32) (rs : cx_R) (h : cSt_comes_160 N b M x2 x3 x4 x5 x6 z1 = some rs) : cx_V l (g) X sX6_comes cX6_comes 160 [(0, .ref (adr b)), (1, .ref (adr 8000)), (2, .int x2), (3, .int x3), (4, .int x4), (5, .int x5), (6, .int x6)] [.int z1, .ref (adr b)] M 0 0 rs := by
  unfold cSt_comes_160 at h
  refine cx_blI h (fun hz h => ?_)
  refine cx_putI h (cSt_F42 hb) hz.1 hz.2.1 rfl q723 dX6_comes_160 (fun M1 h => ?_)
  refine cx_iload 6 dX6_comes_163 rfl ?_
  refine cx_if_lt 175 h dX6_comes_165 rfl (fun h => ?_) (fun h => ?_)
  · exact cx_vret h rfl rfl (cx_le rfl) (cx_le rfl) dX6_comes_175
  · refine cx_iload 6 dX6_comes_168 rfl ?_
    refine cx_bipush 16 dX6_comes_170 cx_bp_16 ?_
    refine cx_icmp_lt 176 h dX6_comes_172 rfl (fun h => ?_) (fun h => ?_)
    · refine cx_aload_n 0 dX6_comes_176 rfl ?_
      refine cx_getR (cSt_R37 hb) q716 dX6_comes_177 ?_
      refine cx_iload 4 dX6_comes_180 rfl ?_
      refine cx_iload 5 dX6_comes_182 rfl ?_
      refine cx_iload 6 dX6_comes_184 rfl ?_
      refine cx_iadd dX6_comes_186 ?_
      refine cx_stI h (cSt_A37 hb) dX6_comes_187 (fun M2 h => ?_)
      refine cx_aload_n 0 dX6_comes_188 rfl ?_
      refine cx_getR (cSt_R38 hb) q718 dX6_comes_189 ?_
      refine cx_iload 4 dX6_comes_192 rfl ?_
      refine cx_iload_n 2 dX6_comes_194 rfl ?_
      refine cx_stI h (cSt_A38 hb) dX6_comes_195 (fun M3 h => ?_)
      refine cx_iload 5 dX6_comes_196 rfl ?_
      refine cx_iload 6 dX6_comes_198 rfl ?_
      refine cx_iadd dX6_comes_200 ?_
      refine cx_aload_n 0 dX6_comes_201 rfl ?_
      refine cx_getI h (cSt_F17 hb) q680 dX6_comes_202 (fun v4 h => ?_)
      refine cx_icmp_gt 209 h dX6_comes_205 rfl (fun h => ?_) (fun h => ?_)
      · refine cx_aload_n 0 dX6_comes_209 rfl ?_
        refine cx_iload 5 dX6_comes_210 rfl ?_
        refine cx_iload 6 dX6_comes_212 rfl ?_
        refine cx_iadd dX6_comes_214 ?_
        refine cx_putI h (cSt_F17 hb) rfl rfl rfl q680 dX6_comes_215 (fun M5 h => ?_)
        refine cx_aload_n 0 dX6_comes_218 rfl ?_
        refine cx_aload_n 0 dX6_comes_219 rfl ?_
        refine cx_getI h (cSt_F17 hb) q680 dX6_comes_220 (fun v6 h => ?_)
        refine cx_aload_n 0 dX6_comes_223 rfl ?_
        refine cx_getI h (cSt_F15 hb) q678 dX6_comes_224 (fun v7 h => ?_)
        refine cx_aload_n 1 dX6_comes_227 rfl ?_
        refine cx_getIN h (cLn_F0 H) q559 dX6_comes_228 (fun v8 h => ?_)
        refine cx_idiv h dX6_comes_231 (fun h => ?_)
        refine cx_isub dX6_comes_232 ?_
        refine cx_putI h (cSt_F20 hb) rfl rfl rfl q684 dX6_comes_233 (fun M9 h => ?_)
        refine cx_aload_n 0 dX6_comes_236 rfl ?_
        refine cx_dup dX6_comes_237 rfl ?_
        refine cx_getI h (cSt_F19 hb) q682 dX6_comes_238 (fun v10 h => ?_)
        refine cx_iload_n 3 dX6_comes_241 rfl ?_
        refine cx_aload_n 0 dX6_comes_242 rfl ?_
        refine cx_getI h (cSt_F18 hb) q681 dX6_comes_243 (fun v11 h => ?_)
        refine cx_isub dX6_comes_246 ?_
        refine cx_sipush 256 dX6_comes_247 cx_sp_256 ?_
        refine cx_iadd dX6_comes_250 ?_
        refine cx_sipush 256 dX6_comes_251 cx_sp_256 ?_
        refine cx_iremC cx_ne_256 dX6_comes_254 ?_
        refine cx_iadd dX6_comes_255 ?_
        refine cx_putI h (cSt_F19 hb) rfl rfl rfl q682 dX6_comes_256 (fun M12 h => ?_)
        refine cx_aload_n 0 dX6_comes_259 rfl ?_
        refine cx_iload_n 3 dX6_comes_260 rfl ?_
        refine cx_putI h (cSt_F18 hb) rfl rfl rfl q681 dX6_comes_261 (fun M13 h => ?_)
        exact cx_vret h rfl rfl (cx_le rfl) (cx_le rfl) dX6_comes_264
      · exact cx_vret h rfl rfl (cx_le rfl) (cx_le rfl) dX6_comes_208
    · exact cx_vret h rfl rfl (cx_le rfl) (cx_le rfl) dX6_comes_175
noncomputable def cSt_comes_155 (N : cx_N) (b : Nat) (M : cx_M) (x2 : Int32) (x3 : Int32) (x4 : Int32) (x5 : Int32) (x6 : Int32) : Option cx_R :=
  cSt_comes_160 N b M x2 x3 x4 x5 x6 1
set_option maxRecDepth 100000 in
theorem cSt_comes_155_v {l : Launch} {g : cx_G} {adr : Nat → Nat} {X : cx_X} {N : cx_N} {b : Nat} (H : cCp_H g adr N) (hb : cSt_H g adr b) (M : cx_M) (x2 : Int32) (x3 : Int32) (x4 : Int32) (x5 : Int32) (x6 : Int32) (rs : cx_R) (h : cSt_comes_155 N b M x2 x3 x4 x5 x6 = some rs) : cx_V l (g) X sX6_comes cX6_comes 155 [(0, .ref (adr b)), (1, .ref (adr 8000)), (2, .int x2), (3, .int x3), (4, .int x4), (5, .int x5), (6, .int x6)] [.ref (adr b)] M 0 0 rs := by
  unfold cSt_comes_155 at h
  refine cx_iconst 1 dX6_comes_155 cx_ic_1 ?_
  refine cx_goto 160 dX6_comes_156 rfl ?_
  exact cSt_comes_160_v H hb M x2 x3 x4 x5 x6 1 _ h
noncomputable def cSt_comes_135 (N : cx_N) (b : Nat) (M : cx_M) (x2 : Int32) (x3 : Int32) (x4 : Int32) (x5 : Int32) (x6 : Int32) : Option cx_R :=
  cx_get M b 42 fun v1 =>
  if v1 = 0 then (
    if x6 < 0 then (
      cSt_comes_155 N b M x2 x3 x4 x5 x6)
    else (
      if x6 < 16 then (
        cSt_comes_160 N b M x2 x3 x4 x5 x6 0)
      else (
        cSt_comes_155 N b M x2 x3 x4 x5 x6)))
  else (
    cSt_comes_155 N b M x2 x3 x4 x5 x6)
set_option maxRecDepth 100000 in
theorem cSt_comes_135_v {l : Launch} {g : cx_G} {adr : Nat → Nat} {X : cx_X} {N : cx_N} {b : Nat} (H : cCp_H g adr N) (hb : cSt_H g adr b) (M : cx_M) (x2 : Int32) (x3 : Int32) (x4 : Int32) (x5 : Int32) (x6 : Int32) (rs : cx_R) (h : cSt_comes_135 N b M x2 x3 x4 x5 x6 = some rs) : cx_V l (g) X sX6_comes cX6_comes 135 [(0, .ref (adr b)), (1, .ref (adr 8000)), (2, .int x2), (3, .int x3), (4, .int x4), (5, .int x5), (6, .int x6)] [] M 0 0 rs := by
  unfold cSt_comes_135 at h
  refine cx_aload_n 0 dX6_comes_135 rfl ?_
  refine cx_aload_n 0 dX6_comes_136 rfl ?_
  refine cx_getI h (cSt_F42 hb) q723 dX6_comes_137 (fun v1 h => ?_)
  refine cx_if_ne 155 h dX6_comes_140 rfl (fun h => ?_) (fun h => ?_)
  · exact cSt_comes_155_v H hb M x2 x3 x4 x5 x6 _ h
  · refine cx_iload 6 dX6_comes_143 rfl ?_
    refine cx_if_lt 155 h dX6_comes_145 rfl (fun h => ?_) (fun h => ?_)
    · exact cSt_comes_155_v H hb M x2 x3 x4 x5 x6 _ h
    · refine cx_iload 6 dX6_comes_148 rfl ?_
      refine cx_bipush 16 dX6_comes_150 cx_bp_16 ?_
      refine cx_icmp_lt 159 h dX6_comes_152 rfl (fun h => ?_) (fun h => ?_)
      · refine cx_iconst 0 dX6_comes_159 cx_ic_0 ?_
        exact cSt_comes_160_v H hb M x2 x3 x4 x5 x6 0 _ h
      · exact cSt_comes_155_v H hb M x2 x3 x4 x5 x6 _ h
noncomputable def cSt_comes_100 (N : cx_N) (b : Nat) (M : cx_M) (x2 : Int32) (x3 : Int32) (x4 : Int32) (x5 : Int32) (x6 : Int32) : Option cx_R :=
  if 0 ≤ x6 then (
    if x6 < 16 then (
      cSt_comes_135 N b M x2 x3 x4 x5 x6)
    else (
      cx_get M b 5 fun v1 =>
      cx_put M b 5 (v1 + 1) fun M2 =>
      cSt_comes_135 N b M2 x2 x3 x4 x5 x6))
  else (
    cx_get M b 4 fun v3 =>
    cx_put M b 4 (v3 + 1) fun M4 =>
    cSt_comes_135 N b M4 x2 x3 x4 x5 x6)
set_option maxRecDepth 100000 in
theorem cSt_comes_100_v {l : Launch} {g : cx_G} {adr : Nat → Nat} {X : cx_X} {N : cx_N} {b : Nat} (H : cCp_H g adr N) (hb : cSt_H g adr b) (M : cx_M) (x2 : Int32) (x3 : Int32) (x4 : Int32) (x5 : Int32) (x6 : Int32) (rs : cx_R) (h : cSt_comes_100 N b M x2 x3 x4 x5 x6 = some rs) : cx_V l (g) X sX6_comes cX6_comes 100 [(0, .ref (adr b)), (1, .ref (adr 8000)), (2, .int x2), (3, .int x3), (4, .int x4), (5, .int x5), (6, .int x6)] [] M 0 0 rs := by
  unfold cSt_comes_100 at h
  refine cx_iload 6 dX6_comes_100 rfl ?_
  refine cx_if_ge 118 h dX6_comes_102 rfl (fun h => ?_) (fun h => ?_)
  · refine cx_iload 6 dX6_comes_118 rfl ?_
    refine cx_bipush 16 dX6_comes_120 cx_bp_16 ?_
    refine cx_icmp_lt 135 h dX6_comes_122 rfl (fun h => ?_) (fun h => ?_)
    · exact cSt_comes_135_v H hb M x2 x3 x4 x5 x6 _ h
    · refine cx_aload_n 0 dX6_comes_125 rfl ?_
      refine cx_dup dX6_comes_126 rfl ?_
      refine cx_getI h (cSt_F5 hb) q658 dX6_comes_127 (fun v1 h => ?_)
      refine cx_iconst 1 dX6_comes_130 cx_ic_1 ?_
      refine cx_iadd dX6_comes_131 ?_
      refine cx_putI h (cSt_F5 hb) rfl rfl rfl q658 dX6_comes_132 (fun M2 h => ?_)
      exact cSt_comes_135_v H hb M2 x2 x3 x4 x5 x6 _ h
  · refine cx_aload_n 0 dX6_comes_105 rfl ?_
    refine cx_dup dX6_comes_106 rfl ?_
    refine cx_getI h (cSt_F4 hb) q656 dX6_comes_107 (fun v3 h => ?_)
    refine cx_iconst 1 dX6_comes_110 cx_ic_1 ?_
    refine cx_iadd dX6_comes_111 ?_
    refine cx_putI h (cSt_F4 hb) rfl rfl rfl q656 dX6_comes_112 (fun M4 h => ?_)
    refine cx_goto 135 dX6_comes_115 rfl ?_
    exact cSt_comes_135_v H hb M4 x2 x3 x4 x5 x6 _ h
noncomputable def cSt_comes_63 (N : cx_N) (b : Nat) (M : cx_M) (x2 : Int32) (x3 : Int32) (x4 : Int32) : Option cx_R :=
  cx_get M b 14 fun v1 =>
  cx_get M 8000 0 fun v2 =>
  cx_nz v2 <|
  cx_let (v1 / v2) fun v3 =>
  cx_let (cx_rem ((x4 - (cx_rem v3 64)) + 64) 64) fun v4 =>
  if v4 < 32 then (
    cSt_comes_100 N b M x2 x3 x4 v3 v4)
  else (
    cx_let (v4 + (-64)) fun v5 =>
    cSt_comes_100 N b M x2 x3 x4 v3 v5)
set_option maxRecDepth 100000 in
theorem cSt_comes_63_v {l : Launch} {g : cx_G} {adr : Nat → Nat} {X : cx_X} {N : cx_N} {b : Nat} (H : cCp_H g adr N) (hb : cSt_H g adr b) (M : cx_M) (x2 : Int32) (x3 : Int32) (x4 : Int32) (rs : cx_R) (h : cSt_comes_63 N b M x2 x3 x4 = some rs) : cx_V l (g) X sX6_comes cX6_comes 63 [(0, .ref (adr b)), (1, .ref (adr 8000)), (2, .int x2), (3, .int x3), (4, .int x4)] [] M 0 0 rs := by
  unfold cSt_comes_63 at h
  refine cx_aload_n 0 dX6_comes_63 rfl ?_
  refine cx_getI h (cSt_F14 hb) q676 dX6_comes_64 (fun v1 h => ?_)
  refine cx_aload_n 1 dX6_comes_67 rfl ?_
  refine cx_getIN h (cLn_F0 H) q559 dX6_comes_68 (fun v2 h => ?_)
  refine cx_idiv h dX6_comes_71 (fun h => ?_)
  refine cx_letI h (fun v3 h => ?_)
  refine cx_istore [(5, .int v3), (0, .ref (adr b)), (1, .ref (adr 8000)), (2, .int x2), (3, .int x3), (4, .int x4)] dX6_comes_72 (cx_lt rfl) rfl ?_
  refine cx_iload 5 dX6_comes_74 rfl ?_
  refine cx_iload 0 dX6_comes_76 rfl ?_
  refine cx_bipush 64 dX6_comes_78 cx_bp_64 ?_
  refine cx_iremC cx_ne_64 dX6_comes_80 ?_
  refine cx_isub dX6_comes_81 ?_
  refine cx_bipush 64 dX6_comes_82 cx_bp_64 ?_
  refine cx_iadd dX6_comes_84 ?_
  refine cx_bipush 64 dX6_comes_85 cx_bp_64 ?_
  refine cx_iremC cx_ne_64 dX6_comes_87 ?_
  refine cx_letI h (fun v4 h => ?_)
  refine cx_istore [(6, .int v4), (5, .int v3), (0, .ref (adr b)), (1, .ref (adr 8000)), (2, .int x2), (3, .int x3), (4, .int x4)] dX6_comes_88 (cx_lt rfl) rfl ?_
  refine cx_iload 0 dX6_comes_90 rfl ?_
  refine cx_bipush 32 dX6_comes_92 cx_bp_32 ?_
  refine cx_icmp_lt 100 h dX6_comes_94 rfl (fun h => ?_) (fun h => ?_)
  · refine cx_sub (lv' := [(0, .ref (adr b)), (1, .ref (adr 8000)), (2, .int x2), (3, .int x3), (4, .int x4), (5, .int v3), (6, .int v4)]) [2, 3, 4, 5, 6, 1, 0] rfl ?_
    exact cSt_comes_100_v H hb M x2 x3 x4 v3 v4 _ h
  · refine cx_iinc 0 (-64) (fun v5 => [(6, .int v5), (5, .int v3), (0, .ref (adr b)), (1, .ref (adr 8000)), (2, .int x2), (3, .int x3), (4, .int x4)]) h dX6_comes_97 rfl cx_ic_m64 (cx_lt rfl) (fun _ => rfl) (fun v5 h => ?_)
    refine cx_sub (lv' := [(0, .ref (adr b)), (1, .ref (adr 8000)), (2, .int x2), (3, .int x3), (4, .int x4), (5, .int v3), (6, .int v5)]) [2, 3, 4, 5, 6, 1, 0] rfl ?_
    exact cSt_comes_100_v H hb M x2 x3 x4 v3 v5 _ h
noncomputable def cSt_comes_0 (N : cx_N) (b : Nat) (M : cx_M) (x2 : Int32) (x3 : Int32) : Option cx_R :=
  cx_let (cx_rem x2 64) fun v1 =>
  cx_get M b 8 fun v2 =>
  if v2 = 0 then (
    cx_put M b 8 1 fun M3 =>
    cx_get M3 8000 0 fun v4 =>
    cx_put M3 b 14 (v4 * v1) fun M5 =>
    cx_get M5 b 14 fun v6 =>
    cx_put M5 b 15 v6 fun M7 =>
    cx_put M7 b 16 x2 fun M8 =>
    cx_put M8 b 17 v1 fun M9 =>
    cx_put M9 b 18 x3 fun M10 =>
    cx_put M10 b 19 0 fun M11 =>
    cx_put M11 b 20 0 fun M12 =>
    cSt_comes_63 N b M12 x2 x3 v1)
  else (
    cSt_comes_63 N b M x2 x3 v1)
set_option maxRecDepth 100000 in
theorem cSt_comes_0_v {l : Launch} {g : cx_G} {adr : Nat → Nat} {X : cx_X} {N : cx_N} {b : Nat} (H : cCp_H g adr N) (hb : cSt_H g adr b) (M : cx_M) (x2 : Int32) (x3 : Int32) (rs : cx_R) (h : cSt_comes_0 N b M x2 x3 = some rs) : cx_V l (g) X sX6_comes cX6_comes 0 [(0, .ref (adr b)), (1, .ref (adr 8000)), (2, .int x2), (3, .int x3)] [] M 0 0 rs := by
  unfold cSt_comes_0 at h
  refine cx_iload_n 2 dX6_comes_0 rfl ?_
  refine cx_bipush 64 dX6_comes_1 cx_bp_64 ?_
  refine cx_iremC cx_ne_64 dX6_comes_3 ?_
  refine cx_letI h (fun v1 h => ?_)
  refine cx_istore [(4, .int v1), (0, .ref (adr b)), (1, .ref (adr 8000)), (2, .int x2), (3, .int x3)] dX6_comes_4 (cx_lt rfl) rfl ?_
  refine cx_aload_n 1 dX6_comes_6 rfl ?_
  refine cx_getI h (cSt_F8 hb) q664 dX6_comes_7 (fun v2 h => ?_)
  refine cx_if_ne 63 h dX6_comes_10 rfl (fun h => ?_) (fun h => ?_)
  · refine cx_sub (lv' := [(0, .ref (adr b)), (1, .ref (adr 8000)), (2, .int x2), (3, .int x3), (4, .int v1)]) [1, 2, 3, 4, 0] rfl ?_
    exact cSt_comes_63_v H hb M x2 x3 v1 _ h
  · refine cx_aload_n 1 dX6_comes_13 rfl ?_
    refine cx_iconst 1 dX6_comes_14 cx_ic_1 ?_
    refine cx_putI h (cSt_F8 hb) rfl rfl rfl q664 dX6_comes_15 (fun M3 h => ?_)
    refine cx_aload_n 1 dX6_comes_18 rfl ?_
    refine cx_aload_n 2 dX6_comes_19 rfl ?_
    refine cx_getIN h (cLn_F0 H) q559 dX6_comes_20 (fun v4 h => ?_)
    refine cx_iload 0 dX6_comes_23 rfl ?_
    refine cx_imul dX6_comes_25 ?_
    refine cx_putI h (cSt_F14 hb) rfl rfl rfl q676 dX6_comes_26 (fun M5 h => ?_)
    refine cx_aload_n 1 dX6_comes_29 rfl ?_
    refine cx_aload_n 1 dX6_comes_30 rfl ?_
    refine cx_getI h (cSt_F14 hb) q676 dX6_comes_31 (fun v6 h => ?_)
    refine cx_putI h (cSt_F15 hb) rfl rfl rfl q678 dX6_comes_34 (fun M7 h => ?_)
    refine cx_aload_n 1 dX6_comes_37 rfl ?_
    refine cx_iload_n 3 dX6_comes_38 rfl ?_
    refine cx_putI h (cSt_F16 hb) rfl rfl rfl q679 dX6_comes_39 (fun M8 h => ?_)
    refine cx_aload_n 1 dX6_comes_42 rfl ?_
    refine cx_iload 0 dX6_comes_43 rfl ?_
    refine cx_putI h (cSt_F17 hb) rfl rfl rfl q680 dX6_comes_45 (fun M9 h => ?_)
    refine cx_aload_n 1 dX6_comes_48 rfl ?_
    refine cx_iload_n 4 dX6_comes_49 rfl ?_
    refine cx_putI h (cSt_F18 hb) rfl rfl rfl q681 dX6_comes_50 (fun M10 h => ?_)
    refine cx_aload_n 1 dX6_comes_53 rfl ?_
    refine cx_iconst 0 dX6_comes_54 cx_ic_0 ?_
    refine cx_putI h (cSt_F19 hb) rfl rfl rfl q682 dX6_comes_55 (fun M11 h => ?_)
    refine cx_aload_n 1 dX6_comes_58 rfl ?_
    refine cx_iconst 0 dX6_comes_59 cx_ic_0 ?_
    refine cx_putI h (cSt_F20 hb) rfl rfl rfl q684 dX6_comes_60 (fun M12 h => ?_)
    refine cx_sub (lv' := [(0, .ref (adr b)), (1, .ref (adr 8000)), (2, .int x2), (3, .int x3), (4, .int v1)]) [1, 2, 3, 4, 0] rfl ?_
    exact cSt_comes_63_v H hb M12 x2 x3 v1 _ h
noncomputable def cSt_comes (N : cx_N) (b : Nat) (M : cx_M) (x2 : Int32) (x3 : Int32) : Option cx_R := cSt_comes_0 N b M x2 x3
theorem cSt_comes_m {l : Launch} {g : cx_G} {adr : Nat → Nat} {N : cx_N} {b : Nat} (H : cCp_H g adr N) (hb : cSt_H g adr b) (M : cx_M) (x2 : Int32) (x3 : Int32) (rs : cx_R) (h : cSt_comes N b M x2 x3 = some rs) : cx_Met l (g) yX6_comes cX6_comes sX6_comes [.ref (adr b), .ref (adr 8000), .int x2, .int x3] M rs :=
  cx_met (by decide +kernel) rfl rfl (lv := [(0, .ref (adr b)), (1, .ref (adr 8000)), (2, .int x2), (3, .int x3)]) rfl (cx_le rfl) (fun X => cx_sub (lv' := [(0, .ref (adr b)), (1, .ref (adr 8000)), (2, .int x2), (3, .int x3)]) [0, 1, 2, 3] rfl (cSt_comes_0_v H hb M x2 x3 rs h))

abbrev sX6_come : cx_S := (4, RX6, cx_rV, { frames := 1, cells := 0, slots := 0, locals := 26 }, none, false)
noncomputable def cSt_come_84 (N : cx_N) (b : Nat) (r_4 : cx_M → Int32 → Int32 → Option cx_R) (M : cx_M) (x2 : Int32) (x3 : Int32) : Option cx_R :=
  cx_let (x3 + 1) fun v1 =>
  r_4 M x2 v1
set_option maxRecDepth 100000 in
theorem cSt_come_84_v {l : Launch} {g : cx_G} {adr : Nat → Nat} {X : cx_X} {N : cx_N} {b : Nat} {r_4 : cx_M → Int32 → Int32 → Option cx_R} (H : cCp_H g adr N) (hb : cSt_H g adr b) (hr_4 : ∀ (M : cx_M) (x2 : Int32) (x3 : Int32) (rs : cx_R), r_4 M x2 x3 = some rs → cx_V l (g) X sX6_come cX6_come 4 [(0, .ref (adr b)), (1, .ref (adr 8000)), (2, .int x2), (3, .int x3)] [] M 0 0 rs) (M : cx_M) (x2 : Int32) (x3 : Int32) (rs : cx_R) (h : cSt_come_84 N b r_4 M x2 x3 = some rs) : cx_V l (g) X sX6_come cX6_come 84 [(0, .ref (adr b)), (1, .ref (adr 8000)), (2, .int x2), (3, .int x3)] [] M 0 0 rs := by
  unfold cSt_come_84 at h
  refine cx_iinc 3 1 (fun v1 => [(3, .int v1), (0, .ref (adr b)), (1, .ref (adr 8000)), (2, .int x2)]) h dX6_come_84 rfl cx_ic_1 (cx_lt rfl) (fun _ => rfl) (fun v1 h => ?_)
  refine cx_goto 4 dX6_come_87 rfl ?_
  refine cx_sub (lv' := [(0, .ref (adr b)), (1, .ref (adr 8000)), (2, .int x2), (3, .int v1)]) [1, 2, 3, 0] rfl ?_
  exact hr_4 M x2 v1 _ h
noncomputable def cSt_come_4b (N : cx_N) (b : Nat) (r_4 : cx_M → Int32 → Int32 → Option cx_R) (M : cx_M) (x2 : Int32) (x3 : Int32) : Option cx_R :=
  cx_get M b 33 fun v1 =>
  if v1 ≤ x3 then (
    cx_put M b 33 x2 fun M2 =>
    some (M2, 0, 0))
  else (
    cx_ld M (b + 36) 40 x3 fun v3 =>
    cx_get M b 0 fun v4 =>
    if v4 < v3 then (
      cx_ld M (b + 35) 40 x3 fun v5 =>
      cx_st M (b + 35) 40 x2 v5 fun M6 =>
      cx_ld M6 (b + 36) 40 x3 fun v7 =>
      cx_st M6 (b + 36) 40 x2 v7 fun M8 =>
      cx_ld M8 (b + 37) 40 x3 fun v9 =>
      cx_st M8 (b + 37) 40 x2 v9 fun M10 =>
      cx_let (x2 + 1) fun v11 =>
      cSt_come_84 N b r_4 M10 v11 x3)
    else (
      cx_ld M (b + 35) 40 x3 fun v12 =>
      cx_ld M (b + 37) 40 x3 fun v13 =>
      cx_cal (cSt_comes N b M v12 v13) fun M14 _ =>
      cSt_come_84 N b r_4 M14 x2 x3))
set_option maxRecDepth 100000 in
theorem cSt_come_4b_v {l : Launch} {g : cx_G} {adr : Nat → Nat} {X : cx_X} {N : cx_N} {b : Nat} {r_4 : cx_M → Int32 → Int32 → Option cx_R} (H : cCp_H g adr N) (hb : cSt_H g adr b) (hr_4 : ∀ (M : cx_M) (x2 : Int32) (x3 : Int32) (rs : cx_R), r_4 M x2 x3 = some rs → cx_V l (g) X sX6_come cX6_come 4 [(0, .ref (adr b)), (1, .ref (adr 8000)), (2, .int x2), (3, .int x3)] [] M 0 0 rs) (M : cx_M) (x2 : Int32) (x3 : Int32) (rs : cx_R) (h : cSt_come_4b N b r_4 M x2 x3 = some rs) : cx_V l (g) X sX6_come cX6_come 4 [(0, .ref (adr b)), (1, .ref (adr 8000)), (2, .int x2), (3, .int x3)] [] M 0 0 rs := by
  unfold cSt_come_4b at h
  refine cx_iload_n 3 dX6_come_4 rfl ?_
  refine cx_aload_n 0 dX6_come_5 rfl ?_
  refine cx_getI h (cSt_F33 hb) q708 dX6_come_6 (fun v1 h => ?_)
  refine cx_icmp_ge 90 h dX6_come_9 rfl (fun h => ?_) (fun h => ?_)
  · refine cx_aload_n 0 dX6_come_90 rfl ?_
    refine cx_iload_n 2 dX6_come_91 rfl ?_
    refine cx_putI h (cSt_F33 hb) rfl rfl rfl q708 dX6_come_92 (fun M2 h => ?_)
    exact cx_vret h rfl rfl (cx_le rfl) (cx_le rfl) dX6_come_95
  · refine cx_aload_n 0 dX6_come_12 rfl ?_
    refine cx_getR (cSt_R35 hb) q712 dX6_come_13 ?_
    refine cx_iload_n 3 dX6_come_16 rfl ?_
    refine cx_ldI h (cSt_A35 hb) dX6_come_17 (fun v3 h => ?_)
    refine cx_aload_n 0 dX6_come_18 rfl ?_
    refine cx_getI h (cSt_F0 hb) q648 dX6_come_19 (fun v4 h => ?_)
    refine cx_icmp_gt 45 h dX6_come_22 rfl (fun h => ?_) (fun h => ?_)
    · refine cx_aload_n 0 dX6_come_45 rfl ?_
      refine cx_getR (cSt_R34 hb) q710 dX6_come_46 ?_
      refine cx_iload_n 2 dX6_come_49 rfl ?_
      refine cx_aload_n 0 dX6_come_50 rfl ?_
      refine cx_getR (cSt_R34 hb) q710 dX6_come_51 ?_
      refine cx_iload_n 3 dX6_come_54 rfl ?_
      refine cx_ldI h (cSt_A34 hb) dX6_come_55 (fun v5 h => ?_)
      refine cx_stI h (cSt_A34 hb) dX6_come_56 (fun M6 h => ?_)
      refine cx_aload_n 0 dX6_come_57 rfl ?_
      refine cx_getR (cSt_R35 hb) q712 dX6_come_58 ?_
      refine cx_iload_n 2 dX6_come_61 rfl ?_
      refine cx_aload_n 0 dX6_come_62 rfl ?_
      refine cx_getR (cSt_R35 hb) q712 dX6_come_63 ?_
      refine cx_iload_n 3 dX6_come_66 rfl ?_
      refine cx_ldI h (cSt_A35 hb) dX6_come_67 (fun v7 h => ?_)
      refine cx_stI h (cSt_A35 hb) dX6_come_68 (fun M8 h => ?_)
      refine cx_aload_n 0 dX6_come_69 rfl ?_
      refine cx_getR (cSt_R36 hb) q714 dX6_come_70 ?_
      refine cx_iload_n 2 dX6_come_73 rfl ?_
      refine cx_aload_n 0 dX6_come_74 rfl ?_
      refine cx_getR (cSt_R36 hb) q714 dX6_come_75 ?_
      refine cx_iload_n 3 dX6_come_78 rfl ?_
      refine cx_ldI h (cSt_A36 hb) dX6_come_79 (fun v9 h => ?_)
      refine cx_stI h (cSt_A36 hb) dX6_come_80 (fun M10 h => ?_)
      refine cx_iinc 2 1 (fun v11 => [(2, .int v11), (0, .ref (adr b)), (1, .ref (adr 8000)), (3, .int x3)]) h dX6_come_81 rfl cx_ic_1 (cx_lt rfl) (fun _ => rfl) (fun v11 h => ?_)
      refine cx_sub (lv' := [(0, .ref (adr b)), (1, .ref (adr 8000)), (2, .int v11), (3, .int x3)]) [1, 2, 0, 3] rfl ?_
      exact cSt_come_84_v H hb hr_4 M10 v11 x3 _ h
    · refine cx_aload_n 0 dX6_come_25 rfl ?_
      refine cx_aload_n 1 dX6_come_26 rfl ?_
      refine cx_aload_n 0 dX6_come_27 rfl ?_
      refine cx_getR (cSt_R34 hb) q710 dX6_come_28 ?_
      refine cx_iload_n 3 dX6_come_31 rfl ?_
      refine cx_ldI h (cSt_A34 hb) dX6_come_32 (fun v12 h => ?_)
      refine cx_aload_n 0 dX6_come_33 rfl ?_
      refine cx_getR (cSt_R36 hb) q714 dX6_come_34 ?_
      refine cx_iload_n 3 dX6_come_37 rfl ?_
      refine cx_ldI h (cSt_A36 hb) dX6_come_38 (fun v13 h => ?_)
      refine cx_cVv [.ref (adr 8000), .int v12, .int v13] [] h (fun rs' h' => cSt_comes_m H hb M v12 v13 rs' h') (cSt_rc hb) dX6_come_39 g_X6_260 hg_X6_260 ⟨cx_le rfl, cx_le rfl⟩ rfl ⟨rfl, rfl⟩ ⟨cx_le rfl, cx_le rfl⟩ rfl (cx_le rfl) (fun M14 _ h => ?_)
      refine cx_goto 84 dX6_come_42 rfl ?_
      exact cSt_come_84_v H hb hr_4 M14 x2 x3 _ h
noncomputable def cSt_come_4 (N : cx_N) (b : Nat) : Nat → cx_M → Int32 → Int32 → Option cx_R :=
  cx_fix (fun _ _ _ => none) (fun r_4 => cSt_come_4b N b r_4)
theorem cSt_come_4_v {l : Launch} {g : cx_G} {adr : Nat → Nat} {X : cx_X} {N : cx_N} {b : Nat} (H : cCp_H g adr N) (hb : cSt_H g adr b) : ∀ (n : Nat) (M : cx_M) (x2 : Int32) (x3 : Int32) (rs : cx_R), cSt_come_4 N b n M x2 x3 = some rs → cx_V l (g) X sX6_come cX6_come 4 [(0, .ref (adr b)), (1, .ref (adr 8000)), (2, .int x2), (3, .int x3)] [] M 0 0 rs :=
  cx_fixI (fun (r : cx_M → Int32 → Int32 → Option cx_R) => ∀ (M : cx_M) (x2 : Int32) (x3 : Int32) (rs : cx_R), r M x2 x3 = some rs → cx_V l (g) X sX6_come cX6_come 4 [(0, .ref (adr b)), (1, .ref (adr 8000)), (2, .int x2), (3, .int x3)] [] M 0 0 rs) (fun _ _ _ _ h => by cases h) (fun r hr M x2 x3 rs h => cSt_come_4b_v H hb hr M x2 x3 rs h)
noncomputable def cSt_come_0 (N : cx_N) (b : Nat) (M : cx_M) : Option cx_R :=
  cSt_come_4 N b N.1 M 0 0
set_option maxRecDepth 100000 in
theorem cSt_come_0_v {l : Launch} {g : cx_G} {adr : Nat → Nat} {X : cx_X} {N : cx_N} {b : Nat} (H : cCp_H g adr N) (hb : cSt_H g adr b) (M : cx_M) (rs : cx_R) (h : cSt_come_0 N b M = some rs) : cx_V l (g) X sX6_come cX6_come 0 [(0, .ref (adr b)), (1, .ref (adr 8000))] [] M 0 0 rs := by
  unfold cSt_come_0 at h
  refine cx_iconst 0 dX6_come_0 cx_ic_0 ?_
  refine cx_istore_n [(2, .int 0), (0, .ref (adr b)), (1, .ref (adr 8000))] dX6_come_1 (cx_lt rfl) rfl ?_
  refine cx_iconst 0 dX6_come_2 cx_ic_0 ?_
  refine cx_istore_n [(3, .int 0), (2, .int 0), (0, .ref (adr b)), (1, .ref (adr 8000))] dX6_come_3 (cx_lt rfl) rfl ?_
  refine cx_sub (lv' := [(0, .ref (adr b)), (1, .ref (adr 8000)), (2, .int 0), (3, .int 0)]) [2, 3, 1, 0] rfl ?_
  exact cSt_come_4_v H hb N.1 M 0 0 _ h
noncomputable def cSt_come (N : cx_N) (b : Nat) (M : cx_M) : Option cx_R := cSt_come_0 N b M
theorem cSt_come_m {l : Launch} {g : cx_G} {adr : Nat → Nat} {N : cx_N} {b : Nat} (H : cCp_H g adr N) (hb : cSt_H g adr b) (M : cx_M) (rs : cx_R) (h : cSt_come N b M = some rs) : cx_Met l (g) yX6_come cX6_come sX6_come [.ref (adr b), .ref (adr 8000)] M rs :=
  cx_met (by decide +kernel) rfl rfl (lv := [(0, .ref (adr b)), (1, .ref (adr 8000))]) rfl (cx_le rfl) (fun X => cx_sub (lv' := [(0, .ref (adr b)), (1, .ref (adr 8000))]) [0, 1] rfl (cSt_come_0_v H hb M rs h))

abbrev sX6_steers : cx_S := (3, RX6, cx_rV, { frames := 1, cells := 0, slots := 0, locals := 15 }, none, false)
noncomputable def cSt_steers_0 (N : cx_N) (b : Nat) (M : cx_M) (x1 : Int32) : Option cx_R :=
  cx_get M b 30 fun v1 =>
  cx_let (x1 - v1) fun v2 =>
  cx_get M b 11 fun v3 =>
  cx_get M b 32 fun v4 =>
  cx_put M b 11 (cx_max (-3200) (cx_min 3200 (v3 + (v4 * v2)))) fun M5 =>
  cx_get M5 b 31 fun v6 =>
  cx_get M5 b 11 fun v7 =>
  cx_put M5 b 12 (cx_max (-200) (cx_min 200 (((v6 * v2) + v7) / 16))) fun M8 =>
  cx_get M8 b 24 fun v9 =>
  cx_get M8 b 13 fun v10 =>
  cx_st M8 (b + 41) 128 (cx_rem v9 128) v10 fun M11 =>
  cx_get M11 b 24 fun v12 =>
  cx_put M11 b 24 (v12 + 1) fun M13 =>
  some (M13, 0, 0)
set_option maxRecDepth 100000 in
theorem cSt_steers_0_v {l : Launch} {g : cx_G} {adr : Nat → Nat} {X : cx_X} {N : cx_N} {b : Nat} (H : cCp_H g adr N) (hb : cSt_H g adr b) (M : cx_M) (x1 : Int32) (rs : cx_R) (h : cSt_steers_0 N b M x1 = some rs) : cx_V l (g) X sX6_steers cX6_steers 0 [(0, .ref (adr b)), (1, .int x1)] [] M 0 0 rs := by
  unfold cSt_steers_0 at h
  refine cx_iload_n 1 dX6_steers_0 rfl ?_
  refine cx_aload_n 0 dX6_steers_1 rfl ?_
  refine cx_getI h (cSt_F30 hb) q702 dX6_steers_2 (fun v1 h => ?_)
  refine cx_isub dX6_steers_5 ?_
  refine cx_letI h (fun v2 h => ?_)
  refine cx_istore_n [(2, .int v2), (0, .ref (adr b)), (1, .int x1)] dX6_steers_6 (cx_lt rfl) rfl ?_
  refine cx_aload_n 1 dX6_steers_7 rfl ?_
  refine cx_sipush (-3200) dX6_steers_8 cx_sp_m3200 ?_
  refine cx_sipush 3200 dX6_steers_11 cx_sp_3200 ?_
  refine cx_aload_n 1 dX6_steers_14 rfl ?_
  refine cx_getI h (cSt_F11 hb) q670 dX6_steers_15 (fun v3 h => ?_)
  refine cx_aload_n 1 dX6_steers_18 rfl ?_
  refine cx_getI h (cSt_F32 hb) q706 dX6_steers_19 (fun v4 h => ?_)
  refine cx_iload_n 0 dX6_steers_22 rfl ?_
  refine cx_imul dX6_steers_23 ?_
  refine cx_iadd dX6_steers_24 ?_
  refine cx_mmin dX6_steers_25 q1221 (cx_le rfl) (cx_le rfl) (cx_le rfl) (cx_le rfl) ?_
  refine cx_mmax dX6_steers_28 q989 (cx_le rfl) (cx_le rfl) (cx_le rfl) (cx_le rfl) ?_
  refine cx_putI h (cSt_F11 hb) rfl rfl rfl q670 dX6_steers_31 (fun M5 h => ?_)
  refine cx_aload_n 1 dX6_steers_34 rfl ?_
  refine cx_sipush (-200) dX6_steers_35 cx_sp_m200 ?_
  refine cx_sipush 200 dX6_steers_38 cx_sp_200 ?_
  refine cx_aload_n 1 dX6_steers_41 rfl ?_
  refine cx_getI h (cSt_F31 hb) q704 dX6_steers_42 (fun v6 h => ?_)
  refine cx_iload_n 0 dX6_steers_45 rfl ?_
  refine cx_imul dX6_steers_46 ?_
  refine cx_aload_n 1 dX6_steers_47 rfl ?_
  refine cx_getI h (cSt_F11 hb) q670 dX6_steers_48 (fun v7 h => ?_)
  refine cx_iadd dX6_steers_51 ?_
  refine cx_bipush 16 dX6_steers_52 cx_bp_16 ?_
  refine cx_idivC cx_ne_16 dX6_steers_54 ?_
  refine cx_mmin dX6_steers_55 q1221 (cx_le rfl) (cx_le rfl) (cx_le rfl) (cx_le rfl) ?_
  refine cx_mmax dX6_steers_58 q989 (cx_le rfl) (cx_le rfl) (cx_le rfl) (cx_le rfl) ?_
  refine cx_putI h (cSt_F12 hb) rfl rfl rfl q672 dX6_steers_61 (fun M8 h => ?_)
  refine cx_aload_n 1 dX6_steers_64 rfl ?_
  refine cx_getR (cSt_R40 hb) q721 dX6_steers_65 ?_
  refine cx_aload_n 1 dX6_steers_68 rfl ?_
  refine cx_getI h (cSt_F24 hb) q691 dX6_steers_69 (fun v9 h => ?_)
  refine cx_sipush 128 dX6_steers_72 cx_sp_128 ?_
  refine cx_iremC cx_ne_128 dX6_steers_75 ?_
  refine cx_aload_n 1 dX6_steers_76 rfl ?_
  refine cx_getI h (cSt_F13 hb) q674 dX6_steers_77 (fun v10 h => ?_)
  refine cx_stI h (cSt_A40 hb) dX6_steers_80 (fun M11 h => ?_)
  refine cx_aload_n 1 dX6_steers_81 rfl ?_
  refine cx_dup dX6_steers_82 rfl ?_
  refine cx_getI h (cSt_F24 hb) q691 dX6_steers_83 (fun v12 h => ?_)
  refine cx_iconst 1 dX6_steers_86 cx_ic_1 ?_
  refine cx_iadd dX6_steers_87 ?_
  refine cx_putI h (cSt_F24 hb) rfl rfl rfl q691 dX6_steers_88 (fun M13 h => ?_)
  exact cx_vret h rfl rfl (cx_le rfl) (cx_le rfl) dX6_steers_91
noncomputable def cSt_steers (N : cx_N) (b : Nat) (M : cx_M) (x1 : Int32) : Option cx_R := cSt_steers_0 N b M x1
theorem cSt_steers_m {l : Launch} {g : cx_G} {adr : Nat → Nat} {N : cx_N} {b : Nat} (H : cCp_H g adr N) (hb : cSt_H g adr b) (M : cx_M) (x1 : Int32) (rs : cx_R) (h : cSt_steers N b M x1 = some rs) : cx_Met l (g) yX6_steers cX6_steers sX6_steers [.ref (adr b), .int x1] M rs :=
  cx_met (by decide +kernel) rfl rfl (lv := [(0, .ref (adr b)), (1, .int x1)]) rfl (cx_le rfl) (fun X => cx_sub (lv' := [(0, .ref (adr b)), (1, .int x1)]) [0, 1] rfl (cSt_steers_0_v H hb M x1 rs h))

abbrev sJ19_wordIndex : cx_S := (1, RJ19, cx_rI, { frames := 0, cells := 0, slots := 0, locals := 0 }, some .int, false)
noncomputable def jBs_wordIndex_0 (N : cx_N) (M : cx_M) (x0 : Int32) : Option cx_R :=
  some (M, x0 >>> (6 &&& 31), 0)
set_option maxRecDepth 100000 in
theorem jBs_wordIndex_0_v {l : Launch} {g : cx_G} {adr : Nat → Nat} {X : cx_X} {N : cx_N} (H : cCp_H g adr N) (M : cx_M) (x0 : Int32) (rs : cx_R) (h : jBs_wordIndex_0 N M x0 = some rs) : cx_V l (g) X sJ19_wordIndex cJ19_wordIndex 0 [(0, .int x0)] [] M 0 0 rs := by
  unfold jBs_wordIndex_0 at h
  refine cx_iload_n 0 dJ19_wordIndex_0 rfl ?_
  refine cx_bipush 6 dJ19_wordIndex_1 cx_bp_6 ?_
  refine cx_ishr dJ19_wordIndex_3 ?_
  exact cx_iret h rfl rfl (cx_le rfl) (cx_le rfl) dJ19_wordIndex_4
noncomputable def jBs_wordIndex (N : cx_N) (M : cx_M) (x0 : Int32) : Option cx_R := jBs_wordIndex_0 N M x0
theorem jBs_wordIndex_m {l : Launch} {g : cx_G} {adr : Nat → Nat} {N : cx_N} (H : cCp_H g adr N) (M : cx_M) (x0 : Int32) (rs : cx_R) (h : jBs_wordIndex N M x0 = some rs) : cx_Met l (g) yJ19_wordIndex cJ19_wordIndex sJ19_wordIndex [.int x0] M rs :=
  cx_met (by decide +kernel) rfl rfl (lv := [(0, .int x0)]) rfl (cx_le rfl) (fun X => cx_sub (lv' := [(0, .int x0)]) [0] rfl (jBs_wordIndex_0_v H M x0 rs h))

abbrev sJ19_expandTo : cx_S := (3, RJ19, cx_rV, { frames := 2, cells := 0, slots := 0, locals := 35 }, none, false)
noncomputable def jBs_expandTo_0 (N : cx_N) (b : Nat) (M : cx_M) (x1 : Int32) : Option cx_R :=
  cx_let (x1 + 1) fun v1 =>
  cx_get M b 1 fun v2 =>
  if v1 ≤ v2 then (
    some (M, 0, 0))
  else (
    cx_cal (jBs_ensureCapacity N b M v1) fun M3 _ =>
    cx_put M3 b 1 v1 fun M4 =>
    some (M4, 0, 0))
set_option maxRecDepth 100000 in
theorem jBs_expandTo_0_v {l : Launch} {g : cx_G} {adr : Nat → Nat} {X : cx_X} {N : cx_N} {b : Nat} (H : cCp_H g adr N) (hb : jBs_H g adr b) (M : cx_M) (x1 : Int32) (rs : cx_R) (h : jBs_expandTo_0 N b M x1 = some rs) : cx_V l (g) X sJ19_expandTo cJ19_expandTo 0 [(0, .ref (adr b)), (1, .int x1)] [] M 0 0 rs := by
  unfold jBs_expandTo_0 at h
  refine cx_iload_n 1 dJ19_expandTo_0 rfl ?_
  refine cx_iconst 1 dJ19_expandTo_1 cx_ic_1 ?_
  refine cx_iadd dJ19_expandTo_2 ?_
  refine cx_letI h (fun v1 h => ?_)
  refine cx_istore_n [(2, .int v1), (0, .ref (adr b)), (1, .int x1)] dJ19_expandTo_3 (cx_lt rfl) rfl ?_
  refine cx_aload_n 1 dJ19_expandTo_4 rfl ?_
  refine cx_getI h (jBs_F1 hb) q638 dJ19_expandTo_5 (fun v2 h => ?_)
  refine cx_iload_n 0 dJ19_expandTo_8 rfl ?_
  refine cx_icmp_ge 22 h dJ19_expandTo_9 rfl (fun h => ?_) (fun h => ?_)
  · exact cx_vret h rfl rfl (cx_le rfl) (cx_le rfl) dJ19_expandTo_22
  · refine cx_aload_n 1 dJ19_expandTo_12 rfl ?_
    refine cx_iload_n 0 dJ19_expandTo_13 rfl ?_
    refine cx_cVv [.int v1] [] h (fun rs' h' => jBs_ensureCapacity_m H hb M v1 rs' h') (jBs_rc hb) dJ19_expandTo_14 g_J19_139 hg_J19_139 ⟨cx_le rfl, cx_le rfl⟩ rfl ⟨rfl, rfl⟩ ⟨cx_le rfl, cx_le rfl⟩ rfl (cx_le rfl) (fun M3 _ h => ?_)
    refine cx_aload_n 1 dJ19_expandTo_17 rfl ?_
    refine cx_iload_n 0 dJ19_expandTo_18 rfl ?_
    refine cx_putI h (jBs_F1 hb) rfl rfl rfl q638 dJ19_expandTo_19 (fun M4 h => ?_)
    exact cx_vret h rfl rfl (cx_le rfl) (cx_le rfl) dJ19_expandTo_22
noncomputable def jBs_expandTo (N : cx_N) (b : Nat) (M : cx_M) (x1 : Int32) : Option cx_R := jBs_expandTo_0 N b M x1
theorem jBs_expandTo_m {l : Launch} {g : cx_G} {adr : Nat → Nat} {N : cx_N} {b : Nat} (H : cCp_H g adr N) (hb : jBs_H g adr b) (M : cx_M) (x1 : Int32) (rs : cx_R) (h : jBs_expandTo N b M x1 = some rs) : cx_Met l (g) yJ19_expandTo cJ19_expandTo sJ19_expandTo [.ref (adr b), .int x1] M rs :=
  cx_met (by decide +kernel) rfl rfl (lv := [(0, .ref (adr b)), (1, .int x1)]) rfl (cx_le rfl) (fun X => cx_sub (lv' := [(0, .ref (adr b)), (1, .int x1)]) [0, 1] rfl (jBs_expandTo_0_v H hb M x1 rs h))

abbrev sJ19_set_2 : cx_S := (3, RJ19, cx_rV, { frames := 3, cells := 0, slots := 0, locals := 57 }, none, false)
noncomputable def jBs_set_2_0 (N : cx_N) (b : Nat) (M : cx_M) (x1 : Int32) : Option cx_R :=
  if 0 ≤ x1 then (
    cx_cal (jBs_wordIndex N M x1) fun M1 v2 =>
    cx_cal (jBs_expandTo N b M1 v2) fun M3 _ =>
    cx_ldw M3 ((b + 1)) 2 v2 fun w4 =>
    cx_stw M3 ((b + 1)) 2 v2 (w4 ||| (cx_shl64 1 x1)) fun M5 =>
    cx_cal (jBs_checkInvariants N b M5) fun M6 _ =>
    some (M6, 0, 0))
  else (
    none)
set_option maxRecDepth 100000 in
theorem jBs_set_2_0_v {l : Launch} {g : cx_G} {adr : Nat → Nat} {X : cx_X} {N : cx_N} {b : Nat} (H : cCp_H g adr N) (hb : jBs_H g adr b) (M : cx_M) (x1 : Int32) (rs : cx_R) (h : jBs_set_2_0 N b M x1 = some rs) : cx_V l (g) X sJ19_set_2 cJ19_set_2 0 [(0, .ref (adr b)), (1, .int x1)] [] M 0 0 rs := by
  unfold jBs_set_2_0 at h
  refine cx_iload_n 1 dJ19_set_2_0 rfl ?_
  refine cx_if_ge 31 h dJ19_set_2_1 rfl (fun h => ?_) (fun h => ?_)
  · refine cx_iload_n 1 dJ19_set_2_31 rfl ?_
    refine cx_cSi [.int x1] [] h (fun rs' h' => jBs_wordIndex_m H M x1 rs' h') dJ19_set_2_32 g_J19_52 hg_J19_52 ⟨cx_le rfl, cx_le rfl⟩ rfl ⟨rfl, rfl⟩ ⟨cx_le rfl, cx_le rfl⟩ rfl (cx_le rfl) (fun M1 v2 h => ?_)
    refine cx_istore_n [(2, .int v2), (0, .ref (adr b)), (1, .int x1)] dJ19_set_2_35 (cx_lt rfl) rfl ?_
    refine cx_aload_n 1 dJ19_set_2_36 rfl ?_
    refine cx_iload_n 0 dJ19_set_2_37 rfl ?_
    refine cx_cVv [.int v2] [] h (fun rs' h' => jBs_expandTo_m H hb M1 v2 rs' h') (jBs_rc hb) dJ19_set_2_38 g_J19_155 hg_J19_155 ⟨cx_le rfl, cx_le rfl⟩ rfl ⟨rfl, rfl⟩ ⟨cx_le rfl, cx_le rfl⟩ rfl (cx_le rfl) (fun M3 _ h => ?_)
    refine cx_aload_n 1 dJ19_set_2_41 rfl ?_
    refine cx_getR (jBs_R0 hb) q637 dJ19_set_2_42 ?_
    refine cx_iload_n 0 dJ19_set_2_45 rfl ?_
    refine cx_dup2 dJ19_set_2_46 rfl rfl ?_
    refine cx_ldW h (jBs_L0 hb) dJ19_set_2_47 (fun w4 h => ?_)
    refine cx_lconst 1 dJ19_set_2_48 cx_lc_1 ?_
    refine cx_iload_n 2 dJ19_set_2_49 rfl ?_
    refine cx_lshl dJ19_set_2_50 ?_
    refine cx_lor dJ19_set_2_51 ?_
    refine cx_stW h (jBs_L0 hb) dJ19_set_2_52 (fun M5 h => ?_)
    refine cx_aload_n 1 dJ19_set_2_53 rfl ?_
    refine cx_cVv [] [] h (fun rs' h' => jBs_checkInvariants_m H hb M5 rs' h') (jBs_rc hb) dJ19_set_2_54 g_J19_56 hg_J19_56 ⟨cx_le rfl, cx_le rfl⟩ rfl ⟨rfl, rfl⟩ ⟨cx_le rfl, cx_le rfl⟩ rfl (cx_le rfl) (fun M6 _ h => ?_)
    exact cx_vret h rfl rfl (cx_le rfl) (cx_le rfl) dJ19_set_2_57
  · cases h
noncomputable def jBs_set_2 (N : cx_N) (b : Nat) (M : cx_M) (x1 : Int32) : Option cx_R := jBs_set_2_0 N b M x1
theorem jBs_set_2_m {l : Launch} {g : cx_G} {adr : Nat → Nat} {N : cx_N} {b : Nat} (H : cCp_H g adr N) (hb : jBs_H g adr b) (M : cx_M) (x1 : Int32) (rs : cx_R) (h : jBs_set_2 N b M x1 = some rs) : cx_Met l (g) yJ19_set_2 cJ19_set_2 sJ19_set_2 [.ref (adr b), .int x1] M rs :=
  cx_met (by decide +kernel) rfl rfl (lv := [(0, .ref (adr b)), (1, .int x1)]) rfl (cx_le rfl) (fun X => cx_sub (lv' := [(0, .ref (adr b)), (1, .int x1)]) [0, 1] rfl (jBs_set_2_0_v H hb M x1 rs h))

abbrev sJ19_recalculateWordsInUse : cx_S := (2, RJ19, cx_rV, { frames := 0, cells := 0, slots := 0, locals := 0 }, none, false)
noncomputable def jBs_recalculateWordsInUse_31 (N : cx_N) (b : Nat) (M : cx_M) (x1 : Int32) : Option cx_R :=
  cx_put M b 1 (x1 + 1) fun M1 =>
  some (M1, 0, 0)
set_option maxRecDepth 100000 in
theorem jBs_recalculateWordsInUse_31_v {l : Launch} {g : cx_G} {adr : Nat → Nat} {X : cx_X} {N : cx_N} {b : Nat} (H : cCp_H g adr N) (hb : jBs_H g adr b) (M : cx_M) (x1 : Int32) (rs : cx_R) (h : jBs_recalculateWordsInUse_31 N b M x1 = some rs) : cx_V l (g) X sJ19_recalculateWordsInUse cJ19_recalculateWordsInUse 31 [(0, .ref (adr b)), (1, .int x1)] [] M 0 0 rs := by
  unfold jBs_recalculateWordsInUse_31 at h
  refine cx_aload_n 0 dJ19_recalculateWordsInUse_31 rfl ?_
  refine cx_iload_n 1 dJ19_recalculateWordsInUse_32 rfl ?_
  refine cx_iconst 1 dJ19_recalculateWordsInUse_33 cx_ic_1 ?_
  refine cx_iadd dJ19_recalculateWordsInUse_34 ?_
  refine cx_putI h (jBs_F1 hb) rfl rfl rfl q638 dJ19_recalculateWordsInUse_35 (fun M1 h => ?_)
  exact cx_vret h rfl rfl (cx_le rfl) (cx_le rfl) dJ19_recalculateWordsInUse_38
noncomputable def jBs_recalculateWordsInUse_7b (N : cx_N) (b : Nat) (r_7 : cx_M → Int32 → Option cx_R) (M : cx_M) (x1 : Int32) : Option cx_R :=
  if x1 < 0 then (
    jBs_recalculateWordsInUse_31 N b M x1)
  else (
    cx_ldw M ((b + 1)) 2 x1 fun w1 =>
    if (lg_cmp w1 0) = 0 then (
      cx_let (x1 + (-1)) fun v2 =>
      r_7 M v2)
    else (
      jBs_recalculateWordsInUse_31 N b M x1))
set_option maxRecDepth 100000 in
theorem jBs_recalculateWordsInUse_7b_v {l : Launch} {g : cx_G} {adr : Nat → Nat} {X : cx_X} {N : cx_N} {b : Nat} {r_7 : cx_M → Int32 → Option cx_R} (H : cCp_H g adr N) (hb : jBs_H g adr b) (hr_7 : ∀ (M : cx_M) (x1 : Int32) (rs : cx_R), r_7 M x1 = some rs → cx_V l (g) X sJ19_recalculateWordsInUse cJ19_recalculateWordsInUse 7 [(0, .ref (adr b)), (1, .int x1)] [] M 0 0 rs) (M : cx_M) (x1 : Int32) (rs : cx_R) (h : jBs_recalculateWordsInUse_7b N b r_7 M x1 = some rs) : cx_V l (g) X sJ19_recalculateWordsInUse cJ19_recalculateWordsInUse 7 [(0, .ref (adr b)), (1, .int x1)] [] M 0 0 rs := by
  unfold jBs_recalculateWordsInUse_7b at h
  refine cx_iload_n 1 dJ19_recalculateWordsInUse_7 rfl ?_
  refine cx_if_lt 31 h dJ19_recalculateWordsInUse_8 rfl (fun h => ?_) (fun h => ?_)
  · exact jBs_recalculateWordsInUse_31_v H hb M x1 _ h
  · refine cx_aload_n 0 dJ19_recalculateWordsInUse_11 rfl ?_
    refine cx_getR (jBs_R0 hb) q637 dJ19_recalculateWordsInUse_12 ?_
    refine cx_iload_n 1 dJ19_recalculateWordsInUse_15 rfl ?_
    refine cx_ldW h (jBs_L0 hb) dJ19_recalculateWordsInUse_16 (fun w1 h => ?_)
    refine cx_lconst 0 dJ19_recalculateWordsInUse_17 cx_lc_0 ?_
    refine cx_lcmp dJ19_recalculateWordsInUse_18 ?_
    refine cx_if_eq 25 h dJ19_recalculateWordsInUse_19 rfl (fun h => ?_) (fun h => ?_)
    · refine cx_iinc 1 (-1) (fun v2 => [(1, .int v2), (0, .ref (adr b))]) h dJ19_recalculateWordsInUse_25 rfl cx_ic_m1 (cx_lt rfl) (fun _ => rfl) (fun v2 h => ?_)
      refine cx_goto 7 dJ19_recalculateWordsInUse_28 rfl ?_
      refine cx_sub (lv' := [(0, .ref (adr b)), (1, .int v2)]) [1, 0] rfl ?_
      exact hr_7 M v2 _ h
    · refine cx_goto 31 dJ19_recalculateWordsInUse_22 rfl ?_
      exact jBs_recalculateWordsInUse_31_v H hb M x1 _ h
noncomputable def jBs_recalculateWordsInUse_7 (N : cx_N) (b : Nat) : Nat → cx_M → Int32 → Option cx_R :=
  cx_fix (fun _ _ => none) (fun r_7 => jBs_recalculateWordsInUse_7b N b r_7)
theorem jBs_recalculateWordsInUse_7_v {l : Launch} {g : cx_G} {adr : Nat → Nat} {X : cx_X} {N : cx_N} {b : Nat} (H : cCp_H g adr N) (hb : jBs_H g adr b) : ∀ (n : Nat) (M : cx_M) (x1 : Int32) (rs : cx_R), jBs_recalculateWordsInUse_7 N b n M x1 = some rs → cx_V l (g) X sJ19_recalculateWordsInUse cJ19_recalculateWordsInUse 7 [(0, .ref (adr b)), (1, .int x1)] [] M 0 0 rs :=
  cx_fixI (fun (r : cx_M → Int32 → Option cx_R) => ∀ (M : cx_M) (x1 : Int32) (rs : cx_R), r M x1 = some rs → cx_V l (g) X sJ19_recalculateWordsInUse cJ19_recalculateWordsInUse 7 [(0, .ref (adr b)), (1, .int x1)] [] M 0 0 rs) (fun _ _ _ h => by cases h) (fun r hr M x1 rs h => jBs_recalculateWordsInUse_7b_v H hb hr M x1 rs h)
noncomputable def jBs_recalculateWordsInUse_0 (N : cx_N) (b : Nat) (M : cx_M) : Option cx_R :=
  cx_get M b 1 fun v1 =>
  cx_let (v1 - 1) fun v2 =>
  jBs_recalculateWordsInUse_7 N b N.1 M v2
set_option maxRecDepth 100000 in
theorem jBs_recalculateWordsInUse_0_v {l : Launch} {g : cx_G} {adr : Nat → Nat} {X : cx_X} {N : cx_N} {b : Nat} (H : cCp_H g adr N) (hb : jBs_H g adr b) (M : cx_M) (rs : cx_R) (h : jBs_recalculateWordsInUse_0 N b M = some rs) : cx_V l (g) X sJ19_recalculateWordsInUse cJ19_recalculateWordsInUse 0 [(0, .ref (adr b))] [] M 0 0 rs := by
  unfold jBs_recalculateWordsInUse_0 at h
  refine cx_aload_n 0 dJ19_recalculateWordsInUse_0 rfl ?_
  refine cx_getI h (jBs_F1 hb) q638 dJ19_recalculateWordsInUse_1 (fun v1 h => ?_)
  refine cx_iconst 1 dJ19_recalculateWordsInUse_4 cx_ic_1 ?_
  refine cx_isub dJ19_recalculateWordsInUse_5 ?_
  refine cx_letI h (fun v2 h => ?_)
  refine cx_istore_n [(1, .int v2), (0, .ref (adr b))] dJ19_recalculateWordsInUse_6 (cx_lt rfl) rfl ?_
  refine cx_sub (lv' := [(0, .ref (adr b)), (1, .int v2)]) [1, 0] rfl ?_
  exact jBs_recalculateWordsInUse_7_v H hb N.1 M v2 _ h
noncomputable def jBs_recalculateWordsInUse (N : cx_N) (b : Nat) (M : cx_M) : Option cx_R := jBs_recalculateWordsInUse_0 N b M
theorem jBs_recalculateWordsInUse_m {l : Launch} {g : cx_G} {adr : Nat → Nat} {N : cx_N} {b : Nat} (H : cCp_H g adr N) (hb : jBs_H g adr b) (M : cx_M) (rs : cx_R) (h : jBs_recalculateWordsInUse N b M = some rs) : cx_Met l (g) yJ19_recalculateWordsInUse cJ19_recalculateWordsInUse sJ19_recalculateWordsInUse [.ref (adr b)] M rs :=
  cx_met (by decide +kernel) rfl rfl (lv := [(0, .ref (adr b))]) rfl (cx_le rfl) (fun X => cx_sub (lv' := [(0, .ref (adr b))]) [0] rfl (jBs_recalculateWordsInUse_0_v H hb M rs h))

abbrev sJ19_clear_2 : cx_S := (3, RJ19, cx_rV, { frames := 1, cells := 0, slots := 0, locals := 21 }, none, false)
noncomputable def jBs_clear_2_0 (N : cx_N) (b : Nat) (M : cx_M) (x1 : Int32) : Option cx_R :=
  if 0 ≤ x1 then (
    cx_cal (jBs_wordIndex N M x1) fun M1 v2 =>
    cx_get M1 b 1 fun v3 =>
    if v2 < v3 then (
      cx_ldw M1 ((b + 1)) 2 v2 fun w4 =>
      cx_stw M1 ((b + 1)) 2 v2 (w4 &&& ((cx_shl64 1 x1) ^^^ (-1))) fun M5 =>
      cx_cal (jBs_recalculateWordsInUse N b M5) fun M6 _ =>
      cx_cal (jBs_checkInvariants N b M6) fun M7 _ =>
      some (M7, 0, 0))
    else (
      some (M1, 0, 0)))
  else (
    none)
set_option maxRecDepth 100000 in
theorem jBs_clear_2_0_v {l : Launch} {g : cx_G} {adr : Nat → Nat} {X : cx_X} {N : cx_N} {b : Nat} (H : cCp_H g adr N) (hb : jBs_H g adr b) (M : cx_M) (x1 : Int32) (rs : cx_R) (h : jBs_clear_2_0 N b M x1 = some rs) : cx_V l (g) X sJ19_clear_2 cJ19_clear_2 0 [(0, .ref (adr b)), (1, .int x1)] [] M 0 0 rs := by
  unfold jBs_clear_2_0 at h
  refine cx_iload_n 1 dJ19_clear_2_0 rfl ?_
  refine cx_if_ge 31 h dJ19_clear_2_1 rfl (fun h => ?_) (fun h => ?_)
  · refine cx_iload_n 1 dJ19_clear_2_31 rfl ?_
    refine cx_cSi [.int x1] [] h (fun rs' h' => jBs_wordIndex_m H M x1 rs' h') dJ19_clear_2_32 g_J19_52 hg_J19_52 ⟨cx_le rfl, cx_le rfl⟩ rfl ⟨rfl, rfl⟩ ⟨cx_le rfl, cx_le rfl⟩ rfl (cx_le rfl) (fun M1 v2 h => ?_)
    refine cx_istore_n [(2, .int v2), (0, .ref (adr b)), (1, .int x1)] dJ19_clear_2_35 (cx_lt rfl) rfl ?_
    refine cx_iload_n 0 dJ19_clear_2_36 rfl ?_
    refine cx_aload_n 1 dJ19_clear_2_37 rfl ?_
    refine cx_getI h (jBs_F1 hb) q638 dJ19_clear_2_38 (fun v3 h => ?_)
    refine cx_icmp_lt 45 h dJ19_clear_2_41 rfl (fun h => ?_) (fun h => ?_)
    · refine cx_aload_n 1 dJ19_clear_2_45 rfl ?_
      refine cx_getR (jBs_R0 hb) q637 dJ19_clear_2_46 ?_
      refine cx_iload_n 0 dJ19_clear_2_49 rfl ?_
      refine cx_dup2 dJ19_clear_2_50 rfl rfl ?_
      refine cx_ldW h (jBs_L0 hb) dJ19_clear_2_51 (fun w4 h => ?_)
      refine cx_lconst 1 dJ19_clear_2_52 cx_lc_1 ?_
      refine cx_iload_n 2 dJ19_clear_2_53 rfl ?_
      refine cx_lshl dJ19_clear_2_54 ?_
      refine cx_ldc2 (-1) dJ19_clear_2_55 q1297 ?_
      refine cx_lxor dJ19_clear_2_58 ?_
      refine cx_land dJ19_clear_2_59 ?_
      refine cx_stW h (jBs_L0 hb) dJ19_clear_2_60 (fun M5 h => ?_)
      refine cx_aload_n 1 dJ19_clear_2_61 rfl ?_
      refine cx_cVv [] [] h (fun rs' h' => jBs_recalculateWordsInUse_m H hb M5 rs' h') (jBs_rc hb) dJ19_clear_2_62 g_J19_158 hg_J19_158 ⟨cx_le rfl, cx_le rfl⟩ rfl ⟨rfl, rfl⟩ ⟨cx_le rfl, cx_le rfl⟩ rfl (cx_le rfl) (fun M6 _ h => ?_)
      refine cx_aload_n 1 dJ19_clear_2_65 rfl ?_
      refine cx_cVv [] [] h (fun rs' h' => jBs_checkInvariants_m H hb M6 rs' h') (jBs_rc hb) dJ19_clear_2_66 g_J19_56 hg_J19_56 ⟨cx_le rfl, cx_le rfl⟩ rfl ⟨rfl, rfl⟩ ⟨cx_le rfl, cx_le rfl⟩ rfl (cx_le rfl) (fun M7 _ h => ?_)
      exact cx_vret h rfl rfl (cx_le rfl) (cx_le rfl) dJ19_clear_2_69
    · exact cx_vret h rfl rfl (cx_le rfl) (cx_le rfl) dJ19_clear_2_44
  · cases h
noncomputable def jBs_clear_2 (N : cx_N) (b : Nat) (M : cx_M) (x1 : Int32) : Option cx_R := jBs_clear_2_0 N b M x1
theorem jBs_clear_2_m {l : Launch} {g : cx_G} {adr : Nat → Nat} {N : cx_N} {b : Nat} (H : cCp_H g adr N) (hb : jBs_H g adr b) (M : cx_M) (x1 : Int32) (rs : cx_R) (h : jBs_clear_2 N b M x1 = some rs) : cx_Met l (g) yJ19_clear_2 cJ19_clear_2 sJ19_clear_2 [.ref (adr b), .int x1] M rs :=
  cx_met (by decide +kernel) rfl rfl (lv := [(0, .ref (adr b)), (1, .int x1)]) rfl (cx_le rfl) (fun X => cx_sub (lv' := [(0, .ref (adr b)), (1, .int x1)]) [0, 1] rfl (jBs_clear_2_0_v H hb M x1 rs h))

abbrev sJ19_set : cx_S := (3, RJ19, cx_rV, { frames := 4, cells := 0, slots := 0, locals := 79 }, none, false)
noncomputable def jBs_set_0 (N : cx_N) (b : Nat) (M : cx_M) (x1 : Int32) (x2 : Int32) : Option cx_R :=
  if x2 = 0 then (
    cx_cal (jBs_clear_2 N b M x1) fun M1 _ =>
    some (M1, 0, 0))
  else (
    cx_cal (jBs_set_2 N b M x1) fun M2 _ =>
    some (M2, 0, 0))
set_option maxRecDepth 100000 in
theorem jBs_set_0_v {l : Launch} {g : cx_G} {adr : Nat → Nat} {X : cx_X} {N : cx_N} {b : Nat} (H : cCp_H g adr N) (hb : jBs_H g adr b) (M : cx_M) (x1 : Int32) (x2 : Int32) (rs : cx_R) (h : jBs_set_0 N b M x1 x2 = some rs) : cx_V l (g) X sJ19_set cJ19_set 0 [(0, .ref (adr b)), (1, .int x1), (2, .int x2)] [] M 0 0 rs := by
  unfold jBs_set_0 at h
  refine cx_iload_n 2 dJ19_set_0 rfl ?_
  refine cx_if_eq 12 h dJ19_set_1 rfl (fun h => ?_) (fun h => ?_)
  · refine cx_aload_n 0 dJ19_set_12 rfl ?_
    refine cx_iload_n 1 dJ19_set_13 rfl ?_
    refine cx_cVv [.int x1] [] h (fun rs' h' => jBs_clear_2_m H hb M x1 rs' h') (jBs_rc hb) dJ19_set_14 g_J19_170 hg_J19_170 ⟨cx_le rfl, cx_le rfl⟩ rfl ⟨rfl, rfl⟩ ⟨cx_le rfl, cx_le rfl⟩ rfl (cx_le rfl) (fun M1 _ h => ?_)
    exact cx_vret h rfl rfl (cx_le rfl) (cx_le rfl) dJ19_set_17
  · refine cx_aload_n 0 dJ19_set_4 rfl ?_
    refine cx_iload_n 1 dJ19_set_5 rfl ?_
    refine cx_cVv [.int x1] [] h (fun rs' h' => jBs_set_2_m H hb M x1 rs' h') (jBs_rc hb) dJ19_set_6 g_J19_167 hg_J19_167 ⟨cx_le rfl, cx_le rfl⟩ rfl ⟨rfl, rfl⟩ ⟨cx_le rfl, cx_le rfl⟩ rfl (cx_le rfl) (fun M2 _ h => ?_)
    refine cx_goto 17 dJ19_set_9 rfl ?_
    exact cx_vret h rfl rfl (cx_le rfl) (cx_le rfl) dJ19_set_17
noncomputable def jBs_set (N : cx_N) (b : Nat) (M : cx_M) (x1 : Int32) (x2 : Int32) : Option cx_R := jBs_set_0 N b M x1 x2
theorem jBs_set_m {l : Launch} {g : cx_G} {adr : Nat → Nat} {N : cx_N} {b : Nat} (H : cCp_H g adr N) (hb : jBs_H g adr b) (M : cx_M) (x1 : Int32) (x2 : Int32) (rs : cx_R) (h : jBs_set N b M x1 x2 = some rs) : cx_Met l (g) yJ19_set cJ19_set sJ19_set [.ref (adr b), .int x1, .int x2] M rs :=
  cx_met (by decide +kernel) rfl rfl (lv := [(0, .ref (adr b)), (1, .int x1), (2, .int x2)]) rfl (cx_le rfl) (fun X => cx_sub (lv' := [(0, .ref (adr b)), (1, .int x1), (2, .int x2)]) [0, 1, 2] rfl (jBs_set_0_v H hb M x1 x2 rs h))

abbrev sX6_empties : cx_S := (2, RX6, cx_rV, { frames := 0, cells := 0, slots := 0, locals := 0 }, none, false)
noncomputable def cSt_empties_2b (N : cx_N) (b : Nat) (r_2 : cx_M → Int32 → Option cx_R) (M : cx_M) (x1 : Int32) : Option cx_R :=
  if 64 ≤ x1 then (
    some (M, 0, 0))
  else (
    cx_st M (b + 38) 64 x1 (-1) fun M1 =>
    cx_let (x1 + 1) fun v2 =>
    r_2 M1 v2)
set_option maxRecDepth 100000 in
theorem cSt_empties_2b_v {l : Launch} {g : cx_G} {adr : Nat → Nat} {X : cx_X} {N : cx_N} {b : Nat} {r_2 : cx_M → Int32 → Option cx_R} (H : cCp_H g adr N) (hb : cSt_H g adr b) (hr_2 : ∀ (M : cx_M) (x1 : Int32) (rs : cx_R), r_2 M x1 = some rs → cx_V l (g) X sX6_empties cX6_empties 2 [(0, .ref (adr b)), (1, .int x1)] [] M 0 0 rs) (M : cx_M) (x1 : Int32) (rs : cx_R) (h : cSt_empties_2b N b r_2 M x1 = some rs) : cx_V l (g) X sX6_empties cX6_empties 2 [(0, .ref (adr b)), (1, .int x1)] [] M 0 0 rs := by
  unfold cSt_empties_2b at h
  refine cx_iload_n 1 dX6_empties_2 rfl ?_
  refine cx_bipush 64 dX6_empties_3 cx_bp_64 ?_
  refine cx_icmp_ge 21 h dX6_empties_5 rfl (fun h => ?_) (fun h => ?_)
  · exact cx_vret h rfl rfl (cx_le rfl) (cx_le rfl) dX6_empties_21
  · refine cx_aload_n 0 dX6_empties_8 rfl ?_
    refine cx_getR (cSt_R37 hb) q716 dX6_empties_9 ?_
    refine cx_iload_n 1 dX6_empties_12 rfl ?_
    refine cx_iconst (-1) dX6_empties_13 cx_ic_m1 ?_
    refine cx_stI h (cSt_A37 hb) dX6_empties_14 (fun M1 h => ?_)
    refine cx_iinc 1 1 (fun v2 => [(1, .int v2), (0, .ref (adr b))]) h dX6_empties_15 rfl cx_ic_1 (cx_lt rfl) (fun _ => rfl) (fun v2 h => ?_)
    refine cx_goto 2 dX6_empties_18 rfl ?_
    refine cx_sub (lv' := [(0, .ref (adr b)), (1, .int v2)]) [1, 0] rfl ?_
    exact hr_2 M1 v2 _ h
noncomputable def cSt_empties_2 (N : cx_N) (b : Nat) : Nat → cx_M → Int32 → Option cx_R :=
  cx_fix (fun _ _ => none) (fun r_2 => cSt_empties_2b N b r_2)
theorem cSt_empties_2_v {l : Launch} {g : cx_G} {adr : Nat → Nat} {X : cx_X} {N : cx_N} {b : Nat} (H : cCp_H g adr N) (hb : cSt_H g adr b) : ∀ (n : Nat) (M : cx_M) (x1 : Int32) (rs : cx_R), cSt_empties_2 N b n M x1 = some rs → cx_V l (g) X sX6_empties cX6_empties 2 [(0, .ref (adr b)), (1, .int x1)] [] M 0 0 rs :=
  cx_fixI (fun (r : cx_M → Int32 → Option cx_R) => ∀ (M : cx_M) (x1 : Int32) (rs : cx_R), r M x1 = some rs → cx_V l (g) X sX6_empties cX6_empties 2 [(0, .ref (adr b)), (1, .int x1)] [] M 0 0 rs) (fun _ _ _ h => by cases h) (fun r hr M x1 rs h => cSt_empties_2b_v H hb hr M x1 rs h)
noncomputable def cSt_empties_0 (N : cx_N) (b : Nat) (M : cx_M) : Option cx_R :=
  cSt_empties_2 N b N.1 M 0
set_option maxRecDepth 100000 in
theorem cSt_empties_0_v {l : Launch} {g : cx_G} {adr : Nat → Nat} {X : cx_X} {N : cx_N} {b : Nat} (H : cCp_H g adr N) (hb : cSt_H g adr b) (M : cx_M) (rs : cx_R) (h : cSt_empties_0 N b M = some rs) : cx_V l (g) X sX6_empties cX6_empties 0 [(0, .ref (adr b))] [] M 0 0 rs := by
  unfold cSt_empties_0 at h
  refine cx_iconst 0 dX6_empties_0 cx_ic_0 ?_
  refine cx_istore_n [(1, .int 0), (0, .ref (adr b))] dX6_empties_1 (cx_lt rfl) rfl ?_
  refine cx_sub (lv' := [(0, .ref (adr b)), (1, .int 0)]) [1, 0] rfl ?_
  exact cSt_empties_2_v H hb N.1 M 0 _ h
noncomputable def cSt_empties (N : cx_N) (b : Nat) (M : cx_M) : Option cx_R := cSt_empties_0 N b M
theorem cSt_empties_m {l : Launch} {g : cx_G} {adr : Nat → Nat} {N : cx_N} {b : Nat} (H : cCp_H g adr N) (hb : cSt_H g adr b) (M : cx_M) (rs : cx_R) (h : cSt_empties N b M = some rs) : cx_Met l (g) yX6_empties cX6_empties sX6_empties [.ref (adr b)] M rs :=
  cx_met (by decide +kernel) rfl rfl (lv := [(0, .ref (adr b))]) rfl (cx_le rfl) (fun X => cx_sub (lv' := [(0, .ref (adr b))]) [0] rfl (cSt_empties_0_v H hb M rs h))
