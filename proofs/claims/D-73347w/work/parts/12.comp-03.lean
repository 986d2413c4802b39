abbrev sX1_lambda_when_8 : cx_S := (2, RX1, cx_rI, { frames := 0, cells := 0, slots := 0, locals := 0 }, some .boolean, false)
noncomputable def cCc_lambda_when_8_0 (N : cx_N) (b2 : Nat) (M : cx_M) : Option cx_R :=
  cx_get M b2 8 fun v1 =>
  if v1 = 2 then (
    some (M, 1, 0))
  else (
    some (M, 0, 0))
set_option maxRecDepth 100000 in
theorem cCc_lambda_when_8_0_v {l : Launch} {g : cx_G} {adr : Nat → Nat} {X : cx_X} {N : cx_N} {b2 : Nat} (H : cCp_H g adr N) (hb2 : cSt_H g adr b2) (M : cx_M) (rs : cx_R) (h : cCc_lambda_when_8_0 N b2 M = some rs) : cx_V l (g) X sX1_lambda_when_8 cX1_lambda_when_8 0 [(0, .ref (adr b2))] [] M 0 0 rs := by
  unfold cCc_lambda_when_8_0 at h
  refine cx_aload_n 0 dX1_lambda_when_8_0 rfl ?_
  refine cx_getIN h (cSt_F8 hb2) q665 dX1_lambda_when_8_1 (fun v1 h => ?_)
  refine cx_iconst 2 dX1_lambda_when_8_4 cx_ic_2 ?_
  refine cx_icmp_ne 12 h dX1_lambda_when_8_5 rfl (fun h => ?_) (fun h => ?_)
  · refine cx_iconst 0 dX1_lambda_when_8_12 cx_ic_0 ?_
    exact cx_zret h cx_z_0 rfl rfl (cx_le rfl) (cx_le rfl) dX1_lambda_when_8_13
  · refine cx_iconst 1 dX1_lambda_when_8_8 cx_ic_1 ?_
    refine cx_goto 13 dX1_lambda_when_8_9 rfl ?_
    exact cx_zret h cx_z_1 rfl rfl (cx_le rfl) (cx_le rfl) dX1_lambda_when_8_13
noncomputable def cCc_lambda_when_8 (N : cx_N) (b2 : Nat) (M : cx_M) (x1 : Int32) : Option cx_R := cCc_lambda_when_8_0 N b2 M
theorem cCc_lambda_when_8_m {l : Launch} {g : cx_G} {adr : Nat → Nat} {N : cx_N} {b2 : Nat} (H : cCp_H g adr N) (hb2 : cSt_H g adr b2) (M : cx_M) (x1 : Int32) (rs : cx_R) (h : cCc_lambda_when_8 N b2 M x1 = some rs) : cx_Met l (g) yX1_lambda_when_8 cX1_lambda_when_8 sX1_lambda_when_8 [.ref (adr b2), .int x1] M rs :=
  cx_met (by decide +kernel) rfl rfl (lv := [(0, .ref (adr b2)), (1, .int x1)]) rfl (cx_le rfl) (fun X => cx_sub (lv' := [(0, .ref (adr b2))]) [0] rfl (cCc_lambda_when_8_0_v H hb2 M rs h))

abbrev sX1_lambda_when_9 : cx_S := (1, RX1, cx_rI, { frames := 0, cells := 0, slots := 0, locals := 0 }, some .int, false)
noncomputable def cCc_lambda_when_9_0 (N : cx_N) (b2 : Nat) (M : cx_M) : Option cx_R :=
  cx_get M b2 7 fun v1 =>
  some (M, v1, 0)
set_option maxRecDepth 100000 in
theorem cCc_lambda_when_9_0_v {l : Launch} {g : cx_G} {adr : Nat → Nat} {X : cx_X} {N : cx_N} {b2 : Nat} (H : cCp_H g adr N) (hb2 : cSt_H g adr b2) (M : cx_M) (rs : cx_R) (h : cCc_lambda_when_9_0 N b2 M = some rs) : cx_V l (g) X sX1_lambda_when_9 cX1_lambda_when_9 0 [(0, .ref (adr b2))] [] M 0 0 rs := by
  unfold cCc_lambda_when_9_0 at h
  refine cx_aload_n 0 dX1_lambda_when_9_0 rfl ?_
  refine cx_getIN h (cSt_F7 hb2) q663 dX1_lambda_when_9_1 (fun v1 h => ?_)
  exact cx_iret h rfl rfl (cx_le rfl) (cx_le rfl) dX1_lambda_when_9_4
noncomputable def cCc_lambda_when_9 (N : cx_N) (b2 : Nat) (M : cx_M) : Option cx_R := cCc_lambda_when_9_0 N b2 M
theorem cCc_lambda_when_9_m {l : Launch} {g : cx_G} {adr : Nat → Nat} {N : cx_N} {b2 : Nat} (H : cCp_H g adr N) (hb2 : cSt_H g adr b2) (M : cx_M) (rs : cx_R) (h : cCc_lambda_when_9 N b2 M = some rs) : cx_Met l (g) yX1_lambda_when_9 cX1_lambda_when_9 sX1_lambda_when_9 [.ref (adr b2)] M rs :=
  cx_met (by decide +kernel) rfl rfl (lv := [(0, .ref (adr b2))]) rfl (cx_le rfl) (fun X => cx_sub (lv' := [(0, .ref (adr b2))]) [0] rfl (cCc_lambda_when_9_0_v H hb2 M rs h))

abbrev sX1_unlike : cx_S := (6, RX1, cx_rI, { frames := 0, cells := 0, slots := 0, locals := 0 }, some .int, false)
noncomputable def cCc_unlike_62 (N : cx_N) (r_5 : cx_M → Int32 → Int32 → Int32 → Int32 → Option cx_R) (M : cx_M) (x1 : Int32) (x2 : Int32) (x3 : Int32) (x4 : Int32) : Option cx_R :=
  cx_let (x4 + 1) fun v1 =>
  r_5 M x1 x2 x3 v1
set_option maxRecDepth 100000 in
theorem cCc_unlike_62_v {l : Launch} {g : cx_G} {adr : Nat → Nat} {X : cx_X} {N : cx_N} {r_5 : cx_M → Int32 → Int32 → Int32 → Int32 → Option cx_R} (H : cCp_H g adr N) (hr_5 : ∀ (M : cx_M) (x1 : Int32) (x2 : Int32) (x3 : Int32) (x4 : Int32) (rs : cx_R), r_5 M x1 x2 x3 x4 = some rs → cx_V l (g) X sX1_unlike cX1_unlike 5 [(0, .ref (adr 500)), (1, .int x1), (2, .int x2), (3, .int x3), (4, .int x4)] [] M 0 0 rs) (M : cx_M) (x1 : Int32) (x2 : Int32) (x3 : Int32) (x4 : Int32) (rs : cx_R) (h : cCc_unlike_62 N r_5 M x1 x2 x3 x4 = some rs) : cx_V l (g) X sX1_unlike cX1_unlike 62 [(0, .ref (adr 500)), (1, .int x1), (2, .int x2), (3, .int x3), (4, .int x4)] [] M 0 0 rs := by
  unfold cCc_unlike_62 at h
  refine cx_iinc 4 1 (fun v1 => [(4, .int v1), (0, .ref (adr 500)), (1, .int x1), (2, .int x2), (3, .int x3)]) h dX1_unlike_62 rfl cx_ic_1 (cx_lt rfl) (fun _ => rfl) (fun v1 h => ?_)
  refine cx_goto 5 dX1_unlike_65 rfl ?_
  refine cx_sub (lv' := [(0, .ref (adr 500)), (1, .int x1), (2, .int x2), (3, .int x3), (4, .int v1)]) [1, 2, 3, 4, 0] rfl ?_
  exact hr_5 M x1 x2 x3 v1 _ h
noncomputable def cCc_unlike_52 (N : cx_N) (r_5 : cx_M → Int32 → Int32 → Int32 → Int32 → Option cx_R) (M : cx_M) (x1 : Int32) (x2 : Int32) (x3 : Int32) (x4 : Int32) (x5 : Int32) : Option cx_R :=
  if x5 = x4 then (
    cx_let (x3 + 1) fun v1 =>
    cCc_unlike_62 N r_5 M x1 x2 v1 x4)
  else (
    cCc_unlike_62 N r_5 M x1 x2 x3 x4)
set_option maxRecDepth 100000 in
theorem cCc_unlike_52_v {l : Launch} {g : cx_G} {adr : Nat → Nat} {X : cx_X} {N : cx_N} {r_5 : cx_M → Int32 → Int32 → Int32 → Int32 → Option cx_R} (H : cCp_H g adr N) (hr_5 : ∀ (M : cx_M) (x1 : Int32) (x2 : Int32) (x3 : Int32) (x4 : Int32) (rs : cx_R), r_5 M x1 x2 x3 x4 = some rs → cx_V l (g) X sX1_unlike cX1_unlike 5 [(0, .ref (adr 500)), (1, .int x1), (2, .int x2), (3, .int x3), (4, .int x4)] [] M 0 0 rs) (M : cx_M) (x1 : Int32) (x2 : Int32) (x3 : Int32) (x4 : Int32) (x5 : Int32) (rs : cx_R) (h : cCc_unlike_52 N r_5 M x1 x2 x3 x4 x5 = some rs) : cx_V l (g) X sX1_unlike cX1_unlike 52 [(0, .ref (adr 500)), (1, .int x1), (2, .int x2), (3, .int x3), (4, .int x4), (5, .int x5)] [] M 0 0 rs := by
  unfold cCc_unlike_52 at h
  refine cx_iload 5 dX1_unlike_52 rfl ?_
  refine cx_iload 4 dX1_unlike_54 rfl ?_
  refine cx_icmp_ne 62 h dX1_unlike_56 rfl (fun h => ?_) (fun h => ?_)
  · refine cx_sub (lv' := [(0, .ref (adr 500)), (1, .int x1), (2, .int x2), (3, .int x3), (4, .int x4)]) [0, 1, 2, 3, 4] rfl ?_
    exact cCc_unlike_62_v H hr_5 M x1 x2 x3 x4 _ h
  · refine cx_iinc 3 1 (fun v1 => [(3, .int v1), (0, .ref (adr 500)), (1, .int x1), (2, .int x2), (4, .int x4), (5, .int x5)]) h dX1_unlike_59 rfl cx_ic_1 (cx_lt rfl) (fun _ => rfl) (fun v1 h => ?_)
    refine cx_sub (lv' := [(0, .ref (adr 500)), (1, .int x1), (2, .int x2), (3, .int v1), (4, .int x4)]) [1, 2, 3, 0, 4] rfl ?_
    exact cCc_unlike_62_v H hr_5 M x1 x2 v1 x4 _ h
noncomputable def cCc_unlike_14b (N : cx_N) (r_5 : cx_M → Int32 → Int32 → Int32 → Int32 → Option cx_R) (r_14 : cx_M → Int32 → Int32 → Int32 → Int32 → Int32 → Option cx_R) (M : cx_M) (x1 : Int32) (x2 : Int32) (x3 : Int32) (x4 : Int32) (x5 : Int32) : Option cx_R :=
  if x4 ≤ x5 then (
    cCc_unlike_52 N r_5 M x1 x2 x3 x4 x5)
  else (
    cx_ld M 516 10000 (((5 : Int32) * x5) + x1) fun v1 =>
    cx_ld M 516 10000 (((5 : Int32) * x4) + x1) fun v2 =>
    if v1 = v2 then (
      cCc_unlike_52 N r_5 M x1 x2 x3 x4 x5)
    else (
      cx_let (x5 + 1) fun v3 =>
      r_14 M x1 x2 x3 x4 v3))
set_option maxRecDepth 100000 in
theorem cCc_unlike_14b_v {l : Launch} {g : cx_G} {adr : Nat → Nat} {X : cx_X} {N : cx_N} {r_5 : cx_M → Int32 → Int32 → Int32 → Int32 → Option cx_R} {r_14 : cx_M → Int32 → Int32 → Int32 → Int32 → Int32 → Option cx_R} (H : cCp_H g adr N) (hr_5 : ∀ (M : cx_M) (x1 : Int32) (x2 : Int32) (x3 : Int32) (x4 : Int32) (rs : cx_R), r_5 M x1 x2 x3 x4 = some rs → cx_V l (g) X sX1_unlike cX1_unlike 5 [(0, .ref (adr 500)), (1, .int x1), (2, .int x2), (3, .int x3), (4, .int x4)] [] M 0 0 rs) (hr_14 : ∀ (M : cx_M) (x1 : Int32) (x2 : Int32) (x3 : Int32) (x4 : Int32) (x5 : Int32) (rs : cx_R), r_14 M x1 x2 x3 x4 x5 = some rs → cx_V l (g) X sX1_unlike cX1_unlike 14 [(0, .ref (adr 500)), (1, .int x1), (2, .int x2), (3, .int x3), (4, .int x4), (5, .int x5)] [] M 0 0 rs) (M : cx_M) (x1 : Int32) (x2 : Int32) (x3 : Int32) (x4 : Int32) (x5 : Int32) (rs : cx_R) (h : cCc_unlike_14b N r_5 r_14 M x1 x2 x3 x4 x5 = some rs) : cx_V l (g) X sX1_unlike cX1_unlike 14 [(0, .ref (adr 500)), (1, .int x1), (2, .int x2), (3, .int x3), (4, .int x4), (5, .int x5)] [] M 0 0 rs := by
  unfold cCc_unlike_14b at h
  refine cx_iload 5 dX1_unlike_14 rfl ?_
  refine cx_iload 4 dX1_unlike_16 rfl ?_
  refine cx_icmp_ge 52 h dX1_unlike_18 rfl (fun h => ?_) (fun h => ?_)
  · exact cCc_unlike_52_v H hr_5 M x1 x2 x3 x4 x5 _ h
  · refine cx_aload_n 0 dX1_unlike_21 rfl ?_
    refine cx_getR (cCc_R15 H) q1032 dX1_unlike_22 ?_
    refine cx_iconst 5 dX1_unlike_25 cx_ic_5 ?_
    refine cx_iload 5 dX1_unlike_26 rfl ?_
    refine cx_imul dX1_unlike_28 ?_
    refine cx_iload_n 1 dX1_unlike_29 rfl ?_
    refine cx_iadd dX1_unlike_30 ?_
    refine cx_ldI h (cCc_A15 H) dX1_unlike_31 (fun v1 h => ?_)
    refine cx_aload_n 0 dX1_unlike_32 rfl ?_
    refine cx_getR (cCc_R15 H) q1032 dX1_unlike_33 ?_
    refine cx_iconst 5 dX1_unlike_36 cx_ic_5 ?_
    refine cx_iload 4 dX1_unlike_37 rfl ?_
    refine cx_imul dX1_unlike_39 ?_
    refine cx_iload_n 1 dX1_unlike_40 rfl ?_
    refine cx_iadd dX1_unlike_41 ?_
    refine cx_ldI h (cCc_A15 H) dX1_unlike_42 (fun v2 h => ?_)
    refine cx_icmp_eq 52 h dX1_unlike_43 rfl (fun h => ?_) (fun h => ?_)
    · exact cCc_unlike_52_v H hr_5 M x1 x2 x3 x4 x5 _ h
    · refine cx_iinc 5 1 (fun v3 => [(5, .int v3), (0, .ref (adr 500)), (1, .int x1), (2, .int x2), (3, .int x3), (4, .int x4)]) h dX1_unlike_46 rfl cx_ic_1 (cx_lt rfl) (fun _ => rfl) (fun v3 h => ?_)
      refine cx_goto 14 dX1_unlike_49 rfl ?_
      refine cx_sub (lv' := [(0, .ref (adr 500)), (1, .int x1), (2, .int x2), (3, .int x3), (4, .int x4), (5, .int v3)]) [1, 2, 3, 4, 5, 0] rfl ?_
      exact hr_14 M x1 x2 x3 x4 v3 _ h
noncomputable def cCc_unlike_14 (N : cx_N) (r_5 : cx_M → Int32 → Int32 → Int32 → Int32 → Option cx_R) : Nat → cx_M → Int32 → Int32 → Int32 → Int32 → Int32 → Option cx_R :=
  cx_fix (fun _ _ _ _ _ _ => none) (fun r_14 => cCc_unlike_14b N r_5 r_14)
theorem cCc_unlike_14_v {l : Launch} {g : cx_G} {adr : Nat → Nat} {X : cx_X} {N : cx_N} {r_5 : cx_M → Int32 → Int32 → Int32 → Int32 → Option cx_R} (H : cCp_H g adr N) (hr_5 : ∀ (M : cx_M) (x1 : Int32) (x2 : Int32) (x3 : Int32) (x4 : Int32) (rs : cx_R), r_5 M x1 x2 x3 x4 = some rs → cx_V l (g) X sX1_unlike cX1_unlike 5 [(0, .ref (adr 500)), (1, .int x1), (2, .int x2), (3, .int x3), (4, .int x4)] [] M 0 0 rs) : ∀ (n : Nat) (M : cx_M) (x1 : Int32) (x2 : Int32) (x3 : Int32) (x4 : Int32) (x5 : Int32) (rs : cx_R), cCc_unlike_14 N r_5 n M x1 x2 x3 x4 x5 = some rs → cx_V l (g) X sX1_unlike cX1_unlike 14 [(0, .ref (adr 500)), (1, .int x1), (2, .int x2), (3, .int x3), (4, .int x4), (5, .int x5)] [] M 0 0 rs :=
  cx_fixI (fun (r : cx_M → Int32 → Int32 → Int32 → Int32 → Int32 → Option cx_R) => ∀ (M : cx_M) (x1 : Int32) (x2 : Int32) (x3 : Int32) (x4 : Int32) (x5 : Int32) (rs : cx_R), r M x1 x2 x3 x4 x5 = some rs → cx_V l (g) X sX1_unlike cX1_unlike 14 [(0, .ref (adr 500)), (1, .int x1), (2, .int x2), (3, .int x3), (4, .int x4), (5, .int x5)] [] M 0 0 rs) (fun _ _ _ _ _ _ _ h => by cases h) (fun r hr M x1 x2 x3 x4 x5 rs h => cCc_unlike_14b_v H hr_5 hr M x1 x2 x3 x4 x5 rs h)
noncomputable def cCc_unlike_5b (N : cx_N) (r_5 : cx_M → Int32 → Int32 → Int32 → Int32 → Option cx_R) (M : cx_M) (x1 : Int32) (x2 : Int32) (x3 : Int32) (x4 : Int32) : Option cx_R :=
  if x2 ≤ x4 then (
    some (M, x3, 0))
  else (
    cCc_unlike_14 N r_5 N.1 M x1 x2 x3 x4 0)
set_option maxRecDepth 100000 in
theorem cCc_unlike_5b_v {l : Launch} {g : cx_G} {adr : Nat → Nat} {X : cx_X} {N : cx_N} {r_5 : cx_M → Int32 → Int32 → Int32 → Int32 → Option cx_R} (H : cCp_H g adr N) (hr_5 : ∀ (M : cx_M) (x1 : Int32) (x2 : Int32) (x3 : Int32) (x4 : Int32) (rs : cx_R), r_5 M x1 x2 x3 x4 = some rs → cx_V l (g) X sX1_unlike cX1_unlike 5 [(0, .ref (adr 500)), (1, .int x1), (2, .int x2), (3, .int x3), (4, .int x4)] [] M 0 0 rs) (M : cx_M) (x1 : Int32) (x2 : Int32) (x3 : Int32) (x4 : Int32) (rs : cx_R) (h : cCc_unlike_5b N r_5 M x1 x2 x3 x4 = some rs) : cx_V l (g) X sX1_unlike cX1_unlike 5 [(0, .ref (adr 500)), (1, .int x1), (2, .int x2), (3, .int x3), (4, .int x4)] [] M 0 0 rs := by
  unfold cCc_unlike_5b at h
  refine cx_iload 4 dX1_unlike_5 rfl ?_
  refine cx_iload_n 2 dX1_unlike_7 rfl ?_
  refine cx_icmp_ge 68 h dX1_unlike_8 rfl (fun h => ?_) (fun h => ?_)
  · refine cx_iload_n 3 dX1_unlike_68 rfl ?_
    exact cx_iret h rfl rfl (cx_le rfl) (cx_le rfl) dX1_unlike_69
  · refine cx_iconst 0 dX1_unlike_11 cx_ic_0 ?_
    refine cx_istore [(5, .int 0), (0, .ref (adr 500)), (1, .int x1), (2, .int x2), (3, .int x3), (4, .int x4)] dX1_unlike_12 (cx_lt rfl) rfl ?_
    refine cx_sub (lv' := [(0, .ref (adr 500)), (1, .int x1), (2, .int x2), (3, .int x3), (4, .int x4), (5, .int 0)]) [1, 2, 3, 4, 5, 0] rfl ?_
    exact cCc_unlike_14_v H hr_5 N.1 M x1 x2 x3 x4 0 _ h
noncomputable def cCc_unlike_5 (N : cx_N) : Nat → cx_M → Int32 → Int32 → Int32 → Int32 → Option cx_R :=
  cx_fix (fun _ _ _ _ _ => none) (fun r_5 => cCc_unlike_5b N r_5)
theorem cCc_unlike_5_v {l : Launch} {g : cx_G} {adr : Nat → Nat} {X : cx_X} {N : cx_N} (H : cCp_H g adr N) : ∀ (n : Nat) (M : cx_M) (x1 : Int32) (x2 : Int32) (x3 : Int32) (x4 : Int32) (rs : cx_R), cCc_unlike_5 N n M x1 x2 x3 x4 = some rs → cx_V l (g) X sX1_unlike cX1_unlike 5 [(0, .ref (adr 500)), (1, .int x1), (2, .int x2), (3, .int x3), (4, .int x4)] [] M 0 0 rs :=
  cx_fixI (fun (r : cx_M → Int32 → Int32 → Int32 → Int32 → Option cx_R) => ∀ (M : cx_M) (x1 : Int32) (x2 : Int32) (x3 : Int32) (x4 : Int32) (rs : cx_R), r M x1 x2 x3 x4 = some rs → cx_V l (g) X sX1_unlike cX1_unlike 5 [(0, .ref (adr 500)), (1, .int x1), (2, .int x2), (3, .int x3), (4, .int x4)] [] M 0 0 rs) (fun _ _ _ _ _ _ h => by cases h) (fun r hr M x1 x2 x3 x4 rs h => cCc_unlike_5b_v H hr M x1 x2 x3 x4 rs h)
noncomputable def cCc_unlike_0 (N : cx_N) (M : cx_M) (x1 : Int32) (x2 : Int32) : Option cx_R :=
  cCc_unlike_5 N N.1 M x1 x2 0 0
set_option maxRecDepth 100000 in
theorem cCc_unlike_0_v {l : Launch} {g : cx_G} {adr : Nat → Nat} {X : cx_X} {N : cx_N} (H : cCp_H g adr N) (M : cx_M) (x1 : Int32) (x2 : Int32) (rs : cx_R) (h : cCc_unlike_0 N M x1 x2 = some rs) : cx_V l (g) X sX1_unlike cX1_unlike 0 [(0, .ref (adr 500)), (1, .int x1), (2, .int x2)] [] M 0 0 rs := by
  unfold cCc_unlike_0 at h
  refine cx_iconst 0 dX1_unlike_0 cx_ic_0 ?_
  refine cx_istore_n [(3, .int 0), (0, .ref (adr 500)), (1, .int x1), (2, .int x2)] dX1_unlike_1 (cx_lt rfl) rfl ?_
  refine cx_iconst 0 dX1_unlike_2 cx_ic_0 ?_
  refine cx_istore [(4, .int 0), (3, .int 0), (0, .ref (adr 500)), (1, .int x1), (2, .int x2)] dX1_unlike_3 (cx_lt rfl) rfl ?_
  refine cx_sub (lv' := [(0, .ref (adr 500)), (1, .int x1), (2, .int x2), (3, .int 0), (4, .int 0)]) [2, 3, 4, 1, 0] rfl ?_
  exact cCc_unlike_5_v H N.1 M x1 x2 0 0 _ h
noncomputable def cCc_unlike (N : cx_N) (M : cx_M) (x1 : Int32) (x2 : Int32) : Option cx_R := cCc_unlike_0 N M x1 x2
theorem cCc_unlike_m {l : Launch} {g : cx_G} {adr : Nat → Nat} {N : cx_N} (H : cCp_H g adr N) (M : cx_M) (x1 : Int32) (x2 : Int32) (rs : cx_R) (h : cCc_unlike N M x1 x2 = some rs) : cx_Met l (g) yX1_unlike cX1_unlike sX1_unlike [.ref (adr 500), .int x1, .int x2] M rs :=
  cx_met (by decide +kernel) rfl rfl (lv := [(0, .ref (adr 500)), (1, .int x1), (2, .int x2)]) rfl (cx_le rfl) (fun X => cx_sub (lv' := [(0, .ref (adr 500)), (1, .int x1), (2, .int x2)]) [0, 1, 2] rfl (cCc_unlike_0_v H M x1 x2 rs h))

abbrev sX1_look : cx_S := (7, RX1, cx_rI, { frames := 907, cells := 0, slots := 0, locals := 30156 }, some .int, false)
noncomputable def cCc_look_50 (N : cx_N) (r_14 : cx_M → Int32 → Int32 → Int32 → Option cx_R) (M : cx_M) (x1 : Int32) (x2 : Int32) (x3 : Int32) : Option cx_R :=
  cx_let (x3 + 1) fun v1 =>
  r_14 M x1 x2 v1
set_option maxRecDepth 100000 in
theorem cCc_look_50_v {l : Launch} {g : cx_G} {adr : Nat → Nat} {X : cx_X} {N : cx_N} {r_14 : cx_M → Int32 → Int32 → Int32 → Option cx_R} (H : cCp_H g adr N) (hr_14 : ∀ (M : cx_M) (x1 : Int32) (x2 : Int32) (x3 : Int32) (rs : cx_R), r_14 M x1 x2 x3 = some rs → cx_V l (g) X sX1_look cX1_look 14 [(0, .ref (adr 500)), (1, .int x1), (2, .int x2), (3, .int x3)] [] M 0 0 rs) (M : cx_M) (x1 : Int32) (x2 : Int32) (x3 : Int32) (rs : cx_R) (h : cCc_look_50 N r_14 M x1 x2 x3 = some rs) : cx_V l (g) X sX1_look cX1_look 50 [(0, .ref (adr 500)), (1, .int x1), (2, .int x2), (3, .int x3)] [] M 0 0 rs := by
  unfold cCc_look_50 at h
  refine cx_iinc 3 1 (fun v1 => [(3, .int v1), (0, .ref (adr 500)), (1, .int x1), (2, .int x2)]) h dX1_look_50 rfl cx_ic_1 (cx_lt rfl) (fun _ => rfl) (fun v1 h => ?_)
  refine cx_goto 14 dX1_look_53 rfl ?_
  refine cx_sub (lv' := [(0, .ref (adr 500)), (1, .int x1), (2, .int x2), (3, .int v1)]) [1, 2, 3, 0] rfl ?_
  exact hr_14 M x1 x2 v1 _ h
noncomputable def cCc_look_101 (N : cx_N) (r_64 : cx_M → Int32 → Int32 → Int32 → Int32 → Int32 → Option cx_R) (M : cx_M) (x1 : Int32) (x2 : Int32) (x3 : Int32) (x4 : Int32) (x5 : Int32) : Option cx_R :=
  cx_let (x5 + 1) fun v1 =>
  r_64 M x1 x2 x3 x4 v1
set_option maxRecDepth 100000 in
theorem cCc_look_101_v {l : Launch} {g : cx_G} {adr : Nat → Nat} {X : cx_X} {N : cx_N} {r_64 : cx_M → Int32 → Int32 → Int32 → Int32 → Int32 → Option cx_R} (H : cCp_H g adr N) (hr_64 : ∀ (M : cx_M) (x1 : Int32) (x2 : Int32) (x3 : Int32) (x4 : Int32) (x5 : Int32) (rs : cx_R), r_64 M x1 x2 x3 x4 x5 = some rs → cx_V l (g) X sX1_look cX1_look 64 [(0, .ref (adr 500)), (1, .int x1), (2, .int x2), (3, .int x3), (4, .int x4), (5, .int x5)] [] M 0 0 rs) (M : cx_M) (x1 : Int32) (x2 : Int32) (x3 : Int32) (x4 : Int32) (x5 : Int32) (rs : cx_R) (h : cCc_look_101 N r_64 M x1 x2 x3 x4 x5 = some rs) : cx_V l (g) X sX1_look cX1_look 101 [(0, .ref (adr 500)), (1, .int x1), (2, .int x2), (3, .int x3), (4, .int x4), (5, .int x5)] [] M 0 0 rs := by
  unfold cCc_look_101 at h
  refine cx_iinc 5 1 (fun v1 => [(5, .int v1), (0, .ref (adr 500)), (1, .int x1), (2, .int x2), (3, .int x3), (4, .int x4)]) h dX1_look_101 rfl cx_ic_1 (cx_lt rfl) (fun _ => rfl) (fun v1 h => ?_)
  refine cx_goto 64 dX1_look_104 rfl ?_
  refine cx_sub (lv' := [(0, .ref (adr 500)), (1, .int x1), (2, .int x2), (3, .int x3), (4, .int x4), (5, .int v1)]) [1, 2, 3, 4, 5, 0] rfl ?_
  exact hr_64 M x1 x2 x3 x4 v1 _ h
noncomputable def cCc_look_64b (N : cx_N) (r_64 : cx_M → Int32 → Int32 → Int32 → Int32 → Int32 → Option cx_R) (M : cx_M) (x1 : Int32) (x2 : Int32) (x3 : Int32) (x4 : Int32) (x5 : Int32) : Option cx_R :=
  if 5 ≤ x5 then (
    if x1 = 0 then (
      some (M, x3, 0))
    else (
      some (M, x4, 0)))
  else (
    cx_cal (cCc_unlike N M x5 x2) fun M1 v2 =>
    if x4 < v2 then (
      cx_let ((10 : Int32) * (x5 + 1)) fun v3 =>
      cCc_look_101 N r_64 M1 x1 x2 v3 v2 x5)
    else (
      cCc_look_101 N r_64 M1 x1 x2 x3 x4 x5))
set_option maxRecDepth 100000 in
theorem cCc_look_64b_v {l : Launch} {g : cx_G} {adr : Nat → Nat} {X : cx_X} {N : cx_N} {r_64 : cx_M → Int32 → Int32 → Int32 → Int32 → Int32 → Option cx_R} (H : cCp_H g adr N) (hr_64 : ∀ (M : cx_M) (x1 : Int32) (x2 : Int32) (x3 : Int32) (x4 : Int32) (x5 : Int32) (rs : cx_R), r_64 M x1 x2 x3 x4 x5 = some rs → cx_V l (g) X sX1_look cX1_look 64 [(0, .ref (adr 500)), (1, .int x1), (2, .int x2), (3, .int x3), (4, .int x4), (5, .int x5)] [] M 0 0 rs) (M : cx_M) (x1 : Int32) (x2 : Int32) (x3 : Int32) (x4 : Int32) (x5 : Int32) (rs : cx_R) (h : cCc_look_64b N r_64 M x1 x2 x3 x4 x5 = some rs) : cx_V l (g) X sX1_look cX1_look 64 [(0, .ref (adr 500)), (1, .int x1), (2, .int x2), (3, .int x3), (4, .int x4), (5, .int x5)] [] M 0 0 rs := by
  unfold cCc_look_64b at h
  refine cx_iload 5 dX1_look_64 rfl ?_
  refine cx_iconst 5 dX1_look_66 cx_ic_5 ?_
  refine cx_icmp_ge 107 h dX1_look_67 rfl (fun h => ?_) (fun h => ?_)
  · refine cx_iload_n 1 dX1_look_107 rfl ?_
    refine cx_if_ne 115 h dX1_look_108 rfl (fun h => ?_) (fun h => ?_)
    · refine cx_iload 4 dX1_look_115 rfl ?_
      exact cx_iret h rfl rfl (cx_le rfl) (cx_le rfl) dX1_look_117
    · refine cx_iload_n 3 dX1_look_111 rfl ?_
      refine cx_goto 117 dX1_look_112 rfl ?_
      exact cx_iret h rfl rfl (cx_le rfl) (cx_le rfl) dX1_look_117
  · refine cx_aload_n 0 dX1_look_70 rfl ?_
    refine cx_iload 5 dX1_look_71 rfl ?_
    refine cx_iload_n 2 dX1_look_73 rfl ?_
    refine cx_cVi [.int x5, .int x2] [] h (fun rs' h' => cCc_unlike_m H M x5 x2 rs' h') (cCc_rc H) dX1_look_74 g_X1_474 hg_X1_474 ⟨cx_le rfl, cx_le rfl⟩ rfl ⟨rfl, rfl⟩ ⟨cx_le rfl, cx_le rfl⟩ rfl (cx_le rfl) (fun M1 v2 h => ?_)
    refine cx_istore [(6, .int v2), (0, .ref (adr 500)), (1, .int x1), (2, .int x2), (3, .int x3), (4, .int x4), (5, .int x5)] dX1_look_77 (cx_lt rfl) rfl ?_
    refine cx_iload 0 dX1_look_79 rfl ?_
    refine cx_iload 5 dX1_look_81 rfl ?_
    refine cx_icmp_gt 89 h dX1_look_83 rfl (fun h => ?_) (fun h => ?_)
    · refine cx_bipush 10 dX1_look_89 cx_bp_10 ?_
      refine cx_iload 6 dX1_look_91 rfl ?_
      refine cx_iconst 1 dX1_look_93 cx_ic_1 ?_
      refine cx_iadd dX1_look_94 ?_
      refine cx_imul dX1_look_95 ?_
      refine cx_letI h (fun v3 h => ?_)
      refine cx_istore_n [(3, .int v3), (6, .int v2), (0, .ref (adr 500)), (1, .int x1), (2, .int x2), (4, .int x4), (5, .int x5)] dX1_look_96 (cx_lt rfl) rfl ?_
      refine cx_iload 1 dX1_look_97 rfl ?_
      refine cx_istore [(4, .int v2), (3, .int v3), (6, .int v2), (0, .ref (adr 500)), (1, .int x1), (2, .int x2), (5, .int x5)] dX1_look_99 (cx_lt rfl) rfl ?_
      refine cx_sub (lv' := [(0, .ref (adr 500)), (1, .int x1), (2, .int x2), (3, .int v3), (4, .int v2), (5, .int x5)]) [3, 4, 5, 1, 0, 6] rfl ?_
      exact cCc_look_101_v H hr_64 M1 x1 x2 v3 v2 x5 _ h
    · refine cx_goto 101 dX1_look_86 rfl ?_
      refine cx_sub (lv' := [(0, .ref (adr 500)), (1, .int x1), (2, .int x2), (3, .int x3), (4, .int x4), (5, .int x5)]) [1, 2, 3, 4, 5, 6] rfl ?_
      exact cCc_look_101_v H hr_64 M1 x1 x2 x3 x4 x5 _ h
noncomputable def cCc_look_64 (N : cx_N) : Nat → cx_M → Int32 → Int32 → Int32 → Int32 → Int32 → Option cx_R :=
  cx_fix (fun _ _ _ _ _ _ => none) (fun r_64 => cCc_look_64b N r_64)
theorem cCc_look_64_v {l : Launch} {g : cx_G} {adr : Nat → Nat} {X : cx_X} {N : cx_N} (H : cCp_H g adr N) : ∀ (n : Nat) (M : cx_M) (x1 : Int32) (x2 : Int32) (x3 : Int32) (x4 : Int32) (x5 : Int32) (rs : cx_R), cCc_look_64 N n M x1 x2 x3 x4 x5 = some rs → cx_V l (g) X sX1_look cX1_look 64 [(0, .ref (adr 500)), (1, .int x1), (2, .int x2), (3, .int x3), (4, .int x4), (5, .int x5)] [] M 0 0 rs :=
  cx_fixI (fun (r : cx_M → Int32 → Int32 → Int32 → Int32 → Int32 → Option cx_R) => ∀ (M : cx_M) (x1 : Int32) (x2 : Int32) (x3 : Int32) (x4 : Int32) (x5 : Int32) (rs : cx_R), r M x1 x2 x3 x4 x5 = some rs → cx_V l (g) X sX1_look cX1_look 64 [(0, .ref (adr 500)), (1, .int x1), (2, .int x2), (3, .int x3), (4, .int x4), (5, .int x5)] [] M 0 0 rs) (fun _ _ _ _ _ _ _ h => by cases h) (fun r hr M x1 x2 x3 x4 x5 rs h => cCc_look_64b_v H hr M x1 x2 x3 x4 x5 rs h)
noncomputable def cCc_look_14b (N : cx_N) (r_14 : cx_M → Int32 → Int32 → Int32 → Option cx_R) (M : cx_M) (x1 : Int32) (x2 : Int32) (x3 : Int32) : Option cx_R :=
  if 99 < x3 then (
    cCc_look_64 N N.1 M x1 x2 (-1) 0 0)
  else (
    cx_cal (cCc_isGuess N M x3) fun M1 v2 =>
    if v2 = 0 then (
      cCc_look_50 N r_14 M1 x1 x2 x3)
    else (
      cx_cpy M1 515 5 516 10000 0 ((5 : Int32) * x2) 5 fun M3 =>
      cx_let (x2 + 1) fun v4 =>
      cCc_look_50 N r_14 M3 x1 v4 x3))
set_option maxRecDepth 100000 in
theorem cCc_look_14b_v {l : Launch} {g : cx_G} {adr : Nat → Nat} {X : cx_X} {N : cx_N} {r_14 : cx_M → Int32 → Int32 → Int32 → Option cx_R} (H : cCp_H g adr N) (hr_14 : ∀ (M : cx_M) (x1 : Int32) (x2 : Int32) (x3 : Int32) (rs : cx_R), r_14 M x1 x2 x3 = some rs → cx_V l (g) X sX1_look cX1_look 14 [(0, .ref (adr 500)), (1, .int x1), (2, .int x2), (3, .int x3)] [] M 0 0 rs) (M : cx_M) (x1 : Int32) (x2 : Int32) (x3 : Int32) (rs : cx_R) (h : cCc_look_14b N r_14 M x1 x2 x3 = some rs) : cx_V l (g) X sX1_look cX1_look 14 [(0, .ref (adr 500)), (1, .int x1), (2, .int x2), (3, .int x3)] [] M 0 0 rs := by
  unfold cCc_look_14b at h
  refine cx_iload_n 3 dX1_look_14 rfl ?_
  refine cx_bipush 99 dX1_look_15 cx_bp_99 ?_
  refine cx_icmp_gt 56 h dX1_look_17 rfl (fun h => ?_) (fun h => ?_)
  · refine cx_iconst (-1) dX1_look_56 cx_ic_m1 ?_
    refine cx_istore_n [(3, .int (-1)), (0, .ref (adr 500)), (1, .int x1), (2, .int x2)] dX1_look_57 (cx_lt rfl) rfl ?_
    refine cx_iconst 0 dX1_look_58 cx_ic_0 ?_
    refine cx_istore [(4, .int 0), (3, .int (-1)), (0, .ref (adr 500)), (1, .int x1), (2, .int x2)] dX1_look_59 (cx_lt rfl) rfl ?_
    refine cx_iconst 0 dX1_look_61 cx_ic_0 ?_
    refine cx_istore [(5, .int 0), (4, .int 0), (3, .int (-1)), (0, .ref (adr 500)), (1, .int x1), (2, .int x2)] dX1_look_62 (cx_lt rfl) rfl ?_
    refine cx_sub (lv' := [(0, .ref (adr 500)), (1, .int x1), (2, .int x2), (3, .int (-1)), (4, .int 0), (5, .int 0)]) [3, 4, 5, 2, 1, 0] rfl ?_
    exact cCc_look_64_v H N.1 M x1 x2 (-1) 0 0 _ h
  · refine cx_aload_n 0 dX1_look_20 rfl ?_
    refine cx_iload_n 3 dX1_look_21 rfl ?_
    refine cx_cVi [.int x3] [] h (fun rs' h' => cCc_isGuess_m H M x3 rs' h') (cCc_rc H) dX1_look_22 g_X1_465 hg_X1_465 ⟨cx_le rfl, cx_le rfl⟩ rfl ⟨rfl, rfl⟩ ⟨cx_le rfl, cx_le rfl⟩ rfl (cx_le rfl) (fun M1 v2 h => ?_)
    refine cx_if_ne 31 h dX1_look_25 rfl (fun h => ?_) (fun h => ?_)
    · refine cx_aload_n 0 dX1_look_31 rfl ?_
      refine cx_getR (cCc_R14 H) q1031 dX1_look_32 ?_
      refine cx_iconst 0 dX1_look_35 cx_ic_0 ?_
      refine cx_aload_n 0 dX1_look_36 rfl ?_
      refine cx_getR (cCc_R15 H) q1032 dX1_look_37 ?_
      refine cx_iconst 5 dX1_look_40 cx_ic_5 ?_
      refine cx_iload_n 2 dX1_look_41 rfl ?_
      refine cx_imul dX1_look_42 ?_
      refine cx_iconst 5 dX1_look_43 cx_ic_5 ?_
      refine cx_copy h (cCc_A14 H) (cCc_A15 H) dX1_look_44 q2341 (cx_le rfl) (cx_le rfl) (fun M3 h => ?_)
      refine cx_iinc 2 1 (fun v4 => [(2, .int v4), (0, .ref (adr 500)), (1, .int x1), (3, .int x3)]) h dX1_look_47 rfl cx_ic_1 (cx_lt rfl) (fun _ => rfl) (fun v4 h => ?_)
      refine cx_sub (lv' := [(0, .ref (adr 500)), (1, .int x1), (2, .int v4), (3, .int x3)]) [1, 2, 0, 3] rfl ?_
      exact cCc_look_50_v H hr_14 M3 x1 v4 x3 _ h
    · refine cx_goto 50 dX1_look_28 rfl ?_
      exact cCc_look_50_v H hr_14 M1 x1 x2 x3 _ h
noncomputable def cCc_look_14 (N : cx_N) : Nat → cx_M → Int32 → Int32 → Int32 → Option cx_R :=
  cx_fix (fun _ _ _ _ => none) (fun r_14 => cCc_look_14b N r_14)
theorem cCc_look_14_v {l : Launch} {g : cx_G} {adr : Nat → Nat} {X : cx_X} {N : cx_N} (H : cCp_H g adr N) : ∀ (n : Nat) (M : cx_M) (x1 : Int32) (x2 : Int32) (x3 : Int32) (rs : cx_R), cCc_look_14 N n M x1 x2 x3 = some rs → cx_V l (g) X sX1_look cX1_look 14 [(0, .ref (adr 500)), (1, .int x1), (2, .int x2), (3, .int x3)] [] M 0 0 rs :=
  cx_fixI (fun (r : cx_M → Int32 → Int32 → Int32 → Option cx_R) => ∀ (M : cx_M) (x1 : Int32) (x2 : Int32) (x3 : Int32) (rs : cx_R), r M x1 x2 x3 = some rs → cx_V l (g) X sX1_look cX1_look 14 [(0, .ref (adr 500)), (1, .int x1), (2, .int x2), (3, .int x3)] [] M 0 0 rs) (fun _ _ _ _ _ h => by cases h) (fun r hr M x1 x2 x3 rs h => cCc_look_14b_v H hr M x1 x2 x3 rs h)
noncomputable def cCc_look_0 (N : cx_N) (M : cx_M) (x1 : Int32) : Option cx_R :=
  cx_cal (cCc_within N M x1 0 1) fun M1 v2 =>
  cx_cal (cCc_there N M1 v2) fun M3 _ =>
  cCc_look_14 N N.1 M3 x1 0 (-99)
set_option maxRecDepth 100000 in
theorem cCc_look_0_v {l : Launch} {g : cx_G} {adr : Nat → Nat} {X : cx_X} {N : cx_N} (H : cCp_H g adr N) (M : cx_M) (x1 : Int32) (rs : cx_R) (h : cCc_look_0 N M x1 = some rs) : cx_V l (g) X sX1_look cX1_look 0 [(0, .ref (adr 500)), (1, .int x1)] [] M 0 0 rs := by
  unfold cCc_look_0 at h
  refine cx_iload_n 1 dX1_look_0 rfl ?_
  refine cx_iconst 0 dX1_look_1 cx_ic_0 ?_
  refine cx_iconst 1 dX1_look_2 cx_ic_1 ?_
  refine cx_cSi [.int x1, .int 0, .int 1] [] h (fun rs' h' => cCc_within_m H M x1 0 1 rs' h') dX1_look_3 g_X1_180 hg_X1_180 ⟨cx_le rfl, cx_le rfl⟩ rfl ⟨rfl, rfl⟩ ⟨cx_le rfl, cx_le rfl⟩ rfl (cx_le rfl) (fun M1 v2 h => ?_)
  refine cx_cSv [.int v2] [] h (fun rs' h' => cCc_there_m H M1 v2 rs' h') dX1_look_6 g_X1_184 hg_X1_184 ⟨cx_le rfl, cx_le rfl⟩ rfl ⟨rfl, rfl⟩ ⟨cx_le rfl, cx_le rfl⟩ rfl (cx_le rfl) (fun M3 _ h => ?_)
  refine cx_iconst 0 dX1_look_9 cx_ic_0 ?_
  refine cx_istore_n [(2, .int 0), (0, .ref (adr 500)), (1, .int x1)] dX1_look_10 (cx_lt rfl) rfl ?_
  refine cx_bipush (-99) dX1_look_11 cx_bp_m99 ?_
  refine cx_istore_n [(3, .int (-99)), (2, .int 0), (0, .ref (adr 500)), (1, .int x1)] dX1_look_13 (cx_lt rfl) rfl ?_
  refine cx_sub (lv' := [(0, .ref (adr 500)), (1, .int x1), (2, .int 0), (3, .int (-99))]) [2, 3, 1, 0] rfl ?_
  exact cCc_look_14_v H N.1 M3 x1 0 (-99) _ h
noncomputable def cCc_look (N : cx_N) (M : cx_M) (x1 : Int32) : Option cx_R := cCc_look_0 N M x1
theorem cCc_look_m {l : Launch} {g : cx_G} {adr : Nat → Nat} {N : cx_N} (H : cCp_H g adr N) (M : cx_M) (x1 : Int32) (rs : cx_R) (h : cCc_look N M x1 = some rs) : cx_Met l (g) yX1_look cX1_look sX1_look [.ref (adr 500), .int x1] M rs :=
  cx_met (by decide +kernel) rfl rfl (lv := [(0, .ref (adr 500)), (1, .int x1)]) rfl (cx_le rfl) (fun X => cx_sub (lv' := [(0, .ref (adr 500)), (1, .int x1)]) [0, 1] rfl (cCc_look_0_v H M x1 rs h))

abbrev sX1_lose : cx_S := (3, RX1, cx_rI, { frames := 32, cells := 0, slots := 0, locals := 941 }, some .int, false)
noncomputable def cCc_lose_29 (N : cx_N) (M : cx_M) (x1 : Int32) (x2 : Int32) (z1 : Int32) : Option cx_R :=
  cx_cal (cCc_does N M z1) fun M1 v2 =>
  if v2 = 0 then (
    some (M1, (-1), 0))
  else (
    cx_put M1 1000 26 x1 fun M3 =>
    some (M3, x2, 0))
set_option maxRecDepth 100000 in
theorem cCc_lose_29_v {l : Launch} {g : cx_G} {adr : Nat → Nat} {X : cx_X} {N : cx_N} (H : cCp_H g adr N) (M : cx_M) (x1 : Int32) (x2 : Int32) (z1 : Int32) (rs : cx_R) (h : cCc_lose_29 N M x1 x2 z1 = some rs) : cx_V l (g) X sX1_lose cX1_lose 29 [(0, .ref (adr 500)), (1, .int x1), (2, .int x2)] [.int z1, .ref (adr 500)] M 0 0 rs := by
  unfold cCc_lose_29 at h
  refine cx_cVi [.int z1] [] h (fun rs' h' => cCc_does_m H M z1 rs' h') (cCc_rc H) dX1_lose_29 g_X1_393 hg_X1_393 ⟨cx_le rfl, cx_le rfl⟩ rfl ⟨rfl, rfl⟩ ⟨cx_le rfl, cx_le rfl⟩ rfl (cx_le rfl) (fun M1 v2 h => ?_)
  refine cx_if_ne 37 h dX1_lose_32 rfl (fun h => ?_) (fun h => ?_)
  · refine cx_aload_n 0 dX1_lose_37 rfl ?_
    refine cx_getR (cCc_R3 H) q1020 dX1_lose_38 ?_
    refine cx_iload_n 1 dX1_lose_41 rfl ?_
    refine cx_putIN h (cSt_F26 (cSt_i1000 H)) rfl rfl rfl q695 dX1_lose_42 (fun M3 h => ?_)
    refine cx_iload_n 2 dX1_lose_45 rfl ?_
    exact cx_iret h rfl rfl (cx_le rfl) (cx_le rfl) dX1_lose_46
  · refine cx_iconst (-1) dX1_lose_35 cx_ic_m1 ?_
    exact cx_iret h rfl rfl (cx_le rfl) (cx_le rfl) dX1_lose_36
noncomputable def cCc_lose_28 (N : cx_N) (M : cx_M) (x1 : Int32) (x2 : Int32) : Option cx_R :=
  cCc_lose_29 N M x1 x2 0
set_option maxRecDepth 100000 in
theorem cCc_lose_28_v {l : Launch} {g : cx_G} {adr : Nat → Nat} {X : cx_X} {N : cx_N} (H : cCp_H g adr N) (M : cx_M) (x1 : Int32) (x2 : Int32) (rs : cx_R) (h : cCc_lose_28 N M x1 x2 = some rs) : cx_V l (g) X sX1_lose cX1_lose 28 [(0, .ref (adr 500)), (1, .int x1), (2, .int x2)] [.ref (adr 500)] M 0 0 rs := by
  unfold cCc_lose_28 at h
  refine cx_iconst 0 dX1_lose_28 cx_ic_0 ?_
  exact cCc_lose_29_v H M x1 x2 0 _ h
noncomputable def cCc_lose_0 (N : cx_N) (M : cx_M) (x1 : Int32) : Option cx_R :=
  cx_get M 1000 26 fun v1 =>
  cx_cal (cCc_within N M x1 0 20) fun M2 v3 =>
  if v3 = 0 then (
    cCc_lose_28 N M2 x1 v1)
  else (
    if x1 = v1 then (
      cCc_lose_28 N M2 x1 v1)
    else (
      cCc_lose_29 N M2 x1 v1 1))
set_option maxRecDepth 100000 in
theorem cCc_lose_0_v {l : Launch} {g : cx_G} {adr : Nat → Nat} {X : cx_X} {N : cx_N} (H : cCp_H g adr N) (M : cx_M) (x1 : Int32) (rs : cx_R) (h : cCc_lose_0 N M x1 = some rs) : cx_V l (g) X sX1_lose cX1_lose 0 [(0, .ref (adr 500)), (1, .int x1)] [] M 0 0 rs := by
  unfold cCc_lose_0 at h
  refine cx_aload_n 0 dX1_lose_0 rfl ?_
  refine cx_getR (cCc_R3 H) q1020 dX1_lose_1 ?_
  refine cx_getIN h (cSt_F26 (cSt_i1000 H)) q695 dX1_lose_4 (fun v1 h => ?_)
  refine cx_istore_n [(2, .int v1), (0, .ref (adr 500)), (1, .int x1)] dX1_lose_7 (cx_lt rfl) rfl ?_
  refine cx_aload_n 1 dX1_lose_8 rfl ?_
  refine cx_iload_n 2 dX1_lose_9 rfl ?_
  refine cx_iconst 0 dX1_lose_10 cx_ic_0 ?_
  refine cx_bipush 20 dX1_lose_11 cx_bp_20 ?_
  refine cx_cSi [.int x1, .int 0, .int 20] [.ref (adr 500)] h (fun rs' h' => cCc_within_m H M x1 0 20 rs' h') dX1_lose_13 g_X1_180 hg_X1_180 ⟨cx_le rfl, cx_le rfl⟩ rfl ⟨rfl, rfl⟩ ⟨cx_le rfl, cx_le rfl⟩ rfl (cx_le rfl) (fun M2 v3 h => ?_)
  refine cx_if_eq 28 h dX1_lose_16 rfl (fun h => ?_) (fun h => ?_)
  · refine cx_sub (lv' := [(0, .ref (adr 500)), (1, .int x1), (2, .int v1)]) [1, 2, 0] rfl ?_
    exact cCc_lose_28_v H M2 x1 v1 _ h
  · refine cx_iload_n 2 dX1_lose_19 rfl ?_
    refine cx_iload_n 0 dX1_lose_20 rfl ?_
    refine cx_icmp_eq 28 h dX1_lose_21 rfl (fun h => ?_) (fun h => ?_)
    · refine cx_sub (lv' := [(0, .ref (adr 500)), (1, .int x1), (2, .int v1)]) [1, 2, 0] rfl ?_
      exact cCc_lose_28_v H M2 x1 v1 _ h
    · refine cx_iconst 1 dX1_lose_24 cx_ic_1 ?_
      refine cx_goto 29 dX1_lose_25 rfl ?_
      refine cx_sub (lv' := [(0, .ref (adr 500)), (1, .int x1), (2, .int v1)]) [1, 2, 0] rfl ?_
      exact cCc_lose_29_v H M2 x1 v1 1 _ h
noncomputable def cCc_lose (N : cx_N) (M : cx_M) (x1 : Int32) : Option cx_R := cCc_lose_0 N M x1
theorem cCc_lose_m {l : Launch} {g : cx_G} {adr : Nat → Nat} {N : cx_N} (H : cCp_H g adr N) (M : cx_M) (x1 : Int32) (rs : cx_R) (h : cCc_lose N M x1 = some rs) : cx_Met l (g) yX1_lose cX1_lose sX1_lose [.ref (adr 500), .int x1] M rs :=
  cx_met (by decide +kernel) rfl rfl (lv := [(0, .ref (adr 500)), (1, .int x1)]) rfl (cx_le rfl) (fun X => cx_sub (lv' := [(0, .ref (adr 500)), (1, .int x1)]) [0, 1] rfl (cCc_lose_0_v H M x1 rs h))

abbrev sX1_off : cx_S := (2, RX1, cx_rI, { frames := 2, cells := 0, slots := 0, locals := 36 }, some .int, false)
noncomputable def cCc_off_0 (N : cx_N) (b2 : Nat) (M : cx_M) : Option cx_R :=
  cx_cal (cSt_level N b2 M) fun M1 v2 =>
  cx_get M1 b2 30 fun v3 =>
  some (M1, cx_abs (v2 - v3), 0)
set_option maxRecDepth 100000 in
theorem cCc_off_0_v {l : Launch} {g : cx_G} {adr : Nat → Nat} {X : cx_X} {N : cx_N} {b2 : Nat} (H : cCp_H g adr N) (hb2 : cSt_H g adr b2) (M : cx_M) (rs : cx_R) (h : cCc_off_0 N b2 M = some rs) : cx_V l (g) X sX1_off cX1_off 0 [(0, .ref (adr 500)), (1, .ref (adr b2))] [] M 0 0 rs := by
  unfold cCc_off_0 at h
  refine cx_aload_n 1 dX1_off_0 rfl ?_
  refine cx_aload_n 0 dX1_off_1 rfl ?_
  refine cx_getR (cCc_R0 H) q1017 dX1_off_2 ?_
  refine cx_cVi [.ref (adr 8000)] [] h (fun rs' h' => cSt_level_m H hb2 M rs' h') (cSt_rc hb2) dX1_off_5 g_X1_214 hg_X1_214 ⟨cx_le rfl, cx_le rfl⟩ rfl ⟨rfl, rfl⟩ ⟨cx_le rfl, cx_le rfl⟩ rfl (cx_le rfl) (fun M1 v2 h => ?_)
  refine cx_aload_n 1 dX1_off_8 rfl ?_
  refine cx_getIN h (cSt_F30 hb2) q703 dX1_off_9 (fun v3 h => ?_)
  refine cx_isub dX1_off_12 ?_
  refine cx_mabs dX1_off_13 q1327 (cx_le rfl) (cx_le rfl) (cx_le rfl) (cx_le rfl) ?_
  exact cx_iret h rfl rfl (cx_le rfl) (cx_le rfl) dX1_off_16
noncomputable def cCc_off (N : cx_N) (b2 : Nat) (M : cx_M) : Option cx_R := cCc_off_0 N b2 M
theorem cCc_off_m {l : Launch} {g : cx_G} {adr : Nat → Nat} {N : cx_N} {b2 : Nat} (H : cCp_H g adr N) (hb2 : cSt_H g adr b2) (M : cx_M) (rs : cx_R) (h : cCc_off N b2 M = some rs) : cx_Met l (g) yX1_off cX1_off sX1_off [.ref (adr 500), .ref (adr b2)] M rs :=
  cx_met (by decide +kernel) rfl rfl (lv := [(0, .ref (adr 500)), (1, .ref (adr b2))]) rfl (cx_le rfl) (fun X => cx_sub (lv' := [(0, .ref (adr 500)), (1, .ref (adr b2))]) [0, 1] rfl (cCc_off_0_v H hb2 M rs h))

abbrev sX1_mostOff : cx_S := (4, RX1, cx_rI, { frames := 905, cells := 0, slots := 0, locals := 30112 }, some .int, false)
noncomputable def cCc_mostOff_42 (N : cx_N) (r_4 : cx_M → Int32 → Int32 → Int32 → Option cx_R) (M : cx_M) (x1 : Int32) (x2 : Int32) (x3 : Int32) : Option cx_R :=
  cx_let (x3 + 1) fun v1 =>
  r_4 M x1 x2 v1
set_option maxRecDepth 100000 in
theorem cCc_mostOff_42_v {l : Launch} {g : cx_G} {adr : Nat → Nat} {X : cx_X} {N : cx_N} {r_4 : cx_M → Int32 → Int32 → Int32 → Option cx_R} (H : cCp_H g adr N) (hr_4 : ∀ (M : cx_M) (x1 : Int32) (x2 : Int32) (x3 : Int32) (rs : cx_R), r_4 M x1 x2 x3 = some rs → cx_V l (g) X sX1_mostOff cX1_mostOff 4 [(0, .ref (adr 500)), (1, .int x1), (2, .int x2), (3, .int x3)] [] M 0 0 rs) (M : cx_M) (x1 : Int32) (x2 : Int32) (x3 : Int32) (rs : cx_R) (h : cCc_mostOff_42 N r_4 M x1 x2 x3 = some rs) : cx_V l (g) X sX1_mostOff cX1_mostOff 42 [(0, .ref (adr 500)), (1, .int x1), (2, .int x2), (3, .int x3)] [] M 0 0 rs := by
  unfold cCc_mostOff_42 at h
  refine cx_iinc 3 1 (fun v1 => [(3, .int v1), (0, .ref (adr 500)), (1, .int x1), (2, .int x2)]) h dX1_mostOff_42 rfl cx_ic_1 (cx_lt rfl) (fun _ => rfl) (fun v1 h => ?_)
  refine cx_goto 4 dX1_mostOff_45 rfl ?_
  refine cx_sub (lv' := [(0, .ref (adr 500)), (1, .int x1), (2, .int x2), (3, .int v1)]) [1, 2, 3, 0] rfl ?_
  exact hr_4 M x1 x2 v1 _ h
noncomputable def cCc_mostOff_4b (N : cx_N) (r_4 : cx_M → Int32 → Int32 → Int32 → Option cx_R) (M : cx_M) (x1 : Int32) (x2 : Int32) (x3 : Int32) : Option cx_R :=
  if x1 ≤ x3 then (
    some (M, x2, 0))
  else (
    cx_cal (cCc_goes N 1100 M 1) fun M1 _ =>
    cx_get M1 1100 8 fun v2 =>
    if v2 = 2 then (
      cx_cal (cCc_off N 1100 M1) fun M3 v4 =>
      cx_let (cx_max x2 v4) fun v5 =>
      cCc_mostOff_42 N r_4 M3 x1 v5 x3)
    else (
      cCc_mostOff_42 N r_4 M1 x1 x2 x3))
set_option maxRecDepth 100000 in
theorem cCc_mostOff_4b_v {l : Launch} {g : cx_G} {adr : Nat → Nat} {X : cx_X} {N : cx_N} {r_4 : cx_M → Int32 → Int32 → Int32 → Option cx_R} (H : cCp_H g adr N) (hr_4 : ∀ (M : cx_M) (x1 : Int32) (x2 : Int32) (x3 : Int32) (rs : cx_R), r_4 M x1 x2 x3 = some rs → cx_V l (g) X sX1_mostOff cX1_mostOff 4 [(0, .ref (adr 500)), (1, .int x1), (2, .int x2), (3, .int x3)] [] M 0 0 rs) (M : cx_M) (x1 : Int32) (x2 : Int32) (x3 : Int32) (rs : cx_R) (h : cCc_mostOff_4b N r_4 M x1 x2 x3 = some rs) : cx_V l (g) X sX1_mostOff cX1_mostOff 4 [(0, .ref (adr 500)), (1, .int x1), (2, .int x2), (3, .int x3)] [] M 0 0 rs := by
  unfold cCc_mostOff_4b at h
  refine cx_iload_n 3 dX1_mostOff_4 rfl ?_
  refine cx_iload_n 1 dX1_mostOff_5 rfl ?_
  refine cx_icmp_ge 48 h dX1_mostOff_6 rfl (fun h => ?_) (fun h => ?_)
  · refine cx_iload_n 2 dX1_mostOff_48 rfl ?_
    exact cx_iret h rfl rfl (cx_le rfl) (cx_le rfl) dX1_mostOff_49
  · refine cx_aload_n 0 dX1_mostOff_9 rfl ?_
    refine cx_aload_n 0 dX1_mostOff_10 rfl ?_
    refine cx_getR (cCc_R4 H) q1021 dX1_mostOff_11 ?_
    refine cx_iconst 1 dX1_mostOff_14 cx_ic_1 ?_
    refine cx_cVv [.ref (adr 1100), .int 1] [] h (fun rs' h' => cCc_goes_m H (cSt_i1100 H) M 1 rs' h') (cCc_rc H) dX1_mostOff_15 g_X1_397 hg_X1_397 ⟨cx_le rfl, cx_le rfl⟩ rfl ⟨rfl, rfl⟩ ⟨cx_le rfl, cx_le rfl⟩ rfl (cx_le rfl) (fun M1 _ h => ?_)
    refine cx_aload_n 0 dX1_mostOff_18 rfl ?_
    refine cx_getR (cCc_R4 H) q1021 dX1_mostOff_19 ?_
    refine cx_getIN h (cSt_F8 (cSt_i1100 H)) q665 dX1_mostOff_22 (fun v2 h => ?_)
    refine cx_iconst 2 dX1_mostOff_25 cx_ic_2 ?_
    refine cx_icmp_ne 42 h dX1_mostOff_26 rfl (fun h => ?_) (fun h => ?_)
    · exact cCc_mostOff_42_v H hr_4 M1 x1 x2 x3 _ h
    · refine cx_iload_n 2 dX1_mostOff_29 rfl ?_
      refine cx_aload_n 0 dX1_mostOff_30 rfl ?_
      refine cx_aload_n 0 dX1_mostOff_31 rfl ?_
      refine cx_getR (cCc_R4 H) q1021 dX1_mostOff_32 ?_
      refine cx_cVi [.ref (adr 1100)] [.int x2] h (fun rs' h' => cCc_off_m H (cSt_i1100 H) M1 rs' h') (cCc_rc H) dX1_mostOff_35 g_X1_446 hg_X1_446 ⟨cx_le rfl, cx_le rfl⟩ rfl ⟨rfl, rfl⟩ ⟨cx_le rfl, cx_le rfl⟩ rfl (cx_le rfl) (fun M3 v4 h => ?_)
      refine cx_mmax dX1_mostOff_38 q1786 (cx_le rfl) (cx_le rfl) (cx_le rfl) (cx_le rfl) ?_
      refine cx_letI h (fun v5 h => ?_)
      refine cx_istore_n [(2, .int v5), (0, .ref (adr 500)), (1, .int x1), (3, .int x3)] dX1_mostOff_41 (cx_lt rfl) rfl ?_
      refine cx_sub (lv' := [(0, .ref (adr 500)), (1, .int x1), (2, .int v5), (3, .int x3)]) [1, 2, 0, 3] rfl ?_
      exact cCc_mostOff_42_v H hr_4 M3 x1 v5 x3 _ h
noncomputable def cCc_mostOff_4 (N : cx_N) : Nat → cx_M → Int32 → Int32 → Int32 → Option cx_R :=
  cx_fix (fun _ _ _ _ => none) (fun r_4 => cCc_mostOff_4b N r_4)
theorem cCc_mostOff_4_v {l : Launch} {g : cx_G} {adr : Nat → Nat} {X : cx_X} {N : cx_N} (H : cCp_H g adr N) : ∀ (n : Nat) (M : cx_M) (x1 : Int32) (x2 : Int32) (x3 : Int32) (rs : cx_R), cCc_mostOff_4 N n M x1 x2 x3 = some rs → cx_V l (g) X sX1_mostOff cX1_mostOff 4 [(0, .ref (adr 500)), (1, .int x1), (2, .int x2), (3, .int x3)] [] M 0 0 rs :=
  cx_fixI (fun (r : cx_M → Int32 → Int32 → Int32 → Option cx_R) => ∀ (M : cx_M) (x1 : Int32) (x2 : Int32) (x3 : Int32) (rs : cx_R), r M x1 x2 x3 = some rs → cx_V l (g) X sX1_mostOff cX1_mostOff 4 [(0, .ref (adr 500)), (1, .int x1), (2, .int x2), (3, .int x3)] [] M 0 0 rs) (fun _ _ _ _ _ h => by cases h) (fun r hr M x1 x2 x3 rs h => cCc_mostOff_4b_v H hr M x1 x2 x3 rs h)
noncomputable def cCc_mostOff_0 (N : cx_N) (M : cx_M) (x1 : Int32) : Option cx_R :=
  cCc_mostOff_4 N N.1 M x1 (-1) 0
set_option maxRecDepth 100000 in
theorem cCc_mostOff_0_v {l : Launch} {g : cx_G} {adr : Nat → Nat} {X : cx_X} {N : cx_N} (H : cCp_H g adr N) (M : cx_M) (x1 : Int32) (rs : cx_R) (h : cCc_mostOff_0 N M x1 = some rs) : cx_V l (g) X sX1_mostOff cX1_mostOff 0 [(0, .ref (adr 500)), (1, .int x1)] [] M 0 0 rs := by
  unfold cCc_mostOff_0 at h
  refine cx_iconst (-1) dX1_mostOff_0 cx_ic_m1 ?_
  refine cx_istore_n [(2, .int (-1)), (0, .ref (adr 500)), (1, .int x1)] dX1_mostOff_1 (cx_lt rfl) rfl ?_
  refine cx_iconst 0 dX1_mostOff_2 cx_ic_0 ?_
  refine cx_istore_n [(3, .int 0), (2, .int (-1)), (0, .ref (adr 500)), (1, .int x1)] dX1_mostOff_3 (cx_lt rfl) rfl ?_
  refine cx_sub (lv' := [(0, .ref (adr 500)), (1, .int x1), (2, .int (-1)), (3, .int 0)]) [2, 3, 1, 0] rfl ?_
  exact cCc_mostOff_4_v H N.1 M x1 (-1) 0 _ h
noncomputable def cCc_mostOff (N : cx_N) (M : cx_M) (x1 : Int32) : Option cx_R := cCc_mostOff_0 N M x1
theorem cCc_mostOff_m {l : Launch} {g : cx_G} {adr : Nat → Nat} {N : cx_N} (H : cCp_H g adr N) (M : cx_M) (x1 : Int32) (rs : cx_R) (h : cCc_mostOff N M x1 = some rs) : cx_Met l (g) yX1_mostOff cX1_mostOff sX1_mostOff [.ref (adr 500), .int x1] M rs :=
  cx_met (by decide +kernel) rfl rfl (lv := [(0, .ref (adr 500)), (1, .int x1)]) rfl (cx_le rfl) (fun X => cx_sub (lv' := [(0, .ref (adr 500)), (1, .int x1)]) [0, 1] rfl (cCc_mostOff_0_v H M x1 rs h))

abbrev sX1_note : cx_S := (3, RX1, cx_rI, { frames := 1, cells := 0, slots := 0, locals := 22 }, some .int, false)
noncomputable def cCc_note_33 (N : cx_N) (M : cx_M) : Option cx_R :=
  cx_cal (cCc_refuses N M 2) fun M1 v2 =>
  some (M1, v2, 0)
set_option maxRecDepth 100000 in
theorem cCc_note_33_v {l : Launch} {g : cx_G} {adr : Nat → Nat} {X : cx_X} {N : cx_N} (H : cCp_H g adr N) (M : cx_M) (rs : cx_R) (h : cCc_note_33 N M = some rs) : cx_V l (g) X sX1_note cX1_note 33 [(0, .ref (adr 500))] [] M 0 0 rs := by
  unfold cCc_note_33 at h
  refine cx_aload_n 0 dX1_note_33 rfl ?_
  refine cx_iconst 2 dX1_note_34 cx_ic_2 ?_
  refine cx_cVi [.int 2] [] h (fun rs' h' => cCc_refuses_m H M 2 rs' h') (cCc_rc H) dX1_note_35 g_X1_382 hg_X1_382 ⟨cx_le rfl, cx_le rfl⟩ rfl ⟨rfl, rfl⟩ ⟨cx_le rfl, cx_le rfl⟩ rfl (cx_le rfl) (fun M1 v2 h => ?_)
  exact cx_iret h rfl rfl (cx_le rfl) (cx_le rfl) dX1_note_38
noncomputable def cCc_note_0 (N : cx_N) (M : cx_M) (x1 : Int32) (x2 : Int32) : Option cx_R :=
  cx_get M 600 6 fun v1 =>
  if v1 = 8 then (
    cCc_note_33 N M)
  else (
    cx_cal (cCc_within N M x1 0 60) fun M2 v3 =>
    if v3 = 0 then (
      cCc_note_33 N M2)
    else (
      cx_cal (cCc_within N M2 x2 0 999) fun M4 v5 =>
      if v5 = 0 then (
        cCc_note_33 N M4)
      else (
        cx_get M4 600 6 fun v6 =>
        cx_st M4 603 8 v6 x1 fun M7 =>
        cx_get M7 600 6 fun v8 =>
        cx_st M7 604 8 v8 x2 fun M9 =>
        cx_get M9 600 6 fun v10 =>
        cx_put M9 600 6 (v10 + 1) fun M11 =>
        cx_get M11 600 6 fun v12 =>
        some (M11, v12, 0))))
set_option maxRecDepth 100000 in
theorem cCc_note_0_v {l : Launch} {g : cx_G} {adr : Nat → Nat} {X : cx_X} {N : cx_N} (H : cCp_H g adr N) (M : cx_M) (x1 : Int32) (x2 : Int32) (rs : cx_R) (h : cCc_note_0 N M x1 x2 = some rs) : cx_V l (g) X sX1_note cX1_note 0 [(0, .ref (adr 500)), (1, .int x1), (2, .int x2)] [] M 0 0 rs := by
  unfold cCc_note_0 at h
  refine cx_aload_n 0 dX1_note_0 rfl ?_
  refine cx_getR (cCc_R1 H) q1018 dX1_note_1 ?_
  refine cx_getIN h (cBk_F6 (cBk_i600 H)) q904 dX1_note_4 (fun v1 h => ?_)
  refine cx_bipush 8 dX1_note_7 cx_bp_8 ?_
  refine cx_icmp_eq 33 h dX1_note_9 rfl (fun h => ?_) (fun h => ?_)
  · refine cx_sub (lv' := [(0, .ref (adr 500))]) [0] rfl ?_
    exact cCc_note_33_v H M _ h
  · refine cx_iload_n 1 dX1_note_12 rfl ?_
    refine cx_iconst 0 dX1_note_13 cx_ic_0 ?_
    refine cx_bipush 60 dX1_note_14 cx_bp_60 ?_
    refine cx_cSi [.int x1, .int 0, .int 60] [] h (fun rs' h' => cCc_within_m H M x1 0 60 rs' h') dX1_note_16 g_X1_180 hg_X1_180 ⟨cx_le rfl, cx_le rfl⟩ rfl ⟨rfl, rfl⟩ ⟨cx_le rfl, cx_le rfl⟩ rfl (cx_le rfl) (fun M2 v3 h => ?_)
    refine cx_if_eq 33 h dX1_note_19 rfl (fun h => ?_) (fun h => ?_)
    · refine cx_sub (lv' := [(0, .ref (adr 500))]) [0] rfl ?_
      exact cCc_note_33_v H M2 _ h
    · refine cx_iload_n 2 dX1_note_22 rfl ?_
      refine cx_iconst 0 dX1_note_23 cx_ic_0 ?_
      refine cx_sipush 999 dX1_note_24 cx_sp_999 ?_
      refine cx_cSi [.int x2, .int 0, .int 999] [] h (fun rs' h' => cCc_within_m H M2 x2 0 999 rs' h') dX1_note_27 g_X1_180 hg_X1_180 ⟨cx_le rfl, cx_le rfl⟩ rfl ⟨rfl, rfl⟩ ⟨cx_le rfl, cx_le rfl⟩ rfl (cx_le rfl) (fun M4 v5 h => ?_)
      refine cx_if_ne 39 h dX1_note_30 rfl (fun h => ?_) (fun h => ?_)
      · refine cx_aload_n 0 dX1_note_39 rfl ?_
        refine cx_getR (cCc_R1 H) q1018 dX1_note_40 ?_
        refine cx_getRN (cBk_R2 (cBk_i600 H)) q896 dX1_note_43 ?_
        refine cx_aload_n 0 dX1_note_46 rfl ?_
        refine cx_getR (cCc_R1 H) q1018 dX1_note_47 ?_
        refine cx_getIN h (cBk_F6 (cBk_i600 H)) q904 dX1_note_50 (fun v6 h => ?_)
        refine cx_iload_n 1 dX1_note_53 rfl ?_
        refine cx_stI h (cBk_A2 (cBk_i600 H)) dX1_note_54 (fun M7 h => ?_)
        refine cx_aload_n 0 dX1_note_55 rfl ?_
        refine cx_getR (cCc_R1 H) q1018 dX1_note_56 ?_
        refine cx_getRN (cBk_R3 (cBk_i600 H)) q898 dX1_note_59 ?_
        refine cx_aload_n 0 dX1_note_62 rfl ?_
        refine cx_getR (cCc_R1 H) q1018 dX1_note_63 ?_
        refine cx_getIN h (cBk_F6 (cBk_i600 H)) q904 dX1_note_66 (fun v8 h => ?_)
        refine cx_iload_n 2 dX1_note_69 rfl ?_
        refine cx_stI h (cBk_A3 (cBk_i600 H)) dX1_note_70 (fun M9 h => ?_)
        refine cx_aload_n 0 dX1_note_71 rfl ?_
        refine cx_getR (cCc_R1 H) q1018 dX1_note_72 ?_
        refine cx_dup dX1_note_75 rfl ?_
        refine cx_getIN h (cBk_F6 (cBk_i600 H)) q904 dX1_note_76 (fun v10 h => ?_)
        refine cx_iconst 1 dX1_note_79 cx_ic_1 ?_
        refine cx_iadd dX1_note_80 ?_
        refine cx_putIN h (cBk_F6 (cBk_i600 H)) rfl rfl rfl q904 dX1_note_81 (fun M11 h => ?_)
        refine cx_aload_n 0 dX1_note_84 rfl ?_
        refine cx_getR (cCc_R1 H) q1018 dX1_note_85 ?_
        refine cx_getIN h (cBk_F6 (cBk_i600 H)) q904 dX1_note_88 (fun v12 h => ?_)
        exact cx_iret h rfl rfl (cx_le rfl) (cx_le rfl) dX1_note_91
      · refine cx_sub (lv' := [(0, .ref (adr 500))]) [0] rfl ?_
        exact cCc_note_33_v H M4 _ h
noncomputable def cCc_note (N : cx_N) (M : cx_M) (x1 : Int32) (x2 : Int32) : Option cx_R := cCc_note_0 N M x1 x2
theorem cCc_note_m {l : Launch} {g : cx_G} {adr : Nat → Nat} {N : cx_N} (H : cCp_H g adr N) (M : cx_M) (x1 : Int32) (x2 : Int32) (rs : cx_R) (h : cCc_note N M x1 x2 = some rs) : cx_Met l (g) yX1_note cX1_note sX1_note [.ref (adr 500), .int x1, .int x2] M rs :=
  cx_met (by decide +kernel) rfl rfl (lv := [(0, .ref (adr 500)), (1, .int x1), (2, .int x2)]) rfl (cx_le rfl) (fun X => cx_sub (lv' := [(0, .ref (adr 500)), (1, .int x1), (2, .int x2)]) [0, 1, 2] rfl (cCc_note_0_v H M x1 x2 rs h))

abbrev sX1_other : cx_S := (5, RX1, cx_rI, { frames := 907, cells := 0, slots := 0, locals := 30156 }, some .int, false)
noncomputable def cCc_other_66 (N : cx_N) (r_41 : cx_M → Int32 → Int32 → Int32 → Int32 → Option cx_R) (M : cx_M) (x1 : Int32) (x2 : Int32) (x3 : Int32) (x4 : Int32) : Option cx_R :=
  cx_let (x4 + (-1)) fun v1 =>
  r_41 M x1 x2 x3 v1
set_option maxRecDepth 100000 in
theorem cCc_other_66_v {l : Launch} {g : cx_G} {adr : Nat → Nat} {X : cx_X} {N : cx_N} {r_41 : cx_M → Int32 → Int32 → Int32 → Int32 → Option cx_R} (H : cCp_H g adr N) (hr_41 : ∀ (M : cx_M) (x1 : Int32) (x2 : Int32) (x3 : Int32) (x4 : Int32) (rs : cx_R), r_41 M x1 x2 x3 x4 = some rs → cx_V l (g) X sX1_other cX1_other 41 [(0, .ref (adr 500)), (1, .int x1), (2, .int x2), (3, .int x3), (4, .int x4)] [] M 0 0 rs) (M : cx_M) (x1 : Int32) (x2 : Int32) (x3 : Int32) (x4 : Int32) (rs : cx_R) (h : cCc_other_66 N r_41 M x1 x2 x3 x4 = some rs) : cx_V l (g) X sX1_other cX1_other 66 [(0, .ref (adr 500)), (1, .int x1), (2, .int x2), (3, .int x3), (4, .int x4)] [] M 0 0 rs := by
  unfold cCc_other_66 at h
  refine cx_iinc 4 (-1) (fun v1 => [(4, .int v1), (0, .ref (adr 500)), (1, .int x1), (2, .int x2), (3, .int x3)]) h dX1_other_66 rfl cx_ic_m1 (cx_lt rfl) (fun _ => rfl) (fun v1 h => ?_)
  refine cx_goto 41 dX1_other_69 rfl ?_
  refine cx_sub (lv' := [(0, .ref (adr 500)), (1, .int x1), (2, .int x2), (3, .int x3), (4, .int v1)]) [1, 2, 3, 4, 0] rfl ?_
  exact hr_41 M x1 x2 x3 v1 _ h
noncomputable def cCc_other_41b (N : cx_N) (r_41 : cx_M → Int32 → Int32 → Int32 → Int32 → Option cx_R) (M : cx_M) (x1 : Int32) (x2 : Int32) (x3 : Int32) (x4 : Int32) : Option cx_R :=
  if x4 < (-99) then (
    if x1 = 0 then (
      some (M, x2, 0))
    else (
      some (M, x3, 0)))
  else (
    cx_cal (cCc_isGuess N M x4) fun M1 v2 =>
    if v2 = 0 then (
      cCc_other_66 N r_41 M1 x1 x2 x3 x4)
    else (
      cx_let (x2 + 1) fun v3 =>
      cCc_other_66 N r_41 M1 x1 v3 x4 x4))
set_option maxRecDepth 100000 in
theorem cCc_other_41b_v {l : Launch} {g : cx_G} {adr : Nat → Nat} {X : cx_X} {N : cx_N} {r_41 : cx_M → Int32 → Int32 → Int32 → Int32 → Option cx_R} (H : cCp_H g adr N) (hr_41 : ∀ (M : cx_M) (x1 : Int32) (x2 : Int32) (x3 : Int32) (x4 : Int32) (rs : cx_R), r_41 M x1 x2 x3 x4 = some rs → cx_V l (g) X sX1_other cX1_other 41 [(0, .ref (adr 500)), (1, .int x1), (2, .int x2), (3, .int x3), (4, .int x4)] [] M 0 0 rs) (M : cx_M) (x1 : Int32) (x2 : Int32) (x3 : Int32) (x4 : Int32) (rs : cx_R) (h : cCc_other_41b N r_41 M x1 x2 x3 x4 = some rs) : cx_V l (g) X sX1_other cX1_other 41 [(0, .ref (adr 500)), (1, .int x1), (2, .int x2), (3, .int x3), (4, .int x4)] [] M 0 0 rs := by
  unfold cCc_other_41b at h
  refine cx_iload 4 dX1_other_41 rfl ?_
  refine cx_bipush (-99) dX1_other_43 cx_bp_m99 ?_
  refine cx_icmp_lt 72 h dX1_other_45 rfl (fun h => ?_) (fun h => ?_)
  · refine cx_iload_n 1 dX1_other_72 rfl ?_
    refine cx_if_ne 80 h dX1_other_73 rfl (fun h => ?_) (fun h => ?_)
    · refine cx_iload_n 3 dX1_other_80 rfl ?_
      exact cx_iret h rfl rfl (cx_le rfl) (cx_le rfl) dX1_other_81
    · refine cx_iload_n 2 dX1_other_76 rfl ?_
      refine cx_goto 81 dX1_other_77 rfl ?_
      exact cx_iret h rfl rfl (cx_le rfl) (cx_le rfl) dX1_other_81
  · refine cx_aload_n 0 dX1_other_48 rfl ?_
    refine cx_iload 4 dX1_other_49 rfl ?_
    refine cx_cVi [.int x4] [] h (fun rs' h' => cCc_isGuess_m H M x4 rs' h') (cCc_rc H) dX1_other_51 g_X1_465 hg_X1_465 ⟨cx_le rfl, cx_le rfl⟩ rfl ⟨rfl, rfl⟩ ⟨cx_le rfl, cx_le rfl⟩ rfl (cx_le rfl) (fun M1 v2 h => ?_)
    refine cx_if_ne 60 h dX1_other_54 rfl (fun h => ?_) (fun h => ?_)
    · refine cx_iinc 2 1 (fun v3 => [(2, .int v3), (0, .ref (adr 500)), (1, .int x1), (3, .int x3), (4, .int x4)]) h dX1_other_60 rfl cx_ic_1 (cx_lt rfl) (fun _ => rfl) (fun v3 h => ?_)
      refine cx_iload 4 dX1_other_63 rfl ?_
      refine cx_istore_n [(3, .int x4), (2, .int v3), (0, .ref (adr 500)), (1, .int x1), (4, .int x4)] dX1_other_65 (cx_lt rfl) rfl ?_
      refine cx_sub (lv' := [(0, .ref (adr 500)), (1, .int x1), (2, .int v3), (3, .int x4), (4, .int x4)]) [2, 3, 1, 0, 4] rfl ?_
      exact cCc_other_66_v H hr_41 M1 x1 v3 x4 x4 _ h
    · refine cx_goto 66 dX1_other_57 rfl ?_
      exact cCc_other_66_v H hr_41 M1 x1 x2 x3 x4 _ h
noncomputable def cCc_other_41 (N : cx_N) : Nat → cx_M → Int32 → Int32 → Int32 → Int32 → Option cx_R :=
  cx_fix (fun _ _ _ _ _ => none) (fun r_41 => cCc_other_41b N r_41)
theorem cCc_other_41_v {l : Launch} {g : cx_G} {adr : Nat → Nat} {X : cx_X} {N : cx_N} (H : cCp_H g adr N) : ∀ (n : Nat) (M : cx_M) (x1 : Int32) (x2 : Int32) (x3 : Int32) (x4 : Int32) (rs : cx_R), cCc_other_41 N n M x1 x2 x3 x4 = some rs → cx_V l (g) X sX1_other cX1_other 41 [(0, .ref (adr 500)), (1, .int x1), (2, .int x2), (3, .int x3), (4, .int x4)] [] M 0 0 rs :=
  cx_fixI (fun (r : cx_M → Int32 → Int32 → Int32 → Int32 → Option cx_R) => ∀ (M : cx_M) (x1 : Int32) (x2 : Int32) (x3 : Int32) (x4 : Int32) (rs : cx_R), r M x1 x2 x3 x4 = some rs → cx_V l (g) X sX1_other cX1_other 41 [(0, .ref (adr 500)), (1, .int x1), (2, .int x2), (3, .int x3), (4, .int x4)] [] M 0 0 rs) (fun _ _ _ _ _ _ h => by cases h) (fun r hr M x1 x2 x3 x4 rs h => cCc_other_41b_v H hr M x1 x2 x3 x4 rs h)
noncomputable def cCc_other_0 (N : cx_N) (M : cx_M) (x1 : Int32) : Option cx_R :=
  cx_cal (cCc_within N M x1 0 2) fun M1 v2 =>
  cx_cal (cCc_there N M1 v2) fun M3 _ =>
  if x1 = 2 then (
    cx_cal (cCc_tries N M3 0) fun M4 _ =>
    cx_cal (cCc_isNoted N M4) fun M5 v6 =>
    if v6 = 0 then (
      some (M5, 0, 0))
    else (
      some (M5, 1, 0)))
  else (
    cCc_other_41 N N.1 M3 x1 0 100 99)
set_option maxRecDepth 100000 in
theorem cCc_other_0_v {l : Launch} {g : cx_G} {adr : Nat → Nat} {X : cx_X} {N : cx_N} (H : cCp_H g adr N) (M : cx_M) (x1 : Int32) (rs : cx_R) (h : cCc_other_0 N M x1 = some rs) : cx_V l (g) X sX1_other cX1_other 0 [(0, .ref (adr 500)), (1, .int x1)] [] M 0 0 rs := by
  unfold cCc_other_0 at h
  refine cx_iload_n 1 dX1_other_0 rfl ?_
  refine cx_iconst 0 dX1_other_1 cx_ic_0 ?_
  refine cx_iconst 2 dX1_other_2 cx_ic_2 ?_
  refine cx_cSi [.int x1, .int 0, .int 2] [] h (fun rs' h' => cCc_within_m H M x1 0 2 rs' h') dX1_other_3 g_X1_180 hg_X1_180 ⟨cx_le rfl, cx_le rfl⟩ rfl ⟨rfl, rfl⟩ ⟨cx_le rfl, cx_le rfl⟩ rfl (cx_le rfl) (fun M1 v2 h => ?_)
  refine cx_cSv [.int v2] [] h (fun rs' h' => cCc_there_m H M1 v2 rs' h') dX1_other_6 g_X1_184 hg_X1_184 ⟨cx_le rfl, cx_le rfl⟩ rfl ⟨rfl, rfl⟩ ⟨cx_le rfl, cx_le rfl⟩ rfl (cx_le rfl) (fun M3 _ h => ?_)
  refine cx_iload_n 1 dX1_other_9 rfl ?_
  refine cx_iconst 2 dX1_other_10 cx_ic_2 ?_
  refine cx_icmp_ne 32 h dX1_other_11 rfl (fun h => ?_) (fun h => ?_)
  · refine cx_iconst 0 dX1_other_32 cx_ic_0 ?_
    refine cx_istore_n [(2, .int 0), (0, .ref (adr 500)), (1, .int x1)] dX1_other_33 (cx_lt rfl) rfl ?_
    refine cx_bipush 100 dX1_other_34 cx_bp_100 ?_
    refine cx_istore_n [(3, .int 100), (2, .int 0), (0, .ref (adr 500)), (1, .int x1)] dX1_other_36 (cx_lt rfl) rfl ?_
    refine cx_bipush 99 dX1_other_37 cx_bp_99 ?_
    refine cx_istore [(4, .int 99), (3, .int 100), (2, .int 0), (0, .ref (adr 500)), (1, .int x1)] dX1_other_39 (cx_lt rfl) rfl ?_
    refine cx_sub (lv' := [(0, .ref (adr 500)), (1, .int x1), (2, .int 0), (3, .int 100), (4, .int 99)]) [3, 4, 2, 1, 0] rfl ?_
    exact cCc_other_41_v H N.1 M3 x1 0 100 99 _ h
  · refine cx_aload_n 0 dX1_other_14 rfl ?_
    refine cx_iconst 0 dX1_other_15 cx_ic_0 ?_
    refine cx_cVv [.int 0] [] h (fun rs' h' => cCc_tries_m H M3 0 rs' h') (cCc_rc H) dX1_other_16 g_X1_411 hg_X1_411 ⟨cx_le rfl, cx_le rfl⟩ rfl ⟨rfl, rfl⟩ ⟨cx_le rfl, cx_le rfl⟩ rfl (cx_le rfl) (fun M4 _ h => ?_)
    refine cx_aload_n 0 dX1_other_19 rfl ?_
    refine cx_cVi [] [] h (fun rs' h' => cCc_isNoted_m H M4 rs' h') (cCc_rc H) dX1_other_20 g_X1_462 hg_X1_462 ⟨cx_le rfl, cx_le rfl⟩ rfl ⟨rfl, rfl⟩ ⟨cx_le rfl, cx_le rfl⟩ rfl (cx_le rfl) (fun M5 v6 h => ?_)
    refine cx_if_eq 30 h dX1_other_23 rfl (fun h => ?_) (fun h => ?_)
    · refine cx_iconst 0 dX1_other_30 cx_ic_0 ?_
      exact cx_iret h rfl rfl (cx_le rfl) (cx_le rfl) dX1_other_31
    · refine cx_iconst 1 dX1_other_26 cx_ic_1 ?_
      refine cx_goto 31 dX1_other_27 rfl ?_
      exact cx_iret h rfl rfl (cx_le rfl) (cx_le rfl) dX1_other_31
noncomputable def cCc_other (N : cx_N) (M : cx_M) (x1 : Int32) : Option cx_R := cCc_other_0 N M x1
theorem cCc_other_m {l : Launch} {g : cx_G} {adr : Nat → Nat} {N : cx_N} (H : cCp_H g adr N) (M : cx_M) (x1 : Int32) (rs : cx_R) (h : cCc_other N M x1 = some rs) : cx_Met l (g) yX1_other cX1_other sX1_other [.ref (adr 500), .int x1] M rs :=
  cx_met (by decide +kernel) rfl rfl (lv := [(0, .ref (adr 500)), (1, .int x1)]) rfl (cx_le rfl) (fun X => cx_sub (lv' := [(0, .ref (adr 500)), (1, .int x1)]) [0, 1] rfl (cCc_other_0_v H M x1 rs h))

abbrev sX1_restore : cx_S := (1, RX1, cx_rI, { frames := 31, cells := 0, slots := 0, locals := 922 }, some .boolean, false)
noncomputable def cCc_restore_0 (N : cx_N) (M : cx_M) : Option cx_R :=
  cx_get M 500 7 fun v1 =>
  if v1 = 0 then (
    some (M, 0, 0))
  else (
    cx_cal (cBk_like N 600 700 M) fun M2 _ =>
    some (M2, 1, 0))
set_option maxRecDepth 100000 in
theorem cCc_restore_0_v {l : Launch} {g : cx_G} {adr : Nat → Nat} {X : cx_X} {N : cx_N} (H : cCp_H g adr N) (M : cx_M) (rs : cx_R) (h : cCc_restore_0 N M = some rs) : cx_V l (g) X sX1_restore cX1_restore 0 [(0, .ref (adr 500))] [] M 0 0 rs := by
  unfold cCc_restore_0 at h
  refine cx_aload_n 0 dX1_restore_0 rfl ?_
  refine cx_getI h (cCc_F7 H) q1024 dX1_restore_1 (fun v1 h => ?_)
  refine cx_if_ne 9 h dX1_restore_4 rfl (fun h => ?_) (fun h => ?_)
  · refine cx_aload_n 0 dX1_restore_9 rfl ?_
    refine cx_getR (cCc_R1 H) q1018 dX1_restore_10 ?_
    refine cx_aload_n 0 dX1_restore_13 rfl ?_
    refine cx_getR (cCc_R2 H) q1019 dX1_restore_14 ?_
    refine cx_cVv [.ref (adr 700)] [] h (fun rs' h' => cBk_like_m H (cBk_i600 H) (cBk_i700 H) M rs' h') (cBk_rc (cBk_i600 H)) dX1_restore_17 g_X1_493 hg_X1_493 ⟨cx_le rfl, cx_le rfl⟩ rfl ⟨rfl, rfl⟩ ⟨cx_le rfl, cx_le rfl⟩ rfl (cx_le rfl) (fun M2 _ h => ?_)
    refine cx_iconst 1 dX1_restore_20 cx_ic_1 ?_
    exact cx_zret h cx_z_1 rfl rfl (cx_le rfl) (cx_le rfl) dX1_restore_21
  · refine cx_iconst 0 dX1_restore_7 cx_ic_0 ?_
    exact cx_zret h cx_z_0 rfl rfl (cx_le rfl) (cx_le rfl) dX1_restore_8
noncomputable def cCc_restore (N : cx_N) (M : cx_M) : Option cx_R := cCc_restore_0 N M
theorem cCc_restore_m {l : Launch} {g : cx_G} {adr : Nat → Nat} {N : cx_N} (H : cCp_H g adr N) (M : cx_M) (rs : cx_R) (h : cCc_restore N M = some rs) : cx_Met l (g) yX1_restore cX1_restore sX1_restore [.ref (adr 500)] M rs :=
  cx_met (by decide +kernel) rfl rfl (lv := [(0, .ref (adr 500))]) rfl (cx_le rfl) (fun X => cx_sub (lv' := [(0, .ref (adr 500))]) [0] rfl (cCc_restore_0_v H M rs h))

abbrev sX1_right : cx_S := (1, RX1, cx_rV, { frames := 0, cells := 0, slots := 0, locals := 0 }, none, false)
noncomputable def cCc_right_0 (N : cx_N) (M : cx_M) (x0 : Int32) : Option cx_R :=
  if x0 = 0 then (
    none)
  else (
    some (M, 0, 0))
set_option maxRecDepth 100000 in
theorem cCc_right_0_v {l : Launch} {g : cx_G} {adr : Nat → Nat} {X : cx_X} {N : cx_N} (H : cCp_H g adr N) (M : cx_M) (x0 : Int32) (rs : cx_R) (h : cCc_right_0 N M x0 = some rs) : cx_V l (g) X sX1_right cX1_right 0 [(0, .int x0)] [] M 0 0 rs := by
  unfold cCc_right_0 at h
  refine cx_iload_n 0 dX1_right_0 rfl ?_
  refine cx_if_ne 12 h dX1_right_1 rfl (fun h => ?_) (fun h => ?_)
  · exact cx_vret h rfl rfl (cx_le rfl) (cx_le rfl) dX1_right_12
  · cases h
noncomputable def cCc_right (N : cx_N) (M : cx_M) (x0 : Int32) : Option cx_R := cCc_right_0 N M x0
theorem cCc_right_m {l : Launch} {g : cx_G} {adr : Nat → Nat} {N : cx_N} (H : cCp_H g adr N) (M : cx_M) (x0 : Int32) (rs : cx_R) (h : cCc_right N M x0 = some rs) : cx_Met l (g) yX1_right cX1_right sX1_right [.int x0] M rs :=
  cx_met (by decide +kernel) rfl rfl (lv := [(0, .int x0)]) rfl (cx_le rfl) (fun X => cx_sub (lv' := [(0, .int x0)]) [0] rfl (cCc_right_0_v H M x0 rs h))

abbrev sX6_sampleAt : cx_S := (2, RX6, cx_rI, { frames := 2, cells := 0, slots := 0, locals := 34 }, some .int, false)
noncomputable def cSt_sampleAt_0 (N : cx_N) (b : Nat) (M : cx_M) (x1 : Int32) : Option cx_R :=
  cx_get M b 24 fun v1 =>
  cx_get M b 24 fun v2 =>
  cx_cal (cSt_kept N b M v2) fun M3 v4 =>
  cx_ld M3 (b + 41) 128 (cx_rem ((v1 - v4) + x1) 128) fun v5 =>
  some (M3, v5, 0)
set_option maxRecDepth 100000 in
theorem cSt_sampleAt_0_v {l : Launch} {g : cx_G} {adr : Nat → Nat} {X : cx_X} {N : cx_N} {b : Nat} (H : cCp_H g adr N) (hb : cSt_H g adr b) (M : cx_M) (x1 : Int32) (rs : cx_R) (h : cSt_sampleAt_0 N b M x1 = some rs) : cx_V l (g) X sX6_sampleAt cX6_sampleAt 0 [(0, .ref (adr b)), (1, .int x1)] [] M 0 0 rs := by
  unfold cSt_sampleAt_0 at h
  refine cx_aload_n 0 dX6_sampleAt_0 rfl ?_
  refine cx_getR (cSt_R40 hb) q721 dX6_sampleAt_1 ?_
  refine cx_aload_n 0 dX6_sampleAt_4 rfl ?_
  refine cx_getI h (cSt_F24 hb) q691 dX6_sampleAt_5 (fun v1 h => ?_)
  refine cx_aload_n 0 dX6_sampleAt_8 rfl ?_
  refine cx_aload_n 0 dX6_sampleAt_9 rfl ?_
  refine cx_getI h (cSt_F24 hb) q691 dX6_sampleAt_10 (fun v2 h => ?_)
  refine cx_cVi [.int v2] [.int v1, .ref (adr (b + 41))] h (fun rs' h' => cSt_kept_m H hb M v2 rs' h') (cSt_rc hb) dX6_sampleAt_13 g_X6_295 hg_X6_295 ⟨cx_le rfl, cx_le rfl⟩ rfl ⟨rfl, rfl⟩ ⟨cx_le rfl, cx_le rfl⟩ rfl (cx_le rfl) (fun M3 v4 h => ?_)
  refine cx_isub dX6_sampleAt_16 ?_
  refine cx_iload_n 1 dX6_sampleAt_17 rfl ?_
  refine cx_iadd dX6_sampleAt_18 ?_
  refine cx_sipush 128 dX6_sampleAt_19 cx_sp_128 ?_
  refine cx_iremC cx_ne_128 dX6_sampleAt_22 ?_
  refine cx_ldI h (cSt_A40 hb) dX6_sampleAt_23 (fun v5 h => ?_)
  exact cx_iret h rfl rfl (cx_le rfl) (cx_le rfl) dX6_sampleAt_24
noncomputable def cSt_sampleAt (N : cx_N) (b : Nat) (M : cx_M) (x1 : Int32) : Option cx_R := cSt_sampleAt_0 N b M x1
theorem cSt_sampleAt_m {l : Launch} {g : cx_G} {adr : Nat → Nat} {N : cx_N} {b : Nat} (H : cCp_H g adr N) (hb : cSt_H g adr b) (M : cx_M) (x1 : Int32) (rs : cx_R) (h : cSt_sampleAt N b M x1 = some rs) : cx_Met l (g) yX6_sampleAt cX6_sampleAt sX6_sampleAt [.ref (adr b), .int x1] M rs :=
  cx_met (by decide +kernel) rfl rfl (lv := [(0, .ref (adr b)), (1, .int x1)]) rfl (cx_le rfl) (fun X => cx_sub (lv' := [(0, .ref (adr b)), (1, .int x1)]) [0, 1] rfl (cSt_sampleAt_0_v H hb M x1 rs h))

abbrev sX1_sample : cx_S := (2, RX1, cx_rI, { frames := 3, cells := 0, slots := 0, locals := 55 }, some .int, false)
noncomputable def cCc_sample_27 (N : cx_N) (M : cx_M) (x1 : Int32) (z0 : Int32) : Option cx_R :=
  cx_cal (cCc_there N M z0) fun M1 _ =>
  cx_cal (cSt_sampleAt N 1000 M1 x1) fun M2 v3 =>
  some (M2, v3, 0)
set_option maxRecDepth 100000 in
theorem cCc_sample_27_v {l : Launch} {g : cx_G} {adr : Nat → Nat} {X : cx_X} {N : cx_N} (H : cCp_H g adr N) (M : cx_M) (x1 : Int32) (z0 : Int32) (rs : cx_R) (h : cCc_sample_27 N M x1 z0 = some rs) : cx_V l (g) X sX1_sample cX1_sample 27 [(0, .ref (adr 500)), (1, .int x1)] [.int z0] M 0 0 rs := by
  unfold cCc_sample_27 at h
  refine cx_cSv [.int z0] [] h (fun rs' h' => cCc_there_m H M z0 rs' h') dX1_sample_27 g_X1_184 hg_X1_184 ⟨cx_le rfl, cx_le rfl⟩ rfl ⟨rfl, rfl⟩ ⟨cx_le rfl, cx_le rfl⟩ rfl (cx_le rfl) (fun M1 _ h => ?_)
  refine cx_aload_n 0 dX1_sample_30 rfl ?_
  refine cx_getR (cCc_R3 H) q1020 dX1_sample_31 ?_
  refine cx_iload_n 1 dX1_sample_34 rfl ?_
  refine cx_cVi [.int x1] [] h (fun rs' h' => cSt_sampleAt_m H (cSt_i1000 H) M1 x1 rs' h') (cSt_rc (cSt_i1000 H)) dX1_sample_35 g_X1_357 hg_X1_357 ⟨cx_le rfl, cx_le rfl⟩ rfl ⟨rfl, rfl⟩ ⟨cx_le rfl, cx_le rfl⟩ rfl (cx_le rfl) (fun M2 v3 h => ?_)
  exact cx_iret h rfl rfl (cx_le rfl) (cx_le rfl) dX1_sample_38
noncomputable def cCc_sample_26 (N : cx_N) (M : cx_M) (x1 : Int32) : Option cx_R :=
  cCc_sample_27 N M x1 0
set_option maxRecDepth 100000 in
theorem cCc_sample_26_v {l : Launch} {g : cx_G} {adr : Nat → Nat} {X : cx_X} {N : cx_N} (H : cCp_H g adr N) (M : cx_M) (x1 : Int32) (rs : cx_R) (h : cCc_sample_26 N M x1 = some rs) : cx_V l (g) X sX1_sample cX1_sample 26 [(0, .ref (adr 500)), (1, .int x1)] [] M 0 0 rs := by
  unfold cCc_sample_26 at h
  refine cx_iconst 0 dX1_sample_26 cx_ic_0 ?_
  exact cCc_sample_27_v H M x1 0 _ h
noncomputable def cCc_sample_0 (N : cx_N) (M : cx_M) (x1 : Int32) : Option cx_R :=
  if x1 < 0 then (
    cCc_sample_26 N M x1)
  else (
    cx_get M 1000 24 fun v1 =>
    cx_cal (cSt_kept N 1000 M v1) fun M2 v3 =>
    if v3 ≤ x1 then (
      cCc_sample_26 N M2 x1)
    else (
      cCc_sample_27 N M2 x1 1))
set_option maxRecDepth 100000 in
theorem cCc_sample_0_v {l : Launch} {g : cx_G} {adr : Nat → Nat} {X : cx_X} {N : cx_N} (H : cCp_H g adr N) (M : cx_M) (x1 : Int32) (rs : cx_R) (h : cCc_sample_0 N M x1 = some rs) : cx_V l (g) X sX1_sample cX1_sample 0 [(0, .ref (adr 500)), (1, .int x1)] [] M 0 0 rs := by
  unfold cCc_sample_0 at h
  refine cx_iload_n 1 dX1_sample_0 rfl ?_
  refine cx_if_lt 26 h dX1_sample_1 rfl (fun h => ?_) (fun h => ?_)
  · exact cCc_sample_26_v H M x1 _ h
  · refine cx_iload_n 1 dX1_sample_4 rfl ?_
    refine cx_aload_n 0 dX1_sample_5 rfl ?_
    refine cx_getR (cCc_R3 H) q1020 dX1_sample_6 ?_
    refine cx_aload_n 0 dX1_sample_9 rfl ?_
    refine cx_getR (cCc_R3 H) q1020 dX1_sample_10 ?_
    refine cx_getIN h (cSt_F24 (cSt_i1000 H)) q692 dX1_sample_13 (fun v1 h => ?_)
    refine cx_cVi [.int v1] [.int x1] h (fun rs' h' => cSt_kept_m H (cSt_i1000 H) M v1 rs' h') (cSt_rc (cSt_i1000 H)) dX1_sample_16 g_X1_240 hg_X1_240 ⟨cx_le rfl, cx_le rfl⟩ rfl ⟨rfl, rfl⟩ ⟨cx_le rfl, cx_le rfl⟩ rfl (cx_le rfl) (fun M2 v3 h => ?_)
    refine cx_icmp_ge 26 h dX1_sample_19 rfl (fun h => ?_) (fun h => ?_)
    · exact cCc_sample_26_v H M2 x1 _ h
    · refine cx_iconst 1 dX1_sample_22 cx_ic_1 ?_
      refine cx_goto 27 dX1_sample_23 rfl ?_
      exact cCc_sample_27_v H M2 x1 1 _ h
noncomputable def cCc_sample (N : cx_N) (M : cx_M) (x1 : Int32) : Option cx_R := cCc_sample_0 N M x1
theorem cCc_sample_m {l : Launch} {g : cx_G} {adr : Nat → Nat} {N : cx_N} (H : cCp_H g adr N) (M : cx_M) (x1 : Int32) (rs : cx_R) (h : cCc_sample N M x1 = some rs) : cx_Met l (g) yX1_sample cX1_sample sX1_sample [.ref (adr 500), .int x1] M rs :=
  cx_met (by decide +kernel) rfl rfl (lv := [(0, .ref (adr 500)), (1, .int x1)]) rfl (cx_le rfl) (fun X => cx_sub (lv' := [(0, .ref (adr 500)), (1, .int x1)]) [0, 1] rfl (cCc_sample_0_v H M x1 rs h))

abbrev sX1_set : cx_S := (2, RX1, cx_rI, { frames := 30, cells := 0, slots := 0, locals := 900 }, some .int, false)
noncomputable def cCc_set_0 (N : cx_N) (M : cx_M) (x1 : Int32) : Option cx_R :=
  cx_cal (cCc_within N M x1 0 14) fun M1 v2 =>
  cx_cal (cCc_there N M1 v2) fun M3 _ =>
  cx_sw x1 0 [
      (cx_get M3 8000 0 fun v5 =>
      some (M3, v5, 0)),
      (cx_get M3 1000 30 fun v6 =>
      some (M3, v6, 0)),
      (cx_get M3 1000 31 fun v7 =>
      some (M3, v7, 0)),
      (cx_get M3 1000 32 fun v8 =>
      some (M3, v8, 0)),
      (cx_get M3 8000 4 fun v9 =>
      some (M3, v9, 0)),
      (cx_get M3 1000 28 fun v10 =>
      some (M3, v10, 0)),
      (cx_get M3 8000 6 fun v11 =>
      some (M3, v11, 0)),
      (cx_let (cLn_n N) fun v12 =>
      some (M3, cx_max 1 v12, 0)),
      (cx_get M3 1000 29 fun v13 =>
      some (M3, v13, 0)),
      (cx_get M3 1000 26 fun v14 =>
      some (M3, v14, 0)),
      (cx_get M3 1000 27 fun v15 =>
      some (M3, v15, 0)),
      (cx_get M3 1000 9 fun v16 =>
      some (M3, v16, 0)),
      (cx_get M3 1000 10 fun v17 =>
      some (M3, v17, 0)),
      (cx_get M3 1000 14 fun v18 =>
      cx_get M3 8000 0 fun v19 =>
      cx_nz ((64 : Int32) * v19) <|
      some (M3, cx_rem v18 ((64 : Int32) * v19), 0))
    ] (
      cx_get M3 1000 13 fun v4 =>
      some (M3, v4, 0))
set_option maxRecDepth 100000 in
theorem cCc_set_0_v {l : Launch} {g : cx_G} {adr : Nat → Nat} {X : cx_X} {N : cx_N} (H : cCp_H g adr N) (M : cx_M) (x1 : Int32) (rs : cx_R) (h : cCc_set_0 N M x1 = some rs) : cx_V l (g) X sX1_set cX1_set 0 [(0, .ref (adr 500)), (1, .int x1)] [] M 0 0 rs := by
  unfold cCc_set_0 at h
  refine cx_iload_n 1 dX1_set_0 rfl ?_
  refine cx_iconst 0 dX1_set_1 cx_ic_0 ?_
  refine cx_bipush 14 dX1_set_2 cx_bp_14 ?_
  refine cx_cSi [.int x1, .int 0, .int 14] [] h (fun rs' h' => cCc_within_m H M x1 0 14 rs' h') dX1_set_4 g_X1_180 hg_X1_180 ⟨cx_le rfl, cx_le rfl⟩ rfl ⟨rfl, rfl⟩ ⟨cx_le rfl, cx_le rfl⟩ rfl (cx_le rfl) (fun M1 v2 h => ?_)
  refine cx_cSv [.int v2] [] h (fun rs' h' => cCc_there_m H M1 v2 rs' h') dX1_set_7 g_X1_184 hg_X1_184 ⟨cx_le rfl, cx_le rfl⟩ rfl ⟨rfl, rfl⟩ ⟨cx_le rfl, cx_le rfl⟩ rfl (cx_le rfl) (fun M3 _ h => ?_)
  refine cx_iload_n 1 dX1_set_10 rfl ?_
  refine cx_table 210 [80, 88, 96, 104, 112, 120, 128, 136, 151, 159, 167, 175, 183, 191] 14 h dX1_set_11 (by decide +kernel) rfl rfl rfl (by decide +kernel) (fun h => ?_) (fun j B hB h => ?_)
  · refine cx_aload_n 0 dX1_set_210 rfl ?_
    refine cx_getR (cCc_R3 H) q1020 dX1_set_211 ?_
    refine cx_getIN h (cSt_F13 (cSt_i1000 H)) q675 dX1_set_214 (fun v4 h => ?_)
    exact cx_iret h rfl rfl (cx_le rfl) (cx_le rfl) dX1_set_217
  · match j, hB with
    | 0, hB =>
      cases hB
      refine cx_at (pc2 := 80) rfl ?_
      refine cx_aload_n 0 dX1_set_80 rfl ?_
      refine cx_getR (cCc_R0 H) q1017 dX1_set_81 ?_
      refine cx_getIN h (cLn_F0 H) q560 dX1_set_84 (fun v5 h => ?_)
      exact cx_iret h rfl rfl (cx_le rfl) (cx_le rfl) dX1_set_87
    | 1, hB =>
      cases hB
      refine cx_at (pc2 := 88) rfl ?_
      refine cx_aload_n 0 dX1_set_88 rfl ?_
      refine cx_getR (cCc_R3 H) q1020 dX1_set_89 ?_
      refine cx_getIN h (cSt_F30 (cSt_i1000 H)) q703 dX1_set_92 (fun v6 h => ?_)
      exact cx_iret h rfl rfl (cx_le rfl) (cx_le rfl) dX1_set_95
    | 2, hB =>
      cases hB
      refine cx_at (pc2 := 96) rfl ?_
      refine cx_aload_n 0 dX1_set_96 rfl ?_
      refine cx_getR (cCc_R3 H) q1020 dX1_set_97 ?_
      refine cx_getIN h (cSt_F31 (cSt_i1000 H)) q705 dX1_set_100 (fun v7 h => ?_)
      exact cx_iret h rfl rfl (cx_le rfl) (cx_le rfl) dX1_set_103
    | 3, hB =>
      cases hB
      refine cx_at (pc2 := 104) rfl ?_
      refine cx_aload_n 0 dX1_set_104 rfl ?_
      refine cx_getR (cCc_R3 H) q1020 dX1_set_105 ?_
      refine cx_getIN h (cSt_F32 (cSt_i1000 H)) q707 dX1_set_108 (fun v8 h => ?_)
      exact cx_iret h rfl rfl (cx_le rfl) (cx_le rfl) dX1_set_111
    | 4, hB =>
      cases hB
      refine cx_at (pc2 := 112) rfl ?_
      refine cx_aload_n 0 dX1_set_112 rfl ?_
      refine cx_getR (cCc_R0 H) q1017 dX1_set_113 ?_
      refine cx_getIN h (cLn_F4 H) q572 dX1_set_116 (fun v9 h => ?_)
      exact cx_iret h rfl rfl (cx_le rfl) (cx_le rfl) dX1_set_119
    | 5, hB =>
      cases hB
      refine cx_at (pc2 := 120) rfl ?_
      refine cx_aload_n 0 dX1_set_120 rfl ?_
      refine cx_getR (cCc_R3 H) q1020 dX1_set_121 ?_
      refine cx_getIN h (cSt_F28 (cSt_i1000 H)) q699 dX1_set_124 (fun v10 h => ?_)
      exact cx_iret h rfl rfl (cx_le rfl) (cx_le rfl) dX1_set_127
    | 6, hB =>
      cases hB
      refine cx_at (pc2 := 128) rfl ?_
      refine cx_aload_n 0 dX1_set_128 rfl ?_
      refine cx_getR (cCc_R0 H) q1017 dX1_set_129 ?_
      refine cx_getIN h (cLn_F6 H) q578 dX1_set_132 (fun v11 h => ?_)
      exact cx_iret h rfl rfl (cx_le rfl) (cx_le rfl) dX1_set_135
    | 7, hB =>
      cases hB
      refine cx_at (pc2 := 136) rfl ?_
      refine cx_iconst 1 dX1_set_136 cx_ic_1 ?_
      refine cx_aload_n 0 dX1_set_137 rfl ?_
      refine cx_getR (cCc_R0 H) q1017 dX1_set_138 ?_
      refine cx_getRN (cLn_R7 H) q581 dX1_set_141 ?_
      refine cLs_size H h dX1_set_144 q1785 (cx_le rfl) (cx_le rfl) (cx_le rfl) (cx_le rfl) (cx_le rfl) (fun v12 h => ?_)
      refine cx_mmax dX1_set_147 q1786 (cx_le rfl) (cx_le rfl) (cx_le rfl) (cx_le rfl) ?_
      exact cx_iret h rfl rfl (cx_le rfl) (cx_le rfl) dX1_set_150
    | 8, hB =>
      cases hB
      refine cx_at (pc2 := 151) rfl ?_
      refine cx_aload_n 0 dX1_set_151 rfl ?_
      refine cx_getR (cCc_R3 H) q1020 dX1_set_152 ?_
      refine cx_getIN h (cSt_F29 (cSt_i1000 H)) q701 dX1_set_155 (fun v13 h => ?_)
      exact cx_iret h rfl rfl (cx_le rfl) (cx_le rfl) dX1_set_158
    | 9, hB =>
      cases hB
      refine cx_at (pc2 := 159) rfl ?_
      refine cx_aload_n 0 dX1_set_159 rfl ?_
      refine cx_getR (cCc_R3 H) q1020 dX1_set_160 ?_
      refine cx_getIN h (cSt_F26 (cSt_i1000 H)) q695 dX1_set_163 (fun v14 h => ?_)
      exact cx_iret h rfl rfl (cx_le rfl) (cx_le rfl) dX1_set_166
    | 10, hB =>
      cases hB
      refine cx_at (pc2 := 167) rfl ?_
      refine cx_aload_n 0 dX1_set_167 rfl ?_
      refine cx_getR (cCc_R3 H) q1020 dX1_set_168 ?_
      refine cx_getIN h (cSt_F27 (cSt_i1000 H)) q697 dX1_set_171 (fun v15 h => ?_)
      exact cx_iret h rfl rfl (cx_le rfl) (cx_le rfl) dX1_set_174
    | 11, hB =>
      cases hB
      refine cx_at (pc2 := 175) rfl ?_
      refine cx_aload_n 0 dX1_set_175 rfl ?_
      refine cx_getR (cCc_R3 H) q1020 dX1_set_176 ?_
      refine cx_getIN h (cSt_F9 (cSt_i1000 H)) q667 dX1_set_179 (fun v16 h => ?_)
      exact cx_iret h rfl rfl (cx_le rfl) (cx_le rfl) dX1_set_182
    | 12, hB =>
      cases hB
      refine cx_at (pc2 := 183) rfl ?_
      refine cx_aload_n 0 dX1_set_183 rfl ?_
      refine cx_getR (cCc_R3 H) q1020 dX1_set_184 ?_
      refine cx_getIN h (cSt_F10 (cSt_i1000 H)) q669 dX1_set_187 (fun v17 h => ?_)
      exact cx_iret h rfl rfl (cx_le rfl) (cx_le rfl) dX1_set_190
    | 13, hB =>
      cases hB
      refine cx_at (pc2 := 191) rfl ?_
      refine cx_aload_n 0 dX1_set_191 rfl ?_
      refine cx_getR (cCc_R3 H) q1020 dX1_set_192 ?_
      refine cx_getIN h (cSt_F14 (cSt_i1000 H)) q677 dX1_set_195 (fun v18 h => ?_)
      refine cx_bipush 64 dX1_set_198 cx_bp_64 ?_
      refine cx_aload_n 0 dX1_set_200 rfl ?_
      refine cx_getR (cCc_R0 H) q1017 dX1_set_201 ?_
      refine cx_getIN h (cLn_F0 H) q560 dX1_set_204 (fun v19 h => ?_)
      refine cx_imul dX1_set_207 ?_
      refine cx_irem h dX1_set_208 (fun h => ?_)
      exact cx_iret h rfl rfl (cx_le rfl) (cx_le rfl) dX1_set_209
    | j + 14, hB => cases hB
noncomputable def cCc_set (N : cx_N) (M : cx_M) (x1 : Int32) : Option cx_R := cCc_set_0 N M x1
theorem cCc_set_m {l : Launch} {g : cx_G} {adr : Nat → Nat} {N : cx_N} (H : cCp_H g adr N) (M : cx_M) (x1 : Int32) (rs : cx_R) (h : cCc_set N M x1 = some rs) : cx_Met l (g) yX1_set cX1_set sX1_set [.ref (adr 500), .int x1] M rs :=
  cx_met (by decide +kernel) rfl rfl (lv := [(0, .ref (adr 500)), (1, .int x1)]) rfl (cx_le rfl) (fun X => cx_sub (lv' := [(0, .ref (adr 500)), (1, .int x1)]) [0, 1] rfl (cCc_set_0_v H M x1 rs h))

abbrev sX1_settles : cx_S := (3, RX1, cx_rI, { frames := 906, cells := 0, slots := 0, locals := 30133 }, some .int, false)
noncomputable def cCc_settles_87 (N : cx_N) (r_24 : cx_M → Int32 → Int32 → Option cx_R) (M : cx_M) (x1 : Int32) (x2 : Int32) : Option cx_R :=
  cx_let (x2 + 1) fun v1 =>
  r_24 M x1 v1
set_option maxRecDepth 100000 in
theorem cCc_settles_87_v {l : Launch} {g : cx_G} {adr : Nat → Nat} {X : cx_X} {N : cx_N} {r_24 : cx_M → Int32 → Int32 → Option cx_R} (H : cCp_H g adr N) (hr_24 : ∀ (M : cx_M) (x1 : Int32) (x2 : Int32) (rs : cx_R), r_24 M x1 x2 = some rs → cx_V l (g) X sX1_settles cX1_settles 24 [(0, .ref (adr 500)), (1, .int x1), (2, .int x2)] [] M 0 0 rs) (M : cx_M) (x1 : Int32) (x2 : Int32) (rs : cx_R) (h : cCc_settles_87 N r_24 M x1 x2 = some rs) : cx_V l (g) X sX1_settles cX1_settles 87 [(0, .ref (adr 500)), (1, .int x1), (2, .int x2)] [] M 0 0 rs := by
  unfold cCc_settles_87 at h
  refine cx_iinc 2 1 (fun v1 => [(2, .int v1), (0, .ref (adr 500)), (1, .int x1)]) h dX1_settles_87 rfl cx_ic_1 (cx_lt rfl) (fun _ => rfl) (fun v1 h => ?_)
  refine cx_goto 24 dX1_settles_90 rfl ?_
  refine cx_sub (lv' := [(0, .ref (adr 500)), (1, .int x1), (2, .int v1)]) [1, 2, 0] rfl ?_
  exact hr_24 M x1 v1 _ h
noncomputable def cCc_settles_69 (N : cx_N) (r_24 : cx_M → Int32 → Int32 → Option cx_R) (M : cx_M) (x1 : Int32) (x2 : Int32) : Option cx_R :=
  if x1 = (-1) then (
    cx_get M 1100 8 fun v1 =>
    if v1 = 2 then (
      cCc_settles_87 N r_24 M x2 x2)
    else (
      cCc_settles_87 N r_24 M x1 x2))
  else (
    cCc_settles_87 N r_24 M x1 x2)
set_option maxRecDepth 100000 in
theorem cCc_settles_69_v {l : Launch} {g : cx_G} {adr : Nat → Nat} {X : cx_X} {N : cx_N} {r_24 : cx_M → Int32 → Int32 → Option cx_R} (H : cCp_H g adr N) (hr_24 : ∀ (M : cx_M) (x1 : Int32) (x2 : Int32) (rs : cx_R), r_24 M x1 x2 = some rs → cx_V l (g) X sX1_settles cX1_settles 24 [(0, .ref (adr 500)), (1, .int x1), (2, .int x2)] [] M 0 0 rs) (M : cx_M) (x1 : Int32) (x2 : Int32) (rs : cx_R) (h : cCc_settles_69 N r_24 M x1 x2 = some rs) : cx_V l (g) X sX1_settles cX1_settles 69 [(0, .ref (adr 500)), (1, .int x1), (2, .int x2)] [] M 0 0 rs := by
  unfold cCc_settles_69 at h
  refine cx_iload_n 1 dX1_settles_69 rfl ?_
  refine cx_iconst (-1) dX1_settles_70 cx_ic_m1 ?_
  refine cx_icmp_ne 87 h dX1_settles_71 rfl (fun h => ?_) (fun h => ?_)
  · exact cCc_settles_87_v H hr_24 M x1 x2 _ h
  · refine cx_aload_n 0 dX1_settles_74 rfl ?_
    refine cx_getR (cCc_R4 H) q1021 dX1_settles_75 ?_
    refine cx_getIN h (cSt_F8 (cSt_i1100 H)) q665 dX1_settles_78 (fun v1 h => ?_)
    refine cx_iconst 2 dX1_settles_81 cx_ic_2 ?_
    refine cx_icmp_ne 87 h dX1_settles_82 rfl (fun h => ?_) (fun h => ?_)
    · exact cCc_settles_87_v H hr_24 M x1 x2 _ h
    · refine cx_iload_n 2 dX1_settles_85 rfl ?_
      refine cx_istore_n [(1, .int x2), (0, .ref (adr 500)), (2, .int x2)] dX1_settles_86 (cx_lt rfl) rfl ?_
      refine cx_sub (lv' := [(0, .ref (adr 500)), (1, .int x2), (2, .int x2)]) [1, 0, 2] rfl ?_
      exact cCc_settles_87_v H hr_24 M x2 x2 _ h
noncomputable def cCc_settles_54 (N : cx_N) (r_24 : cx_M → Int32 → Int32 → Option cx_R) (M : cx_M) (x1 : Int32) (x2 : Int32) : Option cx_R :=
  if x1 = (-1) then (
    cCc_settles_69 N r_24 M x1 x2)
  else (
    if (x2 - x1) = 40 then (
      some (M, x1, 0))
    else (
      cCc_settles_69 N r_24 M x1 x2))
set_option maxRecDepth 100000 in
theorem cCc_settles_54_v {l : Launch} {g : cx_G} {adr : Nat → Nat} {X : cx_X} {N : cx_N} {r_24 : cx_M → Int32 → Int32 → Option cx_R} (H : cCp_H g adr N) (hr_24 : ∀ (M : cx_M) (x1 : Int32) (x2 : Int32) (rs : cx_R), r_24 M x1 x2 = some rs → cx_V l (g) X sX1_settles cX1_settles 24 [(0, .ref (adr 500)), (1, .int x1), (2, .int x2)] [] M 0 0 rs) (M : cx_M) (x1 : Int32) (x2 : Int32) (rs : cx_R) (h : cCc_settles_54 N r_24 M x1 x2 = some rs) : cx_V l (g) X sX1_settles cX1_settles 54 [(0, .ref (adr 500)), (1, .int x1), (2, .int x2)] [] M 0 0 rs := by
  unfold cCc_settles_54 at h
  refine cx_iload_n 1 dX1_settles_54 rfl ?_
  refine cx_iconst (-1) dX1_settles_55 cx_ic_m1 ?_
  refine cx_icmp_eq 69 h dX1_settles_56 rfl (fun h => ?_) (fun h => ?_)
  · exact cCc_settles_69_v H hr_24 M x1 x2 _ h
  · refine cx_iload_n 2 dX1_settles_59 rfl ?_
    refine cx_iload_n 1 dX1_settles_60 rfl ?_
    refine cx_isub dX1_settles_61 ?_
    refine cx_bipush 40 dX1_settles_62 cx_bp_40 ?_
    refine cx_icmp_ne 69 h dX1_settles_64 rfl (fun h => ?_) (fun h => ?_)
    · exact cCc_settles_69_v H hr_24 M x1 x2 _ h
    · refine cx_iload_n 1 dX1_settles_67 rfl ?_
      exact cx_iret h rfl rfl (cx_le rfl) (cx_le rfl) dX1_settles_68
noncomputable def cCc_settles_24b (N : cx_N) (r_24 : cx_M → Int32 → Int32 → Option cx_R) (M : cx_M) (x1 : Int32) (x2 : Int32) : Option cx_R :=
  if 440 < x2 then (
    some (M, (-1), 0))
  else (
    cx_cal (cCc_goes N 1100 M 1) fun M1 _ =>
    cx_cal (cCc_off N 1100 M1) fun M2 v3 =>
    if v3 ≤ 2 then (
      cCc_settles_54 N r_24 M2 x1 x2)
    else (
      cCc_settles_54 N r_24 M2 (-1) x2))
set_option maxRecDepth 100000 in
theorem cCc_settles_24b_v {l : Launch} {g : cx_G} {adr : Nat → Nat} {X : cx_X} {N : cx_N} {r_24 : cx_M → Int32 → Int32 → Option cx_R} (H : cCp_H g adr N) (hr_24 : ∀ (M : cx_M) (x1 : Int32) (x2 : Int32) (rs : cx_R), r_24 M x1 x2 = some rs → cx_V l (g) X sX1_settles cX1_settles 24 [(0, .ref (adr 500)), (1, .int x1), (2, .int x2)] [] M 0 0 rs) (M : cx_M) (x1 : Int32) (x2 : Int32) (rs : cx_R) (h : cCc_settles_24b N r_24 M x1 x2 = some rs) : cx_V l (g) X sX1_settles cX1_settles 24 [(0, .ref (adr 500)), (1, .int x1), (2, .int x2)] [] M 0 0 rs := by
  unfold cCc_settles_24b at h
  refine cx_iload_n 2 dX1_settles_24 rfl ?_
  refine cx_sipush 440 dX1_settles_25 cx_sp_440 ?_
  refine cx_icmp_gt 93 h dX1_settles_28 rfl (fun h => ?_) (fun h => ?_)
  · refine cx_iconst (-1) dX1_settles_93 cx_ic_m1 ?_
    exact cx_iret h rfl rfl (cx_le rfl) (cx_le rfl) dX1_settles_94
  · refine cx_aload_n 0 dX1_settles_31 rfl ?_
    refine cx_aload_n 0 dX1_settles_32 rfl ?_
    refine cx_getR (cCc_R4 H) q1021 dX1_settles_33 ?_
    refine cx_iconst 1 dX1_settles_36 cx_ic_1 ?_
    refine cx_cVv [.ref (adr 1100), .int 1] [] h (fun rs' h' => cCc_goes_m H (cSt_i1100 H) M 1 rs' h') (cCc_rc H) dX1_settles_37 g_X1_397 hg_X1_397 ⟨cx_le rfl, cx_le rfl⟩ rfl ⟨rfl, rfl⟩ ⟨cx_le rfl, cx_le rfl⟩ rfl (cx_le rfl) (fun M1 _ h => ?_)
    refine cx_aload_n 0 dX1_settles_40 rfl ?_
    refine cx_aload_n 0 dX1_settles_41 rfl ?_
    refine cx_getR (cCc_R4 H) q1021 dX1_settles_42 ?_
    refine cx_cVi [.ref (adr 1100)] [] h (fun rs' h' => cCc_off_m H (cSt_i1100 H) M1 rs' h') (cCc_rc H) dX1_settles_45 g_X1_446 hg_X1_446 ⟨cx_le rfl, cx_le rfl⟩ rfl ⟨rfl, rfl⟩ ⟨cx_le rfl, cx_le rfl⟩ rfl (cx_le rfl) (fun M2 v3 h => ?_)
    refine cx_iconst 2 dX1_settles_48 cx_ic_2 ?_
    refine cx_icmp_le 54 h dX1_settles_49 rfl (fun h => ?_) (fun h => ?_)
    · exact cCc_settles_54_v H hr_24 M2 x1 x2 _ h
    · refine cx_iconst (-1) dX1_settles_52 cx_ic_m1 ?_
      refine cx_istore_n [(1, .int (-1)), (0, .ref (adr 500)), (2, .int x2)] dX1_settles_53 (cx_lt rfl) rfl ?_
      refine cx_sub (lv' := [(0, .ref (adr 500)), (1, .int (-1)), (2, .int x2)]) [1, 0, 2] rfl ?_
      exact cCc_settles_54_v H hr_24 M2 (-1) x2 _ h
noncomputable def cCc_settles_24 (N : cx_N) : Nat → cx_M → Int32 → Int32 → Option cx_R :=
  cx_fix (fun _ _ _ => none) (fun r_24 => cCc_settles_24b N r_24)
theorem cCc_settles_24_v {l : Launch} {g : cx_G} {adr : Nat → Nat} {X : cx_X} {N : cx_N} (H : cCp_H g adr N) : ∀ (n : Nat) (M : cx_M) (x1 : Int32) (x2 : Int32) (rs : cx_R), cCc_settles_24 N n M x1 x2 = some rs → cx_V l (g) X sX1_settles cX1_settles 24 [(0, .ref (adr 500)), (1, .int x1), (2, .int x2)] [] M 0 0 rs :=
  cx_fixI (fun (r : cx_M → Int32 → Int32 → Option cx_R) => ∀ (M : cx_M) (x1 : Int32) (x2 : Int32) (rs : cx_R), r M x1 x2 = some rs → cx_V l (g) X sX1_settles cX1_settles 24 [(0, .ref (adr 500)), (1, .int x1), (2, .int x2)] [] M 0 0 rs) (fun _ _ _ _ h => by cases h) (fun r hr M x1 x2 rs h => cCc_settles_24b_v H hr M x1 x2 rs h)
noncomputable def cCc_settles_21 (N : cx_N) (M : cx_M) (z0 : Int32) : Option cx_R :=
  cCc_settles_24 N N.1 M z0 1
set_option maxRecDepth 100000 in
theorem cCc_settles_21_v {l : Launch} {g : cx_G} {adr : Nat → Nat} {X : cx_X} {N : cx_N} (H : cCp_H g adr N) (M : cx_M) (z0 : Int32) (rs : cx_R) (h : cCc_settles_21 N M z0 = some rs) : cx_V l (g) X sX1_settles cX1_settles 21 [(0, .ref (adr 500))] [.int z0] M 0 0 rs := by
  unfold cCc_settles_21 at h
  refine cx_istore_n [(1, .int z0), (0, .ref (adr 500))] dX1_settles_21 (cx_lt rfl) rfl ?_
  refine cx_iconst 1 dX1_settles_22 cx_ic_1 ?_
  refine cx_istore_n [(2, .int 1), (1, .int z0), (0, .ref (adr 500))] dX1_settles_23 (cx_lt rfl) rfl ?_
  refine cx_sub (lv' := [(0, .ref (adr 500)), (1, .int z0), (2, .int 1)]) [2, 1, 0] rfl ?_
  exact cCc_settles_24_v H N.1 M z0 1 _ h
noncomputable def cCc_settles_0 (N : cx_N) (M : cx_M) : Option cx_R :=
  cx_cal (cCc_tries N M 0) fun M1 _ =>
  cx_get M1 1100 8 fun v2 =>
  if v2 = 2 then (
    cCc_settles_21 N M1 0)
  else (
    cCc_settles_21 N M1 (-1))
set_option maxRecDepth 100000 in
theorem cCc_settles_0_v {l : Launch} {g : cx_G} {adr : Nat → Nat} {X : cx_X} {N : cx_N} (H : cCp_H g adr N) (M : cx_M) (rs : cx_R) (h : cCc_settles_0 N M = some rs) : cx_V l (g) X sX1_settles cX1_settles 0 [(0, .ref (adr 500))] [] M 0 0 rs := by
  unfold cCc_settles_0 at h
  refine cx_aload_n 0 dX1_settles_0 rfl ?_
  refine cx_iconst 0 dX1_settles_1 cx_ic_0 ?_
  refine cx_cVv [.int 0] [] h (fun rs' h' => cCc_tries_m H M 0 rs' h') (cCc_rc H) dX1_settles_2 g_X1_411 hg_X1_411 ⟨cx_le rfl, cx_le rfl⟩ rfl ⟨rfl, rfl⟩ ⟨cx_le rfl, cx_le rfl⟩ rfl (cx_le rfl) (fun M1 _ h => ?_)
  refine cx_aload_n 0 dX1_settles_5 rfl ?_
  refine cx_getR (cCc_R4 H) q1021 dX1_settles_6 ?_
  refine cx_getIN h (cSt_F8 (cSt_i1100 H)) q665 dX1_settles_9 (fun v2 h => ?_)
  refine cx_iconst 2 dX1_settles_12 cx_ic_2 ?_
  refine cx_icmp_ne 20 h dX1_settles_13 rfl (fun h => ?_) (fun h => ?_)
  · refine cx_iconst (-1) dX1_settles_20 cx_ic_m1 ?_
    exact cCc_settles_21_v H M1 (-1) _ h
  · refine cx_iconst 0 dX1_settles_16 cx_ic_0 ?_
    refine cx_goto 21 dX1_settles_17 rfl ?_
    exact cCc_settles_21_v H M1 0 _ h
noncomputable def cCc_settles (N : cx_N) (M : cx_M) : Option cx_R := cCc_settles_0 N M
theorem cCc_settles_m {l : Launch} {g : cx_G} {adr : Nat → Nat} {N : cx_N} (H : cCp_H g adr N) (M : cx_M) (rs : cx_R) (h : cCc_settles N M = some rs) : cx_Met l (g) yX1_settles cX1_settles sX1_settles [.ref (adr 500)] M rs :=
  cx_met (by decide +kernel) rfl rfl (lv := [(0, .ref (adr 500))]) rfl (cx_le rfl) (fun X => cx_sub (lv' := [(0, .ref (adr 500))]) [0] rfl (cCc_settles_0_v H M rs h))

abbrev sX1_slot : cx_S := (2, RX1, cx_rI, { frames := 1, cells := 0, slots := 0, locals := 22 }, some .int, false)
noncomputable def cCc_slot_0 (N : cx_N) (M : cx_M) (x1 : Int32) : Option cx_R :=
  cx_cal (cCc_within N M x1 0 63) fun M1 v2 =>
  cx_cal (cCc_there N M1 v2) fun M3 _ =>
  cx_get M3 1000 8 fun v4 =>
  if v4 = 0 then (
    some (M3, (-1), 0))
  else (
    cx_ld M3 1038 64 x1 fun v5 =>
    cx_get M3 1000 14 fun v6 =>
    cx_get M3 8000 0 fun v7 =>
    cx_nz v7 <|
    if v5 < (v6 / v7) then (
      some (M3, (-1), 0))
    else (
      cx_ld M3 1039 64 x1 fun v8 =>
      some (M3, v8, 0)))
set_option maxRecDepth 100000 in
theorem cCc_slot_0_v {l : Launch} {g : cx_G} {adr : Nat → Nat} {X : cx_X} {N : cx_N} (H : cCp_H g adr N) (M : cx_M) (x1 : Int32) (rs : cx_R) (h : cCc_slot_0 N M x1 = some rs) : cx_V l (g) X sX1_slot cX1_slot 0 [(0, .ref (adr 500)), (1, .int x1)] [] M 0 0 rs := by
  unfold cCc_slot_0 at h
  refine cx_iload_n 1 dX1_slot_0 rfl ?_
  refine cx_iconst 0 dX1_slot_1 cx_ic_0 ?_
  refine cx_bipush 63 dX1_slot_2 cx_bp_63 ?_
  refine cx_cSi [.int x1, .int 0, .int 63] [] h (fun rs' h' => cCc_within_m H M x1 0 63 rs' h') dX1_slot_4 g_X1_180 hg_X1_180 ⟨cx_le rfl, cx_le rfl⟩ rfl ⟨rfl, rfl⟩ ⟨cx_le rfl, cx_le rfl⟩ rfl (cx_le rfl) (fun M1 v2 h => ?_)
  refine cx_cSv [.int v2] [] h (fun rs' h' => cCc_there_m H M1 v2 rs' h') dX1_slot_7 g_X1_184 hg_X1_184 ⟨cx_le rfl, cx_le rfl⟩ rfl ⟨rfl, rfl⟩ ⟨cx_le rfl, cx_le rfl⟩ rfl (cx_le rfl) (fun M3 _ h => ?_)
  refine cx_aload_n 0 dX1_slot_10 rfl ?_
  refine cx_getR (cCc_R3 H) q1020 dX1_slot_11 ?_
  refine cx_getIN h (cSt_F8 (cSt_i1000 H)) q665 dX1_slot_14 (fun v4 h => ?_)
  refine cx_if_eq 59 h dX1_slot_17 rfl (fun h => ?_) (fun h => ?_)
  · refine cx_iconst (-1) dX1_slot_59 cx_ic_m1 ?_
    exact cx_iret h rfl rfl (cx_le rfl) (cx_le rfl) dX1_slot_60
  · refine cx_aload_n 0 dX1_slot_20 rfl ?_
    refine cx_getR (cCc_R3 H) q1020 dX1_slot_21 ?_
    refine cx_getRN (cSt_R37 (cSt_i1000 H)) q717 dX1_slot_24 ?_
    refine cx_iload_n 1 dX1_slot_27 rfl ?_
    refine cx_ldI h (cSt_A37 (cSt_i1000 H)) dX1_slot_28 (fun v5 h => ?_)
    refine cx_aload_n 0 dX1_slot_29 rfl ?_
    refine cx_getR (cCc_R3 H) q1020 dX1_slot_30 ?_
    refine cx_getIN h (cSt_F14 (cSt_i1000 H)) q677 dX1_slot_33 (fun v6 h => ?_)
    refine cx_aload_n 0 dX1_slot_36 rfl ?_
    refine cx_getR (cCc_R0 H) q1017 dX1_slot_37 ?_
    refine cx_getIN h (cLn_F0 H) q560 dX1_slot_40 (fun v7 h => ?_)
    refine cx_idiv h dX1_slot_43 (fun h => ?_)
    refine cx_icmp_lt 59 h dX1_slot_44 rfl (fun h => ?_) (fun h => ?_)
    · refine cx_iconst (-1) dX1_slot_59 cx_ic_m1 ?_
      exact cx_iret h rfl rfl (cx_le rfl) (cx_le rfl) dX1_slot_60
    · refine cx_aload_n 0 dX1_slot_47 rfl ?_
      refine cx_getR (cCc_R3 H) q1020 dX1_slot_48 ?_
      refine cx_getRN (cSt_R38 (cSt_i1000 H)) q719 dX1_slot_51 ?_
      refine cx_iload_n 1 dX1_slot_54 rfl ?_
      refine cx_ldI h (cSt_A38 (cSt_i1000 H)) dX1_slot_55 (fun v8 h => ?_)
      refine cx_goto 60 dX1_slot_56 rfl ?_
      exact cx_iret h rfl rfl (cx_le rfl) (cx_le rfl) dX1_slot_60
noncomputable def cCc_slot (N : cx_N) (M : cx_M) (x1 : Int32) : Option cx_R := cCc_slot_0 N M x1
theorem cCc_slot_m {l : Launch} {g : cx_G} {adr : Nat → Nat} {N : cx_N} (H : cCp_H g adr N) (M : cx_M) (x1 : Int32) (rs : cx_R) (h : cCc_slot N M x1 = some rs) : cx_Met l (g) yX1_slot cX1_slot sX1_slot [.ref (adr 500), .int x1] M rs :=
  cx_met (by decide +kernel) rfl rfl (lv := [(0, .ref (adr 500)), (1, .int x1)]) rfl (cx_le rfl) (fun X => cx_sub (lv' := [(0, .ref (adr 500)), (1, .int x1)]) [0, 1] rfl (cCc_slot_0_v H M x1 rs h))

abbrev sX1_soon : cx_S := (2, RX1, cx_rV, { frames := 1, cells := 0, slots := 0, locals := 22 }, none, false)
noncomputable def cCc_soon_0 (N : cx_N) (M : cx_M) (x0 : Int32) (x1 : Int32) : Option cx_R :=
  cx_cal (cCc_within N M x0 x1 400) fun M1 v2 =>
  cx_cal (cCc_right N M1 v2) fun M3 _ =>
  some (M3, 0, 0)
set_option maxRecDepth 100000 in
theorem cCc_soon_0_v {l : Launch} {g : cx_G} {adr : Nat → Nat} {X : cx_X} {N : cx_N} (H : cCp_H g adr N) (M : cx_M) (x0 : Int32) (x1 : Int32) (rs : cx_R) (h : cCc_soon_0 N M x0 x1 = some rs) : cx_V l (g) X sX1_soon cX1_soon 0 [(0, .int x0), (1, .int x1)] [] M 0 0 rs := by
  unfold cCc_soon_0 at h
  refine cx_iload_n 0 dX1_soon_0 rfl ?_
  refine cx_iload_n 1 dX1_soon_1 rfl ?_
  refine cx_sipush 400 dX1_soon_2 cx_sp_400 ?_
  refine cx_cSi [.int x0, .int x1, .int 400] [] h (fun rs' h' => cCc_within_m H M x0 x1 400 rs' h') dX1_soon_5 g_X1_180 hg_X1_180 ⟨cx_le rfl, cx_le rfl⟩ rfl ⟨rfl, rfl⟩ ⟨cx_le rfl, cx_le rfl⟩ rfl (cx_le rfl) (fun M1 v2 h => ?_)
  refine cx_cSv [.int v2] [] h (fun rs' h' => cCc_right_m H M1 v2 rs' h') dX1_soon_8 g_X1_137 hg_X1_137 ⟨cx_le rfl, cx_le rfl⟩ rfl ⟨rfl, rfl⟩ ⟨cx_le rfl, cx_le rfl⟩ rfl (cx_le rfl) (fun M3 _ h => ?_)
  exact cx_vret h rfl rfl (cx_le rfl) (cx_le rfl) dX1_soon_11
noncomputable def cCc_soon (N : cx_N) (M : cx_M) (x0 : Int32) (x1 : Int32) : Option cx_R := cCc_soon_0 N M x0 x1
theorem cCc_soon_m {l : Launch} {g : cx_G} {adr : Nat → Nat} {N : cx_N} (H : cCp_H g adr N) (M : cx_M) (x0 : Int32) (x1 : Int32) (rs : cx_R) (h : cCc_soon N M x0 x1 = some rs) : cx_Met l (g) yX1_soon cX1_soon sX1_soon [.int x0, .int x1] M rs :=
  cx_met (by decide +kernel) rfl rfl (lv := [(0, .int x0), (1, .int x1)]) rfl (cx_le rfl) (fun X => cx_sub (lv' := [(0, .int x0), (1, .int x1)]) [0, 1] rfl (cCc_soon_0_v H M x0 x1 rs h))
