abbrev sX10_readNot (d : Nat) : cx_S := (4, RX10, cx_rV, { frames := 24 * d + 9, cells := 0, slots := 0, locals := 800 * d + 196 }, none, false)
noncomputable def tw_readNot_22 (N : Nat) (rE : cx_M → Int32 → Option cx_R) (r_2 : cx_M → Int32 → Int32 → Option cx_R) (M : cx_M) (x1 : Int32) (x2 : Int32) : Option cx_R :=
  cx_let (x2 + 1) fun v1 =>
  cx_get M 60 19 fun v2 =>
  if v2 = 0 then (
    cx_cal (tw_stepOn N M) fun M3 _ =>
    r_2 M3 x1 v1)
  else (
    r_2 M x1 v1)
set_option maxRecDepth 100000 in
theorem tw_readNot_22_v {l : Launch} {g : cx_G} {adr : Nat → Nat} {d : Nat} {X : cx_X} {N : Nat} {rE : cx_M → Int32 → Option cx_R} {r_2 : cx_M → Int32 → Int32 → Option cx_R} (H : tw_H g adr) (hrE : ∀ (M : cx_M) (x : Int32) (rs : cx_R), rE M x = some rs → cx_Met l g yX10_readExpression cX10_readExpression (sX10_readExpression d) [.ref (adr 60), .int x] M rs) (hr_2 : ∀ (M : cx_M) (x1 : Int32) (x2 : Int32) (rs : cx_R), r_2 M x1 x2 = some rs → cx_V l (g) X (sX10_readNot d) cX10_readNot 2 [(0, .ref (adr 60)), (1, .int x1), (2, .int x2)] [] M 0 0 rs) (M : cx_M) (x1 : Int32) (x2 : Int32) (rs : cx_R) (h : tw_readNot_22 N rE r_2 M x1 x2 = some rs) : cx_V l (g) X (sX10_readNot d) cX10_readNot 22 [(0, .ref (adr 60)), (1, .int x1), (2, .int x2)] [] M 0 0 rs := by
  unfold tw_readNot_22 at h
  refine cx_iinc 2 1 (fun v1 => [(2, .int v1), (0, .ref (adr 60)), (1, .int x1)]) h dX10_readNot_22 rfl cx_ic_1 (cx_lt rfl) (fun _ => rfl) (fun v1 h => ?_)
  refine cx_aload_n 1 dX10_readNot_25 rfl ?_
  refine cx_getI h (tw_F19 H) q2409 dX10_readNot_26 (fun v2 h => ?_)
  refine cx_if_ne 2 h dX10_readNot_29 rfl (fun h => ?_) (fun h => ?_)
  · refine cx_sub (lv' := [(0, .ref (adr 60)), (1, .int x1), (2, .int v1)]) [1, 2, 0] rfl ?_
    exact hr_2 M x1 v1 _ h
  · refine cx_aload_n 1 dX10_readNot_32 rfl ?_
    refine cx_cVv [] [] h (fun rs' h' => tw_stepOn_m H M rs' h') (tw_rc H) dX10_readNot_33 g_X10_193 hg_X10_193 (by refine ⟨?_, ?_⟩ <;> (dsimp only [sX10_readNot, sX10_stepOn]; omega)) rfl ⟨rfl, rfl⟩ ⟨cx_le rfl, cx_le rfl⟩ rfl (cx_le rfl) (fun M3 _ h => ?_)
    refine cx_goto 2 dX10_readNot_36 rfl ?_
    refine cx_sub (lv' := [(0, .ref (adr 60)), (1, .int x1), (2, .int v1)]) [1, 2, 0] rfl ?_
    exact hr_2 M3 x1 v1 _ h
noncomputable def tw_readNot_95b (N : Nat) (rE : cx_M → Int32 → Option cx_R) (r_95 : cx_M → Int32 → Int32 → Option cx_R) (M : cx_M) (x2 : Int32) (x3 : Int32) : Option cx_R :=
  if x2 ≤ x3 then (
    some (M, 0, 0))
  else (
    cx_cal (tw_lay N M (-28)) fun M1 _ =>
    cx_let (x3 + 1) fun v2 =>
    r_95 M1 x2 v2)
set_option maxRecDepth 100000 in
theorem tw_readNot_95b_v {l : Launch} {g : cx_G} {adr : Nat → Nat} {d : Nat} {X : cx_X} {N : Nat} {rE : cx_M → Int32 → Option cx_R} {r_95 : cx_M → Int32 → Int32 → Option cx_R} (H : tw_H g adr) (hrE : ∀ (M : cx_M) (x : Int32) (rs : cx_R), rE M x = some rs → cx_Met l g yX10_readExpression cX10_readExpression (sX10_readExpression d) [.ref (adr 60), .int x] M rs) (hr_95 : ∀ (M : cx_M) (x2 : Int32) (x3 : Int32) (rs : cx_R), r_95 M x2 x3 = some rs → cx_V l (g) X (sX10_readNot d) cX10_readNot 95 [(0, .ref (adr 60)), (2, .int x2), (3, .int x3)] [] M 0 0 rs) (M : cx_M) (x2 : Int32) (x3 : Int32) (rs : cx_R) (h : tw_readNot_95b N rE r_95 M x2 x3 = some rs) : cx_V l (g) X (sX10_readNot d) cX10_readNot 95 [(0, .ref (adr 60)), (2, .int x2), (3, .int x3)] [] M 0 0 rs := by
  unfold tw_readNot_95b at h
  refine cx_iload_n 2 dX10_readNot_95 rfl ?_
  refine cx_iload_n 1 dX10_readNot_96 rfl ?_
  refine cx_icmp_ge 112 h dX10_readNot_97 rfl (fun h => ?_) (fun h => ?_)
  · exact cx_vret h rfl rfl (cx_le rfl) (cx_le rfl) dX10_readNot_112
  · refine cx_aload_n 0 dX10_readNot_100 rfl ?_
    refine cx_bipush (-28) dX10_readNot_101 cx_bp_m28 ?_
    refine cx_cVv [.int (-28)] [] h (fun rs' h' => tw_lay_m H M (-28) rs' h') (tw_rc H) dX10_readNot_103 g_X10_203 hg_X10_203 (by refine ⟨?_, ?_⟩ <;> (dsimp only [sX10_readNot, sX10_lay]; omega)) rfl ⟨rfl, rfl⟩ ⟨cx_le rfl, cx_le rfl⟩ rfl (cx_le rfl) (fun M1 _ h => ?_)
    refine cx_iinc 2 1 (fun v2 => [(3, .int v2), (0, .ref (adr 60)), (2, .int x2)]) h dX10_readNot_106 rfl cx_ic_1 (cx_lt rfl) (fun _ => rfl) (fun v2 h => ?_)
    refine cx_goto 95 dX10_readNot_109 rfl ?_
    refine cx_sub (lv' := [(0, .ref (adr 60)), (2, .int x2), (3, .int v2)]) [1, 2, 0] rfl ?_
    exact hr_95 M1 x2 v2 _ h
noncomputable def tw_readNot_95 (N : Nat) (rE : cx_M → Int32 → Option cx_R) : Nat → cx_M → Int32 → Int32 → Option cx_R :=
  cx_fix (fun _ _ _ => none) (fun r_95 => tw_readNot_95b N rE r_95)
theorem tw_readNot_95_v {l : Launch} {g : cx_G} {adr : Nat → Nat} {d : Nat} {X : cx_X} {N : Nat} {rE : cx_M → Int32 → Option cx_R} (H : tw_H g adr) (hrE : ∀ (M : cx_M) (x : Int32) (rs : cx_R), rE M x = some rs → cx_Met l g yX10_readExpression cX10_readExpression (sX10_readExpression d) [.ref (adr 60), .int x] M rs) : ∀ (n : Nat) (M : cx_M) (x2 : Int32) (x3 : Int32) (rs : cx_R), tw_readNot_95 N rE n M x2 x3 = some rs → cx_V l (g) X (sX10_readNot d) cX10_readNot 95 [(0, .ref (adr 60)), (2, .int x2), (3, .int x3)] [] M 0 0 rs :=
  cx_fixI (fun (r : cx_M → Int32 → Int32 → Option cx_R) => ∀ (M : cx_M) (x2 : Int32) (x3 : Int32) (rs : cx_R), r M x2 x3 = some rs → cx_V l (g) X (sX10_readNot d) cX10_readNot 95 [(0, .ref (adr 60)), (2, .int x2), (3, .int x3)] [] M 0 0 rs) (fun _ _ _ _ h => by cases h) (fun r hr M x2 x3 rs h => tw_readNot_95b_v H hrE hr M x2 x3 rs h)
noncomputable def tw_readNot_93 (N : Nat) (rE : cx_M → Int32 → Option cx_R) (M : cx_M) (x2 : Int32) : Option cx_R :=
  tw_readNot_95 N rE N M x2 0
set_option maxRecDepth 100000 in
theorem tw_readNot_93_v {l : Launch} {g : cx_G} {adr : Nat → Nat} {d : Nat} {X : cx_X} {N : Nat} {rE : cx_M → Int32 → Option cx_R} (H : tw_H g adr) (hrE : ∀ (M : cx_M) (x : Int32) (rs : cx_R), rE M x = some rs → cx_Met l g yX10_readExpression cX10_readExpression (sX10_readExpression d) [.ref (adr 60), .int x] M rs) (M : cx_M) (x2 : Int32) (rs : cx_R) (h : tw_readNot_93 N rE M x2 = some rs) : cx_V l (g) X (sX10_readNot d) cX10_readNot 93 [(0, .ref (adr 60)), (2, .int x2)] [] M 0 0 rs := by
  unfold tw_readNot_93 at h
  refine cx_iconst 0 dX10_readNot_93 cx_ic_0 ?_
  refine cx_istore_n [(3, .int 0), (0, .ref (adr 60)), (2, .int x2)] dX10_readNot_94 (cx_lt rfl) rfl ?_
  refine cx_sub (lv' := [(0, .ref (adr 60)), (2, .int x2), (3, .int 0)]) [1, 2, 0] rfl ?_
  exact tw_readNot_95_v H hrE N M x2 0 _ h
noncomputable def tw_readNot_78 (N : Nat) (rE : cx_M → Int32 → Option cx_R) (M : cx_M) (x1 : Int32) (x2 : Int32) (z0 : Int32) : Option cx_R :=
  cx_cal (tw_stepOn N M) fun M1 _ =>
  cx_cal (tw_readSum N rE M1 x1) fun M2 _ =>
  cx_cal (tw_lay N M2 z0) fun M3 _ =>
  tw_readNot_93 N rE M3 x2
set_option maxRecDepth 100000 in
theorem tw_readNot_78_v {l : Launch} {g : cx_G} {adr : Nat → Nat} {d : Nat} {X : cx_X} {N : Nat} {rE : cx_M → Int32 → Option cx_R} (H : tw_H g adr) (hrE : ∀ (M : cx_M) (x : Int32) (rs : cx_R), rE M x = some rs → cx_Met l g yX10_readExpression cX10_readExpression (sX10_readExpression d) [.ref (adr 60), .int x] M rs) (M : cx_M) (x1 : Int32) (x2 : Int32) (z0 : Int32) (rs : cx_R) (h : tw_readNot_78 N rE M x1 x2 z0 = some rs) : cx_V l (g) X (sX10_readNot d) cX10_readNot 78 [(0, .ref (adr 60)), (1, .int x1), (2, .int x2)] [.int z0] M 0 0 rs := by
  unfold tw_readNot_78 at h
  refine cx_istore_n [(3, .int z0), (0, .ref (adr 60)), (1, .int x1), (2, .int x2)] dX10_readNot_78 (cx_lt rfl) rfl ?_
  refine cx_aload_n 1 dX10_readNot_79 rfl ?_
  refine cx_cVv [] [] h (fun rs' h' => tw_stepOn_m H M rs' h') (tw_rc H) dX10_readNot_80 g_X10_193 hg_X10_193 (by refine ⟨?_, ?_⟩ <;> (dsimp only [sX10_readNot, sX10_stepOn]; omega)) rfl ⟨rfl, rfl⟩ ⟨cx_le rfl, cx_le rfl⟩ rfl (cx_le rfl) (fun M1 _ h => ?_)
  refine cx_aload_n 1 dX10_readNot_83 rfl ?_
  refine cx_iload_n 2 dX10_readNot_84 rfl ?_
  refine cx_cVv [.int x1] [] h (fun rs' h' => tw_readSum_m H hrE M1 x1 rs' h') (tw_rc H) dX10_readNot_85 g_X10_224 hg_X10_224 (by refine ⟨?_, ?_⟩ <;> (dsimp only [sX10_readNot, sX10_readSum]; omega)) rfl ⟨rfl, rfl⟩ ⟨cx_le rfl, cx_le rfl⟩ rfl (cx_le rfl) (fun M2 _ h => ?_)
  refine cx_aload_n 1 dX10_readNot_88 rfl ?_
  refine cx_iload_n 0 dX10_readNot_89 rfl ?_
  refine cx_cVv [.int z0] [] h (fun rs' h' => tw_lay_m H M2 z0 rs' h') (tw_rc H) dX10_readNot_90 g_X10_203 hg_X10_203 (by refine ⟨?_, ?_⟩ <;> (dsimp only [sX10_readNot, sX10_lay]; omega)) rfl ⟨rfl, rfl⟩ ⟨cx_le rfl, cx_le rfl⟩ rfl (cx_le rfl) (fun M3 _ h => ?_)
  refine cx_sub (lv' := [(0, .ref (adr 60)), (2, .int x2)]) [1, 3] rfl ?_
  exact tw_readNot_93_v H hrE M3 x2 _ h
noncomputable def tw_readNot_62 (N : Nat) (rE : cx_M → Int32 → Option cx_R) (M : cx_M) (x1 : Int32) (x2 : Int32) : Option cx_R :=
  cx_cal (tw_isMarked N M 60) fun M1 v2 =>
  if v2 = 0 then (
    tw_readNot_78 N rE M1 x1 x2 (-25))
  else (
    tw_readNot_78 N rE M1 x1 x2 (-24))
set_option maxRecDepth 100000 in
theorem tw_readNot_62_v {l : Launch} {g : cx_G} {adr : Nat → Nat} {d : Nat} {X : cx_X} {N : Nat} {rE : cx_M → Int32 → Option cx_R} (H : tw_H g adr) (hrE : ∀ (M : cx_M) (x : Int32) (rs : cx_R), rE M x = some rs → cx_Met l g yX10_readExpression cX10_readExpression (sX10_readExpression d) [.ref (adr 60), .int x] M rs) (M : cx_M) (x1 : Int32) (x2 : Int32) (rs : cx_R) (h : tw_readNot_62 N rE M x1 x2 = some rs) : cx_V l (g) X (sX10_readNot d) cX10_readNot 62 [(0, .ref (adr 60)), (1, .int x1), (2, .int x2)] [] M 0 0 rs := by
  unfold tw_readNot_62 at h
  refine cx_aload_n 0 dX10_readNot_62 rfl ?_
  refine cx_bipush 60 dX10_readNot_63 cx_bp_60 ?_
  refine cx_cVi [.int 60] [] h (fun rs' h' => tw_isMarked_m H M 60 rs' h') (tw_rc H) dX10_readNot_65 g_X10_186 hg_X10_186 (by refine ⟨?_, ?_⟩ <;> (dsimp only [sX10_readNot, sX10_isMarked]; omega)) rfl ⟨rfl, rfl⟩ ⟨cx_le rfl, cx_le rfl⟩ rfl (cx_le rfl) (fun M1 v2 h => ?_)
  refine cx_if_eq 76 h dX10_readNot_68 rfl (fun h => ?_) (fun h => ?_)
  · refine cx_bipush (-25) dX10_readNot_76 cx_bp_m25 ?_
    exact tw_readNot_78_v H hrE M1 x1 x2 (-25) _ h
  · refine cx_bipush (-24) dX10_readNot_71 cx_bp_m24 ?_
    refine cx_goto 78 dX10_readNot_73 rfl ?_
    exact tw_readNot_78_v H hrE M1 x1 x2 (-24) _ h
noncomputable def tw_readNot_2b (N : Nat) (rE : cx_M → Int32 → Option cx_R) (r_2 : cx_M → Int32 → Int32 → Option cx_R) (M : cx_M) (x1 : Int32) (x2 : Int32) : Option cx_R :=
  cx_cal (tw_is N 13 M) fun M1 v2 =>
  if v2 = 0 then (
    cx_cal (tw_readSum N rE M1 x1) fun M3 _ =>
    cx_cal (tw_isMarked N M3 60) fun M4 v5 =>
    if v5 = 0 then (
      cx_cal (tw_isMarked N M4 61) fun M6 v7 =>
      if v7 = 0 then (
        tw_readNot_93 N rE M6 x2)
      else (
        tw_readNot_62 N rE M6 x1 x2))
    else (
      tw_readNot_62 N rE M4 x1 x2))
  else (
    if x2 = 6 then (
      cx_cal (tw_wrong N M1 2) fun M8 _ =>
      tw_readNot_22 N rE r_2 M8 x1 x2)
    else (
      tw_readNot_22 N rE r_2 M1 x1 x2))
set_option maxRecDepth 100000 in
theorem tw_readNot_2b_v {l : Launch} {g : cx_G} {adr : Nat → Nat} {d : Nat} {X : cx_X} {N : Nat} {rE : cx_M → Int32 → Option cx_R} {r_2 : cx_M → Int32 → Int32 → Option cx_R} (H : tw_H g adr) (hrE : ∀ (M : cx_M) (x : Int32) (rs : cx_R), rE M x = some rs → cx_Met l g yX10_readExpression cX10_readExpression (sX10_readExpression d) [.ref (adr 60), .int x] M rs) (hr_2 : ∀ (M : cx_M) (x1 : Int32) (x2 : Int32) (rs : cx_R), r_2 M x1 x2 = some rs → cx_V l (g) X (sX10_readNot d) cX10_readNot 2 [(0, .ref (adr 60)), (1, .int x1), (2, .int x2)] [] M 0 0 rs) (M : cx_M) (x1 : Int32) (x2 : Int32) (rs : cx_R) (h : tw_readNot_2b N rE r_2 M x1 x2 = some rs) : cx_V l (g) X (sX10_readNot d) cX10_readNot 2 [(0, .ref (adr 60)), (1, .int x1), (2, .int x2)] [] M 0 0 rs := by
  unfold tw_readNot_2b at h
  refine cx_aload_n 0 dX10_readNot_2 rfl ?_
  refine cx_ldcS (tw_k222 H) dX10_readNot_3 ?_
  refine cx_cVi [.ref (adr 1000013)] [] h (fun rs' h' => tw_is_m H (by decide) M rs' h') (tw_rc H) dX10_readNot_5 g_X10_182 hg_X10_182 (by refine ⟨?_, ?_⟩ <;> (dsimp only [sX10_readNot, sX10_is]; omega)) rfl ⟨rfl, rfl⟩ ⟨cx_le rfl, cx_le rfl⟩ rfl (cx_le rfl) (fun M1 v2 h => ?_)
  refine cx_if_eq 39 h dX10_readNot_8 rfl (fun h => ?_) (fun h => ?_)
  · refine cx_aload_n 0 dX10_readNot_39 rfl ?_
    refine cx_iload_n 1 dX10_readNot_40 rfl ?_
    refine cx_cVv [.int x1] [] h (fun rs' h' => tw_readSum_m H hrE M1 x1 rs' h') (tw_rc H) dX10_readNot_41 g_X10_224 hg_X10_224 (by refine ⟨?_, ?_⟩ <;> (dsimp only [sX10_readNot, sX10_readSum]; omega)) rfl ⟨rfl, rfl⟩ ⟨cx_le rfl, cx_le rfl⟩ rfl (cx_le rfl) (fun M3 _ h => ?_)
    refine cx_aload_n 0 dX10_readNot_44 rfl ?_
    refine cx_bipush 60 dX10_readNot_45 cx_bp_60 ?_
    refine cx_cVi [.int 60] [] h (fun rs' h' => tw_isMarked_m H M3 60 rs' h') (tw_rc H) dX10_readNot_47 g_X10_186 hg_X10_186 (by refine ⟨?_, ?_⟩ <;> (dsimp only [sX10_readNot, sX10_isMarked]; omega)) rfl ⟨rfl, rfl⟩ ⟨cx_le rfl, cx_le rfl⟩ rfl (cx_le rfl) (fun M4 v5 h => ?_)
    refine cx_if_ne 62 h dX10_readNot_50 rfl (fun h => ?_) (fun h => ?_)
    · exact tw_readNot_62_v H hrE M4 x1 x2 _ h
    · refine cx_aload_n 0 dX10_readNot_53 rfl ?_
      refine cx_bipush 61 dX10_readNot_54 cx_bp_61 ?_
      refine cx_cVi [.int 61] [] h (fun rs' h' => tw_isMarked_m H M4 61 rs' h') (tw_rc H) dX10_readNot_56 g_X10_186 hg_X10_186 (by refine ⟨?_, ?_⟩ <;> (dsimp only [sX10_readNot, sX10_isMarked]; omega)) rfl ⟨rfl, rfl⟩ ⟨cx_le rfl, cx_le rfl⟩ rfl (cx_le rfl) (fun M6 v7 h => ?_)
      refine cx_if_eq 93 h dX10_readNot_59 rfl (fun h => ?_) (fun h => ?_)
      · refine cx_sub (lv' := [(0, .ref (adr 60)), (2, .int x2)]) [0, 2] rfl ?_
        exact tw_readNot_93_v H hrE M6 x2 _ h
      · exact tw_readNot_62_v H hrE M6 x1 x2 _ h
  · refine cx_iload_n 2 dX10_readNot_11 rfl ?_
    refine cx_bipush 6 dX10_readNot_12 cx_bp_6 ?_
    refine cx_icmp_ne 22 h dX10_readNot_14 rfl (fun h => ?_) (fun h => ?_)
    · exact tw_readNot_22_v H hrE hr_2 M1 x1 x2 _ h
    · refine cx_aload_n 0 dX10_readNot_17 rfl ?_
      refine cx_iconst 2 dX10_readNot_18 cx_ic_2 ?_
      refine cx_cVv [.int 2] [] h (fun rs' h' => tw_wrong_m H M1 2 rs' h') (tw_rc H) dX10_readNot_19 g_X10_189 hg_X10_189 (by refine ⟨?_, ?_⟩ <;> (dsimp only [sX10_readNot, sX10_wrong]; omega)) rfl ⟨rfl, rfl⟩ ⟨cx_le rfl, cx_le rfl⟩ rfl (cx_le rfl) (fun M8 _ h => ?_)
      exact tw_readNot_22_v H hrE hr_2 M8 x1 x2 _ h
noncomputable def tw_readNot_2 (N : Nat) (rE : cx_M → Int32 → Option cx_R) : Nat → cx_M → Int32 → Int32 → Option cx_R :=
  cx_fix (fun _ _ _ => none) (fun r_2 => tw_readNot_2b N rE r_2)
theorem tw_readNot_2_v {l : Launch} {g : cx_G} {adr : Nat → Nat} {d : Nat} {X : cx_X} {N : Nat} {rE : cx_M → Int32 → Option cx_R} (H : tw_H g adr) (hrE : ∀ (M : cx_M) (x : Int32) (rs : cx_R), rE M x = some rs → cx_Met l g yX10_readExpression cX10_readExpression (sX10_readExpression d) [.ref (adr 60), .int x] M rs) : ∀ (n : Nat) (M : cx_M) (x1 : Int32) (x2 : Int32) (rs : cx_R), tw_readNot_2 N rE n M x1 x2 = some rs → cx_V l (g) X (sX10_readNot d) cX10_readNot 2 [(0, .ref (adr 60)), (1, .int x1), (2, .int x2)] [] M 0 0 rs :=
  cx_fixI (fun (r : cx_M → Int32 → Int32 → Option cx_R) => ∀ (M : cx_M) (x1 : Int32) (x2 : Int32) (rs : cx_R), r M x1 x2 = some rs → cx_V l (g) X (sX10_readNot d) cX10_readNot 2 [(0, .ref (adr 60)), (1, .int x1), (2, .int x2)] [] M 0 0 rs) (fun _ _ _ _ h => by cases h) (fun r hr M x1 x2 rs h => tw_readNot_2b_v H hrE hr M x1 x2 rs h)
noncomputable def tw_readNot_0 (N : Nat) (rE : cx_M → Int32 → Option cx_R) (M : cx_M) (x1 : Int32) : Option cx_R :=
  tw_readNot_2 N rE N M x1 0
set_option maxRecDepth 100000 in
theorem tw_readNot_0_v {l : Launch} {g : cx_G} {adr : Nat → Nat} {d : Nat} {X : cx_X} {N : Nat} {rE : cx_M → Int32 → Option cx_R} (H : tw_H g adr) (hrE : ∀ (M : cx_M) (x : Int32) (rs : cx_R), rE M x = some rs → cx_Met l g yX10_readExpression cX10_readExpression (sX10_readExpression d) [.ref (adr 60), .int x] M rs) (M : cx_M) (x1 : Int32) (rs : cx_R) (h : tw_readNot_0 N rE M x1 = some rs) : cx_V l (g) X (sX10_readNot d) cX10_readNot 0 [(0, .ref (adr 60)), (1, .int x1)] [] M 0 0 rs := by
  unfold tw_readNot_0 at h
  refine cx_iconst 0 dX10_readNot_0 cx_ic_0 ?_
  refine cx_istore_n [(2, .int 0), (0, .ref (adr 60)), (1, .int x1)] dX10_readNot_1 (cx_lt rfl) rfl ?_
  refine cx_sub (lv' := [(0, .ref (adr 60)), (1, .int x1), (2, .int 0)]) [1, 2, 0] rfl ?_
  exact tw_readNot_2_v H hrE N M x1 0 _ h
noncomputable def tw_readNot (N : Nat) (rE : cx_M → Int32 → Option cx_R) (M : cx_M) (x1 : Int32) : Option cx_R := tw_readNot_0 N rE M x1
theorem tw_readNot_m {l : Launch} {g : cx_G} {adr : Nat → Nat} {d : Nat} {N : Nat} {rE : cx_M → Int32 → Option cx_R} (H : tw_H g adr) (hrE : ∀ (M : cx_M) (x : Int32) (rs : cx_R), rE M x = some rs → cx_Met l g yX10_readExpression cX10_readExpression (sX10_readExpression d) [.ref (adr 60), .int x] M rs) (M : cx_M) (x1 : Int32) (rs : cx_R) (h : tw_readNot N rE M x1 = some rs) : cx_Met l (g) yX10_readNot cX10_readNot (sX10_readNot d) [.ref (adr 60), .int x1] M rs :=
  cx_met (by decide +kernel) rfl rfl (lv := [(0, .ref (adr 60)), (1, .int x1)]) rfl (cx_le rfl) (fun X => cx_sub (lv' := [(0, .ref (adr 60)), (1, .int x1)]) [0, 1] rfl (tw_readNot_0_v H hrE M x1 rs h))

abbrev sX10_readAnd (d : Nat) : cx_S := (2, RX10, cx_rV, { frames := 24 * d + 10, cells := 0, slots := 0, locals := 800 * d + 219 }, none, false)
noncomputable def tw_readAnd_5b (N : Nat) (rE : cx_M → Int32 → Option cx_R) (r_5 : cx_M → Int32 → Option cx_R) (M : cx_M) (x1 : Int32) : Option cx_R :=
  cx_cal (tw_is N 14 M) fun M1 v2 =>
  if v2 = 0 then (
    some (M1, 0, 0))
  else (
    cx_cal (tw_stepOn N M1) fun M3 _ =>
    cx_cal (tw_readNot N rE M3 x1) fun M4 _ =>
    cx_cal (tw_lay N M4 (-26)) fun M5 _ =>
    r_5 M5 x1)
set_option maxRecDepth 100000 in
theorem tw_readAnd_5b_v {l : Launch} {g : cx_G} {adr : Nat → Nat} {d : Nat} {X : cx_X} {N : Nat} {rE : cx_M → Int32 → Option cx_R} {r_5 : cx_M → Int32 → Option cx_R} (H : tw_H g adr) (hrE : ∀ (M : cx_M) (x : Int32) (rs : cx_R), rE M x = some rs → cx_Met l g yX10_readExpression cX10_readExpression (sX10_readExpression d) [.ref (adr 60), .int x] M rs) (hr_5 : ∀ (M : cx_M) (x1 : Int32) (rs : cx_R), r_5 M x1 = some rs → cx_V l (g) X (sX10_readAnd d) cX10_readAnd 5 [(0, .ref (adr 60)), (1, .int x1)] [] M 0 0 rs) (M : cx_M) (x1 : Int32) (rs : cx_R) (h : tw_readAnd_5b N rE r_5 M x1 = some rs) : cx_V l (g) X (sX10_readAnd d) cX10_readAnd 5 [(0, .ref (adr 60)), (1, .int x1)] [] M 0 0 rs := by
  unfold tw_readAnd_5b at h
  refine cx_aload_n 0 dX10_readAnd_5 rfl ?_
  refine cx_ldcS (tw_k230 H) dX10_readAnd_6 ?_
  refine cx_cVi [.ref (adr 1000014)] [] h (fun rs' h' => tw_is_m H (by decide) M rs' h') (tw_rc H) dX10_readAnd_8 g_X10_182 hg_X10_182 (by refine ⟨?_, ?_⟩ <;> (dsimp only [sX10_readAnd, sX10_is]; omega)) rfl ⟨rfl, rfl⟩ ⟨cx_le rfl, cx_le rfl⟩ rfl (cx_le rfl) (fun M1 v2 h => ?_)
  refine cx_if_eq 32 h dX10_readAnd_11 rfl (fun h => ?_) (fun h => ?_)
  · exact cx_vret h rfl rfl (cx_le rfl) (cx_le rfl) dX10_readAnd_32
  · refine cx_aload_n 0 dX10_readAnd_14 rfl ?_
    refine cx_cVv [] [] h (fun rs' h' => tw_stepOn_m H M1 rs' h') (tw_rc H) dX10_readAnd_15 g_X10_193 hg_X10_193 (by refine ⟨?_, ?_⟩ <;> (dsimp only [sX10_readAnd, sX10_stepOn]; omega)) rfl ⟨rfl, rfl⟩ ⟨cx_le rfl, cx_le rfl⟩ rfl (cx_le rfl) (fun M3 _ h => ?_)
    refine cx_aload_n 0 dX10_readAnd_18 rfl ?_
    refine cx_iload_n 1 dX10_readAnd_19 rfl ?_
    refine cx_cVv [.int x1] [] h (fun rs' h' => tw_readNot_m H hrE M3 x1 rs' h') (tw_rc H) dX10_readAnd_20 g_X10_227 hg_X10_227 (by refine ⟨?_, ?_⟩ <;> (dsimp only [sX10_readAnd, sX10_readNot]; omega)) rfl ⟨rfl, rfl⟩ ⟨cx_le rfl, cx_le rfl⟩ rfl (cx_le rfl) (fun M4 _ h => ?_)
    refine cx_aload_n 0 dX10_readAnd_23 rfl ?_
    refine cx_bipush (-26) dX10_readAnd_24 cx_bp_m26 ?_
    refine cx_cVv [.int (-26)] [] h (fun rs' h' => tw_lay_m H M4 (-26) rs' h') (tw_rc H) dX10_readAnd_26 g_X10_203 hg_X10_203 (by refine ⟨?_, ?_⟩ <;> (dsimp only [sX10_readAnd, sX10_lay]; omega)) rfl ⟨rfl, rfl⟩ ⟨cx_le rfl, cx_le rfl⟩ rfl (cx_le rfl) (fun M5 _ h => ?_)
    refine cx_goto 5 dX10_readAnd_29 rfl ?_
    exact hr_5 M5 x1 _ h
noncomputable def tw_readAnd_5 (N : Nat) (rE : cx_M → Int32 → Option cx_R) : Nat → cx_M → Int32 → Option cx_R :=
  cx_fix (fun _ _ => none) (fun r_5 => tw_readAnd_5b N rE r_5)
theorem tw_readAnd_5_v {l : Launch} {g : cx_G} {adr : Nat → Nat} {d : Nat} {X : cx_X} {N : Nat} {rE : cx_M → Int32 → Option cx_R} (H : tw_H g adr) (hrE : ∀ (M : cx_M) (x : Int32) (rs : cx_R), rE M x = some rs → cx_Met l g yX10_readExpression cX10_readExpression (sX10_readExpression d) [.ref (adr 60), .int x] M rs) : ∀ (n : Nat) (M : cx_M) (x1 : Int32) (rs : cx_R), tw_readAnd_5 N rE n M x1 = some rs → cx_V l (g) X (sX10_readAnd d) cX10_readAnd 5 [(0, .ref (adr 60)), (1, .int x1)] [] M 0 0 rs :=
  cx_fixI (fun (r : cx_M → Int32 → Option cx_R) => ∀ (M : cx_M) (x1 : Int32) (rs : cx_R), r M x1 = some rs → cx_V l (g) X (sX10_readAnd d) cX10_readAnd 5 [(0, .ref (adr 60)), (1, .int x1)] [] M 0 0 rs) (fun _ _ _ h => by cases h) (fun r hr M x1 rs h => tw_readAnd_5b_v H hrE hr M x1 rs h)
noncomputable def tw_readAnd_0 (N : Nat) (rE : cx_M → Int32 → Option cx_R) (M : cx_M) (x1 : Int32) : Option cx_R :=
  cx_cal (tw_readNot N rE M x1) fun M1 _ =>
  tw_readAnd_5 N rE N M1 x1
set_option maxRecDepth 100000 in
theorem tw_readAnd_0_v {l : Launch} {g : cx_G} {adr : Nat → Nat} {d : Nat} {X : cx_X} {N : Nat} {rE : cx_M → Int32 → Option cx_R} (H : tw_H g adr) (hrE : ∀ (M : cx_M) (x : Int32) (rs : cx_R), rE M x = some rs → cx_Met l g yX10_readExpression cX10_readExpression (sX10_readExpression d) [.ref (adr 60), .int x] M rs) (M : cx_M) (x1 : Int32) (rs : cx_R) (h : tw_readAnd_0 N rE M x1 = some rs) : cx_V l (g) X (sX10_readAnd d) cX10_readAnd 0 [(0, .ref (adr 60)), (1, .int x1)] [] M 0 0 rs := by
  unfold tw_readAnd_0 at h
  refine cx_aload_n 0 dX10_readAnd_0 rfl ?_
  refine cx_iload_n 1 dX10_readAnd_1 rfl ?_
  refine cx_cVv [.int x1] [] h (fun rs' h' => tw_readNot_m H hrE M x1 rs' h') (tw_rc H) dX10_readAnd_2 g_X10_227 hg_X10_227 (by refine ⟨?_, ?_⟩ <;> (dsimp only [sX10_readAnd, sX10_readNot]; omega)) rfl ⟨rfl, rfl⟩ ⟨cx_le rfl, cx_le rfl⟩ rfl (cx_le rfl) (fun M1 _ h => ?_)
  exact tw_readAnd_5_v H hrE N M1 x1 _ h
noncomputable def tw_readAnd (N : Nat) (rE : cx_M → Int32 → Option cx_R) (M : cx_M) (x1 : Int32) : Option cx_R := tw_readAnd_0 N rE M x1
theorem tw_readAnd_m {l : Launch} {g : cx_G} {adr : Nat → Nat} {d : Nat} {N : Nat} {rE : cx_M → Int32 → Option cx_R} (H : tw_H g adr) (hrE : ∀ (M : cx_M) (x : Int32) (rs : cx_R), rE M x = some rs → cx_Met l g yX10_readExpression cX10_readExpression (sX10_readExpression d) [.ref (adr 60), .int x] M rs) (M : cx_M) (x1 : Int32) (rs : cx_R) (h : tw_readAnd N rE M x1 = some rs) : cx_Met l (g) yX10_readAnd cX10_readAnd (sX10_readAnd d) [.ref (adr 60), .int x1] M rs :=
  cx_met (by decide +kernel) rfl rfl (lv := [(0, .ref (adr 60)), (1, .int x1)]) rfl (cx_le rfl) (fun X => cx_sub (lv' := [(0, .ref (adr 60)), (1, .int x1)]) [0, 1] rfl (tw_readAnd_0_v H hrE M x1 rs h))

noncomputable def tw_readExpressionB_67b (N : Nat) (rE : cx_M → Int32 → Option cx_R) (r_67 : cx_M → Int32 → Option cx_R) (M : cx_M) (x1 : Int32) : Option cx_R :=
  cx_cal (tw_is N 15 M) fun M1 v2 =>
  if v2 = 0 then (
    some (M1, 0, 0))
  else (
    cx_cal (tw_stepOn N M1) fun M3 _ =>
    cx_cal (tw_readAnd N rE M3 x1) fun M4 _ =>
    cx_cal (tw_lay N M4 (-27)) fun M5 _ =>
    r_67 M5 x1)
set_option maxRecDepth 100000 in
theorem tw_readExpressionB_67b_v {l : Launch} {g : cx_G} {adr : Nat → Nat} {d : Nat} {X : cx_X} {N : Nat} {rE : cx_M → Int32 → Option cx_R} {r_67 : cx_M → Int32 → Option cx_R} (H : tw_H g adr) (hrE : ∀ (M : cx_M) (x : Int32) (rs : cx_R), rE M x = some rs → cx_Met l g yX10_readExpression cX10_readExpression (sX10_readExpression d) [.ref (adr 60), .int x] M rs) (hr_67 : ∀ (M : cx_M) (x1 : Int32) (rs : cx_R), r_67 M x1 = some rs → cx_V l (g) X (sX10_readExpression (d + 1)) cX10_readExpression 67 [(0, .ref (adr 60)), (1, .int x1)] [] M 0 0 rs) (M : cx_M) (x1 : Int32) (rs : cx_R) (h : tw_readExpressionB_67b N rE r_67 M x1 = some rs) : cx_V l (g) X (sX10_readExpression (d + 1)) cX10_readExpression 67 [(0, .ref (adr 60)), (1, .int x1)] [] M 0 0 rs := by
  unfold tw_readExpressionB_67b at h
  refine cx_aload_n 0 dX10_readExpression_67 rfl ?_
  refine cx_ldcS (tw_k235 H) dX10_readExpression_68 ?_
  refine cx_cVi [.ref (adr 1000015)] [] h (fun rs' h' => tw_is_m H (by decide) M rs' h') (tw_rc H) dX10_readExpression_70 g_X10_182 hg_X10_182 (by refine ⟨?_, ?_⟩ <;> (dsimp only [sX10_readExpression, sX10_is]; omega)) rfl ⟨rfl, rfl⟩ ⟨cx_le rfl, cx_le rfl⟩ rfl (cx_le rfl) (fun M1 v2 h => ?_)
  refine cx_if_eq 94 h dX10_readExpression_73 rfl (fun h => ?_) (fun h => ?_)
  · exact cx_vret h rfl rfl (cx_le rfl) (cx_le rfl) dX10_readExpression_94
  · refine cx_aload_n 0 dX10_readExpression_76 rfl ?_
    refine cx_cVv [] [] h (fun rs' h' => tw_stepOn_m H M1 rs' h') (tw_rc H) dX10_readExpression_77 g_X10_193 hg_X10_193 (by refine ⟨?_, ?_⟩ <;> (dsimp only [sX10_readExpression, sX10_stepOn]; omega)) rfl ⟨rfl, rfl⟩ ⟨cx_le rfl, cx_le rfl⟩ rfl (cx_le rfl) (fun M3 _ h => ?_)
    refine cx_aload_n 0 dX10_readExpression_80 rfl ?_
    refine cx_iload_n 1 dX10_readExpression_81 rfl ?_
    refine cx_cVv [.int x1] [] h (fun rs' h' => tw_readAnd_m H hrE M3 x1 rs' h') (tw_rc H) dX10_readExpression_82 g_X10_232 hg_X10_232 (by refine ⟨?_, ?_⟩ <;> (dsimp only [sX10_readExpression, sX10_readAnd]; omega)) rfl ⟨rfl, rfl⟩ ⟨cx_le rfl, cx_le rfl⟩ rfl (cx_le rfl) (fun M4 _ h => ?_)
    refine cx_aload_n 0 dX10_readExpression_85 rfl ?_
    refine cx_bipush (-27) dX10_readExpression_86 cx_bp_m27 ?_
    refine cx_cVv [.int (-27)] [] h (fun rs' h' => tw_lay_m H M4 (-27) rs' h') (tw_rc H) dX10_readExpression_88 g_X10_203 hg_X10_203 (by refine ⟨?_, ?_⟩ <;> (dsimp only [sX10_readExpression, sX10_lay]; omega)) rfl ⟨rfl, rfl⟩ ⟨cx_le rfl, cx_le rfl⟩ rfl (cx_le rfl) (fun M5 _ h => ?_)
    refine cx_goto 67 dX10_readExpression_91 rfl ?_
    exact hr_67 M5 x1 _ h
noncomputable def tw_readExpressionB_67 (N : Nat) (rE : cx_M → Int32 → Option cx_R) : Nat → cx_M → Int32 → Option cx_R :=
  cx_fix (fun _ _ => none) (fun r_67 => tw_readExpressionB_67b N rE r_67)
theorem tw_readExpressionB_67_v {l : Launch} {g : cx_G} {adr : Nat → Nat} {d : Nat} {X : cx_X} {N : Nat} {rE : cx_M → Int32 → Option cx_R} (H : tw_H g adr) (hrE : ∀ (M : cx_M) (x : Int32) (rs : cx_R), rE M x = some rs → cx_Met l g yX10_readExpression cX10_readExpression (sX10_readExpression d) [.ref (adr 60), .int x] M rs) : ∀ (n : Nat) (M : cx_M) (x1 : Int32) (rs : cx_R), tw_readExpressionB_67 N rE n M x1 = some rs → cx_V l (g) X (sX10_readExpression (d + 1)) cX10_readExpression 67 [(0, .ref (adr 60)), (1, .int x1)] [] M 0 0 rs :=
  cx_fixI (fun (r : cx_M → Int32 → Option cx_R) => ∀ (M : cx_M) (x1 : Int32) (rs : cx_R), r M x1 = some rs → cx_V l (g) X (sX10_readExpression (d + 1)) cX10_readExpression 67 [(0, .ref (adr 60)), (1, .int x1)] [] M 0 0 rs) (fun _ _ _ h => by cases h) (fun r hr M x1 rs h => tw_readExpressionB_67b_v H hrE hr M x1 rs h)
noncomputable def tw_readExpressionB_62 (N : Nat) (rE : cx_M → Int32 → Option cx_R) (M : cx_M) (x1 : Int32) : Option cx_R :=
  cx_cal (tw_readAnd N rE M x1) fun M1 _ =>
  tw_readExpressionB_67 N rE N M1 x1
set_option maxRecDepth 100000 in
theorem tw_readExpressionB_62_v {l : Launch} {g : cx_G} {adr : Nat → Nat} {d : Nat} {X : cx_X} {N : Nat} {rE : cx_M → Int32 → Option cx_R} (H : tw_H g adr) (hrE : ∀ (M : cx_M) (x : Int32) (rs : cx_R), rE M x = some rs → cx_Met l g yX10_readExpression cX10_readExpression (sX10_readExpression d) [.ref (adr 60), .int x] M rs) (M : cx_M) (x1 : Int32) (rs : cx_R) (h : tw_readExpressionB_62 N rE M x1 = some rs) : cx_V l (g) X (sX10_readExpression (d + 1)) cX10_readExpression 62 [(0, .ref (adr 60)), (1, .int x1)] [] M 0 0 rs := by
  unfold tw_readExpressionB_62 at h
  refine cx_aload_n 0 dX10_readExpression_62 rfl ?_
  refine cx_iload_n 1 dX10_readExpression_63 rfl ?_
  refine cx_cVv [.int x1] [] h (fun rs' h' => tw_readAnd_m H hrE M x1 rs' h') (tw_rc H) dX10_readExpression_64 g_X10_232 hg_X10_232 (by refine ⟨?_, ?_⟩ <;> (dsimp only [sX10_readExpression, sX10_readAnd]; omega)) rfl ⟨rfl, rfl⟩ ⟨cx_le rfl, cx_le rfl⟩ rfl (cx_le rfl) (fun M1 _ h => ?_)
  exact tw_readExpressionB_67_v H hrE N M1 x1 _ h
noncomputable def tw_readExpressionB_38 (N : Nat) (rE : cx_M → Int32 → Option cx_R) (M : cx_M) (x1 : Int32) (z0 : Int32) : Option cx_R :=
  if z0 = 0 then (
    cx_cal (tw_wrong N M 1) fun M2 _ =>
    tw_readExpressionB_62 N rE M2 x1)
  else (
    if x1 = 6 then (
      cx_cal (tw_wrong N M 2) fun M1 _ =>
      tw_readExpressionB_62 N rE M1 x1)
    else (
      tw_readExpressionB_62 N rE M x1))
set_option maxRecDepth 100000 in
theorem tw_readExpressionB_38_v {l : Launch} {g : cx_G} {adr : Nat → Nat} {d : Nat} {X : cx_X} {N : Nat} {rE : cx_M → Int32 → Option cx_R} (H : tw_H g adr) (hrE : ∀ (M : cx_M) (x : Int32) (rs : cx_R), rE M x = some rs → cx_Met l g yX10_readExpression cX10_readExpression (sX10_readExpression d) [.ref (adr 60), .int x] M rs) (M : cx_M) (x1 : Int32) (z0 : Int32) (rs : cx_R) (h : tw_readExpressionB_38 N rE M x1 z0 = some rs) : cx_V l (g) X (sX10_readExpression (d + 1)) cX10_readExpression 38 [(0, .ref (adr 60)), (1, .int x1)] [.int z0] M 0 0 rs := by
  unfold tw_readExpressionB_38 at h
  refine cx_istore_n [(2, .int z0), (0, .ref (adr 60)), (1, .int x1)] dX10_readExpression_38 (cx_lt rfl) rfl ?_
  refine cx_iload_n 0 dX10_readExpression_39 rfl ?_
  refine cx_if_ne 51 h dX10_readExpression_40 rfl (fun h => ?_) (fun h => ?_)
  · refine cx_iload_n 2 dX10_readExpression_51 rfl ?_
    refine cx_bipush 6 dX10_readExpression_52 cx_bp_6 ?_
    refine cx_icmp_ne 62 h dX10_readExpression_54 rfl (fun h => ?_) (fun h => ?_)
    · refine cx_sub (lv' := [(0, .ref (adr 60)), (1, .int x1)]) [1, 2] rfl ?_
      exact tw_readExpressionB_62_v H hrE M x1 _ h
    · refine cx_aload_n 1 dX10_readExpression_57 rfl ?_
      refine cx_iconst 2 dX10_readExpression_58 cx_ic_2 ?_
      refine cx_cVv [.int 2] [] h (fun rs' h' => tw_wrong_m H M 2 rs' h') (tw_rc H) dX10_readExpression_59 g_X10_189 hg_X10_189 (by refine ⟨?_, ?_⟩ <;> (dsimp only [sX10_readExpression, sX10_wrong]; omega)) rfl ⟨rfl, rfl⟩ ⟨cx_le rfl, cx_le rfl⟩ rfl (cx_le rfl) (fun M1 _ h => ?_)
      refine cx_sub (lv' := [(0, .ref (adr 60)), (1, .int x1)]) [1, 2] rfl ?_
      exact tw_readExpressionB_62_v H hrE M1 x1 _ h
  · refine cx_aload_n 1 dX10_readExpression_43 rfl ?_
    refine cx_iconst 1 dX10_readExpression_44 cx_ic_1 ?_
    refine cx_cVv [.int 1] [] h (fun rs' h' => tw_wrong_m H M 1 rs' h') (tw_rc H) dX10_readExpression_45 g_X10_189 hg_X10_189 (by refine ⟨?_, ?_⟩ <;> (dsimp only [sX10_readExpression, sX10_wrong]; omega)) rfl ⟨rfl, rfl⟩ ⟨cx_le rfl, cx_le rfl⟩ rfl (cx_le rfl) (fun M2 _ h => ?_)
    refine cx_goto 62 dX10_readExpression_48 rfl ?_
    refine cx_sub (lv' := [(0, .ref (adr 60)), (1, .int x1)]) [1, 2] rfl ?_
    exact tw_readExpressionB_62_v H hrE M2 x1 _ h
noncomputable def tw_readExpressionB_33 (N : Nat) (rE : cx_M → Int32 → Option cx_R) (M : cx_M) (x1 : Int32) : Option cx_R :=
  tw_readExpressionB_38 N rE M x1 1
set_option maxRecDepth 100000 in
theorem tw_readExpressionB_33_v {l : Launch} {g : cx_G} {adr : Nat → Nat} {d : Nat} {X : cx_X} {N : Nat} {rE : cx_M → Int32 → Option cx_R} (H : tw_H g adr) (hrE : ∀ (M : cx_M) (x : Int32) (rs : cx_R), rE M x = some rs → cx_Met l g yX10_readExpression cX10_readExpression (sX10_readExpression d) [.ref (adr 60), .int x] M rs) (M : cx_M) (x1 : Int32) (rs : cx_R) (h : tw_readExpressionB_33 N rE M x1 = some rs) : cx_V l (g) X (sX10_readExpression (d + 1)) cX10_readExpression 33 [(0, .ref (adr 60)), (1, .int x1)] [] M 0 0 rs := by
  unfold tw_readExpressionB_33 at h
  refine cx_iconst 1 dX10_readExpression_33 cx_ic_1 ?_
  refine cx_goto 38 dX10_readExpression_34 rfl ?_
  exact tw_readExpressionB_38_v H hrE M x1 1 _ h
noncomputable def tw_readExpressionB_0 (N : Nat) (rE : cx_M → Int32 → Option cx_R) (M : cx_M) (x1 : Int32) : Option cx_R :=
  cx_get M 60 19 fun v1 =>
  if v1 = 0 then (
    cx_get M 60 15 fun v2 =>
    if v2 = 2 then (
      tw_readExpressionB_33 N rE M x1)
    else (
      cx_get M 60 15 fun v3 =>
      if v3 = 1 then (
        tw_readExpressionB_33 N rE M x1)
      else (
        cx_cal (tw_isMarked N M 40) fun M4 v5 =>
        if v5 = 0 then (
          tw_readExpressionB_38 N rE M4 x1 0)
        else (
          tw_readExpressionB_33 N rE M4 x1))))
  else (
    some (M, 0, 0))
set_option maxRecDepth 100000 in
theorem tw_readExpressionB_0_v {l : Launch} {g : cx_G} {adr : Nat → Nat} {d : Nat} {X : cx_X} {N : Nat} {rE : cx_M → Int32 → Option cx_R} (H : tw_H g adr) (hrE : ∀ (M : cx_M) (x : Int32) (rs : cx_R), rE M x = some rs → cx_Met l g yX10_readExpression cX10_readExpression (sX10_readExpression d) [.ref (adr 60), .int x] M rs) (M : cx_M) (x1 : Int32) (rs : cx_R) (h : tw_readExpressionB_0 N rE M x1 = some rs) : cx_V l (g) X (sX10_readExpression (d + 1)) cX10_readExpression 0 [(0, .ref (adr 60)), (1, .int x1)] [] M 0 0 rs := by
  unfold tw_readExpressionB_0 at h
  refine cx_aload_n 0 dX10_readExpression_0 rfl ?_
  refine cx_getI h (tw_F19 H) q2409 dX10_readExpression_1 (fun v1 h => ?_)
  refine cx_if_eq 8 h dX10_readExpression_4 rfl (fun h => ?_) (fun h => ?_)
  · refine cx_aload_n 0 dX10_readExpression_8 rfl ?_
    refine cx_getI h (tw_F15 H) q2405 dX10_readExpression_9 (fun v2 h => ?_)
    refine cx_iconst 2 dX10_readExpression_12 cx_ic_2 ?_
    refine cx_icmp_eq 33 h dX10_readExpression_13 rfl (fun h => ?_) (fun h => ?_)
    · exact tw_readExpressionB_33_v H hrE M x1 _ h
    · refine cx_aload_n 0 dX10_readExpression_16 rfl ?_
      refine cx_getI h (tw_F15 H) q2405 dX10_readExpression_17 (fun v3 h => ?_)
      refine cx_iconst 1 dX10_readExpression_20 cx_ic_1 ?_
      refine cx_icmp_eq 33 h dX10_readExpression_21 rfl (fun h => ?_) (fun h => ?_)
      · exact tw_readExpressionB_33_v H hrE M x1 _ h
      · refine cx_aload_n 0 dX10_readExpression_24 rfl ?_
        refine cx_bipush 40 dX10_readExpression_25 cx_bp_40 ?_
        refine cx_cVi [.int 40] [] h (fun rs' h' => tw_isMarked_m H M 40 rs' h') (tw_rc H) dX10_readExpression_27 g_X10_186 hg_X10_186 (by refine ⟨?_, ?_⟩ <;> (dsimp only [sX10_readExpression, sX10_isMarked]; omega)) rfl ⟨rfl, rfl⟩ ⟨cx_le rfl, cx_le rfl⟩ rfl (cx_le rfl) (fun M4 v5 h => ?_)
        refine cx_if_eq 37 h dX10_readExpression_30 rfl (fun h => ?_) (fun h => ?_)
        · refine cx_iconst 0 dX10_readExpression_37 cx_ic_0 ?_
          exact tw_readExpressionB_38_v H hrE M4 x1 0 _ h
        · exact tw_readExpressionB_33_v H hrE M4 x1 _ h
  · exact cx_vret h rfl rfl (cx_le rfl) (cx_le rfl) dX10_readExpression_7
noncomputable def tw_readExpressionB (N : Nat) (rE : cx_M → Int32 → Option cx_R) (M : cx_M) (x1 : Int32) : Option cx_R := tw_readExpressionB_0 N rE M x1
theorem tw_readExpressionB_m {l : Launch} {g : cx_G} {adr : Nat → Nat} {d : Nat} {N : Nat} {rE : cx_M → Int32 → Option cx_R} (H : tw_H g adr) (hrE : ∀ (M : cx_M) (x : Int32) (rs : cx_R), rE M x = some rs → cx_Met l g yX10_readExpression cX10_readExpression (sX10_readExpression d) [.ref (adr 60), .int x] M rs) (M : cx_M) (x1 : Int32) (rs : cx_R) (h : tw_readExpressionB N rE M x1 = some rs) : cx_Met l (g) yX10_readExpression cX10_readExpression (sX10_readExpression (d + 1)) [.ref (adr 60), .int x1] M rs :=
  cx_met (by decide +kernel) rfl rfl (lv := [(0, .ref (adr 60)), (1, .int x1)]) rfl (cx_le rfl) (fun X => cx_sub (lv' := [(0, .ref (adr 60)), (1, .int x1)]) [0, 1] rfl (tw_readExpressionB_0_v H hrE M x1 rs h))
noncomputable def tw_readExpression (N : Nat) : cx_M → Int32 → Option cx_R := cx_fix (fun _ _ => none) (fun rE => tw_readExpressionB N rE) 8
theorem tw_readExpression_n {l : Launch} {g : cx_G} {adr : Nat → Nat} {N : Nat} (H : tw_H g adr) : ∀ (n : Nat) (M : cx_M) (x : Int32) (rs : cx_R), cx_fix (fun _ _ => none) (fun rE => tw_readExpressionB N rE) n M x = some rs → cx_Met l g yX10_readExpression cX10_readExpression (sX10_readExpression n) [.ref (adr 60), .int x] M rs
  | 0 => fun _ _ _ h => by cases h
  | n + 1 => fun M x rs h => tw_readExpressionB_m (d := n) H (tw_readExpression_n H n) M x rs h
theorem tw_readExpression_m {l : Launch} {g : cx_G} {adr : Nat → Nat} {N : Nat} (H : tw_H g adr) (M : cx_M) (x : Int32) (rs : cx_R) (h : tw_readExpression N M x = some rs) : cx_Met l g yX10_readExpression cX10_readExpression (sX10_readExpression 8) [.ref (adr 60), .int x] M rs := tw_readExpression_n H 8 M x rs h

abbrev sX10_readClause : cx_S := (4, RX10, cx_rV, { frames := 193, cells := 0, slots := 0, locals := 6422 }, none, false)
noncomputable def tw_readClause_182 (N : Nat) (M : cx_M) (z1 : Int32) : Option cx_R :=
  cx_bl z1 <|
  cx_put M 60 10 z1 fun M1 =>
  cx_cal (tw_readExpression N M1 0) fun M2 _ =>
  some (M2, 0, 0)
set_option maxRecDepth 100000 in
theorem tw_readClause_182_v {l : Launch} {g : cx_G} {adr : Nat → Nat} {X : cx_X} {N : Nat} (H : tw_H g adr) (M : cx_M) (z1 : Int32) (rs : cx_R) (h : tw_readClause_182 N M z1 = some rs) : cx_V l (g) X sX10_readClause cX10_readClause 182 [(0, .ref (adr 60))] [.int z1, .ref (adr 60)] M 0 0 rs := by
  unfold tw_readClause_182 at h
  refine cx_blI h (fun hz h => ?_)
  refine cx_putI h (tw_F10 H) hz.1 hz.2.1 rfl q2400 dX10_readClause_182 (fun M1 h => ?_)
  refine cx_aload_n 0 dX10_readClause_185 rfl ?_
  refine cx_iconst 0 dX10_readClause_186 cx_ic_0 ?_
  refine cx_cVv [.int 0] [] h (fun rs' h' => tw_readExpression_m H M1 0 rs' h') (tw_rc H) dX10_readClause_187 g_X10_213 hg_X10_213 ⟨cx_le rfl, cx_le rfl⟩ rfl ⟨rfl, rfl⟩ ⟨cx_le rfl, cx_le rfl⟩ rfl (cx_le rfl) (fun M2 _ h => ?_)
  exact cx_vret h rfl rfl (cx_le rfl) (cx_le rfl) dX10_readClause_190
noncomputable def tw_readClause_163 (N : Nat) (M : cx_M) (x1 : Int32) : Option cx_R :=
  if 7 ≤ x1 then (
    if x1 = 8 then (
      tw_readClause_182 N M 1)
    else (
      tw_readClause_182 N M 0))
  else (
    some (M, 0, 0))
set_option maxRecDepth 100000 in
theorem tw_readClause_163_v {l : Launch} {g : cx_G} {adr : Nat → Nat} {X : cx_X} {N : Nat} (H : tw_H g adr) (M : cx_M) (x1 : Int32) (rs : cx_R) (h : tw_readClause_163 N M x1 = some rs) : cx_V l (g) X sX10_readClause cX10_readClause 163 [(0, .ref (adr 60)), (1, .int x1)] [] M 0 0 rs := by
  unfold tw_readClause_163 at h
  refine cx_iload_n 1 dX10_readClause_163 rfl ?_
  refine cx_bipush 7 dX10_readClause_164 cx_bp_7 ?_
  refine cx_icmp_ge 170 h dX10_readClause_166 rfl (fun h => ?_) (fun h => ?_)
  · refine cx_aload_n 0 dX10_readClause_170 rfl ?_
    refine cx_iload_n 1 dX10_readClause_171 rfl ?_
    refine cx_bipush 8 dX10_readClause_172 cx_bp_8 ?_
    refine cx_icmp_ne 181 h dX10_readClause_174 rfl (fun h => ?_) (fun h => ?_)
    · refine cx_iconst 0 dX10_readClause_181 cx_ic_0 ?_
      refine cx_sub (lv' := [(0, .ref (adr 60))]) [0] rfl ?_
      exact tw_readClause_182_v H M 0 _ h
    · refine cx_iconst 1 dX10_readClause_177 cx_ic_1 ?_
      refine cx_goto 182 dX10_readClause_178 rfl ?_
      refine cx_sub (lv' := [(0, .ref (adr 60))]) [0] rfl ?_
      exact tw_readClause_182_v H M 1 _ h
  · exact cx_vret h rfl rfl (cx_le rfl) (cx_le rfl) dX10_readClause_169
noncomputable def tw_readClause_153 (N : Nat) (M : cx_M) (x1 : Int32) : Option cx_R :=
  if x1 = 6 then (
    cx_cal (tw_readWord N M) fun M1 _ =>
    tw_readClause_163 N M1 x1)
  else (
    tw_readClause_163 N M x1)
set_option maxRecDepth 100000 in
theorem tw_readClause_153_v {l : Launch} {g : cx_G} {adr : Nat → Nat} {X : cx_X} {N : Nat} (H : tw_H g adr) (M : cx_M) (x1 : Int32) (rs : cx_R) (h : tw_readClause_153 N M x1 = some rs) : cx_V l (g) X sX10_readClause cX10_readClause 153 [(0, .ref (adr 60)), (1, .int x1)] [] M 0 0 rs := by
  unfold tw_readClause_153 at h
  refine cx_iload_n 1 dX10_readClause_153 rfl ?_
  refine cx_bipush 6 dX10_readClause_154 cx_bp_6 ?_
  refine cx_icmp_ne 163 h dX10_readClause_156 rfl (fun h => ?_) (fun h => ?_)
  · exact tw_readClause_163_v H M x1 _ h
  · refine cx_aload_n 0 dX10_readClause_159 rfl ?_
    refine cx_cVv [] [] h (fun rs' h' => tw_readWord_m H M rs' h') (tw_rc H) dX10_readClause_160 g_X10_237 hg_X10_237 ⟨cx_le rfl, cx_le rfl⟩ rfl ⟨rfl, rfl⟩ ⟨cx_le rfl, cx_le rfl⟩ rfl (cx_le rfl) (fun M1 _ h => ?_)
    exact tw_readClause_163_v H M1 x1 _ h
noncomputable def tw_readClause_134 (N : Nat) (M : cx_M) (x1 : Int32) : Option cx_R :=
  if x1 = 5 then (
    cx_cal (tw_readNumber N M 1 8) fun M1 v2 =>
    cx_put M1 3 16 v2 fun M3 =>
    tw_readClause_153 N M3 x1)
  else (
    tw_readClause_153 N M x1)
set_option maxRecDepth 100000 in
theorem tw_readClause_134_v {l : Launch} {g : cx_G} {adr : Nat → Nat} {X : cx_X} {N : Nat} (H : tw_H g adr) (M : cx_M) (x1 : Int32) (rs : cx_R) (h : tw_readClause_134 N M x1 = some rs) : cx_V l (g) X sX10_readClause cX10_readClause 134 [(0, .ref (adr 60)), (1, .int x1)] [] M 0 0 rs := by
  unfold tw_readClause_134 at h
  refine cx_iload_n 1 dX10_readClause_134 rfl ?_
  refine cx_iconst 5 dX10_readClause_135 cx_ic_5 ?_
  refine cx_icmp_ne 153 h dX10_readClause_136 rfl (fun h => ?_) (fun h => ?_)
  · exact tw_readClause_153_v H M x1 _ h
  · refine cx_aload_n 0 dX10_readClause_139 rfl ?_
    refine cx_getR (tw_R3 H) q2393 dX10_readClause_140 ?_
    refine cx_bipush 16 dX10_readClause_143 cx_bp_16 ?_
    refine cx_aload_n 0 dX10_readClause_145 rfl ?_
    refine cx_iconst 1 dX10_readClause_146 cx_ic_1 ?_
    refine cx_bipush 8 dX10_readClause_147 cx_bp_8 ?_
    refine cx_cVi [.int 1, .int 8] [.int 16, .ref (adr 3)] h (fun rs' h' => tw_readNumber_m H M 1 8 rs' h') (tw_rc H) dX10_readClause_149 g_X10_200 hg_X10_200 ⟨cx_le rfl, cx_le rfl⟩ rfl ⟨rfl, rfl⟩ ⟨cx_le rfl, cx_le rfl⟩ rfl (cx_le rfl) (fun M1 v2 h => ?_)
    refine cx_stC h (tw_A3 H) cx_cl_16 cx_vin_16_20 dX10_readClause_152 (fun M3 h => ?_)
    exact tw_readClause_153_v H M3 x1 _ h
noncomputable def tw_readClause_133 (N : Nat) (M : cx_M) (x1 : Int32) (z1 : Int32) (z2 : Int32) : Option cx_R :=
  cx_st M 3 20 z1 z2 fun M1 =>
  tw_readClause_134 N M1 x1
set_option maxRecDepth 100000 in
theorem tw_readClause_133_v {l : Launch} {g : cx_G} {adr : Nat → Nat} {X : cx_X} {N : Nat} (H : tw_H g adr) (M : cx_M) (x1 : Int32) (z1 : Int32) (z2 : Int32) (rs : cx_R) (h : tw_readClause_133 N M x1 z1 z2 = some rs) : cx_V l (g) X sX10_readClause cX10_readClause 133 [(0, .ref (adr 60)), (1, .int x1)] [.int z2, .int z1, .ref (adr 3)] M 0 0 rs := by
  unfold tw_readClause_133 at h
  refine cx_stI h (tw_A3 H) dX10_readClause_133 (fun M1 h => ?_)
  exact tw_readClause_134_v H M1 x1 _ h
noncomputable def tw_readClause_109 (N : Nat) (M : cx_M) (x1 : Int32) (x2 : Int32) : Option cx_R :=
  cx_cal (tw_readNumber N M 0 99) fun M1 v2 =>
  if x2 = 0 then (
    tw_readClause_133 N M1 x1 15 v2)
  else (
    tw_readClause_133 N M1 x1 15 (-v2))
set_option maxRecDepth 100000 in
theorem tw_readClause_109_v {l : Launch} {g : cx_G} {adr : Nat → Nat} {X : cx_X} {N : Nat} (H : tw_H g adr) (M : cx_M) (x1 : Int32) (x2 : Int32) (rs : cx_R) (h : tw_readClause_109 N M x1 x2 = some rs) : cx_V l (g) X sX10_readClause cX10_readClause 109 [(0, .ref (adr 60)), (1, .int x1), (2, .int x2)] [] M 0 0 rs := by
  unfold tw_readClause_109 at h
  refine cx_aload_n 0 dX10_readClause_109 rfl ?_
  refine cx_iconst 0 dX10_readClause_110 cx_ic_0 ?_
  refine cx_bipush 99 dX10_readClause_111 cx_bp_99 ?_
  refine cx_cVi [.int 0, .int 99] [] h (fun rs' h' => tw_readNumber_m H M 0 99 rs' h') (tw_rc H) dX10_readClause_113 g_X10_200 hg_X10_200 ⟨cx_le rfl, cx_le rfl⟩ rfl ⟨rfl, rfl⟩ ⟨cx_le rfl, cx_le rfl⟩ rfl (cx_le rfl) (fun M1 v2 h => ?_)
  refine cx_istore_n [(3, .int v2), (0, .ref (adr 60)), (1, .int x1), (2, .int x2)] dX10_readClause_116 (cx_lt rfl) rfl ?_
  refine cx_aload_n 1 dX10_readClause_117 rfl ?_
  refine cx_getR (tw_R3 H) q2393 dX10_readClause_118 ?_
  refine cx_bipush 15 dX10_readClause_121 cx_bp_15 ?_
  refine cx_iload_n 3 dX10_readClause_123 rfl ?_
  refine cx_if_eq 132 h dX10_readClause_124 rfl (fun h => ?_) (fun h => ?_)
  · refine cx_iload_n 0 dX10_readClause_132 rfl ?_
    refine cx_sub (lv' := [(0, .ref (adr 60)), (1, .int x1)]) [1, 2] rfl ?_
    exact tw_readClause_133_v H M1 x1 15 v2 _ h
  · refine cx_iload_n 0 dX10_readClause_127 rfl ?_
    refine cx_ineg dX10_readClause_128 ?_
    refine cx_goto 133 dX10_readClause_129 rfl ?_
    refine cx_sub (lv' := [(0, .ref (adr 60)), (1, .int x1)]) [1, 2] rfl ?_
    exact tw_readClause_133_v H M1 x1 15 (-v2) _ h
noncomputable def tw_readClause_89 (N : Nat) (M : cx_M) (x1 : Int32) : Option cx_R :=
  if x1 = 4 then (
    cx_cal (tw_isMarked N M 45) fun M1 v2 =>
    if v2 = 0 then (
      tw_readClause_109 N M1 x1 v2)
    else (
      cx_cal (tw_stepOn N M1) fun M3 _ =>
      tw_readClause_109 N M3 x1 v2))
  else (
    tw_readClause_134 N M x1)
set_option maxRecDepth 100000 in
theorem tw_readClause_89_v {l : Launch} {g : cx_G} {adr : Nat → Nat} {X : cx_X} {N : Nat} (H : tw_H g adr) (M : cx_M) (x1 : Int32) (rs : cx_R) (h : tw_readClause_89 N M x1 = some rs) : cx_V l (g) X sX10_readClause cX10_readClause 89 [(0, .ref (adr 60)), (1, .int x1)] [] M 0 0 rs := by
  unfold tw_readClause_89 at h
  refine cx_iload_n 1 dX10_readClause_89 rfl ?_
  refine cx_iconst 4 dX10_readClause_90 cx_ic_4 ?_
  refine cx_icmp_ne 134 h dX10_readClause_91 rfl (fun h => ?_) (fun h => ?_)
  · exact tw_readClause_134_v H M x1 _ h
  · refine cx_aload_n 0 dX10_readClause_94 rfl ?_
    refine cx_bipush 45 dX10_readClause_95 cx_bp_45 ?_
    refine cx_cVi [.int 45] [] h (fun rs' h' => tw_isMarked_m H M 45 rs' h') (tw_rc H) dX10_readClause_97 g_X10_186 hg_X10_186 ⟨cx_le rfl, cx_le rfl⟩ rfl ⟨rfl, rfl⟩ ⟨cx_le rfl, cx_le rfl⟩ rfl (cx_le rfl) (fun M1 v2 h => ?_)
    refine cx_istore_n [(2, .int v2), (0, .ref (adr 60)), (1, .int x1)] dX10_readClause_100 (cx_lt rfl) rfl ?_
    refine cx_iload_n 0 dX10_readClause_101 rfl ?_
    refine cx_if_eq 109 h dX10_readClause_102 rfl (fun h => ?_) (fun h => ?_)
    · refine cx_sub (lv' := [(0, .ref (adr 60)), (1, .int x1), (2, .int v2)]) [1, 2, 0] rfl ?_
      exact tw_readClause_109_v H M1 x1 v2 _ h
    · refine cx_aload_n 1 dX10_readClause_105 rfl ?_
      refine cx_cVv [] [] h (fun rs' h' => tw_stepOn_m H M1 rs' h') (tw_rc H) dX10_readClause_106 g_X10_193 hg_X10_193 ⟨cx_le rfl, cx_le rfl⟩ rfl ⟨rfl, rfl⟩ ⟨cx_le rfl, cx_le rfl⟩ rfl (cx_le rfl) (fun M3 _ h => ?_)
      refine cx_sub (lv' := [(0, .ref (adr 60)), (1, .int x1), (2, .int v2)]) [1, 2, 0] rfl ?_
      exact tw_readClause_109_v H M3 x1 v2 _ h
noncomputable def tw_readClause_70 (N : Nat) (M : cx_M) (x1 : Int32) : Option cx_R :=
  if x1 = 3 then (
    cx_cal (tw_readNumber N M 1 16) fun M1 v2 =>
    cx_put M1 3 14 v2 fun M3 =>
    tw_readClause_89 N M3 x1)
  else (
    tw_readClause_89 N M x1)
set_option maxRecDepth 100000 in
theorem tw_readClause_70_v {l : Launch} {g : cx_G} {adr : Nat → Nat} {X : cx_X} {N : Nat} (H : tw_H g adr) (M : cx_M) (x1 : Int32) (rs : cx_R) (h : tw_readClause_70 N M x1 = some rs) : cx_V l (g) X sX10_readClause cX10_readClause 70 [(0, .ref (adr 60)), (1, .int x1)] [] M 0 0 rs := by
  unfold tw_readClause_70 at h
  refine cx_iload_n 1 dX10_readClause_70 rfl ?_
  refine cx_iconst 3 dX10_readClause_71 cx_ic_3 ?_
  refine cx_icmp_ne 89 h dX10_readClause_72 rfl (fun h => ?_) (fun h => ?_)
  · exact tw_readClause_89_v H M x1 _ h
  · refine cx_aload_n 0 dX10_readClause_75 rfl ?_
    refine cx_getR (tw_R3 H) q2393 dX10_readClause_76 ?_
    refine cx_bipush 14 dX10_readClause_79 cx_bp_14 ?_
    refine cx_aload_n 0 dX10_readClause_81 rfl ?_
    refine cx_iconst 1 dX10_readClause_82 cx_ic_1 ?_
    refine cx_bipush 16 dX10_readClause_83 cx_bp_16 ?_
    refine cx_cVi [.int 1, .int 16] [.int 14, .ref (adr 3)] h (fun rs' h' => tw_readNumber_m H M 1 16 rs' h') (tw_rc H) dX10_readClause_85 g_X10_200 hg_X10_200 ⟨cx_le rfl, cx_le rfl⟩ rfl ⟨rfl, rfl⟩ ⟨cx_le rfl, cx_le rfl⟩ rfl (cx_le rfl) (fun M1 v2 h => ?_)
    refine cx_stC h (tw_A3 H) cx_cl_14 cx_vin_14_20 dX10_readClause_88 (fun M3 h => ?_)
    exact tw_readClause_89_v H M3 x1 _ h
noncomputable def tw_readClause_37 (N : Nat) (M : cx_M) (x1 : Int32) : Option cx_R :=
  if x1 = 2 then (
    cx_cal (tw_readNumber N M 0 9) fun M1 v2 =>
    cx_put M1 3 12 v2 fun M3 =>
    cx_cal (tw_readNumber N M3 0 9) fun M4 v5 =>
    cx_put M4 3 13 v5 fun M6 =>
    tw_readClause_70 N M6 x1)
  else (
    tw_readClause_70 N M x1)
set_option maxRecDepth 100000 in
theorem tw_readClause_37_v {l : Launch} {g : cx_G} {adr : Nat → Nat} {X : cx_X} {N : Nat} (H : tw_H g adr) (M : cx_M) (x1 : Int32) (rs : cx_R) (h : tw_readClause_37 N M x1 = some rs) : cx_V l (g) X sX10_readClause cX10_readClause 37 [(0, .ref (adr 60)), (1, .int x1)] [] M 0 0 rs := by
  unfold tw_readClause_37 at h
  refine cx_iload_n 1 dX10_readClause_37 rfl ?_
  refine cx_iconst 2 dX10_readClause_38 cx_ic_2 ?_
  refine cx_icmp_ne 70 h dX10_readClause_39 rfl (fun h => ?_) (fun h => ?_)
  · exact tw_readClause_70_v H M x1 _ h
  · refine cx_aload_n 0 dX10_readClause_42 rfl ?_
    refine cx_getR (tw_R3 H) q2393 dX10_readClause_43 ?_
    refine cx_bipush 12 dX10_readClause_46 cx_bp_12 ?_
    refine cx_aload_n 0 dX10_readClause_48 rfl ?_
    refine cx_iconst 0 dX10_readClause_49 cx_ic_0 ?_
    refine cx_bipush 9 dX10_readClause_50 cx_bp_9 ?_
    refine cx_cVi [.int 0, .int 9] [.int 12, .ref (adr 3)] h (fun rs' h' => tw_readNumber_m H M 0 9 rs' h') (tw_rc H) dX10_readClause_52 g_X10_200 hg_X10_200 ⟨cx_le rfl, cx_le rfl⟩ rfl ⟨rfl, rfl⟩ ⟨cx_le rfl, cx_le rfl⟩ rfl (cx_le rfl) (fun M1 v2 h => ?_)
    refine cx_stC h (tw_A3 H) cx_cl_12 cx_vin_12_20 dX10_readClause_55 (fun M3 h => ?_)
    refine cx_aload_n 0 dX10_readClause_56 rfl ?_
    refine cx_getR (tw_R3 H) q2393 dX10_readClause_57 ?_
    refine cx_bipush 13 dX10_readClause_60 cx_bp_13 ?_
    refine cx_aload_n 0 dX10_readClause_62 rfl ?_
    refine cx_iconst 0 dX10_readClause_63 cx_ic_0 ?_
    refine cx_bipush 9 dX10_readClause_64 cx_bp_9 ?_
    refine cx_cVi [.int 0, .int 9] [.int 13, .ref (adr 3)] h (fun rs' h' => tw_readNumber_m H M3 0 9 rs' h') (tw_rc H) dX10_readClause_66 g_X10_200 hg_X10_200 ⟨cx_le rfl, cx_le rfl⟩ rfl ⟨rfl, rfl⟩ ⟨cx_le rfl, cx_le rfl⟩ rfl (cx_le rfl) (fun M4 v5 h => ?_)
    refine cx_stC h (tw_A3 H) cx_cl_13 cx_vin_13_20 dX10_readClause_69 (fun M6 h => ?_)
    exact tw_readClause_70_v H M6 x1 _ h
noncomputable def tw_readClause_18 (N : Nat) (M : cx_M) (x1 : Int32) : Option cx_R :=
  if x1 = 1 then (
    cx_cal (tw_readNumber N M 1 64) fun M1 v2 =>
    cx_put M1 3 11 v2 fun M3 =>
    tw_readClause_37 N M3 x1)
  else (
    tw_readClause_37 N M x1)
set_option maxRecDepth 100000 in
theorem tw_readClause_18_v {l : Launch} {g : cx_G} {adr : Nat → Nat} {X : cx_X} {N : Nat} (H : tw_H g adr) (M : cx_M) (x1 : Int32) (rs : cx_R) (h : tw_readClause_18 N M x1 = some rs) : cx_V l (g) X sX10_readClause cX10_readClause 18 [(0, .ref (adr 60)), (1, .int x1)] [] M 0 0 rs := by
  unfold tw_readClause_18 at h
  refine cx_iload_n 1 dX10_readClause_18 rfl ?_
  refine cx_iconst 1 dX10_readClause_19 cx_ic_1 ?_
  refine cx_icmp_ne 37 h dX10_readClause_20 rfl (fun h => ?_) (fun h => ?_)
  · exact tw_readClause_37_v H M x1 _ h
  · refine cx_aload_n 0 dX10_readClause_23 rfl ?_
    refine cx_getR (tw_R3 H) q2393 dX10_readClause_24 ?_
    refine cx_bipush 11 dX10_readClause_27 cx_bp_11 ?_
    refine cx_aload_n 0 dX10_readClause_29 rfl ?_
    refine cx_iconst 1 dX10_readClause_30 cx_ic_1 ?_
    refine cx_bipush 64 dX10_readClause_31 cx_bp_64 ?_
    refine cx_cVi [.int 1, .int 64] [.int 11, .ref (adr 3)] h (fun rs' h' => tw_readNumber_m H M 1 64 rs' h') (tw_rc H) dX10_readClause_33 g_X10_200 hg_X10_200 ⟨cx_le rfl, cx_le rfl⟩ rfl ⟨rfl, rfl⟩ ⟨cx_le rfl, cx_le rfl⟩ rfl (cx_le rfl) (fun M1 v2 h => ?_)
    refine cx_stC h (tw_A3 H) cx_cl_11 cx_vin_11_20 dX10_readClause_36 (fun M3 h => ?_)
    exact tw_readClause_37_v H M3 x1 _ h
noncomputable def tw_readClause_0 (N : Nat) (M : cx_M) (x1 : Int32) : Option cx_R :=
  if x1 = 0 then (
    cx_cal (tw_readNumber N M 1 8) fun M1 v2 =>
    cx_put M1 3 10 v2 fun M3 =>
    tw_readClause_18 N M3 x1)
  else (
    tw_readClause_18 N M x1)
set_option maxRecDepth 100000 in
theorem tw_readClause_0_v {l : Launch} {g : cx_G} {adr : Nat → Nat} {X : cx_X} {N : Nat} (H : tw_H g adr) (M : cx_M) (x1 : Int32) (rs : cx_R) (h : tw_readClause_0 N M x1 = some rs) : cx_V l (g) X sX10_readClause cX10_readClause 0 [(0, .ref (adr 60)), (1, .int x1)] [] M 0 0 rs := by
  unfold tw_readClause_0 at h
  refine cx_iload_n 1 dX10_readClause_0 rfl ?_
  refine cx_if_ne 18 h dX10_readClause_1 rfl (fun h => ?_) (fun h => ?_)
  · exact tw_readClause_18_v H M x1 _ h
  · refine cx_aload_n 0 dX10_readClause_4 rfl ?_
    refine cx_getR (tw_R3 H) q2393 dX10_readClause_5 ?_
    refine cx_bipush 10 dX10_readClause_8 cx_bp_10 ?_
    refine cx_aload_n 0 dX10_readClause_10 rfl ?_
    refine cx_iconst 1 dX10_readClause_11 cx_ic_1 ?_
    refine cx_bipush 8 dX10_readClause_12 cx_bp_8 ?_
    refine cx_cVi [.int 1, .int 8] [.int 10, .ref (adr 3)] h (fun rs' h' => tw_readNumber_m H M 1 8 rs' h') (tw_rc H) dX10_readClause_14 g_X10_200 hg_X10_200 ⟨cx_le rfl, cx_le rfl⟩ rfl ⟨rfl, rfl⟩ ⟨cx_le rfl, cx_le rfl⟩ rfl (cx_le rfl) (fun M1 v2 h => ?_)
    refine cx_stC h (tw_A3 H) cx_cl_10 cx_vin_10_20 dX10_readClause_17 (fun M3 h => ?_)
    exact tw_readClause_18_v H M3 x1 _ h
noncomputable def tw_readClause (N : Nat) (M : cx_M) (x1 : Int32) : Option cx_R := tw_readClause_0 N M x1
theorem tw_readClause_m {l : Launch} {g : cx_G} {adr : Nat → Nat} {N : Nat} (H : tw_H g adr) (M : cx_M) (x1 : Int32) (rs : cx_R) (h : tw_readClause N M x1 = some rs) : cx_Met l (g) yX10_readClause cX10_readClause sX10_readClause [.ref (adr 60), .int x1] M rs :=
  cx_met (by decide +kernel) rfl rfl (lv := [(0, .ref (adr 60)), (1, .int x1)]) rfl (cx_le rfl) (fun X => cx_sub (lv' := [(0, .ref (adr 60)), (1, .int x1)]) [0, 1] rfl (tw_readClause_0_v H M x1 rs h))

abbrev sX10_readLine : cx_S := (3, RX10, cx_rI, { frames := 194, cells := 0, slots := 0, locals := 6445 }, some .int, false)
noncomputable def tw_readLine_35 (N : Nat) (M : cx_M) (x1 : Int32) (x2 : Int32) : Option cx_R :=
  cx_get M 60 19 fun v1 =>
  if v1 = 0 then (
    cx_cal (tw_stepOn N M) fun M2 _ =>
    cx_cal (tw_readClause N M2 x2) fun M3 _ =>
    cx_cal (tw_mark N M3 59) fun M4 _ =>
    some (M4, x1 ||| ((1 : Int32) <<< (x2 &&& 31)), 0))
  else (
    some (M, x1, 0))
set_option maxRecDepth 100000 in
theorem tw_readLine_35_v {l : Launch} {g : cx_G} {adr : Nat → Nat} {X : cx_X} {N : Nat} (H : tw_H g adr) (M : cx_M) (x1 : Int32) (x2 : Int32) (rs : cx_R) (h : tw_readLine_35 N M x1 x2 = some rs) : cx_V l (g) X sX10_readLine cX10_readLine 35 [(0, .ref (adr 60)), (1, .int x1), (2, .int x2)] [] M 0 0 rs := by
  unfold tw_readLine_35 at h
  refine cx_aload_n 0 dX10_readLine_35 rfl ?_
  refine cx_getI h (tw_F19 H) q2409 dX10_readLine_36 (fun v1 h => ?_)
  refine cx_if_eq 44 h dX10_readLine_39 rfl (fun h => ?_) (fun h => ?_)
  · refine cx_aload_n 0 dX10_readLine_44 rfl ?_
    refine cx_cVv [] [] h (fun rs' h' => tw_stepOn_m H M rs' h') (tw_rc H) dX10_readLine_45 g_X10_193 hg_X10_193 ⟨cx_le rfl, cx_le rfl⟩ rfl ⟨rfl, rfl⟩ ⟨cx_le rfl, cx_le rfl⟩ rfl (cx_le rfl) (fun M2 _ h => ?_)
    refine cx_aload_n 0 dX10_readLine_48 rfl ?_
    refine cx_iload_n 2 dX10_readLine_49 rfl ?_
    refine cx_cVv [.int x2] [] h (fun rs' h' => tw_readClause_m H M2 x2 rs' h') (tw_rc H) dX10_readLine_50 g_X10_244 hg_X10_244 ⟨cx_le rfl, cx_le rfl⟩ rfl ⟨rfl, rfl⟩ ⟨cx_le rfl, cx_le rfl⟩ rfl (cx_le rfl) (fun M3 _ h => ?_)
    refine cx_aload_n 0 dX10_readLine_53 rfl ?_
    refine cx_bipush 59 dX10_readLine_54 cx_bp_59 ?_
    refine cx_cVv [.int 59] [] h (fun rs' h' => tw_mark_m H M3 59 rs' h') (tw_rc H) dX10_readLine_56 g_X10_210 hg_X10_210 ⟨cx_le rfl, cx_le rfl⟩ rfl ⟨rfl, rfl⟩ ⟨cx_le rfl, cx_le rfl⟩ rfl (cx_le rfl) (fun M4 _ h => ?_)
    refine cx_iload_n 1 dX10_readLine_59 rfl ?_
    refine cx_iconst 1 dX10_readLine_60 cx_ic_1 ?_
    refine cx_iload_n 2 dX10_readLine_61 rfl ?_
    refine cx_ishl dX10_readLine_62 ?_
    refine cx_ior dX10_readLine_63 ?_
    exact cx_iret h rfl rfl (cx_le rfl) (cx_le rfl) dX10_readLine_64
  · refine cx_iload_n 1 dX10_readLine_42 rfl ?_
    exact cx_iret h rfl rfl (cx_le rfl) (cx_le rfl) dX10_readLine_43
noncomputable def tw_readLine_0 (N : Nat) (M : cx_M) (x1 : Int32) : Option cx_R :=
  cx_cal (tw_which N 1 M) fun M1 v2 =>
  if v2 = (-1) then (
    cx_cal (tw_wrong N M1 1) fun M6 _ =>
    tw_readLine_35 N M6 x1 v2)
  else (
    cx_cal (tw_isOf N M1 x1 v2) fun M3 v4 =>
    if v4 = 0 then (
      tw_readLine_35 N M3 x1 v2)
    else (
      cx_cal (tw_wrong N M3 5) fun M5 _ =>
      tw_readLine_35 N M5 x1 v2))
set_option maxRecDepth 100000 in
theorem tw_readLine_0_v {l : Launch} {g : cx_G} {adr : Nat → Nat} {X : cx_X} {N : Nat} (H : tw_H g adr) (M : cx_M) (x1 : Int32) (rs : cx_R) (h : tw_readLine_0 N M x1 = some rs) : cx_V l (g) X sX10_readLine cX10_readLine 0 [(0, .ref (adr 60)), (1, .int x1)] [] M 0 0 rs := by
  unfold tw_readLine_0 at h
  refine cx_aload_n 0 dX10_readLine_0 rfl ?_
  refine cx_aload_n 0 dX10_readLine_1 rfl ?_
  refine cx_getR (tw_R1 H) q2391 dX10_readLine_2 ?_
  refine cx_cVi [.ref (adr 1)] [] h (fun rs' h' => tw_which_m H (by decide) M rs' h') (tw_rc H) dX10_readLine_5 g_X10_206 hg_X10_206 ⟨cx_le rfl, cx_le rfl⟩ rfl ⟨rfl, rfl⟩ ⟨cx_le rfl, cx_le rfl⟩ rfl (cx_le rfl) (fun M1 v2 h => ?_)
  refine cx_istore_n [(2, .int v2), (0, .ref (adr 60)), (1, .int x1)] dX10_readLine_8 (cx_lt rfl) rfl ?_
  refine cx_iload_n 0 dX10_readLine_9 rfl ?_
  refine cx_iconst (-1) dX10_readLine_10 cx_ic_m1 ?_
  refine cx_icmp_ne 22 h dX10_readLine_11 rfl (fun h => ?_) (fun h => ?_)
  · refine cx_iload_n 2 dX10_readLine_22 rfl ?_
    refine cx_iload_n 0 dX10_readLine_23 rfl ?_
    refine cx_cSi [.int x1, .int v2] [] h (fun rs' h' => tw_isOf_m H M1 x1 v2 rs' h') dX10_readLine_24 g_X10_240 hg_X10_240 ⟨cx_le rfl, cx_le rfl⟩ rfl ⟨rfl, rfl⟩ ⟨cx_le rfl, cx_le rfl⟩ rfl (cx_le rfl) (fun M3 v4 h => ?_)
    refine cx_if_eq 35 h dX10_readLine_27 rfl (fun h => ?_) (fun h => ?_)
    · refine cx_sub (lv' := [(0, .ref (adr 60)), (1, .int x1), (2, .int v2)]) [1, 2, 0] rfl ?_
      exact tw_readLine_35_v H M3 x1 v2 _ h
    · refine cx_aload_n 1 dX10_readLine_30 rfl ?_
      refine cx_iconst 5 dX10_readLine_31 cx_ic_5 ?_
      refine cx_cVv [.int 5] [] h (fun rs' h' => tw_wrong_m H M3 5 rs' h') (tw_rc H) dX10_readLine_32 g_X10_189 hg_X10_189 ⟨cx_le rfl, cx_le rfl⟩ rfl ⟨rfl, rfl⟩ ⟨cx_le rfl, cx_le rfl⟩ rfl (cx_le rfl) (fun M5 _ h => ?_)
      refine cx_sub (lv' := [(0, .ref (adr 60)), (1, .int x1), (2, .int v2)]) [1, 2, 0] rfl ?_
      exact tw_readLine_35_v H M5 x1 v2 _ h
  · refine cx_aload_n 1 dX10_readLine_14 rfl ?_
    refine cx_iconst 1 dX10_readLine_15 cx_ic_1 ?_
    refine cx_cVv [.int 1] [] h (fun rs' h' => tw_wrong_m H M1 1 rs' h') (tw_rc H) dX10_readLine_16 g_X10_189 hg_X10_189 ⟨cx_le rfl, cx_le rfl⟩ rfl ⟨rfl, rfl⟩ ⟨cx_le rfl, cx_le rfl⟩ rfl (cx_le rfl) (fun M6 _ h => ?_)
    refine cx_goto 35 dX10_readLine_19 rfl ?_
    refine cx_sub (lv' := [(0, .ref (adr 60)), (1, .int x1), (2, .int v2)]) [1, 2, 0] rfl ?_
    exact tw_readLine_35_v H M6 x1 v2 _ h
noncomputable def tw_readLine (N : Nat) (M : cx_M) (x1 : Int32) : Option cx_R := tw_readLine_0 N M x1
theorem tw_readLine_m {l : Launch} {g : cx_G} {adr : Nat → Nat} {N : Nat} (H : tw_H g adr) (M : cx_M) (x1 : Int32) (rs : cx_R) (h : tw_readLine N M x1 = some rs) : cx_Met l (g) yX10_readLine cX10_readLine sX10_readLine [.ref (adr 60), .int x1] M rs :=
  cx_met (by decide +kernel) rfl rfl (lv := [(0, .ref (adr 60)), (1, .int x1)]) rfl (cx_le rfl) (fun X => cx_sub (lv' := [(0, .ref (adr 60)), (1, .int x1)]) [0, 1] rfl (tw_readLine_0_v H M x1 rs h))

abbrev sX10_line : cx_S := (3, RX10, cx_rI, { frames := 195, cells := 0, slots := 0, locals := 6467 }, some .int, false)
noncomputable def tw_line_16 (N : Nat) (M : cx_M) : Option cx_R :=
  cx_cal (tw_fail N M 1) fun M1 v2 =>
  some (M1, v2, 0)
set_option maxRecDepth 100000 in
theorem tw_line_16_v {l : Launch} {g : cx_G} {adr : Nat → Nat} {X : cx_X} {N : Nat} (H : tw_H g adr) (M : cx_M) (rs : cx_R) (h : tw_line_16 N M = some rs) : cx_V l (g) X sX10_line cX10_line 16 [(0, .ref (adr 60))] [] M 0 0 rs := by
  unfold tw_line_16 at h
  refine cx_aload_n 0 dX10_line_16 rfl ?_
  refine cx_iconst 1 dX10_line_17 cx_ic_1 ?_
  refine cx_cVi [.int 1] [] h (fun rs' h' => tw_fail_m H M 1 rs' h') (tw_rc H) dX10_line_18 g_X10_250 hg_X10_250 ⟨cx_le rfl, cx_le rfl⟩ rfl ⟨rfl, rfl⟩ ⟨cx_le rfl, cx_le rfl⟩ rfl (cx_le rfl) (fun M1 v2 h => ?_)
  exact cx_iret h rfl rfl (cx_le rfl) (cx_le rfl) dX10_line_21
noncomputable def tw_line_80 (N : Nat) (M : cx_M) : Option cx_R :=
  cx_get M 60 19 fun v1 =>
  if v1 = 0 then (
    cx_cal (tw_takeOver N M) fun M2 _ =>
    some (M2, 0, 0))
  else (
    cx_get M 60 20 fun v3 =>
    cx_put M 60 21 v3 fun M4 =>
    cx_get M4 7 0 fun v5 =>
    cx_put M4 7 0 (v5 + 1) fun M6 =>
    cx_get M6 60 19 fun v7 =>
    some (M6, v7, 0))
set_option maxRecDepth 100000 in
theorem tw_line_80_v {l : Launch} {g : cx_G} {adr : Nat → Nat} {X : cx_X} {N : Nat} (H : tw_H g adr) (M : cx_M) (rs : cx_R) (h : tw_line_80 N M = some rs) : cx_V l (g) X sX10_line cX10_line 80 [(0, .ref (adr 60))] [] M 0 0 rs := by
  unfold tw_line_80 at h
  refine cx_aload_n 0 dX10_line_80 rfl ?_
  refine cx_getI h (tw_F19 H) q2409 dX10_line_81 (fun v1 h => ?_)
  refine cx_if_eq 110 h dX10_line_84 rfl (fun h => ?_) (fun h => ?_)
  · refine cx_aload_n 0 dX10_line_110 rfl ?_
    refine cx_cVv [] [] h (fun rs' h' => tw_takeOver_m H M rs' h') (tw_rc H) dX10_line_111 g_X10_259 hg_X10_259 ⟨cx_le rfl, cx_le rfl⟩ rfl ⟨rfl, rfl⟩ ⟨cx_le rfl, cx_le rfl⟩ rfl (cx_le rfl) (fun M2 _ h => ?_)
    refine cx_iconst 0 dX10_line_114 cx_ic_0 ?_
    exact cx_iret h rfl rfl (cx_le rfl) (cx_le rfl) dX10_line_115
  · refine cx_aload_n 0 dX10_line_87 rfl ?_
    refine cx_aload_n 0 dX10_line_88 rfl ?_
    refine cx_getI h (tw_F20 H) q2410 dX10_line_89 (fun v3 h => ?_)
    refine cx_putI h (tw_F21 H) rfl rfl rfl q2411 dX10_line_92 (fun M4 h => ?_)
    refine cx_aload_n 0 dX10_line_95 rfl ?_
    refine cx_getR (tw_R7 H) q2397 dX10_line_96 ?_
    refine cx_iconst 0 dX10_line_99 cx_ic_0 ?_
    refine cx_dup2 dX10_line_100 rfl rfl ?_
    refine cx_ldC h (tw_A7 H) cx_cl_0 cx_vin_0_3 dX10_line_101 (fun v5 h => ?_)
    refine cx_iconst 1 dX10_line_102 cx_ic_1 ?_
    refine cx_iadd dX10_line_103 ?_
    refine cx_stC h (tw_A7 H) cx_cl_0 cx_vin_0_3 dX10_line_104 (fun M6 h => ?_)
    refine cx_aload_n 0 dX10_line_105 rfl ?_
    refine cx_getI h (tw_F19 H) q2409 dX10_line_106 (fun v7 h => ?_)
    exact cx_iret h rfl rfl (cx_le rfl) (cx_le rfl) dX10_line_109
noncomputable def tw_line_57b (N : Nat) (r_57 : cx_M → Int32 → Option cx_R) (M : cx_M) (x2 : Int32) : Option cx_R :=
  cx_get M 60 19 fun v1 =>
  if v1 = 0 then (
    cx_get M 60 15 fun v2 =>
    if v2 = 0 then (
      tw_line_80 N M)
    else (
      cx_cal (tw_readLine N M x2) fun M3 v4 =>
      r_57 M3 v4))
  else (
    tw_line_80 N M)
set_option maxRecDepth 100000 in
theorem tw_line_57b_v {l : Launch} {g : cx_G} {adr : Nat → Nat} {X : cx_X} {N : Nat} {r_57 : cx_M → Int32 → Option cx_R} (H : tw_H g adr) (hr_57 : ∀ (M : cx_M) (x2 : Int32) (rs : cx_R), r_57 M x2 = some rs → cx_V l (g) X sX10_line cX10_line 57 [(0, .ref (adr 60)), (2, .int x2)] [] M 0 0 rs) (M : cx_M) (x2 : Int32) (rs : cx_R) (h : tw_line_57b N r_57 M x2 = some rs) : cx_V l (g) X sX10_line cX10_line 57 [(0, .ref (adr 60)), (2, .int x2)] [] M 0 0 rs := by
  unfold tw_line_57b at h
  refine cx_aload_n 0 dX10_line_57 rfl ?_
  refine cx_getI h (tw_F19 H) q2409 dX10_line_58 (fun v1 h => ?_)
  refine cx_if_ne 80 h dX10_line_61 rfl (fun h => ?_) (fun h => ?_)
  · refine cx_sub (lv' := [(0, .ref (adr 60))]) [0] rfl ?_
    exact tw_line_80_v H M _ h
  · refine cx_aload_n 0 dX10_line_64 rfl ?_
    refine cx_getI h (tw_F15 H) q2405 dX10_line_65 (fun v2 h => ?_)
    refine cx_if_eq 80 h dX10_line_68 rfl (fun h => ?_) (fun h => ?_)
    · refine cx_sub (lv' := [(0, .ref (adr 60))]) [0] rfl ?_
      exact tw_line_80_v H M _ h
    · refine cx_aload_n 0 dX10_line_71 rfl ?_
      refine cx_iload_n 1 dX10_line_72 rfl ?_
      refine cx_cVi [.int x2] [] h (fun rs' h' => tw_readLine_m H M x2 rs' h') (tw_rc H) dX10_line_73 g_X10_256 hg_X10_256 ⟨cx_le rfl, cx_le rfl⟩ rfl ⟨rfl, rfl⟩ ⟨cx_le rfl, cx_le rfl⟩ rfl (cx_le rfl) (fun M3 v4 h => ?_)
      refine cx_istore_n [(2, .int v4), (0, .ref (adr 60))] dX10_line_76 (cx_lt rfl) rfl ?_
      refine cx_goto 57 dX10_line_77 rfl ?_
      refine cx_sub (lv' := [(0, .ref (adr 60)), (2, .int v4)]) [1, 0] rfl ?_
      exact hr_57 M3 v4 _ h
noncomputable def tw_line_57 (N : Nat) : Nat → cx_M → Int32 → Option cx_R :=
  cx_fix (fun _ _ => none) (fun r_57 => tw_line_57b N r_57)
theorem tw_line_57_v {l : Launch} {g : cx_G} {adr : Nat → Nat} {X : cx_X} {N : Nat} (H : tw_H g adr) : ∀ (n : Nat) (M : cx_M) (x2 : Int32) (rs : cx_R), tw_line_57 N n M x2 = some rs → cx_V l (g) X sX10_line cX10_line 57 [(0, .ref (adr 60)), (2, .int x2)] [] M 0 0 rs :=
  cx_fixI (fun (r : cx_M → Int32 → Option cx_R) => ∀ (M : cx_M) (x2 : Int32) (rs : cx_R), r M x2 = some rs → cx_V l (g) X sX10_line cX10_line 57 [(0, .ref (adr 60)), (2, .int x2)] [] M 0 0 rs) (fun _ _ _ h => by cases h) (fun r hr M x2 rs h => tw_line_57b_v H hr M x2 rs h)
noncomputable def tw_line_0 (N : Nat) (M : cx_M) (x1 : Int32) : Option cx_R :=
  cx_cal (tw_ready N M) fun M1 _ =>
  if x1 < 0 then (
    tw_line_16 N M1)
  else (
    cx_get M1 60 12 fun v2 =>
    if x1 ≤ v2 then (
      cx_put M1 60 12 0 fun M3 =>
      cx_put M3 60 14 x1 fun M4 =>
      cx_put M4 60 13 0 fun M5 =>
      cx_put M5 60 19 0 fun M6 =>
      cx_put M6 60 21 (-1) fun M7 =>
      cx_cal (tw_beginTold N M7) fun M8 _ =>
      cx_cal (tw_stepOn N M8) fun M9 _ =>
      tw_line_57 N N M9 0)
    else (
      tw_line_16 N M1))
set_option maxRecDepth 100000 in
theorem tw_line_0_v {l : Launch} {g : cx_G} {adr : Nat → Nat} {X : cx_X} {N : Nat} (H : tw_H g adr) (M : cx_M) (x1 : Int32) (rs : cx_R) (h : tw_line_0 N M x1 = some rs) : cx_V l (g) X sX10_line cX10_line 0 [(0, .ref (adr 60)), (1, .int x1)] [] M 0 0 rs := by
  unfold tw_line_0 at h
  refine cx_aload_n 0 dX10_line_0 rfl ?_
  refine cx_cVv [] [] h (fun rs' h' => tw_ready_m H M rs' h') (tw_rc H) dX10_line_1 g_X10_247 hg_X10_247 ⟨cx_le rfl, cx_le rfl⟩ rfl ⟨rfl, rfl⟩ ⟨cx_le rfl, cx_le rfl⟩ rfl (cx_le rfl) (fun M1 _ h => ?_)
  refine cx_iload_n 1 dX10_line_4 rfl ?_
  refine cx_if_lt 16 h dX10_line_5 rfl (fun h => ?_) (fun h => ?_)
  · refine cx_sub (lv' := [(0, .ref (adr 60))]) [0] rfl ?_
    exact tw_line_16_v H M1 _ h
  · refine cx_iload_n 1 dX10_line_8 rfl ?_
    refine cx_aload_n 0 dX10_line_9 rfl ?_
    refine cx_getI h (tw_F12 H) q2402 dX10_line_10 (fun v2 h => ?_)
    refine cx_icmp_le 22 h dX10_line_13 rfl (fun h => ?_) (fun h => ?_)
    · refine cx_aload_n 0 dX10_line_22 rfl ?_
      refine cx_iconst 0 dX10_line_23 cx_ic_0 ?_
      refine cx_putI h (tw_F12 H) rfl rfl rfl q2402 dX10_line_24 (fun M3 h => ?_)
      refine cx_aload_n 0 dX10_line_27 rfl ?_
      refine cx_iload_n 1 dX10_line_28 rfl ?_
      refine cx_putI h (tw_F14 H) rfl rfl rfl q2404 dX10_line_29 (fun M4 h => ?_)
      refine cx_aload_n 0 dX10_line_32 rfl ?_
      refine cx_iconst 0 dX10_line_33 cx_ic_0 ?_
      refine cx_putI h (tw_F13 H) rfl rfl rfl q2403 dX10_line_34 (fun M5 h => ?_)
      refine cx_aload_n 0 dX10_line_37 rfl ?_
      refine cx_iconst 0 dX10_line_38 cx_ic_0 ?_
      refine cx_putI h (tw_F19 H) rfl rfl rfl q2409 dX10_line_39 (fun M6 h => ?_)
      refine cx_aload_n 0 dX10_line_42 rfl ?_
      refine cx_iconst (-1) dX10_line_43 cx_ic_m1 ?_
      refine cx_putI h (tw_F21 H) rfl rfl rfl q2411 dX10_line_44 (fun M7 h => ?_)
      refine cx_aload_n 0 dX10_line_47 rfl ?_
      refine cx_cVv [] [] h (fun rs' h' => tw_beginTold_m H M7 rs' h') (tw_rc H) dX10_line_48 g_X10_253 hg_X10_253 ⟨cx_le rfl, cx_le rfl⟩ rfl ⟨rfl, rfl⟩ ⟨cx_le rfl, cx_le rfl⟩ rfl (cx_le rfl) (fun M8 _ h => ?_)
      refine cx_aload_n 0 dX10_line_51 rfl ?_
      refine cx_cVv [] [] h (fun rs' h' => tw_stepOn_m H M8 rs' h') (tw_rc H) dX10_line_52 g_X10_193 hg_X10_193 ⟨cx_le rfl, cx_le rfl⟩ rfl ⟨rfl, rfl⟩ ⟨cx_le rfl, cx_le rfl⟩ rfl (cx_le rfl) (fun M9 _ h => ?_)
      refine cx_iconst 0 dX10_line_55 cx_ic_0 ?_
      refine cx_istore_n [(2, .int 0), (0, .ref (adr 60)), (1, .int x1)] dX10_line_56 (cx_lt rfl) rfl ?_
      refine cx_sub (lv' := [(0, .ref (adr 60)), (2, .int 0)]) [1, 0] rfl ?_
      exact tw_line_57_v H N M9 0 _ h
    · refine cx_sub (lv' := [(0, .ref (adr 60))]) [0] rfl ?_
      exact tw_line_16_v H M1 _ h
noncomputable def tw_line (N : Nat) (M : cx_M) (x1 : Int32) : Option cx_R := tw_line_0 N M x1
theorem tw_line_m {l : Launch} {g : cx_G} {adr : Nat → Nat} {N : Nat} (H : tw_H g adr) (M : cx_M) (x1 : Int32) (rs : cx_R) (h : tw_line N M x1 = some rs) : cx_Met l (g) yX10_line cX10_line sX10_line [.ref (adr 60), .int x1] M rs :=
  cx_met (by decide +kernel) rfl rfl (lv := [(0, .ref (adr 60)), (1, .int x1)]) rfl (cx_le rfl) (fun X => cx_sub (lv' := [(0, .ref (adr 60)), (1, .int x1)]) [0, 1] rfl (tw_line_0_v H M x1 rs h))

abbrev sX10_rememberNow : cx_S := (1, RX10, cx_rV, { frames := 1, cells := 0, slots := 0, locals := 22 }, none, false)
noncomputable def tw_rememberNow_0 (N : Nat) (M : cx_M) : Option cx_R :=
  cx_cal (tw_copyTo N 34 8 M) fun M1 _ =>
  some (M1, 0, 0)
set_option maxRecDepth 100000 in
theorem tw_rememberNow_0_v {l : Launch} {g : cx_G} {adr : Nat → Nat} {X : cx_X} {N : Nat} (H : tw_H g adr) (M : cx_M) (rs : cx_R) (h : tw_rememberNow_0 N M = some rs) : cx_V l (g) X sX10_rememberNow cX10_rememberNow 0 [(0, .ref (adr 60))] [] M 0 0 rs := by
  unfold tw_rememberNow_0 at h
  refine cx_aload_n 0 dX10_rememberNow_0 rfl ?_
  refine cx_getR (tw_R34 H) q2424 dX10_rememberNow_1 ?_
  refine cx_aload_n 0 dX10_rememberNow_4 rfl ?_
  refine cx_getR (tw_R8 H) q2398 dX10_rememberNow_5 ?_
  refine cx_cSv [.ref (adr 34), .ref (adr 8)] [] h (fun rs' h' => tw_copyTo_m H (rfl : twIA 34 = true) (rfl : twIA 8 = true) M rs' h') dX10_rememberNow_8 g_X10_394 hg_X10_394 ⟨cx_le rfl, cx_le rfl⟩ rfl ⟨rfl, rfl⟩ ⟨cx_le rfl, cx_le rfl⟩ rfl (cx_le rfl) (fun M1 _ h => ?_)
  exact cx_vret h rfl rfl (cx_le rfl) (cx_le rfl) dX10_rememberNow_11
noncomputable def tw_rememberNow (N : Nat) (M : cx_M) : Option cx_R := tw_rememberNow_0 N M
theorem tw_rememberNow_m {l : Launch} {g : cx_G} {adr : Nat → Nat} {N : Nat} (H : tw_H g adr) (M : cx_M) (rs : cx_R) (h : tw_rememberNow N M = some rs) : cx_Met l (g) yX10_rememberNow cX10_rememberNow sX10_rememberNow [.ref (adr 60)] M rs :=
  cx_met (by decide +kernel) rfl rfl (lv := [(0, .ref (adr 60))]) rfl (cx_le rfl) (fun X => cx_sub (lv' := [(0, .ref (adr 60))]) [0] rfl (tw_rememberNow_0_v H M rs h))

abbrev sX10_tellFits : cx_S := (3, RX10, cx_rV, { frames := 8, cells := 0, slots := 0, locals := 178 }, none, false)
noncomputable def tw_tellFits_76 (N : Nat) (r_20 : cx_M → Int32 → Int32 → Option cx_R) (M : cx_M) (x1 : Int32) (x2 : Int32) : Option cx_R :=
  cx_let (x2 + 1) fun v1 =>
  r_20 M x1 v1
set_option maxRecDepth 100000 in
theorem tw_tellFits_76_v {l : Launch} {g : cx_G} {adr : Nat → Nat} {X : cx_X} {N : Nat} {r_20 : cx_M → Int32 → Int32 → Option cx_R} (H : tw_H g adr) (hr_20 : ∀ (M : cx_M) (x1 : Int32) (x2 : Int32) (rs : cx_R), r_20 M x1 x2 = some rs → cx_V l (g) X sX10_tellFits cX10_tellFits 20 [(0, .ref (adr 60)), (1, .int x1), (2, .int x2)] [] M 0 0 rs) (M : cx_M) (x1 : Int32) (x2 : Int32) (rs : cx_R) (h : tw_tellFits_76 N r_20 M x1 x2 = some rs) : cx_V l (g) X sX10_tellFits cX10_tellFits 76 [(0, .ref (adr 60)), (1, .int x1), (2, .int x2)] [] M 0 0 rs := by
  unfold tw_tellFits_76 at h
  refine cx_iinc 2 1 (fun v1 => [(2, .int v1), (0, .ref (adr 60)), (1, .int x1)]) h dX10_tellFits_76 rfl cx_ic_1 (cx_lt rfl) (fun _ => rfl) (fun v1 h => ?_)
  refine cx_goto 20 dX10_tellFits_79 rfl ?_
  refine cx_sub (lv' := [(0, .ref (adr 60)), (1, .int x1), (2, .int v1)]) [1, 2, 0] rfl ?_
  exact hr_20 M x1 v1 _ h
noncomputable def tw_tellFits_20b (N : Nat) (r_20 : cx_M → Int32 → Int32 → Option cx_R) (M : cx_M) (x1 : Int32) (x2 : Int32) : Option cx_R :=
  if 99 < x2 then (
    some (M, 0, 0))
  else (
    if x2 = x1 then (
      tw_tellFits_76 N r_20 M x1 x2)
    else (
      cx_put M 8 27 x2 fun M1 =>
      cx_get M1 60 42 fun v2 =>
      cx_cal (tw_isAsNoted N M1 v2) fun M3 v4 =>
      if v4 = 0 then (
        tw_tellFits_76 N r_20 M3 x1 x2)
      else (
        cx_get M3 60 42 fun v5 =>
        cx_st M3 40 199 v5 x2 fun M6 =>
        cx_get M6 60 42 fun v7 =>
        cx_put M6 60 42 (v7 + 1) fun M8 =>
        tw_tellFits_76 N r_20 M8 x1 x2)))
set_option maxRecDepth 100000 in
theorem tw_tellFits_20b_v {l : Launch} {g : cx_G} {adr : Nat → Nat} {X : cx_X} {N : Nat} {r_20 : cx_M → Int32 → Int32 → Option cx_R} (H : tw_H g adr) (hr_20 : ∀ (M : cx_M) (x1 : Int32) (x2 : Int32) (rs : cx_R), r_20 M x1 x2 = some rs → cx_V l (g) X sX10_tellFits cX10_tellFits 20 [(0, .ref (adr 60)), (1, .int x1), (2, .int x2)] [] M 0 0 rs) (M : cx_M) (x1 : Int32) (x2 : Int32) (rs : cx_R) (h : tw_tellFits_20b N r_20 M x1 x2 = some rs) : cx_V l (g) X sX10_tellFits cX10_tellFits 20 [(0, .ref (adr 60)), (1, .int x1), (2, .int x2)] [] M 0 0 rs := by
  unfold tw_tellFits_20b at h
  refine cx_iload_n 2 dX10_tellFits_20 rfl ?_
  refine cx_bipush 99 dX10_tellFits_21 cx_bp_99 ?_
  refine cx_icmp_gt 82 h dX10_tellFits_23 rfl (fun h => ?_) (fun h => ?_)
  · exact cx_vret h rfl rfl (cx_le rfl) (cx_le rfl) dX10_tellFits_82
  · refine cx_iload_n 2 dX10_tellFits_26 rfl ?_
    refine cx_iload_n 1 dX10_tellFits_27 rfl ?_
    refine cx_icmp_ne 34 h dX10_tellFits_28 rfl (fun h => ?_) (fun h => ?_)
    · refine cx_aload_n 0 dX10_tellFits_34 rfl ?_
      refine cx_getR (tw_R8 H) q2398 dX10_tellFits_35 ?_
      refine cx_bipush 27 dX10_tellFits_38 cx_bp_27 ?_
      refine cx_iload_n 2 dX10_tellFits_40 rfl ?_
      refine cx_stC h (tw_A8 H) cx_cl_27 cx_vin_27_665 dX10_tellFits_41 (fun M1 h => ?_)
      refine cx_aload_n 0 dX10_tellFits_42 rfl ?_
      refine cx_aload_n 0 dX10_tellFits_43 rfl ?_
      refine cx_getI h (tw_F42 H) q2432 dX10_tellFits_44 (fun v2 h => ?_)
      refine cx_cVi [.int v2] [] h (fun rs' h' => tw_isAsNoted_m H M1 v2 rs' h') (tw_rc H) dX10_tellFits_47 g_X10_438 hg_X10_438 ⟨cx_le rfl, cx_le rfl⟩ rfl ⟨rfl, rfl⟩ ⟨cx_le rfl, cx_le rfl⟩ rfl (cx_le rfl) (fun M3 v4 h => ?_)
      refine cx_if_ne 56 h dX10_tellFits_50 rfl (fun h => ?_) (fun h => ?_)
      · refine cx_aload_n 0 dX10_tellFits_56 rfl ?_
        refine cx_getR (tw_R40 H) q2430 dX10_tellFits_57 ?_
        refine cx_aload_n 0 dX10_tellFits_60 rfl ?_
        refine cx_getI h (tw_F42 H) q2432 dX10_tellFits_61 (fun v5 h => ?_)
        refine cx_iload_n 2 dX10_tellFits_64 rfl ?_
        refine cx_stI h (tw_A40 H) dX10_tellFits_65 (fun M6 h => ?_)
        refine cx_aload_n 0 dX10_tellFits_66 rfl ?_
        refine cx_dup dX10_tellFits_67 rfl ?_
        refine cx_getI h (tw_F42 H) q2432 dX10_tellFits_68 (fun v7 h => ?_)
        refine cx_iconst 1 dX10_tellFits_71 cx_ic_1 ?_
        refine cx_iadd dX10_tellFits_72 ?_
        refine cx_putI h (tw_F42 H) rfl rfl rfl q2432 dX10_tellFits_73 (fun M8 h => ?_)
        exact tw_tellFits_76_v H hr_20 M8 x1 x2 _ h
      · refine cx_goto 76 dX10_tellFits_53 rfl ?_
        exact tw_tellFits_76_v H hr_20 M3 x1 x2 _ h
    · refine cx_goto 76 dX10_tellFits_31 rfl ?_
      exact tw_tellFits_76_v H hr_20 M x1 x2 _ h
noncomputable def tw_tellFits_20 (N : Nat) : Nat → cx_M → Int32 → Int32 → Option cx_R :=
  cx_fix (fun _ _ _ => none) (fun r_20 => tw_tellFits_20b N r_20)
theorem tw_tellFits_20_v {l : Launch} {g : cx_G} {adr : Nat → Nat} {X : cx_X} {N : Nat} (H : tw_H g adr) : ∀ (n : Nat) (M : cx_M) (x1 : Int32) (x2 : Int32) (rs : cx_R), tw_tellFits_20 N n M x1 x2 = some rs → cx_V l (g) X sX10_tellFits cX10_tellFits 20 [(0, .ref (adr 60)), (1, .int x1), (2, .int x2)] [] M 0 0 rs :=
  cx_fixI (fun (r : cx_M → Int32 → Int32 → Option cx_R) => ∀ (M : cx_M) (x1 : Int32) (x2 : Int32) (rs : cx_R), r M x1 x2 = some rs → cx_V l (g) X sX10_tellFits cX10_tellFits 20 [(0, .ref (adr 60)), (1, .int x1), (2, .int x2)] [] M 0 0 rs) (fun _ _ _ _ h => by cases h) (fun r hr M x1 x2 rs h => tw_tellFits_20b_v H hr M x1 x2 rs h)
noncomputable def tw_tellFits_0 (N : Nat) (M : cx_M) : Option cx_R :=
  cx_put M 60 42 0 fun M1 =>
  cx_cal (tw_rememberNow N M1) fun M2 _ =>
  cx_get M2 8 27 fun v3 =>
  tw_tellFits_20 N N M2 v3 (-99)
set_option maxRecDepth 100000 in
theorem tw_tellFits_0_v {l : Launch} {g : cx_G} {adr : Nat → Nat} {X : cx_X} {N : Nat} (H : tw_H g adr) (M : cx_M) (rs : cx_R) (h : tw_tellFits_0 N M = some rs) : cx_V l (g) X sX10_tellFits cX10_tellFits 0 [(0, .ref (adr 60))] [] M 0 0 rs := by
  unfold tw_tellFits_0 at h
  refine cx_aload_n 0 dX10_tellFits_0 rfl ?_
  refine cx_iconst 0 dX10_tellFits_1 cx_ic_0 ?_
  refine cx_putI h (tw_F42 H) rfl rfl rfl q2432 dX10_tellFits_2 (fun M1 h => ?_)
  refine cx_aload_n 0 dX10_tellFits_5 rfl ?_
  refine cx_cVv [] [] h (fun rs' h' => tw_rememberNow_m H M1 rs' h') (tw_rc H) dX10_tellFits_6 g_X10_402 hg_X10_402 ⟨cx_le rfl, cx_le rfl⟩ rfl ⟨rfl, rfl⟩ ⟨cx_le rfl, cx_le rfl⟩ rfl (cx_le rfl) (fun M2 _ h => ?_)
  refine cx_aload_n 0 dX10_tellFits_9 rfl ?_
  refine cx_getR (tw_R8 H) q2398 dX10_tellFits_10 ?_
  refine cx_bipush 27 dX10_tellFits_13 cx_bp_27 ?_
  refine cx_ldC h (tw_A8 H) cx_cl_27 cx_vin_27_665 dX10_tellFits_15 (fun v3 h => ?_)
  refine cx_istore_n [(1, .int v3), (0, .ref (adr 60))] dX10_tellFits_16 (cx_lt rfl) rfl ?_
  refine cx_bipush (-99) dX10_tellFits_17 cx_bp_m99 ?_
  refine cx_istore_n [(2, .int (-99)), (1, .int v3), (0, .ref (adr 60))] dX10_tellFits_19 (cx_lt rfl) rfl ?_
  refine cx_sub (lv' := [(0, .ref (adr 60)), (1, .int v3), (2, .int (-99))]) [2, 1, 0] rfl ?_
  exact tw_tellFits_20_v H N M2 v3 (-99) _ h
noncomputable def tw_tellFits (N : Nat) (M : cx_M) : Option cx_R := tw_tellFits_0 N M
theorem tw_tellFits_m {l : Launch} {g : cx_G} {adr : Nat → Nat} {N : Nat} (H : tw_H g adr) (M : cx_M) (rs : cx_R) (h : tw_tellFits N M = some rs) : cx_Met l (g) yX10_tellFits cX10_tellFits sX10_tellFits [.ref (adr 60)] M rs :=
  cx_met (by decide +kernel) rfl rfl (lv := [(0, .ref (adr 60))]) rfl (cx_le rfl) (fun X => cx_sub (lv' := [(0, .ref (adr 60))]) [0] rfl (tw_tellFits_0_v H M rs h))

abbrev sX10_unlikeAt : cx_S := (6, RX10, cx_rI, { frames := 0, cells := 0, slots := 0, locals := 0 }, some .int, false)
noncomputable def tw_unlikeAt_58 (N : Nat) (r_4 : cx_M → Int32 → Int32 → Int32 → Option cx_R) (r_18 : cx_M → Int32 → Int32 → Int32 → Int32 → Int32 → Option cx_R) (M : cx_M) (x1 : Int32) (x2 : Int32) (x3 : Int32) (x5 : Int32) (z0 : Int32) : Option cx_R :=
  cx_let (x5 + 1) fun v1 =>
  r_18 M x1 x2 x3 z0 v1
set_option maxRecDepth 100000 in
theorem tw_unlikeAt_58_v {l : Launch} {g : cx_G} {adr : Nat → Nat} {X : cx_X} {N : Nat} {r_4 : cx_M → Int32 → Int32 → Int32 → Option cx_R} {r_18 : cx_M → Int32 → Int32 → Int32 → Int32 → Int32 → Option cx_R} (H : tw_H g adr) (hr_4 : ∀ (M : cx_M) (x1 : Int32) (x2 : Int32) (x3 : Int32) (rs : cx_R), r_4 M x1 x2 x3 = some rs → cx_V l (g) X sX10_unlikeAt cX10_unlikeAt 4 [(0, .ref (adr 60)), (1, .int x1), (2, .int x2), (3, .int x3)] [] M 0 0 rs) (hr_18 : ∀ (M : cx_M) (x1 : Int32) (x2 : Int32) (x3 : Int32) (x4 : Int32) (x5 : Int32) (rs : cx_R), r_18 M x1 x2 x3 x4 x5 = some rs → cx_V l (g) X sX10_unlikeAt cX10_unlikeAt 18 [(0, .ref (adr 60)), (1, .int x1), (2, .int x2), (3, .int x3), (4, .int x4), (5, .int x5)] [] M 0 0 rs) (M : cx_M) (x1 : Int32) (x2 : Int32) (x3 : Int32) (x5 : Int32) (z0 : Int32) (rs : cx_R) (h : tw_unlikeAt_58 N r_4 r_18 M x1 x2 x3 x5 z0 = some rs) : cx_V l (g) X sX10_unlikeAt cX10_unlikeAt 58 [(0, .ref (adr 60)), (1, .int x1), (2, .int x2), (3, .int x3), (5, .int x5)] [.int z0] M 0 0 rs := by
  unfold tw_unlikeAt_58 at h
  refine cx_istore [(4, .int z0), (0, .ref (adr 60)), (1, .int x1), (2, .int x2), (3, .int x3), (5, .int x5)] dX10_unlikeAt_58 (cx_lt rfl) rfl ?_
  refine cx_iinc 5 1 (fun v1 => [(5, .int v1), (4, .int z0), (0, .ref (adr 60)), (1, .int x1), (2, .int x2), (3, .int x3)]) h dX10_unlikeAt_60 rfl cx_ic_1 (cx_lt rfl) (fun _ => rfl) (fun v1 h => ?_)
  refine cx_goto 18 dX10_unlikeAt_63 rfl ?_
  refine cx_sub (lv' := [(0, .ref (adr 60)), (1, .int x1), (2, .int x2), (3, .int x3), (4, .int z0), (5, .int v1)]) [2, 3, 4, 5, 1, 0] rfl ?_
  exact hr_18 M x1 x2 x3 z0 v1 _ h
noncomputable def tw_unlikeAt_77 (N : Nat) (r_4 : cx_M → Int32 → Int32 → Int32 → Option cx_R) (M : cx_M) (x1 : Int32) (x3 : Int32) (z0 : Int32) (z1 : Int32) : Option cx_R :=
  cx_let (z0 + z1) fun v1 =>
  cx_let (x3 + 1) fun v2 =>
  r_4 M x1 v1 v2
set_option maxRecDepth 100000 in
theorem tw_unlikeAt_77_v {l : Launch} {g : cx_G} {adr : Nat → Nat} {X : cx_X} {N : Nat} {r_4 : cx_M → Int32 → Int32 → Int32 → Option cx_R} (H : tw_H g adr) (hr_4 : ∀ (M : cx_M) (x1 : Int32) (x2 : Int32) (x3 : Int32) (rs : cx_R), r_4 M x1 x2 x3 = some rs → cx_V l (g) X sX10_unlikeAt cX10_unlikeAt 4 [(0, .ref (adr 60)), (1, .int x1), (2, .int x2), (3, .int x3)] [] M 0 0 rs) (M : cx_M) (x1 : Int32) (x3 : Int32) (z0 : Int32) (z1 : Int32) (rs : cx_R) (h : tw_unlikeAt_77 N r_4 M x1 x3 z0 z1 = some rs) : cx_V l (g) X sX10_unlikeAt cX10_unlikeAt 77 [(0, .ref (adr 60)), (1, .int x1), (3, .int x3)] [.int z1, .int z0] M 0 0 rs := by
  unfold tw_unlikeAt_77 at h
  refine cx_iadd dX10_unlikeAt_77 ?_
  refine cx_letI h (fun v1 h => ?_)
  refine cx_istore_n [(2, .int v1), (0, .ref (adr 60)), (1, .int x1), (3, .int x3)] dX10_unlikeAt_78 (cx_lt rfl) rfl ?_
  refine cx_iinc 3 1 (fun v2 => [(3, .int v2), (2, .int v1), (0, .ref (adr 60)), (1, .int x1)]) h dX10_unlikeAt_79 rfl cx_ic_1 (cx_lt rfl) (fun _ => rfl) (fun v2 h => ?_)
  refine cx_goto 4 dX10_unlikeAt_82 rfl ?_
  refine cx_sub (lv' := [(0, .ref (adr 60)), (1, .int x1), (2, .int v1), (3, .int v2)]) [2, 3, 1, 0] rfl ?_
  exact hr_4 M x1 v1 v2 _ h
noncomputable def tw_unlikeAt_66 (N : Nat) (r_4 : cx_M → Int32 → Int32 → Int32 → Option cx_R) (M : cx_M) (x1 : Int32) (x2 : Int32) (x3 : Int32) (x4 : Int32) : Option cx_R :=
  if x4 = 0 then (
    tw_unlikeAt_77 N r_4 M x1 x3 x2 0)
  else (
    tw_unlikeAt_77 N r_4 M x1 x3 x2 1)
set_option maxRecDepth 100000 in
theorem tw_unlikeAt_66_v {l : Launch} {g : cx_G} {adr : Nat → Nat} {X : cx_X} {N : Nat} {r_4 : cx_M → Int32 → Int32 → Int32 → Option cx_R} (H : tw_H g adr) (hr_4 : ∀ (M : cx_M) (x1 : Int32) (x2 : Int32) (x3 : Int32) (rs : cx_R), r_4 M x1 x2 x3 = some rs → cx_V l (g) X sX10_unlikeAt cX10_unlikeAt 4 [(0, .ref (adr 60)), (1, .int x1), (2, .int x2), (3, .int x3)] [] M 0 0 rs) (M : cx_M) (x1 : Int32) (x2 : Int32) (x3 : Int32) (x4 : Int32) (rs : cx_R) (h : tw_unlikeAt_66 N r_4 M x1 x2 x3 x4 = some rs) : cx_V l (g) X sX10_unlikeAt cX10_unlikeAt 66 [(0, .ref (adr 60)), (1, .int x1), (2, .int x2), (3, .int x3), (4, .int x4)] [] M 0 0 rs := by
  unfold tw_unlikeAt_66 at h
  refine cx_iload_n 2 dX10_unlikeAt_66 rfl ?_
  refine cx_iload 4 dX10_unlikeAt_67 rfl ?_
  refine cx_if_eq 76 h dX10_unlikeAt_69 rfl (fun h => ?_) (fun h => ?_)
  · refine cx_iconst 0 dX10_unlikeAt_76 cx_ic_0 ?_
    refine cx_sub (lv' := [(0, .ref (adr 60)), (1, .int x1), (3, .int x3)]) [0, 1, 3] rfl ?_
    exact tw_unlikeAt_77_v H hr_4 M x1 x3 x2 0 _ h
  · refine cx_iconst 1 dX10_unlikeAt_72 cx_ic_1 ?_
    refine cx_goto 77 dX10_unlikeAt_73 rfl ?_
    refine cx_sub (lv' := [(0, .ref (adr 60)), (1, .int x1), (3, .int x3)]) [0, 1, 3] rfl ?_
    exact tw_unlikeAt_77_v H hr_4 M x1 x3 x2 1 _ h
noncomputable def tw_unlikeAt_18b (N : Nat) (r_4 : cx_M → Int32 → Int32 → Int32 → Option cx_R) (r_18 : cx_M → Int32 → Int32 → Int32 → Int32 → Int32 → Option cx_R) (M : cx_M) (x1 : Int32) (x2 : Int32) (x3 : Int32) (x4 : Int32) (x5 : Int32) : Option cx_R :=
  if x3 ≤ x5 then (
    tw_unlikeAt_66 N r_4 M x1 x2 x3 x4)
  else (
    if x4 = 0 then (
      tw_unlikeAt_66 N r_4 M x1 x2 x3 x4)
    else (
      cx_ld M 41 995 (((5 : Int32) * x5) + x1) fun v1 =>
      cx_ld M 41 995 (((5 : Int32) * x3) + x1) fun v2 =>
      if v1 = v2 then (
        tw_unlikeAt_58 N r_4 r_18 M x1 x2 x3 x5 0)
      else (
        tw_unlikeAt_58 N r_4 r_18 M x1 x2 x3 x5 1)))
set_option maxRecDepth 100000 in
theorem tw_unlikeAt_18b_v {l : Launch} {g : cx_G} {adr : Nat → Nat} {X : cx_X} {N : Nat} {r_4 : cx_M → Int32 → Int32 → Int32 → Option cx_R} {r_18 : cx_M → Int32 → Int32 → Int32 → Int32 → Int32 → Option cx_R} (H : tw_H g adr) (hr_4 : ∀ (M : cx_M) (x1 : Int32) (x2 : Int32) (x3 : Int32) (rs : cx_R), r_4 M x1 x2 x3 = some rs → cx_V l (g) X sX10_unlikeAt cX10_unlikeAt 4 [(0, .ref (adr 60)), (1, .int x1), (2, .int x2), (3, .int x3)] [] M 0 0 rs) (hr_18 : ∀ (M : cx_M) (x1 : Int32) (x2 : Int32) (x3 : Int32) (x4 : Int32) (x5 : Int32) (rs : cx_R), r_18 M x1 x2 x3 x4 x5 = some rs → cx_V l (g) X sX10_unlikeAt cX10_unlikeAt 18 [(0, .ref (adr 60)), (1, .int x1), (2, .int x2), (3, .int x3), (4, .int x4), (5, .int x5)] [] M 0 0 rs) (M : cx_M) (x1 : Int32) (x2 : Int32) (x3 : Int32) (x4 : Int32) (x5 : Int32) (rs : cx_R) (h : tw_unlikeAt_18b N r_4 r_18 M x1 x2 x3 x4 x5 = some rs) : cx_V l (g) X sX10_unlikeAt cX10_unlikeAt 18 [(0, .ref (adr 60)), (1, .int x1), (2, .int x2), (3, .int x3), (4, .int x4), (5, .int x5)] [] M 0 0 rs := by
  unfold tw_unlikeAt_18b at h
  refine cx_iload 5 dX10_unlikeAt_18 rfl ?_
  refine cx_iload_n 3 dX10_unlikeAt_20 rfl ?_
  refine cx_icmp_ge 66 h dX10_unlikeAt_21 rfl (fun h => ?_) (fun h => ?_)
  · refine cx_sub (lv' := [(0, .ref (adr 60)), (1, .int x1), (2, .int x2), (3, .int x3), (4, .int x4)]) [0, 1, 2, 3, 4] rfl ?_
    exact tw_unlikeAt_66_v H hr_4 M x1 x2 x3 x4 _ h
  · refine cx_iload 4 dX10_unlikeAt_24 rfl ?_
    refine cx_if_eq 66 h dX10_unlikeAt_26 rfl (fun h => ?_) (fun h => ?_)
    · refine cx_sub (lv' := [(0, .ref (adr 60)), (1, .int x1), (2, .int x2), (3, .int x3), (4, .int x4)]) [0, 1, 2, 3, 4] rfl ?_
      exact tw_unlikeAt_66_v H hr_4 M x1 x2 x3 x4 _ h
    · refine cx_aload_n 0 dX10_unlikeAt_29 rfl ?_
      refine cx_getR (tw_R41 H) q2431 dX10_unlikeAt_30 ?_
      refine cx_iconst 5 dX10_unlikeAt_33 cx_ic_5 ?_
      refine cx_iload 5 dX10_unlikeAt_34 rfl ?_
      refine cx_imul dX10_unlikeAt_36 ?_
      refine cx_iload_n 1 dX10_unlikeAt_37 rfl ?_
      refine cx_iadd dX10_unlikeAt_38 ?_
      refine cx_ldI h (tw_A41 H) dX10_unlikeAt_39 (fun v1 h => ?_)
      refine cx_aload_n 0 dX10_unlikeAt_40 rfl ?_
      refine cx_getR (tw_R41 H) q2431 dX10_unlikeAt_41 ?_
      refine cx_iconst 5 dX10_unlikeAt_44 cx_ic_5 ?_
      refine cx_iload_n 3 dX10_unlikeAt_45 rfl ?_
      refine cx_imul dX10_unlikeAt_46 ?_
      refine cx_iload_n 1 dX10_unlikeAt_47 rfl ?_
      refine cx_iadd dX10_unlikeAt_48 ?_
      refine cx_ldI h (tw_A41 H) dX10_unlikeAt_49 (fun v2 h => ?_)
      refine cx_icmp_eq 57 h dX10_unlikeAt_50 rfl (fun h => ?_) (fun h => ?_)
      · refine cx_iconst 0 dX10_unlikeAt_57 cx_ic_0 ?_
        refine cx_sub (lv' := [(0, .ref (adr 60)), (1, .int x1), (2, .int x2), (3, .int x3), (5, .int x5)]) [0, 1, 2, 3, 5] rfl ?_
        exact tw_unlikeAt_58_v H hr_4 hr_18 M x1 x2 x3 x5 0 _ h
      · refine cx_iconst 1 dX10_unlikeAt_53 cx_ic_1 ?_
        refine cx_goto 58 dX10_unlikeAt_54 rfl ?_
        refine cx_sub (lv' := [(0, .ref (adr 60)), (1, .int x1), (2, .int x2), (3, .int x3), (5, .int x5)]) [0, 1, 2, 3, 5] rfl ?_
        exact tw_unlikeAt_58_v H hr_4 hr_18 M x1 x2 x3 x5 1 _ h
noncomputable def tw_unlikeAt_18 (N : Nat) (r_4 : cx_M → Int32 → Int32 → Int32 → Option cx_R) : Nat → cx_M → Int32 → Int32 → Int32 → Int32 → Int32 → Option cx_R :=
  cx_fix (fun _ _ _ _ _ _ => none) (fun r_18 => tw_unlikeAt_18b N r_4 r_18)
theorem tw_unlikeAt_18_v {l : Launch} {g : cx_G} {adr : Nat → Nat} {X : cx_X} {N : Nat} {r_4 : cx_M → Int32 → Int32 → Int32 → Option cx_R} (H : tw_H g adr) (hr_4 : ∀ (M : cx_M) (x1 : Int32) (x2 : Int32) (x3 : Int32) (rs : cx_R), r_4 M x1 x2 x3 = some rs → cx_V l (g) X sX10_unlikeAt cX10_unlikeAt 4 [(0, .ref (adr 60)), (1, .int x1), (2, .int x2), (3, .int x3)] [] M 0 0 rs) : ∀ (n : Nat) (M : cx_M) (x1 : Int32) (x2 : Int32) (x3 : Int32) (x4 : Int32) (x5 : Int32) (rs : cx_R), tw_unlikeAt_18 N r_4 n M x1 x2 x3 x4 x5 = some rs → cx_V l (g) X sX10_unlikeAt cX10_unlikeAt 18 [(0, .ref (adr 60)), (1, .int x1), (2, .int x2), (3, .int x3), (4, .int x4), (5, .int x5)] [] M 0 0 rs :=
  cx_fixI (fun (r : cx_M → Int32 → Int32 → Int32 → Int32 → Int32 → Option cx_R) => ∀ (M : cx_M) (x1 : Int32) (x2 : Int32) (x3 : Int32) (x4 : Int32) (x5 : Int32) (rs : cx_R), r M x1 x2 x3 x4 x5 = some rs → cx_V l (g) X sX10_unlikeAt cX10_unlikeAt 18 [(0, .ref (adr 60)), (1, .int x1), (2, .int x2), (3, .int x3), (4, .int x4), (5, .int x5)] [] M 0 0 rs) (fun _ _ _ _ _ _ _ h => by cases h) (fun r hr M x1 x2 x3 x4 x5 rs h => tw_unlikeAt_18b_v H hr_4 hr M x1 x2 x3 x4 x5 rs h)
noncomputable def tw_unlikeAt_4b (N : Nat) (r_4 : cx_M → Int32 → Int32 → Int32 → Option cx_R) (M : cx_M) (x1 : Int32) (x2 : Int32) (x3 : Int32) : Option cx_R :=
  cx_get M 60 42 fun v1 =>
  if v1 ≤ x3 then (
    some (M, x2, 0))
  else (
    tw_unlikeAt_18 N r_4 N M x1 x2 x3 1 0)
set_option maxRecDepth 100000 in
theorem tw_unlikeAt_4b_v {l : Launch} {g : cx_G} {adr : Nat → Nat} {X : cx_X} {N : Nat} {r_4 : cx_M → Int32 → Int32 → Int32 → Option cx_R} (H : tw_H g adr) (hr_4 : ∀ (M : cx_M) (x1 : Int32) (x2 : Int32) (x3 : Int32) (rs : cx_R), r_4 M x1 x2 x3 = some rs → cx_V l (g) X sX10_unlikeAt cX10_unlikeAt 4 [(0, .ref (adr 60)), (1, .int x1), (2, .int x2), (3, .int x3)] [] M 0 0 rs) (M : cx_M) (x1 : Int32) (x2 : Int32) (x3 : Int32) (rs : cx_R) (h : tw_unlikeAt_4b N r_4 M x1 x2 x3 = some rs) : cx_V l (g) X sX10_unlikeAt cX10_unlikeAt 4 [(0, .ref (adr 60)), (1, .int x1), (2, .int x2), (3, .int x3)] [] M 0 0 rs := by
  unfold tw_unlikeAt_4b at h
  refine cx_iload_n 3 dX10_unlikeAt_4 rfl ?_
  refine cx_aload_n 0 dX10_unlikeAt_5 rfl ?_
  refine cx_getI h (tw_F42 H) q2432 dX10_unlikeAt_6 (fun v1 h => ?_)
  refine cx_icmp_ge 85 h dX10_unlikeAt_9 rfl (fun h => ?_) (fun h => ?_)
  · refine cx_iload_n 2 dX10_unlikeAt_85 rfl ?_
    exact cx_iret h rfl rfl (cx_le rfl) (cx_le rfl) dX10_unlikeAt_86
  · refine cx_iconst 1 dX10_unlikeAt_12 cx_ic_1 ?_
    refine cx_istore [(4, .int 1), (0, .ref (adr 60)), (1, .int x1), (2, .int x2), (3, .int x3)] dX10_unlikeAt_13 (cx_lt rfl) rfl ?_
    refine cx_iconst 0 dX10_unlikeAt_15 cx_ic_0 ?_
    refine cx_istore [(5, .int 0), (4, .int 1), (0, .ref (adr 60)), (1, .int x1), (2, .int x2), (3, .int x3)] dX10_unlikeAt_16 (cx_lt rfl) rfl ?_
    refine cx_sub (lv' := [(0, .ref (adr 60)), (1, .int x1), (2, .int x2), (3, .int x3), (4, .int 1), (5, .int 0)]) [2, 3, 4, 5, 1, 0] rfl ?_
    exact tw_unlikeAt_18_v H hr_4 N M x1 x2 x3 1 0 _ h
noncomputable def tw_unlikeAt_4 (N : Nat) : Nat → cx_M → Int32 → Int32 → Int32 → Option cx_R :=
  cx_fix (fun _ _ _ _ => none) (fun r_4 => tw_unlikeAt_4b N r_4)
theorem tw_unlikeAt_4_v {l : Launch} {g : cx_G} {adr : Nat → Nat} {X : cx_X} {N : Nat} (H : tw_H g adr) : ∀ (n : Nat) (M : cx_M) (x1 : Int32) (x2 : Int32) (x3 : Int32) (rs : cx_R), tw_unlikeAt_4 N n M x1 x2 x3 = some rs → cx_V l (g) X sX10_unlikeAt cX10_unlikeAt 4 [(0, .ref (adr 60)), (1, .int x1), (2, .int x2), (3, .int x3)] [] M 0 0 rs :=
  cx_fixI (fun (r : cx_M → Int32 → Int32 → Int32 → Option cx_R) => ∀ (M : cx_M) (x1 : Int32) (x2 : Int32) (x3 : Int32) (rs : cx_R), r M x1 x2 x3 = some rs → cx_V l (g) X sX10_unlikeAt cX10_unlikeAt 4 [(0, .ref (adr 60)), (1, .int x1), (2, .int x2), (3, .int x3)] [] M 0 0 rs) (fun _ _ _ _ _ h => by cases h) (fun r hr M x1 x2 x3 rs h => tw_unlikeAt_4b_v H hr M x1 x2 x3 rs h)
noncomputable def tw_unlikeAt_0 (N : Nat) (M : cx_M) (x1 : Int32) : Option cx_R :=
  tw_unlikeAt_4 N N M x1 0 0
set_option maxRecDepth 100000 in
theorem tw_unlikeAt_0_v {l : Launch} {g : cx_G} {adr : Nat → Nat} {X : cx_X} {N : Nat} (H : tw_H g adr) (M : cx_M) (x1 : Int32) (rs : cx_R) (h : tw_unlikeAt_0 N M x1 = some rs) : cx_V l (g) X sX10_unlikeAt cX10_unlikeAt 0 [(0, .ref (adr 60)), (1, .int x1)] [] M 0 0 rs := by
  unfold tw_unlikeAt_0 at h
  refine cx_iconst 0 dX10_unlikeAt_0 cx_ic_0 ?_
  refine cx_istore_n [(2, .int 0), (0, .ref (adr 60)), (1, .int x1)] dX10_unlikeAt_1 (cx_lt rfl) rfl ?_
  refine cx_iconst 0 dX10_unlikeAt_2 cx_ic_0 ?_
  refine cx_istore_n [(3, .int 0), (2, .int 0), (0, .ref (adr 60)), (1, .int x1)] dX10_unlikeAt_3 (cx_lt rfl) rfl ?_
  refine cx_sub (lv' := [(0, .ref (adr 60)), (1, .int x1), (2, .int 0), (3, .int 0)]) [2, 3, 1, 0] rfl ?_
  exact tw_unlikeAt_4_v H N M x1 0 0 _ h
noncomputable def tw_unlikeAt (N : Nat) (M : cx_M) (x1 : Int32) : Option cx_R := tw_unlikeAt_0 N M x1
theorem tw_unlikeAt_m {l : Launch} {g : cx_G} {adr : Nat → Nat} {N : Nat} (H : tw_H g adr) (M : cx_M) (x1 : Int32) (rs : cx_R) (h : tw_unlikeAt N M x1 = some rs) : cx_Met l (g) yX10_unlikeAt cX10_unlikeAt sX10_unlikeAt [.ref (adr 60), .int x1] M rs :=
  cx_met (by decide +kernel) rfl rfl (lv := [(0, .ref (adr 60)), (1, .int x1)]) rfl (cx_le rfl) (fun X => cx_sub (lv' := [(0, .ref (adr 60)), (1, .int x1)]) [0, 1] rfl (tw_unlikeAt_0_v H M x1 rs h))
