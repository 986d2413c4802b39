abbrev sJ19_get : cx_S := (3, RJ19, cx_rI, { frames := 1, cells := 0, slots := 0, locals := 20 }, some .boolean, false)
noncomputable def jBs_get_0 (N : cx_N) (b : Nat) (M : cx_M) (x1 : Int32) : Option cx_R :=
  if 0 ≤ x1 then (
    cx_cal (jBs_checkInvariants N b M) fun M1 _ =>
    cx_cal (jBs_wordIndex N M1 x1) fun M2 v3 =>
    cx_get M2 b 1 fun v4 =>
    if v4 ≤ v3 then (
      some (M2, 0, 0))
    else (
      cx_ldw M2 ((b + 1)) 2 v3 fun w5 =>
      if (lg_cmp (w5 &&& (cx_shl64 1 x1)) 0) = 0 then (
        some (M2, 0, 0))
      else (
        some (M2, 1, 0))))
  else (
    none)
set_option maxRecDepth 100000 in
theorem jBs_get_0_v {l : Launch} {g : cx_G} {adr : Nat → Nat} {X : cx_X} {N : cx_N} {b : Nat} (H : cCp_H g adr N) (hb : jBs_H g adr b) (M : cx_M) (x1 : Int32) (rs : cx_R) (h : jBs_get_0 N b M x1 = some rs) : cx_V l (g) X sJ19_get cJ19_get 0 [(0, .ref (adr b)), (1, .int x1)] [] M 0 0 rs := by
  unfold jBs_get_0 at h
  refine cx_iload_n 1 dJ19_get_0 rfl ?_
  refine cx_if_ge 31 h dJ19_get_1 rfl (fun h => ?_) (fun h => ?_)
  · refine cx_aload_n 0 dJ19_get_31 rfl ?_
    refine cx_cVv [] [] h (fun rs' h' => jBs_checkInvariants_m H hb M rs' h') (jBs_rc hb) dJ19_get_32 g_J19_56 hg_J19_56 ⟨cx_le rfl, cx_le rfl⟩ rfl ⟨rfl, rfl⟩ ⟨cx_le rfl, cx_le rfl⟩ rfl (cx_le rfl) (fun M1 _ h => ?_)
    refine cx_iload_n 1 dJ19_get_35 rfl ?_
    refine cx_cSi [.int x1] [] h (fun rs' h' => jBs_wordIndex_m H M1 x1 rs' h') dJ19_get_36 g_J19_52 hg_J19_52 ⟨cx_le rfl, cx_le rfl⟩ rfl ⟨rfl, rfl⟩ ⟨cx_le rfl, cx_le rfl⟩ rfl (cx_le rfl) (fun M2 v3 h => ?_)
    refine cx_istore_n [(2, .int v3), (0, .ref (adr b)), (1, .int x1)] dJ19_get_39 (cx_lt rfl) rfl ?_
    refine cx_iload_n 0 dJ19_get_40 rfl ?_
    refine cx_aload_n 1 dJ19_get_41 rfl ?_
    refine cx_getI h (jBs_F1 hb) q638 dJ19_get_42 (fun v4 h => ?_)
    refine cx_icmp_ge 67 h dJ19_get_45 rfl (fun h => ?_) (fun h => ?_)
    · refine cx_iconst 0 dJ19_get_67 cx_ic_0 ?_
      exact cx_zret h cx_z_0 rfl rfl (cx_le rfl) (cx_le rfl) dJ19_get_68
    · refine cx_aload_n 1 dJ19_get_48 rfl ?_
      refine cx_getR (jBs_R0 hb) q637 dJ19_get_49 ?_
      refine cx_iload_n 0 dJ19_get_52 rfl ?_
      refine cx_ldW h (jBs_L0 hb) dJ19_get_53 (fun w5 h => ?_)
      refine cx_lconst 1 dJ19_get_54 cx_lc_1 ?_
      refine cx_iload_n 2 dJ19_get_55 rfl ?_
      refine cx_lshl dJ19_get_56 ?_
      refine cx_land dJ19_get_57 ?_
      refine cx_lconst 0 dJ19_get_58 cx_lc_0 ?_
      refine cx_lcmp dJ19_get_59 ?_
      refine cx_if_eq 67 h dJ19_get_60 rfl (fun h => ?_) (fun h => ?_)
      · refine cx_iconst 0 dJ19_get_67 cx_ic_0 ?_
        exact cx_zret h cx_z_0 rfl rfl (cx_le rfl) (cx_le rfl) dJ19_get_68
      · refine cx_iconst 1 dJ19_get_63 cx_ic_1 ?_
        refine cx_goto 68 dJ19_get_64 rfl ?_
        exact cx_zret h cx_z_1 rfl rfl (cx_le rfl) (cx_le rfl) dJ19_get_68
  · cases h
noncomputable def jBs_get (N : cx_N) (b : Nat) (M : cx_M) (x1 : Int32) : Option cx_R := jBs_get_0 N b M x1
theorem jBs_get_m {l : Launch} {g : cx_G} {adr : Nat → Nat} {N : cx_N} {b : Nat} (H : cCp_H g adr N) (hb : jBs_H g adr b) (M : cx_M) (x1 : Int32) (rs : cx_R) (h : jBs_get N b M x1 = some rs) : cx_Met l (g) yJ19_get cJ19_get sJ19_get [.ref (adr b), .int x1] M rs :=
  cx_met (by decide +kernel) rfl rfl (lv := [(0, .ref (adr b)), (1, .int x1)]) rfl (cx_le rfl) (fun X => cx_sub (lv' := [(0, .ref (adr b)), (1, .int x1)]) [0, 1] rfl (jBs_get_0_v H hb M x1 rs h))
