
theorem dDf_X11 : ∀ j, j < 9 → defaultValue (tyX11 j) = dFv 10 j (fun _ => 0) (fun _ => none) := by decide +kernel
theorem gd_X1_143 : GoodIn lw_all (ws_ yX11_init cX11_init 3 none) := lw_meth q1378
theorem hgd_X1_143 : yX11_init.cls ≠ "java/lang/invoke/MethodHandle" ∧ yX11_init.cls ≠ "java/lang/invoke/VarHandle" ∧ (parseMethodDescriptor yX11_init.desc).map (fun d => d.parameters.length) = some 2 := by decide +kernel
theorem gd_X1_146 : GoodIn lw_all (wsV RX1 146 RX11 yX11_whole (ws_ yX11_whole cX11_whole 2 (some (.object "CircuitCells$Line")))) := lw_V q1480 q1481 q1482 q148 q1483
theorem hgd_X1_146 : yX11_whole.cls = RX11 ∧ yX11_whole.cls ≠ "java/lang/invoke/MethodHandle" ∧ yX11_whole.cls ≠ "java/lang/invoke/VarHandle" ∧ (parseMethodDescriptor yX11_whole.desc).map (fun d => d.parameters.length) = some 0 := by decide +kernel
abbrev esX1_lineD (bc bs : Nat) : cx_S := (3, RX1, cx_rI, { frames := 323, cells := bc, slots := bs, locals := 32067 }, some .int, false)
def dCc_lineD_17 (N : dNt) (bc bs : Nat) (Q : cd_Qt) (a0 : Nat) (M : cx_M) (P : dP) (L : dL) (k n : Nat) (x1 : Int32) (z0 : Int32) : Prop :=
  cd_thr 2  (bc - k) (bs - n) M P L z0 (fun M1 P2 L3 v4 r5 e9 k6 n7 => (e9 ≠ 0 → Q M1 P2 L3 v4 none e9 (k + k6) (n + n7)) ∧ (e9 = 0 → cd_add k k6 n n7 fun k8 n9 =>
  (a0, (0, 1, 0)) ∈ L3 ∧ cq_put M1 (dc a0) 9 0 fun M10 =>
  (a0, (0, 1, 0)) ∈ L3 ∧ cq_put M10 (dc a0) 10 (-1) fun M11 =>
  cd_new bc bs k8 n9 9 (0, 10, 0) M11 P2 L3 fun a12 M13 P14 L15 k16 n17 =>
  (a0, (0, 1, 0)) ∈ L15 ∧ P14 a0 8 = some (N.2 509) ∧
  rd_init N (bc - k16) (bs - n17) M13 P14 L15 a12 x1 (fun M18 P19 L20 v21 r22 e9 k23 n24 => e9 = 0 → cd_add k16 k23 n17 n24 fun k25 n26 =>
  (a12, (0, 10, 0)) ∈ L20 ∧
  rd_whole N (bc - k25) (bs - n26) M18 P19 L20 a12 (fun M27 P28 L29 v30 r31 e9 k32 n33 => (e9 ≠ 0 → 10 ≤ e9 ∧ ∀ q36, ((q36, (0, 5, 0)) ∈ L29 ∧ M27 (dc q36) 6 = nI (e9 - 10) ∧ M27 (dc q36) 7 = v30) → cd_add k25 k32 n26 n33 fun k37 n38 =>
    (q36, (0, 5, 0)) ∈ L29 ∧ cq_get M27 (dc q36) 7 fun v39 =>
    (a0, (0, 1, 0)) ∈ L29 ∧ cq_put M27 (dc a0) 10 v39 fun M40 =>
    (a0, (0, 1, 0)) ∈ L29 ∧ cd_let (P28 a0 1) fun r41 =>
    cd_nn r41 fun a42 =>
    (a42, (0, 2, 0)) ∈ L29 ∧ cd_let (P28 a42 4) fun r43 =>
    cd_nn r43 fun a44 =>
    ∃ z46, (a44, (1, 0, z46)) ∈ L29 ∧ cq_ld M40 (dc a44) z46 0 fun v45 =>
    ∃ z48, (a44, (1, 0, z48)) ∈ L29 ∧ cq_st M40 (dc a44) z48 0 (v45 + 1) fun M47 =>
    (q36, (0, 5, 0)) ∈ L29 ∧ cq_get M47 (dc q36) 6 fun v49 =>
    Q M47 P28 L29 v49 none 0 k37 n38) ∧
  (e9 = 0 → cd_add k25 k32 n26 n33 fun k34 n35 =>
  (a0, (0, 1, 0)) ∈ L29 ∧ cd_put P28 a0 0 r31 fun P50 =>
  (a0, (0, 1, 0)) ∈ L29 ∧ cd_let (P50 a0 3) fun r51 =>
  (a0, (0, 1, 0)) ∈ L29 ∧ cd_let (P50 a0 0) fun r52 =>
  cd_nn r51 fun a53 =>
  cd_nn r52 fun a54 =>
  (a53, (0, 12, 0)) ∈ L29 ∧
  dSt_beginsD N (bc - k34) (bs - n35) M27 P50 L29 a53 a54 (fun M55 P56 L57 v58 r59 e9 k60 n61 => e9 = 0 → cd_add k34 k60 n35 n61 fun k62 n63 =>
  (a0, (0, 1, 0)) ∈ L57 ∧ cd_let (P56 a0 1) fun r64 =>
  cd_nn r64 fun a65 =>
  (a65, (0, 2, 0)) ∈ L57 ∧ cq_put M55 (dc a65) 5 0 fun M66 =>
  (a0, (0, 1, 0)) ∈ L57 ∧ cd_let (P56 a0 1) fun r67 =>
  cd_nn r67 fun a68 =>
  (a68, (0, 2, 0)) ∈ L57 ∧ cq_put M66 (dc a68) 6 0 fun M69 =>
  (a0, (0, 1, 0)) ∈ L57 ∧ cq_put M69 (dc a0) 7 0 fun M70 =>
  Q M70 P56 L57 0 none 0 k62 n63))))))
set_option maxRecDepth 100000 in
theorem dCc_lineD_17_v {l : Launch} {g : cx_G} {X : cx_X} {N : dNt} {bc bs : Nat} {Q : cd_Qt} {a0 : Nat} (H : dR l g N.2) (hX : X.2.2.2.2.2.2.2.exceptionTable.toList = tableOf [(30, 49, 52, 150)]) (M : cx_M) (P : dP) (L : dL) (k n : Nat) (x1 : Int32) (z0 : Int32) (hk : k ≤ bc ∧ n ≤ bs) (h : dCc_lineD_17 N bc bs Q a0 M P L k n x1 z0) : cq_V l (dG g L P) X (esX1_lineD bc bs) cX1_line 17 [(0, .ref a0), (1, .int x1)] [.int z0] M k n (cd_finX g X (esX1_lineD bc bs) cd_rI Q) := by
  unfold dCc_lineD_17 at h
  refine cd_xSh [.int z0] [] (cc_right_m H.2.1 (bc := bc - k) (bs := bs - n) M P L z0 h) dX1_line_17 gd_X1_137 hgd_X1_137 ⟨cx_le rfl, cx_le rfl⟩ (cd_bud hk) rfl (cx_le rfl) (by rw [hX]; decide +kernel) (fun _ _ _ _ _ _ _ he h => h.1 he) (fun M1 P2 L3 v4 r5 k6 n7 hk2 h => ?_)
  refine cd_addI (h.2 rfl) (cd_bk hk hk2) (fun k8 n9 h hk => ?_)
  refine cq_aload_n 0 dX1_line_20 rfl ?_
  refine cq_iconst 0 dX1_line_21 cx_ic_0 ?_
  refine cq_nd H.1.1.1 (fun hn => cq_putI h.2 (dG_FI H.1.1.1 hn h.1 dCl_X1 (cx_lt rfl) rfl rfl rfl) rfl rfl rfl q1026 dX1_line_22 (fun M10 h => ?_))
  refine cq_aload_n 0 dX1_line_25 rfl ?_
  refine cq_iconst (-1) dX1_line_26 cx_ic_m1 ?_
  refine cq_nd H.1.1.1 (fun hn => cq_putI h.2 (dG_FI H.1.1.1 hn h.1 dCl_X1 (cx_lt rfl) rfl rfl rfl) rfl rfl rfl q1027 dX1_line_27 (fun M11 h => ?_))
  refine cq_aload_n 0 dX1_line_30 rfl ?_
  refine cd_newO H.1.1.1 h ⟨rfl, rfl⟩ dCl_X11 dDf_X11 q1374 q1375 q148 dX1_line_31 (fun a12 M13 P14 L15 k16 n17 h hk => ?_)
  refine cq_dup dX1_line_34 rfl ?_
  refine cq_aload_n 0 dX1_line_35 rfl ?_
  obtain ⟨hm9, e9, h⟩ := h
  refine cq_getR (v := .ref (N.2 509)) (o := ("CircuitCells", "tape", "[B", true)) (by have h9 := dG_FR (P := P14) H.1.1.1 hm9 dCl_X1 (show 8 < 17 from by decide) rfl rfl; rw [e9] at h9; exact h9) q1025 dX1_line_36 ?_
  refine cq_iload_n 1 dX1_line_39 rfl ?_
  refine cd_cI [.ref (N.2 509), .int x1] [.ref a12, .ref a0] (rd_init_m H (N := N) (bc := bc - k16) (bs := bs - n17) M13 P14 L15 a12 x1 h) dX1_line_40 gd_X1_143 rfl q148 q1376 q1377 rfl hgd_X1_143 ⟨cx_le rfl, cx_le rfl⟩ (cd_bud hk) rfl (cx_le rfl) (fun M18 P19 L20 v21 r22 k23 n24 hk2 h => ?_)
  refine cd_addI (h rfl) (cd_bk hk hk2) (fun k25 n26 h hk => ?_)
  obtain ⟨hmr, h⟩ := h
  refine cd_xVC [] [.ref a0] (rd_whole_m H (N := N) (bc := bc - k25) (bs := bs - n26) M18 P19 L20 a12 h) (dG_Rc H.1.1.1 hmr dCl_X11) dX1_line_43 gd_X1_146 hgd_X1_146 ⟨cx_le rfl, cx_le rfl⟩ (cd_bud hk) rfl (cx_le rfl) hX (by decide +kernel) (by decide) q1359 rfl ?_ ?_
  · intro M27 P28 L29 v30 e9 k32 n33 q36 hk2 he9 h
    refine ⟨(h.1 he9).1, fun hq9 => ?_⟩
    replace h := (h.1 he9).2 q36 hq9
    refine cd_addI h (cd_bk hk hk2) (fun k37 n38 h hk => ?_)
    refine cq_astore_n [(2, .ref q36), (0, .ref a0), (1, .int x1)] dX1_line_52 (cx_lt rfl) rfl ?_
    refine cq_aload_n 1 dX1_line_53 rfl ?_
    refine cq_aload_n 0 dX1_line_54 rfl ?_
    refine cq_nd H.1.1.1 (fun hn => cq_getIN h.2 (dG_FI H.1.1.1 hn h.1 dCl_X12 (cx_lt rfl) rfl rfl rfl) q1510 dX1_line_55 (fun v39 h => ?_))
    refine cq_nd H.1.1.1 (fun hn => cq_putI h.2 (dG_FI H.1.1.1 hn h.1 dCl_X1 (cx_lt rfl) rfl rfl rfl) rfl rfl rfl q1027 dX1_line_58 (fun M40 h => ?_))
    refine cq_aload_n 1 dX1_line_61 rfl ?_
    refine cq_getR (dG_FR (k := 1) H.1.1.1 h.1 dCl_X1 (cx_lt rfl) rfl rfl) q1018 dX1_line_62 ?_
    refine cd_letI h.2 (fun r41 h => ?_)
    obtain ⟨a42, e9, h9⟩ := cd_nn_some h
    subst e9
    have h := h9; clear h9
    refine cq_getRN (dG_FR (k := 4) H.1.1.1 h.1 dCl_X5 (cx_lt rfl) rfl rfl) q900 dX1_line_65 ?_
    refine cd_letI h.2 (fun r43 h => ?_)
    refine cq_iconst 0 dX1_line_68 cx_ic_0 ?_
    refine cq_dup2 dX1_line_69 rfl (va_rf_cat _) ?_
    obtain ⟨a44, e9, h9⟩ := cd_nn_some h
    subst e9
    have h := h9; clear h9
    obtain ⟨z46, hm, h⟩ := h
    refine cq_nd H.1.1.1 (fun hn => cq_ldI h (dG_AI H.1.1.1 hn hm rfl) dX1_line_70 (fun v45 h => ?_))
    refine cq_iconst 1 dX1_line_71 cx_ic_1 ?_
    refine cq_iadd dX1_line_72 ?_
    obtain ⟨z48, hm, h⟩ := h
    refine cq_nd H.1.1.1 (fun hn => cq_stI h (dG_AI H.1.1.1 hn hm rfl) dX1_line_73 (fun M47 h => ?_))
    refine cq_aload_n 0 dX1_line_74 rfl ?_
    refine cq_nd H.1.1.1 (fun hn => cq_getIN h.2 (dG_FI H.1.1.1 hn h.1 dCl_X12 (cx_lt rfl) rfl rfl rfl) q1508 dX1_line_75 (fun v49 h => ?_))
    exact cd_toX (cd_iret hk h rfl dX1_line_78)
  intro M27 P28 L29 v30 r31 k32 n33 hk2 h
  refine cd_addI (h.2 rfl) (cd_bk hk hk2) (fun k34 n35 h hk => ?_)
  refine cq_nd H.1.1.1 (fun hn => cd_putR (v := r31) H.1.1.1 hn h.1 h.2 dCl_X1 (cx_lt rfl) rfl rfl rfl cd_nfO rfl q1017 dX1_line_46 (fun P50 h => ?_))
  refine cq_goto 79 dX1_line_49 rfl ?_
  refine cq_aload_n 0 dX1_line_79 rfl ?_
  refine cq_getR (dG_FR (k := 3) H.1.1.1 h.1 dCl_X1 (cx_lt rfl) rfl rfl) q1020 dX1_line_80 ?_
  refine cd_letI h.2 (fun r51 h => ?_)
  refine cq_aload_n 0 dX1_line_83 rfl ?_
  refine cq_getR (dG_FR (k := 0) H.1.1.1 h.1 dCl_X1 (cx_lt rfl) rfl rfl) q1017 dX1_line_84 ?_
  refine cd_letI h.2 (fun r52 h => ?_)
  obtain ⟨a53, e9, h9⟩ := cd_nn_some h
  subst e9
  have h := h9; clear h9
  obtain ⟨a54, e9, h9⟩ := cd_nn_some h
  subst e9
  have h := h9; clear h9
  obtain ⟨hmr, h⟩ := h
  refine cd_cV [.ref a54] [] (dSt_beginsD_m H (N := N) (bc := bc - k34) (bs := bs - n35) M27 P50 L29 a53 a54 h) (dG_Rc H.1.1.1 hmr dCl_X6) dX1_line_87 gd_X1_114D hgd_X1_114D ⟨cx_le rfl, cx_le rfl⟩ (cd_bud hk) rfl (cx_le rfl) (fun M55 P56 L57 v58 r59 k60 n61 hk2 h => ?_)
  refine cd_addI (h rfl) (cd_bk hk hk2) (fun k62 n63 h hk => ?_)
  refine cq_aload_n 0 dX1_line_90 rfl ?_
  refine cq_getR (dG_FR (k := 1) H.1.1.1 h.1 dCl_X1 (cx_lt rfl) rfl rfl) q1018 dX1_line_91 ?_
  refine cd_letI h.2 (fun r64 h => ?_)
  refine cq_iconst 0 dX1_line_94 cx_ic_0 ?_
  obtain ⟨a65, e9, h9⟩ := cd_nn_some h
  subst e9
  have h := h9; clear h9
  refine cq_nd H.1.1.1 (fun hn => cq_putIN h.2 (dG_FI H.1.1.1 hn h.1 dCl_X5 (cx_lt rfl) rfl rfl rfl) rfl rfl rfl q902 dX1_line_95 (fun M66 h => ?_))
  refine cq_aload_n 0 dX1_line_98 rfl ?_
  refine cq_getR (dG_FR (k := 1) H.1.1.1 h.1 dCl_X1 (cx_lt rfl) rfl rfl) q1018 dX1_line_99 ?_
  refine cd_letI h.2 (fun r67 h => ?_)
  refine cq_iconst 0 dX1_line_102 cx_ic_0 ?_
  obtain ⟨a68, e9, h9⟩ := cd_nn_some h
  subst e9
  have h := h9; clear h9
  refine cq_nd H.1.1.1 (fun hn => cq_putIN h.2 (dG_FI H.1.1.1 hn h.1 dCl_X5 (cx_lt rfl) rfl rfl rfl) rfl rfl rfl q904 dX1_line_103 (fun M69 h => ?_))
  refine cq_aload_n 0 dX1_line_106 rfl ?_
  refine cq_iconst 0 dX1_line_107 cx_ic_0 ?_
  refine cq_nd H.1.1.1 (fun hn => cq_putI h.2 (dG_FI H.1.1.1 hn h.1 dCl_X1 (cx_lt rfl) rfl rfl rfl) cx_z_0 cx_f_0 rfl q1024 dX1_line_108 (fun M70 h => ?_))
  refine cq_iconst 0 dX1_line_111 cx_ic_0 ?_
  exact cd_toX (cd_iret hk h rfl dX1_line_112)
def dCc_lineD_16 (N : dNt) (bc bs : Nat) (Q : cd_Qt) (a0 : Nat) (M : cx_M) (P : dP) (L : dL) (k n : Nat) (x1 : Int32) : Prop :=
  dCc_lineD_17 N bc bs Q a0 M P L k n x1 0
set_option maxRecDepth 100000 in
theorem dCc_lineD_16_v {l : Launch} {g : cx_G} {X : cx_X} {N : dNt} {bc bs : Nat} {Q : cd_Qt} {a0 : Nat} (H : dR l g N.2) (hX : X.2.2.2.2.2.2.2.exceptionTable.toList = tableOf [(30, 49, 52, 150)]) (M : cx_M) (P : dP) (L : dL) (k n : Nat) (x1 : Int32) (hk : k ≤ bc ∧ n ≤ bs) (h : dCc_lineD_16 N bc bs Q a0 M P L k n x1) : cq_V l (dG g L P) X (esX1_lineD bc bs) cX1_line 16 [(0, .ref a0), (1, .int x1)] [] M k n (cd_finX g X (esX1_lineD bc bs) cd_rI Q) := by
  unfold dCc_lineD_16 at h
  refine cq_iconst 0 dX1_line_16 cx_ic_0 ?_
  exact dCc_lineD_17_v H hX M P L k n x1 0 hk h
def dCc_lineD_0 (N : dNt) (bc bs : Nat) (Q : cd_Qt) (a0 : Nat) (M : cx_M) (P : dP) (L : dL) (k n : Nat) (x1 : Int32) : Prop :=
  if x1 < 0 then (
    dCc_lineD_16 N bc bs Q a0 M P L k n x1)
  else (
    (a0, (0, 1, 0)) ∈ L ∧ cq_get M (dc a0) 9 fun v1 =>
    if v1 < x1 then (
      dCc_lineD_16 N bc bs Q a0 M P L k n x1)
    else (
      dCc_lineD_17 N bc bs Q a0 M P L k n x1 1))
set_option maxRecDepth 100000 in
theorem dCc_lineD_0_v {l : Launch} {g : cx_G} {X : cx_X} {N : dNt} {bc bs : Nat} {Q : cd_Qt} {a0 : Nat} (H : dR l g N.2) (hX : X.2.2.2.2.2.2.2.exceptionTable.toList = tableOf [(30, 49, 52, 150)]) (M : cx_M) (P : dP) (L : dL) (k n : Nat) (x1 : Int32) (hk : k ≤ bc ∧ n ≤ bs) (h : dCc_lineD_0 N bc bs Q a0 M P L k n x1) : cq_V l (dG g L P) X (esX1_lineD bc bs) cX1_line 0 [(0, .ref a0), (1, .int x1)] [] M k n (cd_finX g X (esX1_lineD bc bs) cd_rI Q) := by
  unfold dCc_lineD_0 at h
  refine cq_iload_n 1 dX1_line_0 rfl ?_
  refine cq_if_lt 16 h dX1_line_1 rfl (fun h => ?_) (fun h => ?_)
  · exact dCc_lineD_16_v H hX M P L k n x1 hk h
  · refine cq_iload_n 1 dX1_line_4 rfl ?_
    refine cq_aload_n 0 dX1_line_5 rfl ?_
    refine cq_nd H.1.1.1 (fun hn => cq_getI h.2 (dG_FI H.1.1.1 hn h.1 dCl_X1 (cx_lt rfl) rfl rfl rfl) q1026 dX1_line_6 (fun v1 h => ?_))
    refine cq_icmp_gt 16 h dX1_line_9 rfl (fun h => ?_) (fun h => ?_)
    · exact dCc_lineD_16_v H hX M P L k n x1 hk h
    · refine cq_iconst 1 dX1_line_12 cx_ic_1 ?_
      refine cq_goto 17 dX1_line_13 rfl ?_
      exact dCc_lineD_17_v H hX M P L k n x1 1 hk h
def dCc_lineD (N : dNt) (bc bs : Nat) (M : cx_M) (P : dP) (L : dL) (a0 : Nat) (x1 : Int32) (Q : cd_Qt) : Prop := dCc_lineD_0 N bc bs Q a0 M P L 0 0 x1
set_option maxRecDepth 100000 in
theorem dCc_lineD_m {l : Launch} {g : cx_G} {N : dNt} {bc bs : Nat} {Q : cd_Qt} (H : dR l g N.2) (M : cx_M) (P : dP) (L : dL) (a0 : Nat) (x1 : Int32) (h : dCc_lineD N bc bs M P L a0 x1 Q) : cd_MetH l g yX1_line cX1_line [(30, 49, 52, 150)] (esX1_lineD bc bs) cd_rI [.ref a0, .int x1] M P L Q :=
  cd_metH (by decide +kernel) rfl rfl q1358 (lv := [(0, .ref a0), (1, .int x1)]) rfl (cx_le rfl) (fun X hX => cq_sub (lv' := [(0, .ref a0), (1, .int x1)]) [0, 1] rfl (dCc_lineD_0_v H hX M P L 0 0 x1 ⟨Nat.zero_le _, Nat.zero_le _⟩ h))
