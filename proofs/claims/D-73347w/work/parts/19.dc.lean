
theorem dCl_X6 : cx_Cl 12 RX6 TX6 46 tyX6 := ⟨rfl, in_X6, tyX6_ok, nmX6⟩
theorem dCl_X7 : cx_Cl 4 RX7 TX7 3 tyX7 := ⟨rfl, in_X7, tyX7_ok, nmX7⟩
theorem dCl_X8 : cx_Cl 6 RX8 TX8 1 tyX8 := ⟨rfl, in_X8, tyX8_ok, nmX8⟩
theorem dCl_X9 : cx_Cl 8 RX9 TX9 1 tyX9 := ⟨rfl, in_X9, tyX9_ok, nmX9⟩
theorem dDf_X6 : ∀ j, j < 46 → defaultValue (tyX6 j) = dFv 12 j (fun _ => 0) (fun _ => none) := by decide +kernel
theorem dCl_X5 : cx_Cl 2 RX5 TX5 7 tyX5 := ⟨rfl, in_X5, tyX5_ok, nmX5⟩
theorem gd_X6_35D : GoodIn lw_all (ws_ yJ19_init cJ19_init 2 none) := lw_meth q628
theorem hgd_X6_35D : yJ19_init.cls ≠ "java/lang/invoke/MethodHandle" ∧ yJ19_init.cls ≠ "java/lang/invoke/VarHandle" ∧ (parseMethodDescriptor yJ19_init.desc).map (fun d => d.parameters.length) = some 1 := by decide +kernel
theorem gd_X5_11D : GoodIn lw_all (ws_ yX6_init cX6_init 1 none) := lw_meth q622
theorem hgd_X5_11D : yX6_init.cls ≠ "java/lang/invoke/MethodHandle" ∧ yX6_init.cls ≠ "java/lang/invoke/VarHandle" ∧ (parseMethodDescriptor yX6_init.desc).map (fun d => d.parameters.length) = some 0 := by decide +kernel
theorem gd_X5_20 : GoodIn lw_all (ws_ yJ2_init cJ2_init 2 none) := lw_meth q188
theorem hgd_X5_20 : yJ2_init.cls ≠ "java/lang/invoke/MethodHandle" ∧ yJ2_init.cls ≠ "java/lang/invoke/VarHandle" ∧ (parseMethodDescriptor yJ2_init.desc).map (fun d => d.parameters.length) = some 1 := by decide +kernel
theorem gd_X5_37 : GoodIn lw_all (wsV RX5 37 RJ2 yJ2_add (ws_ yJ2_add cJ2_add 2 (some .boolean))) := lw_V q826 q827 q828 q120 q829
theorem hgd_X5_37 : yJ2_add.cls = RJ2 ∧ yJ2_add.cls ≠ "java/lang/invoke/MethodHandle" ∧ yJ2_add.cls ≠ "java/lang/invoke/VarHandle" ∧ (parseMethodDescriptor yJ2_add.desc).map (fun d => d.parameters.length) = some 1 := by decide +kernel
theorem gd_X6_151D : GoodIn lw_all (wsV RX6 151 RX6 yX6_empties (ws_ yX6_empties cX6_empties 2 none)) := lw_V q1013 q1015 qs7 q141 q1016
theorem hgd_X6_151D : yX6_empties.cls = RX6 ∧ yX6_empties.cls ≠ "java/lang/invoke/MethodHandle" ∧ yX6_empties.cls ≠ "java/lang/invoke/VarHandle" ∧ (parseMethodDescriptor yX6_empties.desc).map (fun d => d.parameters.length) = some 0 := by decide +kernel
abbrev esX6_initD (bc bs : Nat) : cx_S := (1, RX6, cx_rI, { frames := 3, cells := bc, slots := bs, locals := 62 }, none, false)
def dSt_initD_0 (N : dNt) (bc bs : Nat) (Q : cd_Qt) (a0 : Nat) (M : cx_M) (P : dP) (L : dL) (k n : Nat) : Prop :=
  cd_newa bc bs k n 40 (fun z => (1, 0, z)) M P L fun a1 M2 P3 L4 k5 n6 =>
  (a0, (0, 12, 0)) ∈ L4 ∧ cd_put P3 a0 34 (some a1) fun P7 =>
  cd_newa bc bs k5 n6 40 (fun z => (1, 0, z)) M2 P7 L4 fun a8 M9 P10 L11 k12 n13 =>
  (a0, (0, 12, 0)) ∈ L11 ∧ cd_put P10 a0 35 (some a8) fun P14 =>
  cd_newa bc bs k12 n13 40 (fun z => (1, 0, z)) M9 P14 L11 fun a15 M16 P17 L18 k19 n20 =>
  (a0, (0, 12, 0)) ∈ L18 ∧ cd_put P17 a0 36 (some a15) fun P21 =>
  cd_newa bc bs k19 n20 64 (fun z => (1, 0, z)) M16 P21 L18 fun a22 M23 P24 L25 k26 n27 =>
  (a0, (0, 12, 0)) ∈ L25 ∧ cd_put P24 a0 37 (some a22) fun P28 =>
  cd_newa bc bs k26 n27 64 (fun z => (1, 0, z)) M23 P28 L25 fun a29 M30 P31 L32 k33 n34 =>
  (a0, (0, 12, 0)) ∈ L32 ∧ cd_put P31 a0 38 (some a29) fun P35 =>
  cd_newa bc bs k33 n34 128 (fun z => (1, 0, z)) M30 P35 L32 fun a36 M37 P38 L39 k40 n41 =>
  (a0, (0, 12, 0)) ∈ L39 ∧ cd_put P38 a0 39 (some a36) fun P42 =>
  cd_newa bc bs k40 n41 128 (fun z => (1, 0, z)) M37 P42 L39 fun a43 M44 P45 L46 k47 n48 =>
  (a0, (0, 12, 0)) ∈ L46 ∧ cd_put P45 a0 40 (some a43) fun P49 =>
  cd_new bc bs k47 n48 3 (0, 21, 0) M44 P49 L46 fun a50 M51 P52 L53 k54 n55 =>
  jBd_initD N.1 (bc - k54) (bs - n55) M51 P52 L53 a50 128 (fun M56 P57 L58 v59 r60 e9 k61 n62 => e9 = 0 → cd_add k54 k61 n55 n62 fun k63 n64 =>
  (a0, (0, 12, 0)) ∈ L58 ∧ cd_put P57 a0 41 (some a50) fun P65 =>
  Q M56 P65 L58 0 none 0 k63 n64)
set_option maxRecDepth 100000 in
theorem dSt_initD_0_v {l : Launch} {g : cx_G} {X : cx_X} {N : dNt} {bc bs : Nat} {Q : cd_Qt} {a0 : Nat} (H : dR l g N.2) (hX : X.2.2.2.2.2.2.1.name = "<init>") (M : cx_M) (P : dP) (L : dL) (k n : Nat) (hk : k ≤ bc ∧ n ≤ bs) (h : dSt_initD_0 N bc bs Q a0 M P L k n) : cq_V l (dG g L P) X (esX6_initD bc bs) cX6_init 0 [(0, .ref a0)] [] M k n (cd_fin g X (esX6_initD bc bs) cd_rV Q) := by
  unfold dSt_initD_0 at h
  refine cq_aload_n 0 dX6_init_0 rfl ?_
  refine cd_oinit q623 q176 q177 dX6_init_1 (cx_le rfl) (cx_le rfl) ?_
  refine cq_aload_n 0 dX6_init_4 rfl ?_
  refine cq_bipush 40 dX6_init_5 cx_bp_40 ?_
  refine cd_newI (atype := .int) (ty := .int) H.1.1.1 h ⟨rfl, rfl⟩ q557 rfl rfl (fun _ _ => rfl) (by decide) dX6_init_7 (fun a1 M2 P3 L4 k5 n6 h hk => ?_)
  refine cq_nd H.1.1.1 (fun hn => cd_putRF (v := (some a1)) hX rfl H.1.1.1 hn h.1 h.2 dCl_X6 (cx_lt rfl) rfl rfl rfl cd_nfA rfl q710 dX6_init_9 (fun P7 h => ?_))
  refine cq_aload_n 0 dX6_init_12 rfl ?_
  refine cq_bipush 40 dX6_init_13 cx_bp_40 ?_
  refine cd_newI (atype := .int) (ty := .int) H.1.1.1 h ⟨rfl, rfl⟩ q557 rfl rfl (fun _ _ => rfl) (by decide) dX6_init_15 (fun a8 M9 P10 L11 k12 n13 h hk => ?_)
  refine cq_nd H.1.1.1 (fun hn => cd_putRF (v := (some a8)) hX rfl H.1.1.1 hn h.1 h.2 dCl_X6 (cx_lt rfl) rfl rfl rfl cd_nfA rfl q712 dX6_init_17 (fun P14 h => ?_))
  refine cq_aload_n 0 dX6_init_20 rfl ?_
  refine cq_bipush 40 dX6_init_21 cx_bp_40 ?_
  refine cd_newI (atype := .int) (ty := .int) H.1.1.1 h ⟨rfl, rfl⟩ q557 rfl rfl (fun _ _ => rfl) (by decide) dX6_init_23 (fun a15 M16 P17 L18 k19 n20 h hk => ?_)
  refine cq_nd H.1.1.1 (fun hn => cd_putRF (v := (some a15)) hX rfl H.1.1.1 hn h.1 h.2 dCl_X6 (cx_lt rfl) rfl rfl rfl cd_nfA rfl q714 dX6_init_25 (fun P21 h => ?_))
  refine cq_aload_n 0 dX6_init_28 rfl ?_
  refine cq_bipush 64 dX6_init_29 cx_bp_64 ?_
  refine cd_newI (atype := .int) (ty := .int) H.1.1.1 h ⟨rfl, rfl⟩ q557 rfl rfl (fun _ _ => rfl) (by decide) dX6_init_31 (fun a22 M23 P24 L25 k26 n27 h hk => ?_)
  refine cq_nd H.1.1.1 (fun hn => cd_putRF (v := (some a22)) hX rfl H.1.1.1 hn h.1 h.2 dCl_X6 (cx_lt rfl) rfl rfl rfl cd_nfA rfl q716 dX6_init_33 (fun P28 h => ?_))
  refine cq_aload_n 0 dX6_init_36 rfl ?_
  refine cq_bipush 64 dX6_init_37 cx_bp_64 ?_
  refine cd_newI (atype := .int) (ty := .int) H.1.1.1 h ⟨rfl, rfl⟩ q557 rfl rfl (fun _ _ => rfl) (by decide) dX6_init_39 (fun a29 M30 P31 L32 k33 n34 h hk => ?_)
  refine cq_nd H.1.1.1 (fun hn => cd_putRF (v := (some a29)) hX rfl H.1.1.1 hn h.1 h.2 dCl_X6 (cx_lt rfl) rfl rfl rfl cd_nfA rfl q718 dX6_init_41 (fun P35 h => ?_))
  refine cq_aload_n 0 dX6_init_44 rfl ?_
  refine cq_sipush 128 dX6_init_45 cx_sp_128 ?_
  refine cd_newI (atype := .int) (ty := .int) H.1.1.1 h ⟨rfl, rfl⟩ q557 rfl rfl (fun _ _ => rfl) (by decide) dX6_init_48 (fun a36 M37 P38 L39 k40 n41 h hk => ?_)
  refine cq_nd H.1.1.1 (fun hn => cd_putRF (v := (some a36)) hX rfl H.1.1.1 hn h.1 h.2 dCl_X6 (cx_lt rfl) rfl rfl rfl cd_nfA rfl q720 dX6_init_50 (fun P42 h => ?_))
  refine cq_aload_n 0 dX6_init_53 rfl ?_
  refine cq_sipush 128 dX6_init_54 cx_sp_128 ?_
  refine cd_newI (atype := .int) (ty := .int) H.1.1.1 h ⟨rfl, rfl⟩ q557 rfl rfl (fun _ _ => rfl) (by decide) dX6_init_57 (fun a43 M44 P45 L46 k47 n48 h hk => ?_)
  refine cq_nd H.1.1.1 (fun hn => cd_putRF (v := (some a43)) hX rfl H.1.1.1 hn h.1 h.2 dCl_X6 (cx_lt rfl) rfl rfl rfl cd_nfA rfl q721 dX6_init_59 (fun P49 h => ?_))
  refine cq_aload_n 0 dX6_init_62 rfl ?_
  refine cd_newO H.1.1.1 h ⟨rfl, rfl⟩ dCl_J19 dDf_J19 q624 q625 q142 dX6_init_63 (fun a50 M51 P52 L53 k54 n55 h hk => ?_)
  refine cq_dup dX6_init_66 rfl ?_
  refine cq_sipush 128 dX6_init_67 cx_sp_128 ?_
  refine cd_cI [.int 128] [.ref a50, .ref a0] (jBd_initD_m H.1.1 (N := N.1) (bc := bc - k54) (bs := bs - n55) M51 P52 L53 a50 128 h) dX6_init_70 gd_X6_35D rfl q142 q626 q627 rfl hgd_X6_35D ⟨cx_le rfl, cx_le rfl⟩ (cd_bud hk) rfl (cx_le rfl) (fun M56 P57 L58 v59 r60 k61 n62 hk2 h => ?_)
  refine cd_addI (h rfl) (cd_bk hk hk2) (fun k63 n64 h hk => ?_)
  refine cq_nd H.1.1.1 (fun hn => cd_putRF (v := (some a50)) hX rfl H.1.1.1 hn h.1 h.2 dCl_X6 (cx_lt rfl) rfl rfl rfl cd_nfO rfl q722 dX6_init_73 (fun P65 h => ?_))
  exact cd_vret hk h rfl dX6_init_76
def dSt_initD (N : dNt) (bc bs : Nat) (M : cx_M) (P : dP) (L : dL) (a0 : Nat) (Q : cd_Qt) : Prop := dSt_initD_0 N bc bs Q a0 M P L 0 0
set_option maxRecDepth 100000 in
theorem dSt_initD_m {l : Launch} {g : cx_G} {N : dNt} {bc bs : Nat} {Q : cd_Qt} (H : dR l g N.2) (M : cx_M) (P : dP) (L : dL) (a0 : Nat) (h : dSt_initD N bc bs M P L a0 Q) : cd_Met l g yX6_init cX6_init (esX6_initD bc bs) cd_rV [.ref a0] M P L Q :=
  cd_met (by decide +kernel) rfl rfl (lv := [(0, .ref a0)]) rfl (cx_le rfl) (fun X hX => cq_sub (lv' := [(0, .ref a0)]) [0] rfl (dSt_initD_0_v H hX M P L 0 0 ⟨Nat.zero_le _, Nat.zero_le _⟩ h))

abbrev esX7_initD (bc bs : Nat) : cx_S := (1, RX7, cx_rI, { frames := 1, cells := bc, slots := bs, locals := 20 }, none, false)
def dCo_initD_0 (N : dNt) (bc bs : Nat) (Q : cd_Qt) (a0 : Nat) (M : cx_M) (P : dP) (L : dL) (k n : Nat) : Prop :=
  cd_newa bc bs k n 512 (fun z => (1, 0, z)) M P L fun a1 M2 P3 L4 k5 n6 =>
  (a0, (0, 4, 0)) ∈ L4 ∧ cd_put P3 a0 0 (some a1) fun P7 =>
  cd_newa bc bs k5 n6 512 (fun z => (1, 0, z)) M2 P7 L4 fun a8 M9 P10 L11 k12 n13 =>
  (a0, (0, 4, 0)) ∈ L11 ∧ cd_put P10 a0 1 (some a8) fun P14 =>
  Q M9 P14 L11 0 none 0 k12 n13
set_option maxRecDepth 100000 in
theorem dCo_initD_0_v {l : Launch} {g : cx_G} {X : cx_X} {N : dNt} {bc bs : Nat} {Q : cd_Qt} {a0 : Nat} (H : dR l g N.2) (hX : X.2.2.2.2.2.2.1.name = "<init>") (M : cx_M) (P : dP) (L : dL) (k n : Nat) (hk : k ≤ bc ∧ n ≤ bs) (h : dCo_initD_0 N bc bs Q a0 M P L k n) : cq_V l (dG g L P) X (esX7_initD bc bs) cX7_init 0 [(0, .ref a0)] [] M k n (cd_fin g X (esX7_initD bc bs) cd_rV Q) := by
  unfold dCo_initD_0 at h
  refine cq_aload_n 0 dX7_init_0 rfl ?_
  refine cd_oinit q946 q176 q177 dX7_init_1 (cx_le rfl) (cx_le rfl) ?_
  refine cq_aload_n 0 dX7_init_4 rfl ?_
  refine cq_sipush 512 dX7_init_5 cx_sp_512 ?_
  refine cd_newI (atype := .int) (ty := .int) H.1.1.1 h ⟨rfl, rfl⟩ q557 rfl rfl (fun _ _ => rfl) (by decide) dX7_init_8 (fun a1 M2 P3 L4 k5 n6 h hk => ?_)
  refine cq_nd H.1.1.1 (fun hn => cd_putRF (v := (some a1)) hX rfl H.1.1.1 hn h.1 h.2 dCl_X7 (cx_lt rfl) rfl rfl rfl cd_nfA rfl q947 dX7_init_10 (fun P7 h => ?_))
  refine cq_aload_n 0 dX7_init_13 rfl ?_
  refine cq_sipush 512 dX7_init_14 cx_sp_512 ?_
  refine cd_newI (atype := .int) (ty := .int) H.1.1.1 h ⟨rfl, rfl⟩ q557 rfl rfl (fun _ _ => rfl) (by decide) dX7_init_17 (fun a8 M9 P10 L11 k12 n13 h hk => ?_)
  refine cq_nd H.1.1.1 (fun hn => cd_putRF (v := (some a8)) hX rfl H.1.1.1 hn h.1 h.2 dCl_X7 (cx_lt rfl) rfl rfl rfl cd_nfA rfl q948 dX7_init_19 (fun P14 h => ?_))
  exact cd_vret hk h rfl dX7_init_22
def dCo_initD (N : dNt) (bc bs : Nat) (M : cx_M) (P : dP) (L : dL) (a0 : Nat) (Q : cd_Qt) : Prop := dCo_initD_0 N bc bs Q a0 M P L 0 0
set_option maxRecDepth 100000 in
theorem dCo_initD_m {l : Launch} {g : cx_G} {N : dNt} {bc bs : Nat} {Q : cd_Qt} (H : dR l g N.2) (M : cx_M) (P : dP) (L : dL) (a0 : Nat) (h : dCo_initD N bc bs M P L a0 Q) : cd_Met l g yX7_init cX7_init (esX7_initD bc bs) cd_rV [.ref a0] M P L Q :=
  cd_met (by decide +kernel) rfl rfl (lv := [(0, .ref a0)]) rfl (cx_le rfl) (fun X hX => cq_sub (lv' := [(0, .ref a0)]) [0] rfl (dCo_initD_0_v H hX M P L 0 0 ⟨Nat.zero_le _, Nat.zero_le _⟩ h))

abbrev esX8_initD (bc bs : Nat) : cx_S := (2, RX8, cx_rI, { frames := 1, cells := bc, slots := bs, locals := 20 }, none, false)
def dFi_initD_0 (N : dNt) (bc bs : Nat) (Q : cd_Qt) (a0 : Nat) (M : cx_M) (P : dP) (L : dL) (k n : Nat) (x1 : Option Nat) : Prop :=
  (a0, (0, 6, 0)) ∈ L ∧ cd_put P a0 0 x1 fun P1 =>
  Q M P1 L 0 none 0 k n
set_option maxRecDepth 100000 in
theorem dFi_initD_0_v {l : Launch} {g : cx_G} {X : cx_X} {N : dNt} {bc bs : Nat} {Q : cd_Qt} {a0 : Nat} (H : dR l g N.2) (hX : X.2.2.2.2.2.2.1.name = "<init>") (M : cx_M) (P : dP) (L : dL) (k n : Nat) (x1 : Option Nat) (hk : k ≤ bc ∧ n ≤ bs) (h : dFi_initD_0 N bc bs Q a0 M P L k n x1) : cq_V l (dG g L P) X (esX8_initD bc bs) cX8_init 0 [(0, .ref a0), (1, va_rf x1)] [] M k n (cd_fin g X (esX8_initD bc bs) cd_rV Q) := by
  unfold dFi_initD_0 at h
  refine cq_aload_n 0 dX8_init_0 rfl ?_
  refine cd_oinit q968 q176 q177 dX8_init_1 (cx_le rfl) (cx_le rfl) ?_
  refine cq_aload_n 0 dX8_init_4 rfl ?_
  refine cd_aload_n (v := x1) 1 dX8_init_5 rfl ?_
  refine cq_nd H.1.1.1 (fun hn => cd_putRF (v := x1) hX rfl H.1.1.1 hn h.1 h.2 dCl_X8 (cx_lt rfl) rfl rfl rfl cd_nfO rfl q969 dX8_init_6 (fun P1 h => ?_))
  exact cd_vret hk h rfl dX8_init_9
def dFi_initD (N : dNt) (bc bs : Nat) (M : cx_M) (P : dP) (L : dL) (a0 : Nat) (x1 : Option Nat) (Q : cd_Qt) : Prop := dFi_initD_0 N bc bs Q a0 M P L 0 0 x1
set_option maxRecDepth 100000 in
theorem dFi_initD_m {l : Launch} {g : cx_G} {N : dNt} {bc bs : Nat} {Q : cd_Qt} (H : dR l g N.2) (M : cx_M) (P : dP) (L : dL) (a0 : Nat) (x1 : Option Nat) (h : dFi_initD N bc bs M P L a0 x1 Q) : cd_Met l g yX8_init cX8_init (esX8_initD bc bs) cd_rV [.ref a0, va_rf x1] M P L Q :=
  cd_met (by decide +kernel) rfl rfl (lv := [(0, .ref a0), (1, va_rf x1)]) (by cases x1 <;> rfl) (by cases x1 <;> exact cx_le rfl) (fun X hX => cq_sub (lv' := [(0, .ref a0), (1, va_rf x1)]) [0, 1] rfl (dFi_initD_0_v H hX M P L 0 0 x1 ⟨Nat.zero_le _, Nat.zero_le _⟩ h))

abbrev esX9_initD (bc bs : Nat) : cx_S := (2, RX9, cx_rI, { frames := 1, cells := bc, slots := bs, locals := 20 }, none, false)
def dLo_initD_0 (N : dNt) (bc bs : Nat) (Q : cd_Qt) (a0 : Nat) (M : cx_M) (P : dP) (L : dL) (k n : Nat) (x1 : Option Nat) : Prop :=
  (a0, (0, 8, 0)) ∈ L ∧ cd_put P a0 0 x1 fun P1 =>
  Q M P1 L 0 none 0 k n
set_option maxRecDepth 100000 in
theorem dLo_initD_0_v {l : Launch} {g : cx_G} {X : cx_X} {N : dNt} {bc bs : Nat} {Q : cd_Qt} {a0 : Nat} (H : dR l g N.2) (hX : X.2.2.2.2.2.2.1.name = "<init>") (M : cx_M) (P : dP) (L : dL) (k n : Nat) (x1 : Option Nat) (hk : k ≤ bc ∧ n ≤ bs) (h : dLo_initD_0 N bc bs Q a0 M P L k n x1) : cq_V l (dG g L P) X (esX9_initD bc bs) cX9_init 0 [(0, .ref a0), (1, va_rf x1)] [] M k n (cd_fin g X (esX9_initD bc bs) cd_rV Q) := by
  unfold dLo_initD_0 at h
  refine cq_aload_n 0 dX9_init_0 rfl ?_
  refine cd_oinit q993 q176 q177 dX9_init_1 (cx_le rfl) (cx_le rfl) ?_
  refine cq_aload_n 0 dX9_init_4 rfl ?_
  refine cd_aload_n (v := x1) 1 dX9_init_5 rfl ?_
  refine cq_nd H.1.1.1 (fun hn => cd_putRF (v := x1) hX rfl H.1.1.1 hn h.1 h.2 dCl_X9 (cx_lt rfl) rfl rfl rfl cd_nfO rfl q994 dX9_init_6 (fun P1 h => ?_))
  exact cd_vret hk h rfl dX9_init_9
def dLo_initD (N : dNt) (bc bs : Nat) (M : cx_M) (P : dP) (L : dL) (a0 : Nat) (x1 : Option Nat) (Q : cd_Qt) : Prop := dLo_initD_0 N bc bs Q a0 M P L 0 0 x1
set_option maxRecDepth 100000 in
theorem dLo_initD_m {l : Launch} {g : cx_G} {N : dNt} {bc bs : Nat} {Q : cd_Qt} (H : dR l g N.2) (M : cx_M) (P : dP) (L : dL) (a0 : Nat) (x1 : Option Nat) (h : dLo_initD N bc bs M P L a0 x1 Q) : cd_Met l g yX9_init cX9_init (esX9_initD bc bs) cd_rV [.ref a0, va_rf x1] M P L Q :=
  cd_met (by decide +kernel) rfl rfl (lv := [(0, .ref a0), (1, va_rf x1)]) (by cases x1 <;> rfl) (by cases x1 <;> exact cx_le rfl) (fun X hX => cq_sub (lv' := [(0, .ref a0), (1, va_rf x1)]) [0, 1] rfl (dLo_initD_0_v H hX M P L 0 0 x1 ⟨Nat.zero_le _, Nat.zero_le _⟩ h))

abbrev esX5_initD (bc bs : Nat) : cx_S := (2, RX5, cx_rI, { frames := 7, cells := bc, slots := bs, locals := 171 }, none, false)
def dBk_initD_53b (N : dNt) (bc bs : Nat) (Q : cd_Qt) (a0 : Nat) (r_53 : cx_M → dP → dL → Nat → Nat → Int32 → Prop) (M : cx_M) (P : dP) (L : dL) (k n : Nat) (x1 : Int32) : Prop :=
  if 40 ≤ x1 then (
    Q M P L 0 none 0 k n)
  else (
    (a0, (0, 2, 0)) ∈ L ∧ cd_let (P a0 1) fun r1 =>
    cd_new bc bs k n 46 (0, 12, 0) M P L fun a2 M3 P4 L5 k6 n7 =>
    dSt_initD N (bc - k6) (bs - n7) M3 P4 L5 a2 (fun M8 P9 L10 v11 r12 e9 k13 n14 => e9 = 0 → cd_add k6 k13 n7 n14 fun k15 n16 =>
    cd_nn r1 fun a17 =>
    (a17, (0, 20, 0)) ∈ L10 ∧
    jAl_add N (bc - k15) (bs - n16) M8 P9 L10 a17 (some a2) (fun M18 P19 L20 v21 r22 e9 k23 n24 => e9 = 0 → cd_add k15 k23 n16 n24 fun k25 n26 =>
    cq_let (x1 + 1) fun v27 =>
    r_53 M18 P19 L20 k25 n26 v27)))
set_option maxRecDepth 100000 in
theorem dBk_initD_53b_v {l : Launch} {g : cx_G} {X : cx_X} {N : dNt} {bc bs : Nat} {Q : cd_Qt} {a0 : Nat} {r_53 : cx_M → dP → dL → Nat → Nat → Int32 → Prop} (H : dR l g N.2) (hX : X.2.2.2.2.2.2.1.name = "<init>") (hr_53 : ∀ (M : cx_M) (P : dP) (L : dL) (k n : Nat) (x1 : Int32), (k ≤ bc ∧ n ≤ bs) → r_53 M P L k n x1 → cq_V l (dG g L P) X (esX5_initD bc bs) cX5_init 53 [(0, .ref a0), (1, .int x1)] [] M k n (cd_fin g X (esX5_initD bc bs) cd_rV Q)) (M : cx_M) (P : dP) (L : dL) (k n : Nat) (x1 : Int32) (hk : k ≤ bc ∧ n ≤ bs) (h : dBk_initD_53b N bc bs Q a0 r_53 M P L k n x1) : cq_V l (dG g L P) X (esX5_initD bc bs) cX5_init 53 [(0, .ref a0), (1, .int x1)] [] M k n (cd_fin g X (esX5_initD bc bs) cd_rV Q) := by
  unfold dBk_initD_53b at h
  refine cq_iload_n 1 dX5_init_53 rfl ?_
  refine cq_bipush 40 dX5_init_54 cx_bp_40 ?_
  refine cq_icmp_ge 80 h dX5_init_56 rfl (fun h => ?_) (fun h => ?_)
  · exact cd_vret hk h rfl dX5_init_80
  · refine cq_aload_n 0 dX5_init_59 rfl ?_
    refine cq_getR (dG_FR (k := 1) H.1.1.1 h.1 dCl_X5 (cx_lt rfl) rfl rfl) q893 dX5_init_60 ?_
    refine cd_letI h.2 (fun r1 h => ?_)
    refine cd_newO H.1.1.1 h ⟨rfl, rfl⟩ dCl_X6 dDf_X6 q618 q619 q141 dX5_init_63 (fun a2 M3 P4 L5 k6 n7 h hk => ?_)
    refine cq_dup dX5_init_66 rfl ?_
    refine cd_cIN [] [.ref a2, va_rf r1] (dSt_initD_m H (N := N) (bc := bc - k6) (bs := bs - n7) M3 P4 L5 a2 h) dX5_init_67 gd_X5_11D rfl q141 q620 q621 rfl hgd_X5_11D ⟨cx_le rfl, cx_le rfl⟩ (cd_bud hk) rfl (by simp only [List.map, va_rf_cat, List.sum_cons, List.sum_nil]; exact cx_le rfl) (fun M8 P9 L10 v11 r12 k13 n14 hk2 h => ?_)
    refine cd_addI (h rfl) (cd_bk hk hk2) (fun k15 n16 h hk => ?_)
    obtain ⟨a17, e9, h⟩ := cd_nn_some h
    subst e9
    obtain ⟨hmr, h⟩ := h
    refine cd_cV [va_rf (some a2)] [] (jAl_add_m H.1 (N := N) (bc := bc - k15) (bs := bs - n16) M8 P9 L10 a17 (some a2) h) (dG_Rc H.1.1.1 hmr dCl_J2) dX5_init_70 gd_X5_37 hgd_X5_37 ⟨cx_le rfl, cx_le rfl⟩ (cd_bud hk) rfl (cx_le rfl) (fun M18 P19 L20 v21 r22 k23 n24 hk2 h => ?_)
    refine cd_addI (h rfl) (cd_bk hk hk2) (fun k25 n26 h hk => ?_)
    refine cq_pop dX5_init_73 rfl ?_
    refine cq_iinc 1 1 (fun v27 => [(1, .int v27), (0, .ref a0)]) h dX5_init_74 rfl cx_ic_1 (cx_lt rfl) (fun _ => rfl) (fun v27 h => ?_)
    refine cq_goto 53 dX5_init_77 rfl ?_
    refine cq_sub (lv' := [(0, .ref a0), (1, .int v27)]) [1, 0] rfl ?_
    exact hr_53 M18 P19 L20 k25 n26 v27 hk h
def dBk_initD_53 (N : dNt) (bc bs : Nat) (Q : cd_Qt) (a0 : Nat) : Nat → cx_M → dP → dL → Nat → Nat → Int32 → Prop :=
  cx_fix (fun _ _ _ _ _ _ => False) (fun r_53 => dBk_initD_53b N bc bs Q a0 r_53)
theorem dBk_initD_53_v {l : Launch} {g : cx_G} {X : cx_X} {N : dNt} {bc bs : Nat} {Q : cd_Qt} {a0 : Nat} (H : dR l g N.2) (hX : X.2.2.2.2.2.2.1.name = "<init>") : ∀ (f : Nat) (M : cx_M) (P : dP) (L : dL) (k n : Nat) (x1 : Int32), (k ≤ bc ∧ n ≤ bs) → dBk_initD_53 N bc bs Q a0 f M P L k n x1 → cq_V l (dG g L P) X (esX5_initD bc bs) cX5_init 53 [(0, .ref a0), (1, .int x1)] [] M k n (cd_fin g X (esX5_initD bc bs) cd_rV Q) :=
  cx_fixI (fun (r : cx_M → dP → dL → Nat → Nat → Int32 → Prop) => ∀ (M : cx_M) (P : dP) (L : dL) (k n : Nat) (x1 : Int32), (k ≤ bc ∧ n ≤ bs) → r M P L k n x1 → cq_V l (dG g L P) X (esX5_initD bc bs) cX5_init 53 [(0, .ref a0), (1, .int x1)] [] M k n (cd_fin g X (esX5_initD bc bs) cd_rV Q)) (fun _ _ _ _ _ _ _ h => by cases h) (fun r hr M P L k n x1 hk h => dBk_initD_53b_v H hX hr M P L k n x1 hk h)
def dBk_initD_0 (N : dNt) (bc bs : Nat) (Q : cd_Qt) (a0 : Nat) (M : cx_M) (P : dP) (L : dL) (k n : Nat) : Prop :=
  cd_new bc bs k n 46 (0, 12, 0) M P L fun a1 M2 P3 L4 k5 n6 =>
  dSt_initD N (bc - k5) (bs - n6) M2 P3 L4 a1 (fun M7 P8 L9 v10 r11 e9 k12 n13 => e9 = 0 → cd_add k5 k12 n6 n13 fun k14 n15 =>
  (a0, (0, 2, 0)) ∈ L9 ∧ cd_put P8 a0 0 (some a1) fun P16 =>
  cd_new bc bs k14 n15 3 (0, 20, 0) M7 P16 L9 fun a17 M18 P19 L20 k21 n22 =>
  jAl_init N (bc - k21) (bs - n22) M18 P19 L20 a17 40 (fun M23 P24 L25 v26 r27 e9 k28 n29 => e9 = 0 → cd_add k21 k28 n22 n29 fun k30 n31 =>
  (a0, (0, 2, 0)) ∈ L25 ∧ cd_put P24 a0 1 (some a17) fun P32 =>
  cd_newa bc bs k30 n31 8 (fun z => (1, 0, z)) M23 P32 L25 fun a33 M34 P35 L36 k37 n38 =>
  (a0, (0, 2, 0)) ∈ L36 ∧ cd_put P35 a0 2 (some a33) fun P39 =>
  cd_newa bc bs k37 n38 8 (fun z => (1, 0, z)) M34 P39 L36 fun a40 M41 P42 L43 k44 n45 =>
  (a0, (0, 2, 0)) ∈ L43 ∧ cd_put P42 a0 3 (some a40) fun P46 =>
  cd_newa bc bs k44 n45 3 (fun z => (1, 0, z)) M41 P46 L43 fun a47 M48 P49 L50 k51 n52 =>
  (a0, (0, 2, 0)) ∈ L50 ∧ cd_put P49 a0 4 (some a47) fun P53 =>
  dBk_initD_53 N bc bs Q a0 N.1 M48 P53 L50 k51 n52 0))
set_option maxRecDepth 100000 in
theorem dBk_initD_0_v {l : Launch} {g : cx_G} {X : cx_X} {N : dNt} {bc bs : Nat} {Q : cd_Qt} {a0 : Nat} (H : dR l g N.2) (hX : X.2.2.2.2.2.2.1.name = "<init>") (M : cx_M) (P : dP) (L : dL) (k n : Nat) (hk : k ≤ bc ∧ n ≤ bs) (h : dBk_initD_0 N bc bs Q a0 M P L k n) : cq_V l (dG g L P) X (esX5_initD bc bs) cX5_init 0 [(0, .ref a0)] [] M k n (cd_fin g X (esX5_initD bc bs) cd_rV Q) := by
  unfold dBk_initD_0 at h
  refine cq_aload_n 0 dX5_init_0 rfl ?_
  refine cd_oinit q617 q176 q177 dX5_init_1 (cx_le rfl) (cx_le rfl) ?_
  refine cq_aload_n 0 dX5_init_4 rfl ?_
  refine cd_newO H.1.1.1 h ⟨rfl, rfl⟩ dCl_X6 dDf_X6 q618 q619 q141 dX5_init_5 (fun a1 M2 P3 L4 k5 n6 h hk => ?_)
  refine cq_dup dX5_init_8 rfl ?_
  refine cd_cIN [] [.ref a1, .ref a0] (dSt_initD_m H (N := N) (bc := bc - k5) (bs := bs - n6) M2 P3 L4 a1 h) dX5_init_9 gd_X5_11D rfl q141 q620 q621 rfl hgd_X5_11D ⟨cx_le rfl, cx_le rfl⟩ (cd_bud hk) rfl (cx_le rfl) (fun M7 P8 L9 v10 r11 k12 n13 hk2 h => ?_)
  refine cd_addI (h rfl) (cd_bk hk hk2) (fun k14 n15 h hk => ?_)
  refine cq_nd H.1.1.1 (fun hn => cd_putRF (v := (some a1)) hX rfl H.1.1.1 hn h.1 h.2 dCl_X5 (cx_lt rfl) rfl rfl rfl cd_nfO rfl q891 dX5_init_12 (fun P16 h => ?_))
  refine cq_aload_n 0 dX5_init_15 rfl ?_
  refine cd_newO H.1.1.1 h ⟨rfl, rfl⟩ dCl_J2 dDf_J2 q824 q185 q120 dX5_init_16 (fun a17 M18 P19 L20 k21 n22 h hk => ?_)
  refine cq_dup dX5_init_19 rfl ?_
  refine cq_bipush 40 dX5_init_20 cx_bp_40 ?_
  refine cd_cI [.int 40] [.ref a17, .ref a0] (jAl_init_m H.1 (N := N) (bc := bc - k21) (bs := bs - n22) M18 P19 L20 a17 40 h) dX5_init_22 gd_X5_20 rfl q120 q825 q187 rfl hgd_X5_20 ⟨cx_le rfl, cx_le rfl⟩ (cd_bud hk) rfl (cx_le rfl) (fun M23 P24 L25 v26 r27 k28 n29 hk2 h => ?_)
  refine cd_addI (h rfl) (cd_bk hk hk2) (fun k30 n31 h hk => ?_)
  refine cq_nd H.1.1.1 (fun hn => cd_putRF (v := (some a17)) hX rfl H.1.1.1 hn h.1 h.2 dCl_X5 (cx_lt rfl) rfl rfl rfl cd_nfO rfl q893 dX5_init_25 (fun P32 h => ?_))
  refine cq_aload_n 0 dX5_init_28 rfl ?_
  refine cq_bipush 8 dX5_init_29 cx_bp_8 ?_
  refine cd_newI (atype := .int) (ty := .int) H.1.1.1 h ⟨rfl, rfl⟩ q557 rfl rfl (fun _ _ => rfl) (by decide) dX5_init_31 (fun a33 M34 P35 L36 k37 n38 h hk => ?_)
  refine cq_nd H.1.1.1 (fun hn => cd_putRF (v := (some a33)) hX rfl H.1.1.1 hn h.1 h.2 dCl_X5 (cx_lt rfl) rfl rfl rfl cd_nfA rfl q895 dX5_init_33 (fun P39 h => ?_))
  refine cq_aload_n 0 dX5_init_36 rfl ?_
  refine cq_bipush 8 dX5_init_37 cx_bp_8 ?_
  refine cd_newI (atype := .int) (ty := .int) H.1.1.1 h ⟨rfl, rfl⟩ q557 rfl rfl (fun _ _ => rfl) (by decide) dX5_init_39 (fun a40 M41 P42 L43 k44 n45 h hk => ?_)
  refine cq_nd H.1.1.1 (fun hn => cd_putRF (v := (some a40)) hX rfl H.1.1.1 hn h.1 h.2 dCl_X5 (cx_lt rfl) rfl rfl rfl cd_nfA rfl q897 dX5_init_41 (fun P46 h => ?_))
  refine cq_aload_n 0 dX5_init_44 rfl ?_
  refine cq_iconst 3 dX5_init_45 cx_ic_3 ?_
  refine cd_newI (atype := .int) (ty := .int) H.1.1.1 h ⟨rfl, rfl⟩ q557 rfl rfl (fun _ _ => rfl) (by decide) dX5_init_46 (fun a47 M48 P49 L50 k51 n52 h hk => ?_)
  refine cq_nd H.1.1.1 (fun hn => cd_putRF (v := (some a47)) hX rfl H.1.1.1 hn h.1 h.2 dCl_X5 (cx_lt rfl) rfl rfl rfl cd_nfA rfl q899 dX5_init_48 (fun P53 h => ?_))
  refine cq_iconst 0 dX5_init_51 cx_ic_0 ?_
  refine cq_istore_n [(1, .int 0), (0, .ref a0)] dX5_init_52 (cx_lt rfl) rfl ?_
  refine cq_sub (lv' := [(0, .ref a0), (1, .int 0)]) [1, 0] rfl ?_
  exact dBk_initD_53_v H hX N.1 M48 P53 L50 k51 n52 0 hk h
def dBk_initD (N : dNt) (bc bs : Nat) (M : cx_M) (P : dP) (L : dL) (a0 : Nat) (Q : cd_Qt) : Prop := dBk_initD_0 N bc bs Q a0 M P L 0 0
set_option maxRecDepth 100000 in
theorem dBk_initD_m {l : Launch} {g : cx_G} {N : dNt} {bc bs : Nat} {Q : cd_Qt} (H : dR l g N.2) (M : cx_M) (P : dP) (L : dL) (a0 : Nat) (h : dBk_initD N bc bs M P L a0 Q) : cd_Met l g yX5_init cX5_init (esX5_initD bc bs) cd_rV [.ref a0] M P L Q :=
  cd_met (by decide +kernel) rfl rfl (lv := [(0, .ref a0)]) rfl (cx_le rfl) (fun X hX => cq_sub (lv' := [(0, .ref a0)]) [0] rfl (dBk_initD_0_v H hX M P L 0 0 ⟨Nat.zero_le _, Nat.zero_le _⟩ h))

abbrev esX6_emptiesD (bc bs : Nat) : cx_S := (2, RX6, cx_rI, { frames := 0, cells := bc, slots := bs, locals := 0 }, none, false)
def dSt_emptiesD_2b (N : dNt) (bc bs : Nat) (Q : cd_Qt) (a0 : Nat) (r_2 : cx_M → dP → dL → Nat → Nat → Int32 → Prop) (M : cx_M) (P : dP) (L : dL) (k n : Nat) (x1 : Int32) : Prop :=
  if 64 ≤ x1 then (
    Q M P L 0 none 0 k n)
  else (
    (a0, (0, 12, 0)) ∈ L ∧ cd_let (P a0 37) fun r1 =>
    cd_nn r1 fun a2 =>
    ∃ z4, (a2, (1, 0, z4)) ∈ L ∧ cq_st M (dc a2) z4 x1 (-1) fun M3 =>
    cq_let (x1 + 1) fun v5 =>
    r_2 M3 P L k n v5)
set_option maxRecDepth 100000 in
theorem dSt_emptiesD_2b_v {l : Launch} {g : cx_G} {X : cx_X} {N : dNt} {bc bs : Nat} {Q : cd_Qt} {a0 : Nat} {r_2 : cx_M → dP → dL → Nat → Nat → Int32 → Prop} (H : dR l g N.2) (hX : X.2.2.2.2.2.2.1.name = "empties") (hr_2 : ∀ (M : cx_M) (P : dP) (L : dL) (k n : Nat) (x1 : Int32), (k ≤ bc ∧ n ≤ bs) → r_2 M P L k n x1 → cq_V l (dG g L P) X (esX6_emptiesD bc bs) cX6_empties 2 [(0, .ref a0), (1, .int x1)] [] M k n (cd_fin g X (esX6_emptiesD bc bs) cd_rV Q)) (M : cx_M) (P : dP) (L : dL) (k n : Nat) (x1 : Int32) (hk : k ≤ bc ∧ n ≤ bs) (h : dSt_emptiesD_2b N bc bs Q a0 r_2 M P L k n x1) : cq_V l (dG g L P) X (esX6_emptiesD bc bs) cX6_empties 2 [(0, .ref a0), (1, .int x1)] [] M k n (cd_fin g X (esX6_emptiesD bc bs) cd_rV Q) := by
  unfold dSt_emptiesD_2b at h
  refine cq_iload_n 1 dX6_empties_2 rfl ?_
  refine cq_bipush 64 dX6_empties_3 cx_bp_64 ?_
  refine cq_icmp_ge 21 h dX6_empties_5 rfl (fun h => ?_) (fun h => ?_)
  · exact cd_vret hk h rfl dX6_empties_21
  · refine cq_aload_n 0 dX6_empties_8 rfl ?_
    refine cq_getR (dG_FR (k := 37) H.1.1.1 h.1 dCl_X6 (cx_lt rfl) rfl rfl) q716 dX6_empties_9 ?_
    refine cd_letI h.2 (fun r1 h => ?_)
    refine cq_iload_n 1 dX6_empties_12 rfl ?_
    refine cq_iconst (-1) dX6_empties_13 cx_ic_m1 ?_
    obtain ⟨a2, e9, h⟩ := cd_nn_some h
    subst e9
    obtain ⟨z4, hm, h⟩ := h
    refine cq_nd H.1.1.1 (fun hn => cq_stI h (dG_AI H.1.1.1 hn hm rfl) dX6_empties_14 (fun M3 h => ?_))
    refine cq_iinc 1 1 (fun v5 => [(1, .int v5), (0, .ref a0)]) h dX6_empties_15 rfl cx_ic_1 (cx_lt rfl) (fun _ => rfl) (fun v5 h => ?_)
    refine cq_goto 2 dX6_empties_18 rfl ?_
    refine cq_sub (lv' := [(0, .ref a0), (1, .int v5)]) [1, 0] rfl ?_
    exact hr_2 M3 P L k n v5 hk h
def dSt_emptiesD_2 (N : dNt) (bc bs : Nat) (Q : cd_Qt) (a0 : Nat) : Nat → cx_M → dP → dL → Nat → Nat → Int32 → Prop :=
  cx_fix (fun _ _ _ _ _ _ => False) (fun r_2 => dSt_emptiesD_2b N bc bs Q a0 r_2)
theorem dSt_emptiesD_2_v {l : Launch} {g : cx_G} {X : cx_X} {N : dNt} {bc bs : Nat} {Q : cd_Qt} {a0 : Nat} (H : dR l g N.2) (hX : X.2.2.2.2.2.2.1.name = "empties") : ∀ (f : Nat) (M : cx_M) (P : dP) (L : dL) (k n : Nat) (x1 : Int32), (k ≤ bc ∧ n ≤ bs) → dSt_emptiesD_2 N bc bs Q a0 f M P L k n x1 → cq_V l (dG g L P) X (esX6_emptiesD bc bs) cX6_empties 2 [(0, .ref a0), (1, .int x1)] [] M k n (cd_fin g X (esX6_emptiesD bc bs) cd_rV Q) :=
  cx_fixI (fun (r : cx_M → dP → dL → Nat → Nat → Int32 → Prop) => ∀ (M : cx_M) (P : dP) (L : dL) (k n : Nat) (x1 : Int32), (k ≤ bc ∧ n ≤ bs) → r M P L k n x1 → cq_V l (dG g L P) X (esX6_emptiesD bc bs) cX6_empties 2 [(0, .ref a0), (1, .int x1)] [] M k n (cd_fin g X (esX6_emptiesD bc bs) cd_rV Q)) (fun _ _ _ _ _ _ _ h => by cases h) (fun r hr M P L k n x1 hk h => dSt_emptiesD_2b_v H hX hr M P L k n x1 hk h)
def dSt_emptiesD_0 (N : dNt) (bc bs : Nat) (Q : cd_Qt) (a0 : Nat) (M : cx_M) (P : dP) (L : dL) (k n : Nat) : Prop :=
  dSt_emptiesD_2 N bc bs Q a0 N.1 M P L k n 0
set_option maxRecDepth 100000 in
theorem dSt_emptiesD_0_v {l : Launch} {g : cx_G} {X : cx_X} {N : dNt} {bc bs : Nat} {Q : cd_Qt} {a0 : Nat} (H : dR l g N.2) (hX : X.2.2.2.2.2.2.1.name = "empties") (M : cx_M) (P : dP) (L : dL) (k n : Nat) (hk : k ≤ bc ∧ n ≤ bs) (h : dSt_emptiesD_0 N bc bs Q a0 M P L k n) : cq_V l (dG g L P) X (esX6_emptiesD bc bs) cX6_empties 0 [(0, .ref a0)] [] M k n (cd_fin g X (esX6_emptiesD bc bs) cd_rV Q) := by
  unfold dSt_emptiesD_0 at h
  refine cq_iconst 0 dX6_empties_0 cx_ic_0 ?_
  refine cq_istore_n [(1, .int 0), (0, .ref a0)] dX6_empties_1 (cx_lt rfl) rfl ?_
  refine cq_sub (lv' := [(0, .ref a0), (1, .int 0)]) [1, 0] rfl ?_
  exact dSt_emptiesD_2_v H hX N.1 M P L k n 0 hk h
def dSt_emptiesD (N : dNt) (bc bs : Nat) (M : cx_M) (P : dP) (L : dL) (a0 : Nat) (Q : cd_Qt) : Prop := dSt_emptiesD_0 N bc bs Q a0 M P L 0 0
set_option maxRecDepth 100000 in
theorem dSt_emptiesD_m {l : Launch} {g : cx_G} {N : dNt} {bc bs : Nat} {Q : cd_Qt} (H : dR l g N.2) (M : cx_M) (P : dP) (L : dL) (a0 : Nat) (h : dSt_emptiesD N bc bs M P L a0 Q) : cd_Met l g yX6_empties cX6_empties (esX6_emptiesD bc bs) cd_rV [.ref a0] M P L Q :=
  cd_met (by decide +kernel) rfl rfl (lv := [(0, .ref a0)]) rfl (cx_le rfl) (fun X hX => cq_sub (lv' := [(0, .ref a0)]) [0] rfl (dSt_emptiesD_0_v H hX M P L 0 0 ⟨Nat.zero_le _, Nat.zero_le _⟩ h))

abbrev esX6_beginsD (bc bs : Nat) : cx_S := (2, RX6, cx_rI, { frames := 1, cells := bc, slots := bs, locals := 21 }, none, false)
def dSt_beginsD_0 (N : dNt) (bc bs : Nat) (Q : cd_Qt) (a0 : Nat) (a1 : Nat) (M : cx_M) (P : dP) (L : dL) (k n : Nat) : Prop :=
  (a0, (0, 12, 0)) ∈ L ∧ cq_put M (dc a0) 7 0 fun M1 =>
  (a0, (0, 12, 0)) ∈ L ∧ cq_put M1 (dc a0) 6 0 fun M2 =>
  (a0, (0, 12, 0)) ∈ L ∧ cq_put M2 (dc a0) 5 0 fun M3 =>
  (a0, (0, 12, 0)) ∈ L ∧ cq_put M3 (dc a0) 4 0 fun M4 =>
  (a0, (0, 12, 0)) ∈ L ∧ cq_put M4 (dc a0) 3 0 fun M5 =>
  (a0, (0, 12, 0)) ∈ L ∧ cq_put M5 (dc a0) 2 0 fun M6 =>
  (a0, (0, 12, 0)) ∈ L ∧ cq_put M6 (dc a0) 1 0 fun M7 =>
  (a0, (0, 12, 0)) ∈ L ∧ cq_put M7 (dc a0) 0 0 fun M8 =>
  (a0, (0, 12, 0)) ∈ L ∧ cq_put M8 (dc a0) 8 0 fun M9 =>
  (a0, (0, 12, 0)) ∈ L ∧ cq_put M9 (dc a0) 33 0 fun M10 =>
  (a0, (0, 12, 0)) ∈ L ∧ cq_put M10 (dc a0) 29 0 fun M11 =>
  (a0, (0, 12, 0)) ∈ L ∧ cq_put M11 (dc a0) 27 0 fun M12 =>
  (a0, (0, 12, 0)) ∈ L ∧ cq_put M12 (dc a0) 26 0 fun M13 =>
  (a0, (0, 12, 0)) ∈ L ∧ cq_put M13 (dc a0) 25 0 fun M14 =>
  (a0, (0, 12, 0)) ∈ L ∧ cq_put M14 (dc a0) 24 0 fun M15 =>
  (a0, (0, 12, 0)) ∈ L ∧ cq_put M15 (dc a0) 23 0 fun M16 =>
  (a0, (0, 12, 0)) ∈ L ∧ cq_put M16 (dc a0) 22 0 fun M17 =>
  (a0, (0, 12, 0)) ∈ L ∧ cq_put M17 (dc a0) 21 0 fun M18 =>
  (a0, (0, 12, 0)) ∈ L ∧ cq_put M18 (dc a0) 20 0 fun M19 =>
  (a0, (0, 12, 0)) ∈ L ∧ cq_put M19 (dc a0) 19 0 fun M20 =>
  (a0, (0, 12, 0)) ∈ L ∧ cq_put M20 (dc a0) 18 0 fun M21 =>
  (a0, (0, 12, 0)) ∈ L ∧ cq_put M21 (dc a0) 17 0 fun M22 =>
  (a0, (0, 12, 0)) ∈ L ∧ cq_put M22 (dc a0) 16 0 fun M23 =>
  (a0, (0, 12, 0)) ∈ L ∧ cq_put M23 (dc a0) 15 0 fun M24 =>
  (a0, (0, 12, 0)) ∈ L ∧ cq_put M24 (dc a0) 14 0 fun M25 =>
  (a0, (0, 12, 0)) ∈ L ∧ cq_put M25 (dc a0) 13 0 fun M26 =>
  (a0, (0, 12, 0)) ∈ L ∧ cq_put M26 (dc a0) 12 0 fun M27 =>
  (a0, (0, 12, 0)) ∈ L ∧ cq_put M27 (dc a0) 11 0 fun M28 =>
  (a0, (0, 12, 0)) ∈ L ∧ cq_put M28 (dc a0) 10 0 fun M29 =>
  (a0, (0, 12, 0)) ∈ L ∧ cq_put M29 (dc a0) 9 0 fun M30 =>
  (a1, (0, 7, 0)) ∈ L ∧ cq_get M30 (dc a1) 5 fun v31 =>
  (a0, (0, 12, 0)) ∈ L ∧ cq_put M30 (dc a0) 28 v31 fun M32 =>
  (a1, (0, 7, 0)) ∈ L ∧ cq_get M32 (dc a1) 1 fun v33 =>
  (a0, (0, 12, 0)) ∈ L ∧ cq_put M32 (dc a0) 30 v33 fun M34 =>
  (a1, (0, 7, 0)) ∈ L ∧ cq_get M34 (dc a1) 2 fun v35 =>
  (a0, (0, 12, 0)) ∈ L ∧ cq_put M34 (dc a0) 31 v35 fun M36 =>
  (a1, (0, 7, 0)) ∈ L ∧ cq_get M36 (dc a1) 3 fun v37 =>
  (a0, (0, 12, 0)) ∈ L ∧ cq_put M36 (dc a0) 32 v37 fun M38 =>
  (a0, (0, 12, 0)) ∈ L ∧
  dSt_emptiesD N (bc - k) (bs - n) M38 P L a0 (fun M39 P40 L41 v42 r43 e9 k44 n45 => e9 = 0 → cd_add k k44 n n45 fun k46 n47 =>
  Q M39 P40 L41 0 none 0 k46 n47)
set_option maxRecDepth 100000 in
theorem dSt_beginsD_0_v {l : Launch} {g : cx_G} {X : cx_X} {N : dNt} {bc bs : Nat} {Q : cd_Qt} {a0 : Nat} {a1 : Nat} (H : dR l g N.2) (hX : X.2.2.2.2.2.2.1.name = "begins") (M : cx_M) (P : dP) (L : dL) (k n : Nat) (hk : k ≤ bc ∧ n ≤ bs) (h : dSt_beginsD_0 N bc bs Q a0 a1 M P L k n) : cq_V l (dG g L P) X (esX6_beginsD bc bs) cX6_begins 0 [(0, .ref a0), (1, .ref a1)] [] M k n (cd_fin g X (esX6_beginsD bc bs) cd_rV Q) := by
  unfold dSt_beginsD_0 at h
  refine cq_aload_n 0 dX6_begins_0 rfl ?_
  refine cq_aload_n 0 dX6_begins_1 rfl ?_
  refine cq_aload_n 0 dX6_begins_2 rfl ?_
  refine cq_aload_n 0 dX6_begins_3 rfl ?_
  refine cq_aload_n 0 dX6_begins_4 rfl ?_
  refine cq_aload_n 0 dX6_begins_5 rfl ?_
  refine cq_aload_n 0 dX6_begins_6 rfl ?_
  refine cq_aload_n 0 dX6_begins_7 rfl ?_
  refine cq_iconst 0 dX6_begins_8 cx_ic_0 ?_
  refine cq_dup_x1 dX6_begins_9 rfl rfl ?_
  refine cq_nd H.1.1.1 (fun hn => cq_putI h.2 (dG_FI H.1.1.1 hn h.1 dCl_X6 (cx_lt rfl) rfl rfl rfl) rfl rfl rfl q662 dX6_begins_10 (fun M1 h => ?_))
  refine cq_dup_x1 dX6_begins_13 rfl rfl ?_
  refine cq_nd H.1.1.1 (fun hn => cq_putI h.2 (dG_FI H.1.1.1 hn h.1 dCl_X6 (cx_lt rfl) rfl rfl rfl) rfl rfl rfl q660 dX6_begins_14 (fun M2 h => ?_))
  refine cq_dup_x1 dX6_begins_17 rfl rfl ?_
  refine cq_nd H.1.1.1 (fun hn => cq_putI h.2 (dG_FI H.1.1.1 hn h.1 dCl_X6 (cx_lt rfl) rfl rfl rfl) rfl rfl rfl q658 dX6_begins_18 (fun M3 h => ?_))
  refine cq_dup_x1 dX6_begins_21 rfl rfl ?_
  refine cq_nd H.1.1.1 (fun hn => cq_putI h.2 (dG_FI H.1.1.1 hn h.1 dCl_X6 (cx_lt rfl) rfl rfl rfl) rfl rfl rfl q656 dX6_begins_22 (fun M4 h => ?_))
  refine cq_dup_x1 dX6_begins_25 rfl rfl ?_
  refine cq_nd H.1.1.1 (fun hn => cq_putI h.2 (dG_FI H.1.1.1 hn h.1 dCl_X6 (cx_lt rfl) rfl rfl rfl) rfl rfl rfl q654 dX6_begins_26 (fun M5 h => ?_))
  refine cq_dup_x1 dX6_begins_29 rfl rfl ?_
  refine cq_nd H.1.1.1 (fun hn => cq_putI h.2 (dG_FI H.1.1.1 hn h.1 dCl_X6 (cx_lt rfl) rfl rfl rfl) rfl rfl rfl q652 dX6_begins_30 (fun M6 h => ?_))
  refine cq_dup_x1 dX6_begins_33 rfl rfl ?_
  refine cq_nd H.1.1.1 (fun hn => cq_putI h.2 (dG_FI H.1.1.1 hn h.1 dCl_X6 (cx_lt rfl) rfl rfl rfl) rfl rfl rfl q650 dX6_begins_34 (fun M7 h => ?_))
  refine cq_nd H.1.1.1 (fun hn => cq_putI h.2 (dG_FI H.1.1.1 hn h.1 dCl_X6 (cx_lt rfl) rfl rfl rfl) rfl rfl rfl q648 dX6_begins_37 (fun M8 h => ?_))
  refine cq_aload_n 0 dX6_begins_40 rfl ?_
  refine cq_iconst 0 dX6_begins_41 cx_ic_0 ?_
  refine cq_nd H.1.1.1 (fun hn => cq_putI h.2 (dG_FI H.1.1.1 hn h.1 dCl_X6 (cx_lt rfl) rfl rfl rfl) rfl rfl rfl q664 dX6_begins_42 (fun M9 h => ?_))
  refine cq_aload_n 0 dX6_begins_45 rfl ?_
  refine cq_aload_n 0 dX6_begins_46 rfl ?_
  refine cq_aload_n 0 dX6_begins_47 rfl ?_
  refine cq_aload_n 0 dX6_begins_48 rfl ?_
  refine cq_aload_n 0 dX6_begins_49 rfl ?_
  refine cq_aload_n 0 dX6_begins_50 rfl ?_
  refine cq_aload_n 0 dX6_begins_51 rfl ?_
  refine cq_aload_n 0 dX6_begins_52 rfl ?_
  refine cq_aload_n 0 dX6_begins_53 rfl ?_
  refine cq_aload_n 0 dX6_begins_54 rfl ?_
  refine cq_aload_n 0 dX6_begins_55 rfl ?_
  refine cq_aload_n 0 dX6_begins_56 rfl ?_
  refine cq_aload_n 0 dX6_begins_57 rfl ?_
  refine cq_aload_n 0 dX6_begins_58 rfl ?_
  refine cq_aload_n 0 dX6_begins_59 rfl ?_
  refine cq_aload_n 0 dX6_begins_60 rfl ?_
  refine cq_aload_n 0 dX6_begins_61 rfl ?_
  refine cq_aload_n 0 dX6_begins_62 rfl ?_
  refine cq_aload_n 0 dX6_begins_63 rfl ?_
  refine cq_aload_n 0 dX6_begins_64 rfl ?_
  refine cq_aload_n 0 dX6_begins_65 rfl ?_
  refine cq_iconst 0 dX6_begins_66 cx_ic_0 ?_
  refine cq_dup_x1 dX6_begins_67 rfl rfl ?_
  refine cq_nd H.1.1.1 (fun hn => cq_putI h.2 (dG_FI H.1.1.1 hn h.1 dCl_X6 (cx_lt rfl) rfl rfl rfl) rfl rfl rfl q708 dX6_begins_68 (fun M10 h => ?_))
  refine cq_dup_x1 dX6_begins_71 rfl rfl ?_
  refine cq_nd H.1.1.1 (fun hn => cq_putI h.2 (dG_FI H.1.1.1 hn h.1 dCl_X6 (cx_lt rfl) rfl rfl rfl) rfl rfl rfl q700 dX6_begins_72 (fun M11 h => ?_))
  refine cq_dup_x1 dX6_begins_75 rfl rfl ?_
  refine cq_nd H.1.1.1 (fun hn => cq_putI h.2 (dG_FI H.1.1.1 hn h.1 dCl_X6 (cx_lt rfl) rfl rfl rfl) rfl rfl rfl q696 dX6_begins_76 (fun M12 h => ?_))
  refine cq_dup_x1 dX6_begins_79 rfl rfl ?_
  refine cq_nd H.1.1.1 (fun hn => cq_putI h.2 (dG_FI H.1.1.1 hn h.1 dCl_X6 (cx_lt rfl) rfl rfl rfl) rfl rfl rfl q694 dX6_begins_80 (fun M13 h => ?_))
  refine cq_dup_x1 dX6_begins_83 rfl rfl ?_
  refine cq_nd H.1.1.1 (fun hn => cq_putI h.2 (dG_FI H.1.1.1 hn h.1 dCl_X6 (cx_lt rfl) rfl rfl rfl) rfl rfl rfl q693 dX6_begins_84 (fun M14 h => ?_))
  refine cq_dup_x1 dX6_begins_87 rfl rfl ?_
  refine cq_nd H.1.1.1 (fun hn => cq_putI h.2 (dG_FI H.1.1.1 hn h.1 dCl_X6 (cx_lt rfl) rfl rfl rfl) rfl rfl rfl q691 dX6_begins_88 (fun M15 h => ?_))
  refine cq_dup_x1 dX6_begins_91 rfl rfl ?_
  refine cq_nd H.1.1.1 (fun hn => cq_putI h.2 (dG_FI H.1.1.1 hn h.1 dCl_X6 (cx_lt rfl) rfl rfl rfl) rfl rfl rfl q689 dX6_begins_92 (fun M16 h => ?_))
  refine cq_dup_x1 dX6_begins_95 rfl rfl ?_
  refine cq_nd H.1.1.1 (fun hn => cq_putI h.2 (dG_FI H.1.1.1 hn h.1 dCl_X6 (cx_lt rfl) rfl rfl rfl) rfl rfl rfl q687 dX6_begins_96 (fun M17 h => ?_))
  refine cq_dup_x1 dX6_begins_99 rfl rfl ?_
  refine cq_nd H.1.1.1 (fun hn => cq_putI h.2 (dG_FI H.1.1.1 hn h.1 dCl_X6 (cx_lt rfl) rfl rfl rfl) rfl rfl rfl q686 dX6_begins_100 (fun M18 h => ?_))
  refine cq_dup_x1 dX6_begins_103 rfl rfl ?_
  refine cq_nd H.1.1.1 (fun hn => cq_putI h.2 (dG_FI H.1.1.1 hn h.1 dCl_X6 (cx_lt rfl) rfl rfl rfl) rfl rfl rfl q684 dX6_begins_104 (fun M19 h => ?_))
  refine cq_dup_x1 dX6_begins_107 rfl rfl ?_
  refine cq_nd H.1.1.1 (fun hn => cq_putI h.2 (dG_FI H.1.1.1 hn h.1 dCl_X6 (cx_lt rfl) rfl rfl rfl) rfl rfl rfl q682 dX6_begins_108 (fun M20 h => ?_))
  refine cq_dup_x1 dX6_begins_111 rfl rfl ?_
  refine cq_nd H.1.1.1 (fun hn => cq_putI h.2 (dG_FI H.1.1.1 hn h.1 dCl_X6 (cx_lt rfl) rfl rfl rfl) rfl rfl rfl q681 dX6_begins_112 (fun M21 h => ?_))
  refine cq_dup_x1 dX6_begins_115 rfl rfl ?_
  refine cq_nd H.1.1.1 (fun hn => cq_putI h.2 (dG_FI H.1.1.1 hn h.1 dCl_X6 (cx_lt rfl) rfl rfl rfl) rfl rfl rfl q680 dX6_begins_116 (fun M22 h => ?_))
  refine cq_dup_x1 dX6_begins_119 rfl rfl ?_
  refine cq_nd H.1.1.1 (fun hn => cq_putI h.2 (dG_FI H.1.1.1 hn h.1 dCl_X6 (cx_lt rfl) rfl rfl rfl) rfl rfl rfl q679 dX6_begins_120 (fun M23 h => ?_))
  refine cq_dup_x1 dX6_begins_123 rfl rfl ?_
  refine cq_nd H.1.1.1 (fun hn => cq_putI h.2 (dG_FI H.1.1.1 hn h.1 dCl_X6 (cx_lt rfl) rfl rfl rfl) rfl rfl rfl q678 dX6_begins_124 (fun M24 h => ?_))
  refine cq_dup_x1 dX6_begins_127 rfl rfl ?_
  refine cq_nd H.1.1.1 (fun hn => cq_putI h.2 (dG_FI H.1.1.1 hn h.1 dCl_X6 (cx_lt rfl) rfl rfl rfl) rfl rfl rfl q676 dX6_begins_128 (fun M25 h => ?_))
  refine cq_dup_x1 dX6_begins_131 rfl rfl ?_
  refine cq_nd H.1.1.1 (fun hn => cq_putI h.2 (dG_FI H.1.1.1 hn h.1 dCl_X6 (cx_lt rfl) rfl rfl rfl) rfl rfl rfl q674 dX6_begins_132 (fun M26 h => ?_))
  refine cq_dup_x1 dX6_begins_135 rfl rfl ?_
  refine cq_nd H.1.1.1 (fun hn => cq_putI h.2 (dG_FI H.1.1.1 hn h.1 dCl_X6 (cx_lt rfl) rfl rfl rfl) rfl rfl rfl q672 dX6_begins_136 (fun M27 h => ?_))
  refine cq_dup_x1 dX6_begins_139 rfl rfl ?_
  refine cq_nd H.1.1.1 (fun hn => cq_putI h.2 (dG_FI H.1.1.1 hn h.1 dCl_X6 (cx_lt rfl) rfl rfl rfl) rfl rfl rfl q670 dX6_begins_140 (fun M28 h => ?_))
  refine cq_dup_x1 dX6_begins_143 rfl rfl ?_
  refine cq_nd H.1.1.1 (fun hn => cq_putI h.2 (dG_FI H.1.1.1 hn h.1 dCl_X6 (cx_lt rfl) rfl rfl rfl) rfl rfl rfl q668 dX6_begins_144 (fun M29 h => ?_))
  refine cq_nd H.1.1.1 (fun hn => cq_putI h.2 (dG_FI H.1.1.1 hn h.1 dCl_X6 (cx_lt rfl) rfl rfl rfl) rfl rfl rfl q666 dX6_begins_147 (fun M30 h => ?_))
  refine cq_aload_n 0 dX6_begins_150 rfl ?_
  refine cq_aload_n 1 dX6_begins_151 rfl ?_
  refine cq_nd H.1.1.1 (fun hn => cq_getIN h.2 (dG_FI H.1.1.1 hn h.1 dCl_X2 (cx_lt rfl) rfl rfl rfl) q575 dX6_begins_152 (fun v31 h => ?_))
  refine cq_nd H.1.1.1 (fun hn => cq_putI h.2 (dG_FI H.1.1.1 hn h.1 dCl_X6 (cx_lt rfl) rfl rfl rfl) rfl rfl rfl q698 dX6_begins_155 (fun M32 h => ?_))
  refine cq_aload_n 0 dX6_begins_158 rfl ?_
  refine cq_aload_n 1 dX6_begins_159 rfl ?_
  refine cq_nd H.1.1.1 (fun hn => cq_getIN h.2 (dG_FI H.1.1.1 hn h.1 dCl_X2 (cx_lt rfl) rfl rfl rfl) q563 dX6_begins_160 (fun v33 h => ?_))
  refine cq_nd H.1.1.1 (fun hn => cq_putI h.2 (dG_FI H.1.1.1 hn h.1 dCl_X6 (cx_lt rfl) rfl rfl rfl) rfl rfl rfl q702 dX6_begins_163 (fun M34 h => ?_))
  refine cq_aload_n 0 dX6_begins_166 rfl ?_
  refine cq_aload_n 1 dX6_begins_167 rfl ?_
  refine cq_nd H.1.1.1 (fun hn => cq_getIN h.2 (dG_FI H.1.1.1 hn h.1 dCl_X2 (cx_lt rfl) rfl rfl rfl) q566 dX6_begins_168 (fun v35 h => ?_))
  refine cq_nd H.1.1.1 (fun hn => cq_putI h.2 (dG_FI H.1.1.1 hn h.1 dCl_X6 (cx_lt rfl) rfl rfl rfl) rfl rfl rfl q704 dX6_begins_171 (fun M36 h => ?_))
  refine cq_aload_n 0 dX6_begins_174 rfl ?_
  refine cq_aload_n 1 dX6_begins_175 rfl ?_
  refine cq_nd H.1.1.1 (fun hn => cq_getIN h.2 (dG_FI H.1.1.1 hn h.1 dCl_X2 (cx_lt rfl) rfl rfl rfl) q569 dX6_begins_176 (fun v37 h => ?_))
  refine cq_nd H.1.1.1 (fun hn => cq_putI h.2 (dG_FI H.1.1.1 hn h.1 dCl_X6 (cx_lt rfl) rfl rfl rfl) rfl rfl rfl q706 dX6_begins_179 (fun M38 h => ?_))
  refine cq_aload_n 0 dX6_begins_182 rfl ?_
  obtain ⟨hmr, h⟩ := h
  refine cd_cV [] [] (dSt_emptiesD_m H (N := N) (bc := bc - k) (bs := bs - n) M38 P L a0 h) (dG_Rc H.1.1.1 hmr dCl_X6) dX6_begins_183 gd_X6_151D hgd_X6_151D ⟨cx_le rfl, cx_le rfl⟩ (cd_bud hk) rfl (cx_le rfl) (fun M39 P40 L41 v42 r43 k44 n45 hk2 h => ?_)
  refine cd_addI (h rfl) (cd_bk hk hk2) (fun k46 n47 h hk => ?_)
  exact cd_vret hk h rfl dX6_begins_186
def dSt_beginsD (N : dNt) (bc bs : Nat) (M : cx_M) (P : dP) (L : dL) (a0 : Nat) (a1 : Nat) (Q : cd_Qt) : Prop := dSt_beginsD_0 N bc bs Q a0 a1 M P L 0 0
set_option maxRecDepth 100000 in
theorem dSt_beginsD_m {l : Launch} {g : cx_G} {N : dNt} {bc bs : Nat} {Q : cd_Qt} (H : dR l g N.2) (M : cx_M) (P : dP) (L : dL) (a0 : Nat) (a1 : Nat) (h : dSt_beginsD N bc bs M P L a0 a1 Q) : cd_Met l g yX6_begins cX6_begins (esX6_beginsD bc bs) cd_rV [.ref a0, .ref a1] M P L Q :=
  cd_met (by decide +kernel) rfl rfl (lv := [(0, .ref a0), (1, .ref a1)]) rfl (cx_le rfl) (fun X hX => cq_sub (lv' := [(0, .ref a0), (1, .ref a1)]) [0, 1] rfl (dSt_beginsD_0_v H hX M P L 0 0 ⟨Nat.zero_le _, Nat.zero_le _⟩ h))
