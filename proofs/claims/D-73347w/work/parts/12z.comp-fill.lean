/-! what is filled with: the contracts that the facts of what is filled with rest on -/
set_option maxRecDepth 100000 in
theorem cSf_back_0_v {l : Launch} {g : cx_G} {adr : Nat → Nat} {X : cx_X} {N : cx_N} {b : Nat} (H : cLn_H g adr ∧ cCc_H g adr) (hb : cSt_H g adr b) (M : cx_M) (x1 : Int32) (rs : cx_R) (h : cSt_back_0 N b M x1 = some rs) : cx_V l (g) X sX6_back cX6_back 0 [(0, .ref (adr b)), (1, .int x1)] [] M 0 0 rs := by
  unfold cSt_back_0 at h
  refine cx_iload_n 1 dX6_back_0 rfl ?_
  refine cx_aload_n 0 dX6_back_1 rfl ?_
  refine cx_getI h (cSt_F6 hb) q660 dX6_back_2 (fun v1 h => ?_)
  refine cx_icmp_le 13 h dX6_back_5 rfl (fun h => ?_) (fun h => ?_)
  · refine cx_aload_n 0 dX6_back_13 rfl ?_
    refine cx_getR (cSt_R39 hb) q720 dX6_back_14 ?_
    refine cx_aload_n 0 dX6_back_17 rfl ?_
    refine cx_getI h (cSt_F6 hb) q660 dX6_back_18 (fun v2 h => ?_)
    refine cx_iload_n 1 dX6_back_21 rfl ?_
    refine cx_isub dX6_back_22 ?_
    refine cx_sipush 128 dX6_back_23 cx_sp_128 ?_
    refine cx_iremC cx_ne_128 dX6_back_26 ?_
    refine cx_ldI h (cSt_A39 hb) dX6_back_27 (fun v3 h => ?_)
    exact cx_iret h rfl rfl (cx_le rfl) (cx_le rfl) dX6_back_28
  · refine cx_bipush 126 dX6_back_8 cx_bp_126 ?_
    refine cx_goto 28 dX6_back_10 rfl ?_
    exact cx_iret h rfl rfl (cx_le rfl) (cx_le rfl) dX6_back_28
theorem cSf_back_m {l : Launch} {g : cx_G} {adr : Nat → Nat} {N : cx_N} {b : Nat} (H : cLn_H g adr ∧ cCc_H g adr) (hb : cSt_H g adr b) (M : cx_M) (x1 : Int32) (rs : cx_R) (h : cSt_back N b M x1 = some rs) : cx_Met l (g) yX6_back cX6_back sX6_back [.ref (adr b), .int x1] M rs :=
  cx_met (by decide +kernel) rfl rfl (lv := [(0, .ref (adr b)), (1, .int x1)]) rfl (cx_le rfl) (fun X => cx_sub (lv' := [(0, .ref (adr b)), (1, .int x1)]) [0, 1] rfl (cSf_back_0_v H hb M x1 rs h))

set_option maxRecDepth 100000 in
theorem cCf_idle_0_v {l : Launch} {g : cx_G} {adr : Nat → Nat} {X : cx_X} {N : cx_N} {b2 : Nat} (H : cLn_H g adr ∧ cCc_H g adr) (hb2 : cSt_H g adr b2) (M : cx_M) (rs : cx_R) (h : cCc_idle_0 N b2 M = some rs) : cx_V l (g) X sX1_idle cX1_idle 0 [] [] M 0 0 rs := by
  unfold cCc_idle_0 at h
  refine cx_bipush 126 dX1_idle_0 cx_bp_126 ?_
  exact cx_iret h rfl rfl (cx_le rfl) (cx_le rfl) dX1_idle_2
theorem cCf_idle_m {l : Launch} {g : cx_G} {adr : Nat → Nat} {N : cx_N} {b2 : Nat} (H : cLn_H g adr ∧ cCc_H g adr) (hb2 : cSt_H g adr b2) (M : cx_M) (rs : cx_R) (h : cCc_idle N b2 M = some rs) : cx_Met l (g) yX1_idle cX1_idle sX1_idle [.ref (adr b2)] M rs :=
  cx_met (by decide +kernel) rfl rfl (lv := [(0, .ref (adr b2))]) rfl (cx_le rfl) (fun X => cx_sub (lv' := []) [] rfl (cCf_idle_0_v H hb2 M rs h))

set_option maxRecDepth 100000 in
theorem cCf_framed_0_v {l : Launch} {g : cx_G} {adr : Nat → Nat} {X : cx_X} {N : cx_N} {b2 : Nat} (H : cLn_H g adr ∧ cCc_H g adr) (hb2 : cSt_H g adr b2) (M : cx_M) (rs : cx_R) (h : cCc_framed_0 N b2 M = some rs) : cx_V l (g) X sX1_framed cX1_framed 0 [(0, .ref (adr 500)), (1, .ref (adr b2))] [] M 0 0 rs := by
  unfold cCc_framed_0 at h
  refine cx_aload_n 1 dX1_framed_0 rfl ?_
  refine cx_aload_n 0 dX1_framed_1 rfl ?_
  refine cx_getR (cCc_R00 H.2) q1017 dX1_framed_2 ?_
  refine cx_getIN h (cLn_F60 H.1) q578 dX1_framed_5 (fun v1 h => ?_)
  refine cx_cVi [.int v1] [] h (fun rs' h' => cSf_back_m H hb2 M v1 rs' h') (cSt_rc hb2) dX1_framed_8 g_X1_121 hg_X1_121 ⟨cx_le rfl, cx_le rfl⟩ rfl ⟨rfl, rfl⟩ ⟨cx_le rfl, cx_le rfl⟩ rfl (cx_le rfl) (fun M2 v3 h => ?_)
  exact cx_iret h rfl rfl (cx_le rfl) (cx_le rfl) dX1_framed_11
theorem cCf_framed_m {l : Launch} {g : cx_G} {adr : Nat → Nat} {N : cx_N} {b2 : Nat} (H : cLn_H g adr ∧ cCc_H g adr) (hb2 : cSt_H g adr b2) (M : cx_M) (rs : cx_R) (h : cCc_framed N b2 M = some rs) : cx_Met l (g) yX1_framed cX1_framed sX1_framed [.ref (adr 500), .ref (adr b2)] M rs :=
  cx_met (by decide +kernel) rfl rfl (lv := [(0, .ref (adr 500)), (1, .ref (adr b2))]) rfl (cx_le rfl) (fun X => cx_sub (lv' := [(0, .ref (adr 500)), (1, .ref (adr b2))]) [0, 1] rfl (cCf_framed_0_v H hb2 M rs h))

set_option maxRecDepth 100000 in
theorem cCf_lambda_new_0_0_v {l : Launch} {g : cx_G} {adr : Nat → Nat} {X : cx_X} {N : cx_N} {b2 : Nat} (H : cLn_H g adr ∧ cCc_H g adr) (hb2 : cSt_H g adr b2) (M : cx_M) (rs : cx_R) (h : cCc_lambda_new_0_0 N b2 M = some rs) : cx_V l (g) X sX1_lambda_new_0 cX1_lambda_new_0 0 [(0, .ref (adr b2))] [] M 0 0 rs := by
  unfold cCc_lambda_new_0_0 at h
  refine cx_aload_n 0 dX1_lambda_new_0_0 rfl ?_
  refine cx_iconst 1 dX1_lambda_new_0_1 cx_ic_1 ?_
  refine cx_cVi [.int 1] [] h (fun rs' h' => cSf_back_m H hb2 M 1 rs' h') (cSt_rc hb2) dX1_lambda_new_0_2 g_X1_121 hg_X1_121 ⟨cx_le rfl, cx_le rfl⟩ rfl ⟨rfl, rfl⟩ ⟨cx_le rfl, cx_le rfl⟩ rfl (cx_le rfl) (fun M1 v2 h => ?_)
  exact cx_iret h rfl rfl (cx_le rfl) (cx_le rfl) dX1_lambda_new_0_5
theorem cCf_lambda_new_0_m {l : Launch} {g : cx_G} {adr : Nat → Nat} {N : cx_N} {b2 : Nat} (H : cLn_H g adr ∧ cCc_H g adr) (hb2 : cSt_H g adr b2) (M : cx_M) (rs : cx_R) (h : cCc_lambda_new_0 N b2 M = some rs) : cx_Met l (g) yX1_lambda_new_0 cX1_lambda_new_0 sX1_lambda_new_0 [.ref (adr b2)] M rs :=
  cx_met (by decide +kernel) rfl rfl (lv := [(0, .ref (adr b2))]) rfl (cx_le rfl) (fun X => cx_sub (lv' := [(0, .ref (adr b2))]) [0] rfl (cCf_lambda_new_0_0_v H hb2 M rs h))

