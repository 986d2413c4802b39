/-! THE LAW'S HELPERS AND CASES: by program (gen/lawgen.py) -/
def lwN (g : cx_G) : Prop := ∀ U : State, cx_K g U → va_Nc "java/lang/IllegalArgumentException" "java/util/NoSuchElementException" U
/-- a helper's end: t tells what it catches (1 no such element, 2 illegal argument, 3 both) -/
def lw_end (t : Nat) (o : Nat) (Q : cd_Qt) : cd_Qt := fun M P L v _ e k n => match e with
  | 0 => (o, (2, 0, 1)) ∈ L ∧ cq_stw M (dc o) 1 0 (Int32.toInt64 v) fun M2 => Q M2 P L 0 none 0 k n
  | 1 => (t = 1 ∨ t = 3) ∧ Q M P L 1 none 0 k n
  | 2 => (t = 2 ∨ t = 3) ∧ Q M P L (if t = 2 then 1 else 2) none 0 k n
  | _ => False
abbrev dNl : Type := dNx
def lwH (l : Launch) (g : cx_G) (N : dNx) : Prop := dX l g N.2 N.1 ∧ lwN g ∧ ∀ (L : dL) (P : dP), tw_H (dG g L P) N.2
theorem glX0_15 : GoodIn lw_all (wsV RX0 15 RX1 yX1_count (ws_ yX1_count cX1_count 2 (some .int))) := lw_V q1749 q1750 q1751 q116 q1752
theorem hglX0_15 : yX1_count.cls = RX1 ∧ yX1_count.cls ≠ "java/lang/invoke/MethodHandle" ∧ yX1_count.cls ≠ "java/lang/invoke/VarHandle" ∧ (parseMethodDescriptor yX1_count.desc).map (fun d => d.parameters.length) = some 1 := by decide +kernel
abbrev slX0_count (bc bs : Nat) : cx_S := (4, RX0, cx_rI, { frames := 8, cells := bc, slots := bs, locals := 131 }, some .int, false)
def dLw_count (N : dNx) (bc bs : Nat) (M : cx_M) (P : dP) (L : dL) (o : Nat) (x1 : Int32) (Q : cd_Qt) : Prop := dCc_countD N bc bs M P L x1 (lw_end 1 o Q)
set_option maxRecDepth 100000 in
theorem dLw_count_m {l : Launch} {g : cx_G} {N : dNx} {bc bs : Nat} {Q : cd_Qt} (H : lwH l g N) (M : cx_M) (P : dP) (L : dL) (o : Nat) (x1 : Int32) (h : dLw_count N bc bs M P L o x1 Q) : cd_MetH l g yX0_count cX0_count [(0, 9, 12, 18)] (slX0_count bc bs) cd_rI [.ref (N.2 500), .int x1, .ref o] M P L Q := by
  refine cd_metH (by decide +kernel) rfl rfl q1747 (lv := [(0, .ref (N.2 500)), (1, .int x1), (2, .ref o)]) rfl (cx_le rfl) (fun X hX => ?_)
  refine cq_aload_n 2 dX0_count_0 rfl ?_
  refine cq_iconst 0 dX0_count_1 cx_ic_0 ?_
  refine cq_aload_n 0 dX0_count_2 rfl ?_
  refine cq_iload_n 1 dX0_count_3 rfl ?_
  refine cd_xVL [.int x1] [.int 0, .ref o] (dCc_countD_m H.1 (N := N) (bc := bc) (bs := bs) M P L x1 h) (cCc_rc0 (H.1.2.1 L P).2.2.2.2.2.2.2.1) dX0_count_4 glX0_15 hglX0_15 ⟨cx_le rfl, cx_le rfl⟩ ⟨Nat.le_of_eq (Nat.zero_add _), Nat.le_of_eq (Nat.zero_add _)⟩ rfl (cx_le rfl) (fun M1 P1 L1 v r k n hk2 h => ?_) (fun M1 P1 L1 v e k n q hk2 he h => ?_)
  · refine cq_i2l dX0_count_7 ?_
    obtain ⟨hm, h⟩ := h
    refine cq_nd H.1.1.1.1.1 (fun hn => cq_stW h (dG_LI H.1.1.1.1.1 hn hm) dX0_count_8 (fun M2 h => ?_))
    refine cq_goto 15 dX0_count_9 rfl ?_
    refine cq_iconst 0 dX0_count_15 cx_ic_0 ?_
    exact cd_toX (cd_iret (by rw [Nat.zero_add, Nat.zero_add]; exact hk2) (by rw [Nat.zero_add, Nat.zero_add]; exact h) rfl dX0_count_16)
  · match e, he, h with
    | 1, _, h =>
      refine ⟨12, ⟨[], [], _, "java/util/NoSuchElementException", hX, (fun z hz => nomatch hz), by decide +kernel, by decide, q1748, q1758, rfl⟩, ?_⟩
      refine cq_astore_n [(3, .ref q), (0, .ref (N.2 500)), (1, .int x1), (2, .ref o)] dX0_count_12 (cx_lt rfl) rfl ?_
      refine cq_iconst 1 dX0_count_13 cx_ic_1 ?_
      exact cd_toX (cd_iret (by rw [Nat.zero_add, Nat.zero_add]; exact hk2) (by rw [Nat.zero_add, Nat.zero_add]; exact h.2) rfl dX0_count_14)
    | 2, _, h => exact absurd h.1 (by decide)
    | e + 3, _, h => exact h.elim
theorem glX0_20 : GoodIn lw_all (wsV RX0 20 RX1 yX1_set (ws_ yX1_set cX1_set 2 (some .int))) := lw_V q1781 q1782 q1783 q116 q1784
theorem hglX0_20 : yX1_set.cls = RX1 ∧ yX1_set.cls ≠ "java/lang/invoke/MethodHandle" ∧ yX1_set.cls ≠ "java/lang/invoke/VarHandle" ∧ (parseMethodDescriptor yX1_set.desc).map (fun d => d.parameters.length) = some 1 := by decide +kernel
abbrev slX0_set (bc bs : Nat) : cx_S := (4, RX0, cx_rI, { frames := 31, cells := bc, slots := bs, locals := 921 }, some .int, false)
def dLw_set (N : dNx) (bc bs : Nat) (M : cx_M) (P : dP) (L : dL) (o : Nat) (x1 : Int32) (Q : cd_Qt) : Prop := dCc_setD N bc bs M P L x1 (lw_end 1 o Q)
set_option maxRecDepth 100000 in
theorem dLw_set_m {l : Launch} {g : cx_G} {N : dNx} {bc bs : Nat} {Q : cd_Qt} (H : lwH l g N) (M : cx_M) (P : dP) (L : dL) (o : Nat) (x1 : Int32) (h : dLw_set N bc bs M P L o x1 Q) : cd_MetH l g yX0_set cX0_set [(0, 9, 12, 18)] (slX0_set bc bs) cd_rI [.ref (N.2 500), .int x1, .ref o] M P L Q := by
  refine cd_metH (by decide +kernel) rfl rfl q1780 (lv := [(0, .ref (N.2 500)), (1, .int x1), (2, .ref o)]) rfl (cx_le rfl) (fun X hX => ?_)
  refine cq_aload_n 2 dX0_set_0 rfl ?_
  refine cq_iconst 0 dX0_set_1 cx_ic_0 ?_
  refine cq_aload_n 0 dX0_set_2 rfl ?_
  refine cq_iload_n 1 dX0_set_3 rfl ?_
  refine cd_xVL [.int x1] [.int 0, .ref o] (dCc_setD_m H.1 (N := N) (bc := bc) (bs := bs) M P L x1 h) (cCc_rc0 (H.1.2.1 L P).2.2.2.2.2.2.2.1) dX0_set_4 glX0_20 hglX0_20 ⟨cx_le rfl, cx_le rfl⟩ ⟨Nat.le_of_eq (Nat.zero_add _), Nat.le_of_eq (Nat.zero_add _)⟩ rfl (cx_le rfl) (fun M1 P1 L1 v r k n hk2 h => ?_) (fun M1 P1 L1 v e k n q hk2 he h => ?_)
  · refine cq_i2l dX0_set_7 ?_
    obtain ⟨hm, h⟩ := h
    refine cq_nd H.1.1.1.1.1 (fun hn => cq_stW h (dG_LI H.1.1.1.1.1 hn hm) dX0_set_8 (fun M2 h => ?_))
    refine cq_goto 15 dX0_set_9 rfl ?_
    refine cq_iconst 0 dX0_set_15 cx_ic_0 ?_
    exact cd_toX (cd_iret (by rw [Nat.zero_add, Nat.zero_add]; exact hk2) (by rw [Nat.zero_add, Nat.zero_add]; exact h) rfl dX0_set_16)
  · match e, he, h with
    | 1, _, h =>
      refine ⟨12, ⟨[], [], _, "java/util/NoSuchElementException", hX, (fun z hz => nomatch hz), by decide +kernel, by decide, q1748, q1758, rfl⟩, ?_⟩
      refine cq_astore_n [(3, .ref q), (0, .ref (N.2 500)), (1, .int x1), (2, .ref o)] dX0_set_12 (cx_lt rfl) rfl ?_
      refine cq_iconst 1 dX0_set_13 cx_ic_1 ?_
      exact cd_toX (cd_iret (by rw [Nat.zero_add, Nat.zero_add]; exact hk2) (by rw [Nat.zero_add, Nat.zero_add]; exact h.2) rfl dX0_set_14)
    | 2, _, h => exact absurd h.1 (by decide)
    | e + 3, _, h => exact h.elim
theorem glX0_23 : GoodIn lw_all (wsV RX0 23 RX1 yX1_flying (ws_ yX1_flying cX1_flying 3 (some .int))) := lw_V q1790 q1791 q1792 q116 q1793
theorem hglX0_23 : yX1_flying.cls = RX1 ∧ yX1_flying.cls ≠ "java/lang/invoke/MethodHandle" ∧ yX1_flying.cls ≠ "java/lang/invoke/VarHandle" ∧ (parseMethodDescriptor yX1_flying.desc).map (fun d => d.parameters.length) = some 2 := by decide +kernel
abbrev slX0_flying (bc bs : Nat) : cx_S := (5, RX0, cx_rI, { frames := 8, cells := bc, slots := bs, locals := 132 }, some .int, false)
def dLw_flying (N : dNx) (bc bs : Nat) (M : cx_M) (P : dP) (L : dL) (o : Nat) (x1 : Int32) (x2 : Int32) (Q : cd_Qt) : Prop := dCc_flyingD N bc bs M P L x1 x2 (lw_end 1 o Q)
set_option maxRecDepth 100000 in
theorem dLw_flying_m {l : Launch} {g : cx_G} {N : dNx} {bc bs : Nat} {Q : cd_Qt} (H : lwH l g N) (M : cx_M) (P : dP) (L : dL) (o : Nat) (x1 : Int32) (x2 : Int32) (h : dLw_flying N bc bs M P L o x1 x2 Q) : cd_MetH l g yX0_flying cX0_flying [(0, 10, 13, 18)] (slX0_flying bc bs) cd_rI [.ref (N.2 500), .int x1, .int x2, .ref o] M P L Q := by
  refine cd_metH (by decide +kernel) rfl rfl q1789 (lv := [(0, .ref (N.2 500)), (1, .int x1), (2, .int x2), (3, .ref o)]) rfl (cx_le rfl) (fun X hX => ?_)
  refine cq_aload_n 3 dX0_flying_0 rfl ?_
  refine cq_iconst 0 dX0_flying_1 cx_ic_0 ?_
  refine cq_aload_n 0 dX0_flying_2 rfl ?_
  refine cq_iload_n 1 dX0_flying_3 rfl ?_
  refine cq_iload_n 2 dX0_flying_4 rfl ?_
  refine cd_xVL [.int x1, .int x2] [.int 0, .ref o] (dCc_flyingD_m H.1 (N := N) (bc := bc) (bs := bs) M P L x1 x2 h) (cCc_rc0 (H.1.2.1 L P).2.2.2.2.2.2.2.1) dX0_flying_5 glX0_23 hglX0_23 ⟨cx_le rfl, cx_le rfl⟩ ⟨Nat.le_of_eq (Nat.zero_add _), Nat.le_of_eq (Nat.zero_add _)⟩ rfl (cx_le rfl) (fun M1 P1 L1 v r k n hk2 h => ?_) (fun M1 P1 L1 v e k n q hk2 he h => ?_)
  · refine cq_i2l dX0_flying_8 ?_
    obtain ⟨hm, h⟩ := h
    refine cq_nd H.1.1.1.1.1 (fun hn => cq_stW h (dG_LI H.1.1.1.1.1 hn hm) dX0_flying_9 (fun M2 h => ?_))
    refine cq_goto 17 dX0_flying_10 rfl ?_
    refine cq_iconst 0 dX0_flying_17 cx_ic_0 ?_
    exact cd_toX (cd_iret (by rw [Nat.zero_add, Nat.zero_add]; exact hk2) (by rw [Nat.zero_add, Nat.zero_add]; exact h) rfl dX0_flying_18)
  · match e, he, h with
    | 1, _, h =>
      refine ⟨13, ⟨[], [], _, "java/util/NoSuchElementException", hX, (fun z hz => nomatch hz), by decide +kernel, by decide, q1748, q1758, rfl⟩, ?_⟩
      refine cq_astore [(4, .ref q), (0, .ref (N.2 500)), (1, .int x1), (2, .int x2), (3, .ref o)] dX0_flying_13 (cx_lt rfl) rfl ?_
      refine cq_iconst 1 dX0_flying_15 cx_ic_1 ?_
      exact cd_toX (cd_iret (by rw [Nat.zero_add, Nat.zero_add]; exact hk2) (by rw [Nat.zero_add, Nat.zero_add]; exact h.2) rfl dX0_flying_16)
    | 2, _, h => exact absurd h.1 (by decide)
    | e + 3, _, h => exact h.elim
theorem glX0_27 : GoodIn lw_all (wsV RX0 27 RX1 yX1_slot (ws_ yX1_slot cX1_slot 2 (some .int))) := lw_V q1797 q1798 q1799 q116 q1800
theorem hglX0_27 : yX1_slot.cls = RX1 ∧ yX1_slot.cls ≠ "java/lang/invoke/MethodHandle" ∧ yX1_slot.cls ≠ "java/lang/invoke/VarHandle" ∧ (parseMethodDescriptor yX1_slot.desc).map (fun d => d.parameters.length) = some 1 := by decide +kernel
abbrev slX0_slot (bc bs : Nat) : cx_S := (4, RX0, cx_rI, { frames := 8, cells := bc, slots := bs, locals := 131 }, some .int, false)
def dLw_slot (N : dNx) (bc bs : Nat) (M : cx_M) (P : dP) (L : dL) (o : Nat) (x1 : Int32) (Q : cd_Qt) : Prop := dCc_slotD N bc bs M P L x1 (lw_end 1 o Q)
set_option maxRecDepth 100000 in
theorem dLw_slot_m {l : Launch} {g : cx_G} {N : dNx} {bc bs : Nat} {Q : cd_Qt} (H : lwH l g N) (M : cx_M) (P : dP) (L : dL) (o : Nat) (x1 : Int32) (h : dLw_slot N bc bs M P L o x1 Q) : cd_MetH l g yX0_slot cX0_slot [(0, 9, 12, 18)] (slX0_slot bc bs) cd_rI [.ref (N.2 500), .int x1, .ref o] M P L Q := by
  refine cd_metH (by decide +kernel) rfl rfl q1796 (lv := [(0, .ref (N.2 500)), (1, .int x1), (2, .ref o)]) rfl (cx_le rfl) (fun X hX => ?_)
  refine cq_aload_n 2 dX0_slot_0 rfl ?_
  refine cq_iconst 0 dX0_slot_1 cx_ic_0 ?_
  refine cq_aload_n 0 dX0_slot_2 rfl ?_
  refine cq_iload_n 1 dX0_slot_3 rfl ?_
  refine cd_xVL [.int x1] [.int 0, .ref o] (dCc_slotD_m H.1 (N := N) (bc := bc) (bs := bs) M P L x1 h) (cCc_rc0 (H.1.2.1 L P).2.2.2.2.2.2.2.1) dX0_slot_4 glX0_27 hglX0_27 ⟨cx_le rfl, cx_le rfl⟩ ⟨Nat.le_of_eq (Nat.zero_add _), Nat.le_of_eq (Nat.zero_add _)⟩ rfl (cx_le rfl) (fun M1 P1 L1 v r k n hk2 h => ?_) (fun M1 P1 L1 v e k n q hk2 he h => ?_)
  · refine cq_i2l dX0_slot_7 ?_
    obtain ⟨hm, h⟩ := h
    refine cq_nd H.1.1.1.1.1 (fun hn => cq_stW h (dG_LI H.1.1.1.1.1 hn hm) dX0_slot_8 (fun M2 h => ?_))
    refine cq_goto 15 dX0_slot_9 rfl ?_
    refine cq_iconst 0 dX0_slot_15 cx_ic_0 ?_
    exact cd_toX (cd_iret (by rw [Nat.zero_add, Nat.zero_add]; exact hk2) (by rw [Nat.zero_add, Nat.zero_add]; exact h) rfl dX0_slot_16)
  · match e, he, h with
    | 1, _, h =>
      refine ⟨12, ⟨[], [], _, "java/util/NoSuchElementException", hX, (fun z hz => nomatch hz), by decide +kernel, by decide, q1748, q1758, rfl⟩, ?_⟩
      refine cq_astore_n [(3, .ref q), (0, .ref (N.2 500)), (1, .int x1), (2, .ref o)] dX0_slot_12 (cx_lt rfl) rfl ?_
      refine cq_iconst 1 dX0_slot_13 cx_ic_1 ?_
      exact cd_toX (cd_iret (by rw [Nat.zero_add, Nat.zero_add]; exact hk2) (by rw [Nat.zero_add, Nat.zero_add]; exact h.2) rfl dX0_slot_14)
    | 2, _, h => exact absurd h.1 (by decide)
    | e + 3, _, h => exact h.elim
theorem glX0_30 : GoodIn lw_all (wsV RX0 30 RX1 yX1_played (ws_ yX1_played cX1_played 3 (some .int))) := lw_V q1804 q1805 q1806 q116 q1807
theorem hglX0_30 : yX1_played.cls = RX1 ∧ yX1_played.cls ≠ "java/lang/invoke/MethodHandle" ∧ yX1_played.cls ≠ "java/lang/invoke/VarHandle" ∧ (parseMethodDescriptor yX1_played.desc).map (fun d => d.parameters.length) = some 2 := by decide +kernel
abbrev slX0_played (bc bs : Nat) : cx_S := (5, RX0, cx_rI, { frames := 8, cells := bc, slots := bs, locals := 132 }, some .int, false)
def dLw_played (N : dNx) (bc bs : Nat) (M : cx_M) (P : dP) (L : dL) (o : Nat) (x1 : Int32) (x2 : Int32) (Q : cd_Qt) : Prop := dCc_playedD N bc bs M P L x1 x2 (lw_end 1 o Q)
set_option maxRecDepth 100000 in
theorem dLw_played_m {l : Launch} {g : cx_G} {N : dNx} {bc bs : Nat} {Q : cd_Qt} (H : lwH l g N) (M : cx_M) (P : dP) (L : dL) (o : Nat) (x1 : Int32) (x2 : Int32) (h : dLw_played N bc bs M P L o x1 x2 Q) : cd_MetH l g yX0_played cX0_played [(0, 10, 13, 18)] (slX0_played bc bs) cd_rI [.ref (N.2 500), .int x1, .int x2, .ref o] M P L Q := by
  refine cd_metH (by decide +kernel) rfl rfl q1803 (lv := [(0, .ref (N.2 500)), (1, .int x1), (2, .int x2), (3, .ref o)]) rfl (cx_le rfl) (fun X hX => ?_)
  refine cq_aload_n 3 dX0_played_0 rfl ?_
  refine cq_iconst 0 dX0_played_1 cx_ic_0 ?_
  refine cq_aload_n 0 dX0_played_2 rfl ?_
  refine cq_iload_n 1 dX0_played_3 rfl ?_
  refine cq_iload_n 2 dX0_played_4 rfl ?_
  refine cd_xVL [.int x1, .int x2] [.int 0, .ref o] (dCc_playedD_m H.1 (N := N) (bc := bc) (bs := bs) M P L x1 x2 h) (cCc_rc0 (H.1.2.1 L P).2.2.2.2.2.2.2.1) dX0_played_5 glX0_30 hglX0_30 ⟨cx_le rfl, cx_le rfl⟩ ⟨Nat.le_of_eq (Nat.zero_add _), Nat.le_of_eq (Nat.zero_add _)⟩ rfl (cx_le rfl) (fun M1 P1 L1 v r k n hk2 h => ?_) (fun M1 P1 L1 v e k n q hk2 he h => ?_)
  · refine cq_i2l dX0_played_8 ?_
    obtain ⟨hm, h⟩ := h
    refine cq_nd H.1.1.1.1.1 (fun hn => cq_stW h (dG_LI H.1.1.1.1.1 hn hm) dX0_played_9 (fun M2 h => ?_))
    refine cq_goto 17 dX0_played_10 rfl ?_
    refine cq_iconst 0 dX0_played_17 cx_ic_0 ?_
    exact cd_toX (cd_iret (by rw [Nat.zero_add, Nat.zero_add]; exact hk2) (by rw [Nat.zero_add, Nat.zero_add]; exact h) rfl dX0_played_18)
  · match e, he, h with
    | 1, _, h =>
      refine ⟨13, ⟨[], [], _, "java/util/NoSuchElementException", hX, (fun z hz => nomatch hz), by decide +kernel, by decide, q1748, q1758, rfl⟩, ?_⟩
      refine cq_astore [(4, .ref q), (0, .ref (N.2 500)), (1, .int x1), (2, .int x2), (3, .ref o)] dX0_played_13 (cx_lt rfl) rfl ?_
      refine cq_iconst 1 dX0_played_15 cx_ic_1 ?_
      exact cd_toX (cd_iret (by rw [Nat.zero_add, Nat.zero_add]; exact hk2) (by rw [Nat.zero_add, Nat.zero_add]; exact h.2) rfl dX0_played_16)
    | 2, _, h => exact absurd h.1 (by decide)
    | e + 3, _, h => exact h.elim
theorem glX0_33 : GoodIn lw_all (wsV RX0 33 RX1 yX1_spans (ws_ yX1_spans cX1_spans 6 (some .int))) := lw_V q1819 q1820 q1821 q116 q1822
theorem hglX0_33 : yX1_spans.cls = RX1 ∧ yX1_spans.cls ≠ "java/lang/invoke/MethodHandle" ∧ yX1_spans.cls ≠ "java/lang/invoke/VarHandle" ∧ (parseMethodDescriptor yX1_spans.desc).map (fun d => d.parameters.length) = some 2 := by decide +kernel
abbrev slX0_spans (bc bs : Nat) : cx_S := (5, RX0, cx_rI, { frames := 8, cells := bc, slots := bs, locals := 135 }, some .int, false)
def dLw_spans (N : dNx) (bc bs : Nat) (M : cx_M) (P : dP) (L : dL) (o : Nat) (x1 : Int32) (x2 : Int32) (Q : cd_Qt) : Prop := dCc_spansD N bc bs M P L x1 x2 (lw_end 3 o Q)
set_option maxRecDepth 100000 in
theorem dLw_spans_m {l : Launch} {g : cx_G} {N : dNx} {bc bs : Nat} {Q : cd_Qt} (H : lwH l g N) (M : cx_M) (P : dP) (L : dL) (o : Nat) (x1 : Int32) (x2 : Int32) (h : dLw_spans N bc bs M P L o x1 x2 Q) : cd_MetH l g yX0_spans cX0_spans [(0, 10, 13, 18), (0, 10, 17, 13)] (slX0_spans bc bs) cd_rI [.ref (N.2 500), .int x1, .int x2, .ref o] M P L Q := by
  refine cd_metH (by decide +kernel) rfl rfl q1818 (lv := [(0, .ref (N.2 500)), (1, .int x1), (2, .int x2), (3, .ref o)]) rfl (cx_le rfl) (fun X hX => ?_)
  refine cq_aload_n 3 dX0_spans_0 rfl ?_
  refine cq_iconst 0 dX0_spans_1 cx_ic_0 ?_
  refine cq_aload_n 0 dX0_spans_2 rfl ?_
  refine cq_iload_n 1 dX0_spans_3 rfl ?_
  refine cq_iload_n 2 dX0_spans_4 rfl ?_
  refine cd_xVL [.int x1, .int x2] [.int 0, .ref o] (dCc_spansD_m H.1 (N := N) (bc := bc) (bs := bs) M P L x1 x2 h) (cCc_rc0 (H.1.2.1 L P).2.2.2.2.2.2.2.1) dX0_spans_5 glX0_33 hglX0_33 ⟨cx_le rfl, cx_le rfl⟩ ⟨Nat.le_of_eq (Nat.zero_add _), Nat.le_of_eq (Nat.zero_add _)⟩ rfl (cx_le rfl) (fun M1 P1 L1 v r k n hk2 h => ?_) (fun M1 P1 L1 v e k n q hk2 he h => ?_)
  · refine cq_i2l dX0_spans_8 ?_
    obtain ⟨hm, h⟩ := h
    refine cq_nd H.1.1.1.1.1 (fun hn => cq_stW h (dG_LI H.1.1.1.1.1 hn hm) dX0_spans_9 (fun M2 h => ?_))
    refine cq_goto 21 dX0_spans_10 rfl ?_
    refine cq_iconst 0 dX0_spans_21 cx_ic_0 ?_
    exact cd_toX (cd_iret (by rw [Nat.zero_add, Nat.zero_add]; exact hk2) (by rw [Nat.zero_add, Nat.zero_add]; exact h) rfl dX0_spans_22)
  · match e, he, h with
    | 1, _, h =>
      refine ⟨13, ⟨[], [_], _, "java/util/NoSuchElementException", hX, (fun z hz => nomatch hz), by decide +kernel, by decide, q1748, q1758, rfl⟩, ?_⟩
      refine cq_astore [(4, .ref q), (0, .ref (N.2 500)), (1, .int x1), (2, .int x2), (3, .ref o)] dX0_spans_13 (cx_lt rfl) rfl ?_
      refine cq_iconst 1 dX0_spans_15 cx_ic_1 ?_
      exact cd_toX (cd_iret (by rw [Nat.zero_add, Nat.zero_add]; exact hk2) (by rw [Nat.zero_add, Nat.zero_add]; exact h.2) rfl dX0_spans_16)
    | 2, _, h =>
      refine ⟨17, ⟨[_], [], _, "java/lang/IllegalArgumentException", hX, (fun z hz => by rcases List.mem_singleton.mp hz with rfl; exact ⟨by decide, "java/util/NoSuchElementException", q1748, H.2.1⟩), by decide +kernel, by decide, q1354, q202, rfl⟩, ?_⟩
      refine cq_astore [(4, .ref q), (0, .ref (N.2 500)), (1, .int x1), (2, .int x2), (3, .ref o)] dX0_spans_17 (cx_lt rfl) rfl ?_
      refine cq_iconst 2 dX0_spans_19 cx_ic_2 ?_
      exact cd_toX (cd_iret (by rw [Nat.zero_add, Nat.zero_add]; exact hk2) (by rw [Nat.zero_add, Nat.zero_add]; exact h.2) rfl dX0_spans_20)
    | e + 3, _, h => exact h.elim
theorem glX0_36 : GoodIn lw_all (wsV RX0 36 RX1 yX1_sample (ws_ yX1_sample cX1_sample 2 (some .int))) := lw_V q2177 q2178 q2179 q116 q2180
theorem hglX0_36 : yX1_sample.cls = RX1 ∧ yX1_sample.cls ≠ "java/lang/invoke/MethodHandle" ∧ yX1_sample.cls ≠ "java/lang/invoke/VarHandle" ∧ (parseMethodDescriptor yX1_sample.desc).map (fun d => d.parameters.length) = some 1 := by decide +kernel
abbrev slX0_sample (bc bs : Nat) : cx_S := (4, RX0, cx_rI, { frames := 8, cells := bc, slots := bs, locals := 131 }, some .int, false)
def dLw_sample (N : dNx) (bc bs : Nat) (M : cx_M) (P : dP) (L : dL) (o : Nat) (x1 : Int32) (Q : cd_Qt) : Prop := dCc_sampleD N bc bs M P L x1 (lw_end 1 o Q)
set_option maxRecDepth 100000 in
theorem dLw_sample_m {l : Launch} {g : cx_G} {N : dNx} {bc bs : Nat} {Q : cd_Qt} (H : lwH l g N) (M : cx_M) (P : dP) (L : dL) (o : Nat) (x1 : Int32) (h : dLw_sample N bc bs M P L o x1 Q) : cd_MetH l g yX0_sample cX0_sample [(0, 9, 12, 18)] (slX0_sample bc bs) cd_rI [.ref (N.2 500), .int x1, .ref o] M P L Q := by
  refine cd_metH (by decide +kernel) rfl rfl q2176 (lv := [(0, .ref (N.2 500)), (1, .int x1), (2, .ref o)]) rfl (cx_le rfl) (fun X hX => ?_)
  refine cq_aload_n 2 dX0_sample_0 rfl ?_
  refine cq_iconst 0 dX0_sample_1 cx_ic_0 ?_
  refine cq_aload_n 0 dX0_sample_2 rfl ?_
  refine cq_iload_n 1 dX0_sample_3 rfl ?_
  refine cd_xVL [.int x1] [.int 0, .ref o] (dCc_sampleD_m H.1 (N := N) (bc := bc) (bs := bs) M P L x1 h) (cCc_rc0 (H.1.2.1 L P).2.2.2.2.2.2.2.1) dX0_sample_4 glX0_36 hglX0_36 ⟨cx_le rfl, cx_le rfl⟩ ⟨Nat.le_of_eq (Nat.zero_add _), Nat.le_of_eq (Nat.zero_add _)⟩ rfl (cx_le rfl) (fun M1 P1 L1 v r k n hk2 h => ?_) (fun M1 P1 L1 v e k n q hk2 he h => ?_)
  · refine cq_i2l dX0_sample_7 ?_
    obtain ⟨hm, h⟩ := h
    refine cq_nd H.1.1.1.1.1 (fun hn => cq_stW h (dG_LI H.1.1.1.1.1 hn hm) dX0_sample_8 (fun M2 h => ?_))
    refine cq_goto 15 dX0_sample_9 rfl ?_
    refine cq_iconst 0 dX0_sample_15 cx_ic_0 ?_
    exact cd_toX (cd_iret (by rw [Nat.zero_add, Nat.zero_add]; exact hk2) (by rw [Nat.zero_add, Nat.zero_add]; exact h) rfl dX0_sample_16)
  · match e, he, h with
    | 1, _, h =>
      refine ⟨12, ⟨[], [], _, "java/util/NoSuchElementException", hX, (fun z hz => nomatch hz), by decide +kernel, by decide, q1748, q1758, rfl⟩, ?_⟩
      refine cq_astore_n [(3, .ref q), (0, .ref (N.2 500)), (1, .int x1), (2, .ref o)] dX0_sample_12 (cx_lt rfl) rfl ?_
      refine cq_iconst 1 dX0_sample_13 cx_ic_1 ?_
      exact cd_toX (cd_iret (by rw [Nat.zero_add, Nat.zero_add]; exact hk2) (by rw [Nat.zero_add, Nat.zero_add]; exact h.2) rfl dX0_sample_14)
    | 2, _, h => exact absurd h.1 (by decide)
    | e + 3, _, h => exact h.elim
theorem glX0_39 : GoodIn lw_all (wsV RX0 39 RX1 yX1_wander (ws_ yX1_wander cX1_wander 6 (some .int))) := lw_V q2188 q2189 q2190 q116 q2191
theorem hglX0_39 : yX1_wander.cls = RX1 ∧ yX1_wander.cls ≠ "java/lang/invoke/MethodHandle" ∧ yX1_wander.cls ≠ "java/lang/invoke/VarHandle" ∧ (parseMethodDescriptor yX1_wander.desc).map (fun d => d.parameters.length) = some 1 := by decide +kernel
abbrev slX0_wander (bc bs : Nat) : cx_S := (4, RX0, cx_rI, { frames := 8, cells := bc, slots := bs, locals := 159 }, some .int, false)
def dLw_wander (N : dNx) (bc bs : Nat) (M : cx_M) (P : dP) (L : dL) (o : Nat) (x1 : Int32) (Q : cd_Qt) : Prop := dCc_wanderD N bc bs M P L x1 (lw_end 2 o Q)
set_option maxRecDepth 100000 in
theorem dLw_wander_m {l : Launch} {g : cx_G} {N : dNx} {bc bs : Nat} {Q : cd_Qt} (H : lwH l g N) (M : cx_M) (P : dP) (L : dL) (o : Nat) (x1 : Int32) (h : dLw_wander N bc bs M P L o x1 Q) : cd_MetH l g yX0_wander cX0_wander [(0, 9, 12, 13)] (slX0_wander bc bs) cd_rI [.ref (N.2 500), .int x1, .ref o] M P L Q := by
  refine cd_metH (by decide +kernel) rfl rfl q2187 (lv := [(0, .ref (N.2 500)), (1, .int x1), (2, .ref o)]) rfl (cx_le rfl) (fun X hX => ?_)
  refine cq_aload_n 2 dX0_wander_0 rfl ?_
  refine cq_iconst 0 dX0_wander_1 cx_ic_0 ?_
  refine cq_aload_n 0 dX0_wander_2 rfl ?_
  refine cq_iload_n 1 dX0_wander_3 rfl ?_
  refine cd_xVL [.int x1] [.int 0, .ref o] (dCc_wanderD_m H.1 (N := N) (bc := bc) (bs := bs) M P L x1 h) (cCc_rc0 (H.1.2.1 L P).2.2.2.2.2.2.2.1) dX0_wander_4 glX0_39 hglX0_39 ⟨cx_le rfl, cx_le rfl⟩ ⟨Nat.le_of_eq (Nat.zero_add _), Nat.le_of_eq (Nat.zero_add _)⟩ rfl (cx_le rfl) (fun M1 P1 L1 v r k n hk2 h => ?_) (fun M1 P1 L1 v e k n q hk2 he h => ?_)
  · refine cq_i2l dX0_wander_7 ?_
    obtain ⟨hm, h⟩ := h
    refine cq_nd H.1.1.1.1.1 (fun hn => cq_stW h (dG_LI H.1.1.1.1.1 hn hm) dX0_wander_8 (fun M2 h => ?_))
    refine cq_goto 15 dX0_wander_9 rfl ?_
    refine cq_iconst 0 dX0_wander_15 cx_ic_0 ?_
    exact cd_toX (cd_iret (by rw [Nat.zero_add, Nat.zero_add]; exact hk2) (by rw [Nat.zero_add, Nat.zero_add]; exact h) rfl dX0_wander_16)
  · match e, he, h with
    | 1, _, h => exact absurd h.1 (by decide)
    | 2, _, h =>
      refine ⟨12, ⟨[], [], _, "java/lang/IllegalArgumentException", hX, (fun z hz => nomatch hz), by decide +kernel, by decide, q1354, q202, rfl⟩, ?_⟩
      refine cq_astore_n [(3, .ref q), (0, .ref (N.2 500)), (1, .int x1), (2, .ref o)] dX0_wander_12 (cx_lt rfl) rfl ?_
      refine cq_iconst 1 dX0_wander_13 cx_ic_1 ?_
      exact cd_toX (cd_iret (by rw [Nat.zero_add, Nat.zero_add]; exact hk2) (by rw [Nat.zero_add, Nat.zero_add]; exact h.2) rfl dX0_wander_14)
    | e + 3, _, h => exact h.elim
theorem glX0_42 : GoodIn lw_all (wsV RX0 42 RX1 yX1_turn (ws_ yX1_turn cX1_turn 5 (some .int))) := lw_V q2247 q2248 q2249 q116 q2250
theorem hglX0_42 : yX1_turn.cls = RX1 ∧ yX1_turn.cls ≠ "java/lang/invoke/MethodHandle" ∧ yX1_turn.cls ≠ "java/lang/invoke/VarHandle" ∧ (parseMethodDescriptor yX1_turn.desc).map (fun d => d.parameters.length) = some 2 := by decide +kernel
abbrev slX0_turn (bc bs : Nat) : cx_S := (5, RX0, cx_rI, { frames := 33, cells := bc, slots := bs, locals := 965 }, some .int, false)
def dLw_turn (N : dNx) (bc bs : Nat) (M : cx_M) (P : dP) (L : dL) (o : Nat) (x1 : Int32) (x2 : Int32) (Q : cd_Qt) : Prop := dCc_turnD N bc bs M P L x1 x2 (lw_end 1 o Q)
set_option maxRecDepth 100000 in
theorem dLw_turn_m {l : Launch} {g : cx_G} {N : dNx} {bc bs : Nat} {Q : cd_Qt} (H : lwH l g N) (M : cx_M) (P : dP) (L : dL) (o : Nat) (x1 : Int32) (x2 : Int32) (h : dLw_turn N bc bs M P L o x1 x2 Q) : cd_MetH l g yX0_turn cX0_turn [(0, 10, 13, 18)] (slX0_turn bc bs) cd_rI [.ref (N.2 500), .int x1, .int x2, .ref o] M P L Q := by
  refine cd_metH (by decide +kernel) rfl rfl q2246 (lv := [(0, .ref (N.2 500)), (1, .int x1), (2, .int x2), (3, .ref o)]) rfl (cx_le rfl) (fun X hX => ?_)
  refine cq_aload_n 3 dX0_turn_0 rfl ?_
  refine cq_iconst 0 dX0_turn_1 cx_ic_0 ?_
  refine cq_aload_n 0 dX0_turn_2 rfl ?_
  refine cq_iload_n 1 dX0_turn_3 rfl ?_
  refine cq_iload_n 2 dX0_turn_4 rfl ?_
  refine cd_xVL [.int x1, .int x2] [.int 0, .ref o] (dCc_turnD_m H.1 (N := N) (bc := bc) (bs := bs) M P L x1 x2 h) (cCc_rc0 (H.1.2.1 L P).2.2.2.2.2.2.2.1) dX0_turn_5 glX0_42 hglX0_42 ⟨cx_le rfl, cx_le rfl⟩ ⟨Nat.le_of_eq (Nat.zero_add _), Nat.le_of_eq (Nat.zero_add _)⟩ rfl (cx_le rfl) (fun M1 P1 L1 v r k n hk2 h => ?_) (fun M1 P1 L1 v e k n q hk2 he h => ?_)
  · refine cq_i2l dX0_turn_8 ?_
    obtain ⟨hm, h⟩ := h
    refine cq_nd H.1.1.1.1.1 (fun hn => cq_stW h (dG_LI H.1.1.1.1.1 hn hm) dX0_turn_9 (fun M2 h => ?_))
    refine cq_goto 17 dX0_turn_10 rfl ?_
    refine cq_iconst 0 dX0_turn_17 cx_ic_0 ?_
    exact cd_toX (cd_iret (by rw [Nat.zero_add, Nat.zero_add]; exact hk2) (by rw [Nat.zero_add, Nat.zero_add]; exact h) rfl dX0_turn_18)
  · match e, he, h with
    | 1, _, h =>
      refine ⟨13, ⟨[], [], _, "java/util/NoSuchElementException", hX, (fun z hz => nomatch hz), by decide +kernel, by decide, q1748, q1758, rfl⟩, ?_⟩
      refine cq_astore [(4, .ref q), (0, .ref (N.2 500)), (1, .int x1), (2, .int x2), (3, .ref o)] dX0_turn_13 (cx_lt rfl) rfl ?_
      refine cq_iconst 1 dX0_turn_15 cx_ic_1 ?_
      exact cd_toX (cd_iret (by rw [Nat.zero_add, Nat.zero_add]; exact hk2) (by rw [Nat.zero_add, Nat.zero_add]; exact h.2) rfl dX0_turn_16)
    | 2, _, h => exact absurd h.1 (by decide)
    | e + 3, _, h => exact h.elim
theorem glX0_45 : GoodIn lw_all (wsV RX0 45 RX1 yX1_then (ws_ yX1_then cX1_then 3 (some .int))) := lw_V q2254 q2255 q2256 q116 q2257
theorem hglX0_45 : yX1_then.cls = RX1 ∧ yX1_then.cls ≠ "java/lang/invoke/MethodHandle" ∧ yX1_then.cls ≠ "java/lang/invoke/VarHandle" ∧ (parseMethodDescriptor yX1_then.desc).map (fun d => d.parameters.length) = some 2 := by decide +kernel
abbrev slX0_then (bc bs : Nat) : cx_S := (5, RX0, cx_rI, { frames := 907, cells := bc, slots := bs, locals := 30155 }, some .int, false)
def dLw_then (N : dNx) (bc bs : Nat) (M : cx_M) (P : dP) (L : dL) (o : Nat) (x1 : Int32) (x2 : Int32) (Q : cd_Qt) : Prop := dCc_thenD N bc bs M P L x1 x2 (lw_end 3 o Q)
set_option maxRecDepth 100000 in
theorem dLw_then_m {l : Launch} {g : cx_G} {N : dNx} {bc bs : Nat} {Q : cd_Qt} (H : lwH l g N) (M : cx_M) (P : dP) (L : dL) (o : Nat) (x1 : Int32) (x2 : Int32) (h : dLw_then N bc bs M P L o x1 x2 Q) : cd_MetH l g yX0_then cX0_then [(0, 10, 13, 18), (0, 10, 17, 13)] (slX0_then bc bs) cd_rI [.ref (N.2 500), .int x1, .int x2, .ref o] M P L Q := by
  refine cd_metH (by decide +kernel) rfl rfl q2253 (lv := [(0, .ref (N.2 500)), (1, .int x1), (2, .int x2), (3, .ref o)]) rfl (cx_le rfl) (fun X hX => ?_)
  refine cq_aload_n 3 dX0_then_0 rfl ?_
  refine cq_iconst 0 dX0_then_1 cx_ic_0 ?_
  refine cq_aload_n 0 dX0_then_2 rfl ?_
  refine cq_iload_n 1 dX0_then_3 rfl ?_
  refine cq_iload_n 2 dX0_then_4 rfl ?_
  refine cd_xVL [.int x1, .int x2] [.int 0, .ref o] (dCc_thenD_m H.1 (N := N) (bc := bc) (bs := bs) M P L x1 x2 h) (cCc_rc0 (H.1.2.1 L P).2.2.2.2.2.2.2.1) dX0_then_5 glX0_45 hglX0_45 ⟨cx_le rfl, cx_le rfl⟩ ⟨Nat.le_of_eq (Nat.zero_add _), Nat.le_of_eq (Nat.zero_add _)⟩ rfl (cx_le rfl) (fun M1 P1 L1 v r k n hk2 h => ?_) (fun M1 P1 L1 v e k n q hk2 he h => ?_)
  · refine cq_i2l dX0_then_8 ?_
    obtain ⟨hm, h⟩ := h
    refine cq_nd H.1.1.1.1.1 (fun hn => cq_stW h (dG_LI H.1.1.1.1.1 hn hm) dX0_then_9 (fun M2 h => ?_))
    refine cq_goto 21 dX0_then_10 rfl ?_
    refine cq_iconst 0 dX0_then_21 cx_ic_0 ?_
    exact cd_toX (cd_iret (by rw [Nat.zero_add, Nat.zero_add]; exact hk2) (by rw [Nat.zero_add, Nat.zero_add]; exact h) rfl dX0_then_22)
  · match e, he, h with
    | 1, _, h =>
      refine ⟨13, ⟨[], [_], _, "java/util/NoSuchElementException", hX, (fun z hz => nomatch hz), by decide +kernel, by decide, q1748, q1758, rfl⟩, ?_⟩
      refine cq_astore [(4, .ref q), (0, .ref (N.2 500)), (1, .int x1), (2, .int x2), (3, .ref o)] dX0_then_13 (cx_lt rfl) rfl ?_
      refine cq_iconst 1 dX0_then_15 cx_ic_1 ?_
      exact cd_toX (cd_iret (by rw [Nat.zero_add, Nat.zero_add]; exact hk2) (by rw [Nat.zero_add, Nat.zero_add]; exact h.2) rfl dX0_then_16)
    | 2, _, h =>
      refine ⟨17, ⟨[_], [], _, "java/lang/IllegalArgumentException", hX, (fun z hz => by rcases List.mem_singleton.mp hz with rfl; exact ⟨by decide, "java/util/NoSuchElementException", q1748, H.2.1⟩), by decide +kernel, by decide, q1354, q202, rfl⟩, ?_⟩
      refine cq_astore [(4, .ref q), (0, .ref (N.2 500)), (1, .int x1), (2, .int x2), (3, .ref o)] dX0_then_17 (cx_lt rfl) rfl ?_
      refine cq_iconst 2 dX0_then_19 cx_ic_2 ?_
      exact cd_toX (cd_iret (by rw [Nat.zero_add, Nat.zero_add]; exact hk2) (by rw [Nat.zero_add, Nat.zero_add]; exact h.2) rfl dX0_then_20)
    | e + 3, _, h => exact h.elim
theorem glX0_48 : GoodIn lw_all (wsV RX0 48 RX1 yX1_when (ws_ yX1_when cX1_when 2 (some .int))) := lw_V q2268 q2269 q2270 q116 q2271
theorem hglX0_48 : yX1_when.cls = RX1 ∧ yX1_when.cls ≠ "java/lang/invoke/MethodHandle" ∧ yX1_when.cls ≠ "java/lang/invoke/VarHandle" ∧ (parseMethodDescriptor yX1_when.desc).map (fun d => d.parameters.length) = some 1 := by decide +kernel
abbrev slX0_when (bc bs : Nat) : cx_S := (4, RX0, cx_rI, { frames := 908, cells := bc, slots := bs, locals := 30178 }, some .int, false)
def dLw_when (N : dNx) (bc bs : Nat) (M : cx_M) (P : dP) (L : dL) (o : Nat) (x1 : Int32) (Q : cd_Qt) : Prop := dCc_whenD N bc bs M P L x1 (lw_end 1 o Q)
set_option maxRecDepth 100000 in
theorem dLw_when_m {l : Launch} {g : cx_G} {N : dNx} {bc bs : Nat} {Q : cd_Qt} (H : lwH l g N) (M : cx_M) (P : dP) (L : dL) (o : Nat) (x1 : Int32) (h : dLw_when N bc bs M P L o x1 Q) : cd_MetH l g yX0_when cX0_when [(0, 9, 12, 18)] (slX0_when bc bs) cd_rI [.ref (N.2 500), .int x1, .ref o] M P L Q := by
  refine cd_metH (by decide +kernel) rfl rfl q2267 (lv := [(0, .ref (N.2 500)), (1, .int x1), (2, .ref o)]) rfl (cx_le rfl) (fun X hX => ?_)
  refine cq_aload_n 2 dX0_when_0 rfl ?_
  refine cq_iconst 0 dX0_when_1 cx_ic_0 ?_
  refine cq_aload_n 0 dX0_when_2 rfl ?_
  refine cq_iload_n 1 dX0_when_3 rfl ?_
  refine cd_xVL [.int x1] [.int 0, .ref o] (dCc_whenD_m H.1 (N := N) (bc := bc) (bs := bs) M P L x1 h) (cCc_rc0 (H.1.2.1 L P).2.2.2.2.2.2.2.1) dX0_when_4 glX0_48 hglX0_48 ⟨cx_le rfl, cx_le rfl⟩ ⟨Nat.le_of_eq (Nat.zero_add _), Nat.le_of_eq (Nat.zero_add _)⟩ rfl (cx_le rfl) (fun M1 P1 L1 v r k n hk2 h => ?_) (fun M1 P1 L1 v e k n q hk2 he h => ?_)
  · refine cq_i2l dX0_when_7 ?_
    obtain ⟨hm, h⟩ := h
    refine cq_nd H.1.1.1.1.1 (fun hn => cq_stW h (dG_LI H.1.1.1.1.1 hn hm) dX0_when_8 (fun M2 h => ?_))
    refine cq_goto 15 dX0_when_9 rfl ?_
    refine cq_iconst 0 dX0_when_15 cx_ic_0 ?_
    exact cd_toX (cd_iret (by rw [Nat.zero_add, Nat.zero_add]; exact hk2) (by rw [Nat.zero_add, Nat.zero_add]; exact h) rfl dX0_when_16)
  · match e, he, h with
    | 1, _, h =>
      refine ⟨12, ⟨[], [], _, "java/util/NoSuchElementException", hX, (fun z hz => nomatch hz), by decide +kernel, by decide, q1748, q1758, rfl⟩, ?_⟩
      refine cq_astore_n [(3, .ref q), (0, .ref (N.2 500)), (1, .int x1), (2, .ref o)] dX0_when_12 (cx_lt rfl) rfl ?_
      refine cq_iconst 1 dX0_when_13 cx_ic_1 ?_
      exact cd_toX (cd_iret (by rw [Nat.zero_add, Nat.zero_add]; exact hk2) (by rw [Nat.zero_add, Nat.zero_add]; exact h.2) rfl dX0_when_14)
    | 2, _, h => exact absurd h.1 (by decide)
    | e + 3, _, h => exact h.elim
theorem glX0_51 : GoodIn lw_all (wsV RX0 51 RX1 yX1_toAim (ws_ yX1_toAim cX1_toAim 6 (some .int))) := lw_V q2299 q2300 q2301 q116 q2302
theorem hglX0_51 : yX1_toAim.cls = RX1 ∧ yX1_toAim.cls ≠ "java/lang/invoke/MethodHandle" ∧ yX1_toAim.cls ≠ "java/lang/invoke/VarHandle" ∧ (parseMethodDescriptor yX1_toAim.desc).map (fun d => d.parameters.length) = some 2 := by decide +kernel
abbrev slX0_toAim (bc bs : Nat) : cx_S := (5, RX0, cx_rI, { frames := 907, cells := bc, slots := bs, locals := 30158 }, some .int, false)
def dLw_toAim (N : dNx) (bc bs : Nat) (M : cx_M) (P : dP) (L : dL) (o : Nat) (x1 : Int32) (x2 : Int32) (Q : cd_Qt) : Prop := dCc_toAimD N bc bs M P L x1 x2 (lw_end 3 o Q)
set_option maxRecDepth 100000 in
theorem dLw_toAim_m {l : Launch} {g : cx_G} {N : dNx} {bc bs : Nat} {Q : cd_Qt} (H : lwH l g N) (M : cx_M) (P : dP) (L : dL) (o : Nat) (x1 : Int32) (x2 : Int32) (h : dLw_toAim N bc bs M P L o x1 x2 Q) : cd_MetH l g yX0_toAim cX0_toAim [(0, 10, 13, 18), (0, 10, 17, 13)] (slX0_toAim bc bs) cd_rI [.ref (N.2 500), .int x1, .int x2, .ref o] M P L Q := by
  refine cd_metH (by decide +kernel) rfl rfl q2298 (lv := [(0, .ref (N.2 500)), (1, .int x1), (2, .int x2), (3, .ref o)]) rfl (cx_le rfl) (fun X hX => ?_)
  refine cq_aload_n 3 dX0_toAim_0 rfl ?_
  refine cq_iconst 0 dX0_toAim_1 cx_ic_0 ?_
  refine cq_aload_n 0 dX0_toAim_2 rfl ?_
  refine cq_iload_n 1 dX0_toAim_3 rfl ?_
  refine cq_iload_n 2 dX0_toAim_4 rfl ?_
  refine cd_xVL [.int x1, .int x2] [.int 0, .ref o] (dCc_toAimD_m H.1 (N := N) (bc := bc) (bs := bs) M P L x1 x2 h) (cCc_rc0 (H.1.2.1 L P).2.2.2.2.2.2.2.1) dX0_toAim_5 glX0_51 hglX0_51 ⟨cx_le rfl, cx_le rfl⟩ ⟨Nat.le_of_eq (Nat.zero_add _), Nat.le_of_eq (Nat.zero_add _)⟩ rfl (cx_le rfl) (fun M1 P1 L1 v r k n hk2 h => ?_) (fun M1 P1 L1 v e k n q hk2 he h => ?_)
  · refine cq_i2l dX0_toAim_8 ?_
    obtain ⟨hm, h⟩ := h
    refine cq_nd H.1.1.1.1.1 (fun hn => cq_stW h (dG_LI H.1.1.1.1.1 hn hm) dX0_toAim_9 (fun M2 h => ?_))
    refine cq_goto 21 dX0_toAim_10 rfl ?_
    refine cq_iconst 0 dX0_toAim_21 cx_ic_0 ?_
    exact cd_toX (cd_iret (by rw [Nat.zero_add, Nat.zero_add]; exact hk2) (by rw [Nat.zero_add, Nat.zero_add]; exact h) rfl dX0_toAim_22)
  · match e, he, h with
    | 1, _, h =>
      refine ⟨13, ⟨[], [_], _, "java/util/NoSuchElementException", hX, (fun z hz => nomatch hz), by decide +kernel, by decide, q1748, q1758, rfl⟩, ?_⟩
      refine cq_astore [(4, .ref q), (0, .ref (N.2 500)), (1, .int x1), (2, .int x2), (3, .ref o)] dX0_toAim_13 (cx_lt rfl) rfl ?_
      refine cq_iconst 1 dX0_toAim_15 cx_ic_1 ?_
      exact cd_toX (cd_iret (by rw [Nat.zero_add, Nat.zero_add]; exact hk2) (by rw [Nat.zero_add, Nat.zero_add]; exact h.2) rfl dX0_toAim_16)
    | 2, _, h =>
      refine ⟨17, ⟨[_], [], _, "java/lang/IllegalArgumentException", hX, (fun z hz => by rcases List.mem_singleton.mp hz with rfl; exact ⟨by decide, "java/util/NoSuchElementException", q1748, H.2.1⟩), by decide +kernel, by decide, q1354, q202, rfl⟩, ?_⟩
      refine cq_astore [(4, .ref q), (0, .ref (N.2 500)), (1, .int x1), (2, .int x2), (3, .ref o)] dX0_toAim_17 (cx_lt rfl) rfl ?_
      refine cq_iconst 2 dX0_toAim_19 cx_ic_2 ?_
      exact cd_toX (cd_iret (by rw [Nat.zero_add, Nat.zero_add]; exact hk2) (by rw [Nat.zero_add, Nat.zero_add]; exact h.2) rfl dX0_toAim_20)
    | e + 3, _, h => exact h.elim
theorem glX0_54 : GoodIn lw_all (wsV RX0 54 RX1 yX1_toGain (ws_ yX1_toGain cX1_toGain 7 (some .int))) := lw_V q2311 q2312 q2313 q116 q2314
theorem hglX0_54 : yX1_toGain.cls = RX1 ∧ yX1_toGain.cls ≠ "java/lang/invoke/MethodHandle" ∧ yX1_toGain.cls ≠ "java/lang/invoke/VarHandle" ∧ (parseMethodDescriptor yX1_toGain.desc).map (fun d => d.parameters.length) = some 2 := by decide +kernel
abbrev slX0_toGain (bc bs : Nat) : cx_S := (5, RX0, cx_rI, { frames := 907, cells := bc, slots := bs, locals := 30161 }, some .int, false)
def dLw_toGain (N : dNx) (bc bs : Nat) (M : cx_M) (P : dP) (L : dL) (o : Nat) (x1 : Int32) (x2 : Int32) (Q : cd_Qt) : Prop := dCc_toGainD N bc bs M P L x1 x2 (lw_end 3 o Q)
set_option maxRecDepth 100000 in
theorem dLw_toGain_m {l : Launch} {g : cx_G} {N : dNx} {bc bs : Nat} {Q : cd_Qt} (H : lwH l g N) (M : cx_M) (P : dP) (L : dL) (o : Nat) (x1 : Int32) (x2 : Int32) (h : dLw_toGain N bc bs M P L o x1 x2 Q) : cd_MetH l g yX0_toGain cX0_toGain [(0, 10, 13, 18), (0, 10, 17, 13)] (slX0_toGain bc bs) cd_rI [.ref (N.2 500), .int x1, .int x2, .ref o] M P L Q := by
  refine cd_metH (by decide +kernel) rfl rfl q2310 (lv := [(0, .ref (N.2 500)), (1, .int x1), (2, .int x2), (3, .ref o)]) rfl (cx_le rfl) (fun X hX => ?_)
  refine cq_aload_n 3 dX0_toGain_0 rfl ?_
  refine cq_iconst 0 dX0_toGain_1 cx_ic_0 ?_
  refine cq_aload_n 0 dX0_toGain_2 rfl ?_
  refine cq_iload_n 1 dX0_toGain_3 rfl ?_
  refine cq_iload_n 2 dX0_toGain_4 rfl ?_
  refine cd_xVL [.int x1, .int x2] [.int 0, .ref o] (dCc_toGainD_m H.1 (N := N) (bc := bc) (bs := bs) M P L x1 x2 h) (cCc_rc0 (H.1.2.1 L P).2.2.2.2.2.2.2.1) dX0_toGain_5 glX0_54 hglX0_54 ⟨cx_le rfl, cx_le rfl⟩ ⟨Nat.le_of_eq (Nat.zero_add _), Nat.le_of_eq (Nat.zero_add _)⟩ rfl (cx_le rfl) (fun M1 P1 L1 v r k n hk2 h => ?_) (fun M1 P1 L1 v e k n q hk2 he h => ?_)
  · refine cq_i2l dX0_toGain_8 ?_
    obtain ⟨hm, h⟩ := h
    refine cq_nd H.1.1.1.1.1 (fun hn => cq_stW h (dG_LI H.1.1.1.1.1 hn hm) dX0_toGain_9 (fun M2 h => ?_))
    refine cq_goto 21 dX0_toGain_10 rfl ?_
    refine cq_iconst 0 dX0_toGain_21 cx_ic_0 ?_
    exact cd_toX (cd_iret (by rw [Nat.zero_add, Nat.zero_add]; exact hk2) (by rw [Nat.zero_add, Nat.zero_add]; exact h) rfl dX0_toGain_22)
  · match e, he, h with
    | 1, _, h =>
      refine ⟨13, ⟨[], [_], _, "java/util/NoSuchElementException", hX, (fun z hz => nomatch hz), by decide +kernel, by decide, q1748, q1758, rfl⟩, ?_⟩
      refine cq_astore [(4, .ref q), (0, .ref (N.2 500)), (1, .int x1), (2, .int x2), (3, .ref o)] dX0_toGain_13 (cx_lt rfl) rfl ?_
      refine cq_iconst 1 dX0_toGain_15 cx_ic_1 ?_
      exact cd_toX (cd_iret (by rw [Nat.zero_add, Nat.zero_add]; exact hk2) (by rw [Nat.zero_add, Nat.zero_add]; exact h.2) rfl dX0_toGain_16)
    | 2, _, h =>
      refine ⟨17, ⟨[_], [], _, "java/lang/IllegalArgumentException", hX, (fun z hz => by rcases List.mem_singleton.mp hz with rfl; exact ⟨by decide, "java/util/NoSuchElementException", q1748, H.2.1⟩), by decide +kernel, by decide, q1354, q202, rfl⟩, ?_⟩
      refine cq_astore [(4, .ref q), (0, .ref (N.2 500)), (1, .int x1), (2, .int x2), (3, .ref o)] dX0_toGain_17 (cx_lt rfl) rfl ?_
      refine cq_iconst 2 dX0_toGain_19 cx_ic_2 ?_
      exact cd_toX (cd_iret (by rw [Nat.zero_add, Nat.zero_add]; exact hk2) (by rw [Nat.zero_add, Nat.zero_add]; exact h.2) rfl dX0_toGain_20)
    | e + 3, _, h => exact h.elim
theorem glX0_57 : GoodIn lw_all (wsV RX0 57 RX1 yX1_other (ws_ yX1_other cX1_other 5 (some .int))) := lw_V q2322 q2323 q2324 q116 q2325
theorem hglX0_57 : yX1_other.cls = RX1 ∧ yX1_other.cls ≠ "java/lang/invoke/MethodHandle" ∧ yX1_other.cls ≠ "java/lang/invoke/VarHandle" ∧ (parseMethodDescriptor yX1_other.desc).map (fun d => d.parameters.length) = some 1 := by decide +kernel
abbrev slX0_other (bc bs : Nat) : cx_S := (4, RX0, cx_rI, { frames := 908, cells := bc, slots := bs, locals := 30180 }, some .int, false)
def dLw_other (N : dNx) (bc bs : Nat) (M : cx_M) (P : dP) (L : dL) (o : Nat) (x1 : Int32) (Q : cd_Qt) : Prop := dCc_otherD N bc bs M P L x1 (lw_end 1 o Q)
set_option maxRecDepth 100000 in
theorem dLw_other_m {l : Launch} {g : cx_G} {N : dNx} {bc bs : Nat} {Q : cd_Qt} (H : lwH l g N) (M : cx_M) (P : dP) (L : dL) (o : Nat) (x1 : Int32) (h : dLw_other N bc bs M P L o x1 Q) : cd_MetH l g yX0_other cX0_other [(0, 9, 12, 18)] (slX0_other bc bs) cd_rI [.ref (N.2 500), .int x1, .ref o] M P L Q := by
  refine cd_metH (by decide +kernel) rfl rfl q2321 (lv := [(0, .ref (N.2 500)), (1, .int x1), (2, .ref o)]) rfl (cx_le rfl) (fun X hX => ?_)
  refine cq_aload_n 2 dX0_other_0 rfl ?_
  refine cq_iconst 0 dX0_other_1 cx_ic_0 ?_
  refine cq_aload_n 0 dX0_other_2 rfl ?_
  refine cq_iload_n 1 dX0_other_3 rfl ?_
  refine cd_xVL [.int x1] [.int 0, .ref o] (dCc_otherD_m H.1 (N := N) (bc := bc) (bs := bs) M P L x1 h) (cCc_rc0 (H.1.2.1 L P).2.2.2.2.2.2.2.1) dX0_other_4 glX0_57 hglX0_57 ⟨cx_le rfl, cx_le rfl⟩ ⟨Nat.le_of_eq (Nat.zero_add _), Nat.le_of_eq (Nat.zero_add _)⟩ rfl (cx_le rfl) (fun M1 P1 L1 v r k n hk2 h => ?_) (fun M1 P1 L1 v e k n q hk2 he h => ?_)
  · refine cq_i2l dX0_other_7 ?_
    obtain ⟨hm, h⟩ := h
    refine cq_nd H.1.1.1.1.1 (fun hn => cq_stW h (dG_LI H.1.1.1.1.1 hn hm) dX0_other_8 (fun M2 h => ?_))
    refine cq_goto 15 dX0_other_9 rfl ?_
    refine cq_iconst 0 dX0_other_15 cx_ic_0 ?_
    exact cd_toX (cd_iret (by rw [Nat.zero_add, Nat.zero_add]; exact hk2) (by rw [Nat.zero_add, Nat.zero_add]; exact h) rfl dX0_other_16)
  · match e, he, h with
    | 1, _, h =>
      refine ⟨12, ⟨[], [], _, "java/util/NoSuchElementException", hX, (fun z hz => nomatch hz), by decide +kernel, by decide, q1748, q1758, rfl⟩, ?_⟩
      refine cq_astore_n [(3, .ref q), (0, .ref (N.2 500)), (1, .int x1), (2, .ref o)] dX0_other_12 (cx_lt rfl) rfl ?_
      refine cq_iconst 1 dX0_other_13 cx_ic_1 ?_
      exact cd_toX (cd_iret (by rw [Nat.zero_add, Nat.zero_add]; exact hk2) (by rw [Nat.zero_add, Nat.zero_add]; exact h.2) rfl dX0_other_14)
    | 2, _, h => exact absurd h.1 (by decide)
    | e + 3, _, h => exact h.elim
theorem glX0_60 : GoodIn lw_all (wsV RX0 60 RX1 yX1_look (ws_ yX1_look cX1_look 7 (some .int))) := lw_V q2337 q2338 q2339 q116 q2340
theorem hglX0_60 : yX1_look.cls = RX1 ∧ yX1_look.cls ≠ "java/lang/invoke/MethodHandle" ∧ yX1_look.cls ≠ "java/lang/invoke/VarHandle" ∧ (parseMethodDescriptor yX1_look.desc).map (fun d => d.parameters.length) = some 1 := by decide +kernel
abbrev slX0_look (bc bs : Nat) : cx_S := (4, RX0, cx_rI, { frames := 908, cells := bc, slots := bs, locals := 30182 }, some .int, false)
def dLw_look (N : dNx) (bc bs : Nat) (M : cx_M) (P : dP) (L : dL) (o : Nat) (x1 : Int32) (Q : cd_Qt) : Prop := dCc_lookD N bc bs M P L x1 (lw_end 1 o Q)
set_option maxRecDepth 100000 in
theorem dLw_look_m {l : Launch} {g : cx_G} {N : dNx} {bc bs : Nat} {Q : cd_Qt} (H : lwH l g N) (M : cx_M) (P : dP) (L : dL) (o : Nat) (x1 : Int32) (h : dLw_look N bc bs M P L o x1 Q) : cd_MetH l g yX0_look cX0_look [(0, 9, 12, 18)] (slX0_look bc bs) cd_rI [.ref (N.2 500), .int x1, .ref o] M P L Q := by
  refine cd_metH (by decide +kernel) rfl rfl q2336 (lv := [(0, .ref (N.2 500)), (1, .int x1), (2, .ref o)]) rfl (cx_le rfl) (fun X hX => ?_)
  refine cq_aload_n 2 dX0_look_0 rfl ?_
  refine cq_iconst 0 dX0_look_1 cx_ic_0 ?_
  refine cq_aload_n 0 dX0_look_2 rfl ?_
  refine cq_iload_n 1 dX0_look_3 rfl ?_
  refine cd_xVL [.int x1] [.int 0, .ref o] (dCc_lookD_m H.1 (N := N) (bc := bc) (bs := bs) M P L x1 h) (cCc_rc0 (H.1.2.1 L P).2.2.2.2.2.2.2.1) dX0_look_4 glX0_60 hglX0_60 ⟨cx_le rfl, cx_le rfl⟩ ⟨Nat.le_of_eq (Nat.zero_add _), Nat.le_of_eq (Nat.zero_add _)⟩ rfl (cx_le rfl) (fun M1 P1 L1 v r k n hk2 h => ?_) (fun M1 P1 L1 v e k n q hk2 he h => ?_)
  · refine cq_i2l dX0_look_7 ?_
    obtain ⟨hm, h⟩ := h
    refine cq_nd H.1.1.1.1.1 (fun hn => cq_stW h (dG_LI H.1.1.1.1.1 hn hm) dX0_look_8 (fun M2 h => ?_))
    refine cq_goto 15 dX0_look_9 rfl ?_
    refine cq_iconst 0 dX0_look_15 cx_ic_0 ?_
    exact cd_toX (cd_iret (by rw [Nat.zero_add, Nat.zero_add]; exact hk2) (by rw [Nat.zero_add, Nat.zero_add]; exact h) rfl dX0_look_16)
  · match e, he, h with
    | 1, _, h =>
      refine ⟨12, ⟨[], [], _, "java/util/NoSuchElementException", hX, (fun z hz => nomatch hz), by decide +kernel, by decide, q1748, q1758, rfl⟩, ?_⟩
      refine cq_astore_n [(3, .ref q), (0, .ref (N.2 500)), (1, .int x1), (2, .ref o)] dX0_look_12 (cx_lt rfl) rfl ?_
      refine cq_iconst 1 dX0_look_13 cx_ic_1 ?_
      exact cd_toX (cd_iret (by rw [Nat.zero_add, Nat.zero_add]; exact hk2) (by rw [Nat.zero_add, Nat.zero_add]; exact h.2) rfl dX0_look_14)
    | 2, _, h => exact absurd h.1 (by decide)
    | e + 3, _, h => exact h.elim
theorem glX0_63 : GoodIn lw_all (wsV RX0 63 RX1 yX1_storms (ws_ yX1_storms cX1_storms 7 (some .int))) := lw_V q2349 q2350 q2351 q116 q2352
theorem hglX0_63 : yX1_storms.cls = RX1 ∧ yX1_storms.cls ≠ "java/lang/invoke/MethodHandle" ∧ yX1_storms.cls ≠ "java/lang/invoke/VarHandle" ∧ (parseMethodDescriptor yX1_storms.desc).map (fun d => d.parameters.length) = some 2 := by decide +kernel
abbrev slX0_storms (bc bs : Nat) : cx_S := (5, RX0, cx_rI, { frames := 907, cells := bc, slots := bs, locals := 30159 }, some .int, false)
def dLw_storms (N : dNx) (bc bs : Nat) (M : cx_M) (P : dP) (L : dL) (o : Nat) (x1 : Int32) (x2 : Int32) (Q : cd_Qt) : Prop := dCc_stormsD N bc bs M P L x1 x2 (lw_end 2 o Q)
set_option maxRecDepth 100000 in
theorem dLw_storms_m {l : Launch} {g : cx_G} {N : dNx} {bc bs : Nat} {Q : cd_Qt} (H : lwH l g N) (M : cx_M) (P : dP) (L : dL) (o : Nat) (x1 : Int32) (x2 : Int32) (h : dLw_storms N bc bs M P L o x1 x2 Q) : cd_MetH l g yX0_storms cX0_storms [(0, 10, 13, 13)] (slX0_storms bc bs) cd_rI [.ref (N.2 500), .int x1, .int x2, .ref o] M P L Q := by
  refine cd_metH (by decide +kernel) rfl rfl q2348 (lv := [(0, .ref (N.2 500)), (1, .int x1), (2, .int x2), (3, .ref o)]) rfl (cx_le rfl) (fun X hX => ?_)
  refine cq_aload_n 3 dX0_storms_0 rfl ?_
  refine cq_iconst 0 dX0_storms_1 cx_ic_0 ?_
  refine cq_aload_n 0 dX0_storms_2 rfl ?_
  refine cq_iload_n 1 dX0_storms_3 rfl ?_
  refine cq_iload_n 2 dX0_storms_4 rfl ?_
  refine cd_xVL [.int x1, .int x2] [.int 0, .ref o] (dCc_stormsD_m H.1 (N := N) (bc := bc) (bs := bs) M P L x1 x2 h) (cCc_rc0 (H.1.2.1 L P).2.2.2.2.2.2.2.1) dX0_storms_5 glX0_63 hglX0_63 ⟨cx_le rfl, cx_le rfl⟩ ⟨Nat.le_of_eq (Nat.zero_add _), Nat.le_of_eq (Nat.zero_add _)⟩ rfl (cx_le rfl) (fun M1 P1 L1 v r k n hk2 h => ?_) (fun M1 P1 L1 v e k n q hk2 he h => ?_)
  · refine cq_i2l dX0_storms_8 ?_
    obtain ⟨hm, h⟩ := h
    refine cq_nd H.1.1.1.1.1 (fun hn => cq_stW h (dG_LI H.1.1.1.1.1 hn hm) dX0_storms_9 (fun M2 h => ?_))
    refine cq_goto 17 dX0_storms_10 rfl ?_
    refine cq_iconst 0 dX0_storms_17 cx_ic_0 ?_
    exact cd_toX (cd_iret (by rw [Nat.zero_add, Nat.zero_add]; exact hk2) (by rw [Nat.zero_add, Nat.zero_add]; exact h) rfl dX0_storms_18)
  · match e, he, h with
    | 1, _, h => exact absurd h.1 (by decide)
    | 2, _, h =>
      refine ⟨13, ⟨[], [], _, "java/lang/IllegalArgumentException", hX, (fun z hz => nomatch hz), by decide +kernel, by decide, q1354, q202, rfl⟩, ?_⟩
      refine cq_astore [(4, .ref q), (0, .ref (N.2 500)), (1, .int x1), (2, .int x2), (3, .ref o)] dX0_storms_13 (cx_lt rfl) rfl ?_
      refine cq_iconst 1 dX0_storms_15 cx_ic_1 ?_
      exact cd_toX (cd_iret (by rw [Nat.zero_add, Nat.zero_add]; exact hk2) (by rw [Nat.zero_add, Nat.zero_add]; exact h.2) rfl dX0_storms_16)
    | e + 3, _, h => exact h.elim
theorem glX0_66 : GoodIn lw_all (wsV RX0 66 RX1 yX1_years (ws_ yX1_years cX1_years 6 (some .int))) := lw_V q2356 q2357 q2358 q116 q2359
theorem hglX0_66 : yX1_years.cls = RX1 ∧ yX1_years.cls ≠ "java/lang/invoke/MethodHandle" ∧ yX1_years.cls ≠ "java/lang/invoke/VarHandle" ∧ (parseMethodDescriptor yX1_years.desc).map (fun d => d.parameters.length) = some 3 := by decide +kernel
abbrev slX0_years (bc bs : Nat) : cx_S := (6, RX0, cx_rI, { frames := 907, cells := bc, slots := bs, locals := 30158 }, some .int, false)
def dLw_years (N : dNx) (bc bs : Nat) (M : cx_M) (P : dP) (L : dL) (o : Nat) (x1 : Int32) (x2 : Int32) (x3 : Int32) (Q : cd_Qt) : Prop := dCc_yearsD N bc bs M P L x1 x2 x3 (lw_end 3 o Q)
set_option maxRecDepth 100000 in
theorem dLw_years_m {l : Launch} {g : cx_G} {N : dNx} {bc bs : Nat} {Q : cd_Qt} (H : lwH l g N) (M : cx_M) (P : dP) (L : dL) (o : Nat) (x1 : Int32) (x2 : Int32) (x3 : Int32) (h : dLw_years N bc bs M P L o x1 x2 x3 Q) : cd_MetH l g yX0_years cX0_years [(0, 12, 15, 18), (0, 12, 19, 13)] (slX0_years bc bs) cd_rI [.ref (N.2 500), .int x1, .int x2, .int x3, .ref o] M P L Q := by
  refine cd_metH (by decide +kernel) rfl rfl q2355 (lv := [(0, .ref (N.2 500)), (1, .int x1), (2, .int x2), (3, .int x3), (4, .ref o)]) rfl (cx_le rfl) (fun X hX => ?_)
  refine cq_aload 4 dX0_years_0 rfl ?_
  refine cq_iconst 0 dX0_years_2 cx_ic_0 ?_
  refine cq_aload_n 0 dX0_years_3 rfl ?_
  refine cq_iload_n 1 dX0_years_4 rfl ?_
  refine cq_iload_n 2 dX0_years_5 rfl ?_
  refine cq_iload_n 3 dX0_years_6 rfl ?_
  refine cd_xVL [.int x1, .int x2, .int x3] [.int 0, .ref o] (dCc_yearsD_m H.1 (N := N) (bc := bc) (bs := bs) M P L x1 x2 x3 h) (cCc_rc0 (H.1.2.1 L P).2.2.2.2.2.2.2.1) dX0_years_7 glX0_66 hglX0_66 ⟨cx_le rfl, cx_le rfl⟩ ⟨Nat.le_of_eq (Nat.zero_add _), Nat.le_of_eq (Nat.zero_add _)⟩ rfl (cx_le rfl) (fun M1 P1 L1 v r k n hk2 h => ?_) (fun M1 P1 L1 v e k n q hk2 he h => ?_)
  · refine cq_i2l dX0_years_10 ?_
    obtain ⟨hm, h⟩ := h
    refine cq_nd H.1.1.1.1.1 (fun hn => cq_stW h (dG_LI H.1.1.1.1.1 hn hm) dX0_years_11 (fun M2 h => ?_))
    refine cq_goto 23 dX0_years_12 rfl ?_
    refine cq_iconst 0 dX0_years_23 cx_ic_0 ?_
    exact cd_toX (cd_iret (by rw [Nat.zero_add, Nat.zero_add]; exact hk2) (by rw [Nat.zero_add, Nat.zero_add]; exact h) rfl dX0_years_24)
  · match e, he, h with
    | 1, _, h =>
      refine ⟨15, ⟨[], [_], _, "java/util/NoSuchElementException", hX, (fun z hz => nomatch hz), by decide +kernel, by decide, q1748, q1758, rfl⟩, ?_⟩
      refine cq_astore [(5, .ref q), (0, .ref (N.2 500)), (1, .int x1), (2, .int x2), (3, .int x3), (4, .ref o)] dX0_years_15 (cx_lt rfl) rfl ?_
      refine cq_iconst 1 dX0_years_17 cx_ic_1 ?_
      exact cd_toX (cd_iret (by rw [Nat.zero_add, Nat.zero_add]; exact hk2) (by rw [Nat.zero_add, Nat.zero_add]; exact h.2) rfl dX0_years_18)
    | 2, _, h =>
      refine ⟨19, ⟨[_], [], _, "java/lang/IllegalArgumentException", hX, (fun z hz => by rcases List.mem_singleton.mp hz with rfl; exact ⟨by decide, "java/util/NoSuchElementException", q1748, H.2.1⟩), by decide +kernel, by decide, q1354, q202, rfl⟩, ?_⟩
      refine cq_astore [(5, .ref q), (0, .ref (N.2 500)), (1, .int x1), (2, .int x2), (3, .int x3), (4, .ref o)] dX0_years_19 (cx_lt rfl) rfl ?_
      refine cq_iconst 2 dX0_years_21 cx_ic_2 ?_
      exact cd_toX (cd_iret (by rw [Nat.zero_add, Nat.zero_add]; exact hk2) (by rw [Nat.zero_add, Nat.zero_add]; exact h.2) rfl dX0_years_22)
    | e + 3, _, h => exact h.elim
