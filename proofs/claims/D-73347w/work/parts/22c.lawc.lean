/-! THE LAW'S CASES -/
abbrev sLw : cx_S := (7, RX0, cx_rI, { frames := 8192, cells := 1200128, slots := 5501098, locals := 104096 }, some .boolean, false)
abbrev lwV (b o i : Nat) (adr : Nat → Nat) : List (Nat × Value) := [(0, .ref b), (1, .ref (adr 500)), (2, .ref (adr 60)), (3, .ref o), (4, .int (nI i))]
theorem cq_elX {l : Launch} {g : cx_G} {X : cx_X} {S : cx_S} {cc : ByteArray} {pc : Nat} {lv : List (Nat × Value)} {st : List Value} {M : cx_M} {k n : Nat} {Q : State → Prop} {b m i c : Nat} {x : Int32} {xs : Nat → Int32} (hZ : lwS g b m xs) (hx : x = nI (i + c)) (hj : i + c < m) (hm : m ≤ 384) (d : decode cc pc = .ok (.iaload, 1)) (K : cq_V l g X S cc (pc + 1) lv (.int (xs (i + c)) :: st) M k n Q) : cq_V l g X S cc pc lv (.int x :: .ref b :: st) M k n Q := by
  subst hx
  refine cq_ldX (F := fun v => v = xs (i + c)) hZ ?_ d (fun v h => by subst h; exact K)
  unfold cq_xs
  rw [if_neg (vp_in_nI hj (by omega)), nI_clamp (by omega)]
theorem glL_74 : GoodIn lw_all (wsV RX0 74 RX1 yX1_feed (ws_ yX1_feed cX1_feed 6 (some .int))) := lw_V q1069 q1070 q1071 q116 q1072
theorem hglL_74 : yX1_feed.cls = RX1 ∧ yX1_feed.cls ≠ "java/lang/invoke/MethodHandle" ∧ yX1_feed.cls ≠ "java/lang/invoke/VarHandle" ∧ (parseMethodDescriptor yX1_feed.desc).map (fun d => d.parameters.length) = some 5 := by decide +kernel
theorem glL_78 : GoodIn lw_all (wsV RX0 78 RX10 yX10_feed (ws_ yX10_feed cX10_feed 8 (some .int))) := lw_V q2552 q2553 q2554 q147 q2555
theorem hglL_78 : yX10_feed.cls = RX10 ∧ yX10_feed.cls ≠ "java/lang/invoke/MethodHandle" ∧ yX10_feed.cls ≠ "java/lang/invoke/VarHandle" ∧ (parseMethodDescriptor yX10_feed.desc).map (fun d => d.parameters.length) = some 5 := by decide +kernel
theorem glL_84 : GoodIn lw_all (wsV RX0 84 RX10 yX10_line (ws_ yX10_line cX10_line 3 (some .int))) := lw_V q2556 q2557 q2558 q147 q2559
theorem hglL_84 : yX10_line.cls = RX10 ∧ yX10_line.cls ≠ "java/lang/invoke/MethodHandle" ∧ yX10_line.cls ≠ "java/lang/invoke/VarHandle" ∧ (parseMethodDescriptor yX10_line.desc).map (fun d => d.parameters.length) = some 1 := by decide +kernel
theorem glL_85 : GoodIn lw_all (wsV RX0 85 RX10 yX10_thrown (ws_ yX10_thrown cX10_thrown 1 (some .int))) := lw_V q2548 q2549 q2550 q147 q2551
theorem hglL_85 : yX10_thrown.cls = RX10 ∧ yX10_thrown.cls ≠ "java/lang/invoke/MethodHandle" ∧ yX10_thrown.cls ≠ "java/lang/invoke/VarHandle" ∧ (parseMethodDescriptor yX10_thrown.desc).map (fun d => d.parameters.length) = some 0 := by decide +kernel
theorem glL_89 : GoodIn lw_all (wsV RX0 89 RX1 yX1_fault (ws_ yX1_fault cX1_fault 1 (some .int))) := lw_V q1077 q1078 q1079 q116 q1080
theorem hglL_89 : yX1_fault.cls = RX1 ∧ yX1_fault.cls ≠ "java/lang/invoke/MethodHandle" ∧ yX1_fault.cls ≠ "java/lang/invoke/VarHandle" ∧ (parseMethodDescriptor yX1_fault.desc).map (fun d => d.parameters.length) = some 0 := by decide +kernel
theorem glL_92 : GoodIn lw_all (wsV RX0 92 RX10 yX10_fault (ws_ yX10_fault cX10_fault 1 (some .int))) := lw_V q2678 q2679 q2680 q147 q2681
theorem hglL_92 : yX10_fault.cls = RX10 ∧ yX10_fault.cls ≠ "java/lang/invoke/MethodHandle" ∧ yX10_fault.cls ≠ "java/lang/invoke/VarHandle" ∧ (parseMethodDescriptor yX10_fault.desc).map (fun d => d.parameters.length) = some 0 := by decide +kernel
theorem glL_93 : GoodIn lw_all (va_wsS RX0 93 yX0_count (wsW_ yX0_count cX0_count 4 (some .int) [(0, 9, 12, 18)])) := lw_SW q1745 q1746 q115 q1747
theorem hglL_93 : yX0_count.cls ≠ "java/lang/invoke/MethodHandle" ∧ yX0_count.cls ≠ "java/lang/invoke/VarHandle" ∧ (parseMethodDescriptor yX0_count.desc).map (fun d => d.parameters.length) = some 3 := by decide +kernel
theorem glL_95 : GoodIn lw_all (wsV RX0 95 RX10 yX10_count (ws_ yX10_count cX10_count 2 (some .int))) := lw_V q2682 q2683 q2684 q147 q2685
theorem hglL_95 : yX10_count.cls = RX10 ∧ yX10_count.cls ≠ "java/lang/invoke/MethodHandle" ∧ yX10_count.cls ≠ "java/lang/invoke/VarHandle" ∧ (parseMethodDescriptor yX10_count.desc).map (fun d => d.parameters.length) = some 1 := by decide +kernel
theorem glL_96 : GoodIn lw_all (va_wsS RX0 96 yX0_set (wsW_ yX0_set cX0_set 4 (some .int) [(0, 9, 12, 18)])) := lw_SW q1778 q1779 q115 q1780
theorem hglL_96 : yX0_set.cls ≠ "java/lang/invoke/MethodHandle" ∧ yX0_set.cls ≠ "java/lang/invoke/VarHandle" ∧ (parseMethodDescriptor yX0_set.desc).map (fun d => d.parameters.length) = some 3 := by decide +kernel
theorem glL_98 : GoodIn lw_all (wsV RX0 98 RX10 yX10_set (ws_ yX10_set cX10_set 2 (some .int))) := lw_V q2703 q2704 q2705 q147 q2706
theorem hglL_98 : yX10_set.cls = RX10 ∧ yX10_set.cls ≠ "java/lang/invoke/MethodHandle" ∧ yX10_set.cls ≠ "java/lang/invoke/VarHandle" ∧ (parseMethodDescriptor yX10_set.desc).map (fun d => d.parameters.length) = some 1 := by decide +kernel
theorem glL_99 : GoodIn lw_all (va_wsS RX0 99 yX0_flying (wsW_ yX0_flying cX0_flying 5 (some .int) [(0, 10, 13, 18)])) := lw_SW q1787 q1788 q115 q1789
theorem hglL_99 : yX0_flying.cls ≠ "java/lang/invoke/MethodHandle" ∧ yX0_flying.cls ≠ "java/lang/invoke/VarHandle" ∧ (parseMethodDescriptor yX0_flying.desc).map (fun d => d.parameters.length) = some 4 := by decide +kernel
theorem glL_102 : GoodIn lw_all (wsV RX0 102 RX10 yX10_flying (ws_ yX10_flying cX10_flying 3 (some .int))) := lw_V q2707 q2708 q2709 q147 q2710
theorem hglL_102 : yX10_flying.cls = RX10 ∧ yX10_flying.cls ≠ "java/lang/invoke/MethodHandle" ∧ yX10_flying.cls ≠ "java/lang/invoke/VarHandle" ∧ (parseMethodDescriptor yX10_flying.desc).map (fun d => d.parameters.length) = some 2 := by decide +kernel
theorem glL_103 : GoodIn lw_all (va_wsS RX0 103 yX0_slot (wsW_ yX0_slot cX0_slot 4 (some .int) [(0, 9, 12, 18)])) := lw_SW q1794 q1795 q115 q1796
theorem hglL_103 : yX0_slot.cls ≠ "java/lang/invoke/MethodHandle" ∧ yX0_slot.cls ≠ "java/lang/invoke/VarHandle" ∧ (parseMethodDescriptor yX0_slot.desc).map (fun d => d.parameters.length) = some 3 := by decide +kernel
theorem glL_105 : GoodIn lw_all (wsV RX0 105 RX10 yX10_slot (ws_ yX10_slot cX10_slot 2 (some .int))) := lw_V q2715 q2716 q2717 q147 q2718
theorem hglL_105 : yX10_slot.cls = RX10 ∧ yX10_slot.cls ≠ "java/lang/invoke/MethodHandle" ∧ yX10_slot.cls ≠ "java/lang/invoke/VarHandle" ∧ (parseMethodDescriptor yX10_slot.desc).map (fun d => d.parameters.length) = some 1 := by decide +kernel
theorem glL_106 : GoodIn lw_all (va_wsS RX0 106 yX0_played (wsW_ yX0_played cX0_played 5 (some .int) [(0, 10, 13, 18)])) := lw_SW q1801 q1802 q115 q1803
theorem hglL_106 : yX0_played.cls ≠ "java/lang/invoke/MethodHandle" ∧ yX0_played.cls ≠ "java/lang/invoke/VarHandle" ∧ (parseMethodDescriptor yX0_played.desc).map (fun d => d.parameters.length) = some 4 := by decide +kernel
theorem glL_108 : GoodIn lw_all (wsV RX0 108 RX10 yX10_played (ws_ yX10_played cX10_played 3 (some .int))) := lw_V q2720 q2721 q2722 q147 q2723
theorem hglL_108 : yX10_played.cls = RX10 ∧ yX10_played.cls ≠ "java/lang/invoke/MethodHandle" ∧ yX10_played.cls ≠ "java/lang/invoke/VarHandle" ∧ (parseMethodDescriptor yX10_played.desc).map (fun d => d.parameters.length) = some 2 := by decide +kernel
theorem glL_109 : GoodIn lw_all (va_wsS RX0 109 yX0_spans (wsW_ yX0_spans cX0_spans 5 (some .int) [(0, 10, 13, 18), (0, 10, 17, 13)])) := lw_SW q1816 q1817 q115 q1818
theorem hglL_109 : yX0_spans.cls ≠ "java/lang/invoke/MethodHandle" ∧ yX0_spans.cls ≠ "java/lang/invoke/VarHandle" ∧ (parseMethodDescriptor yX0_spans.desc).map (fun d => d.parameters.length) = some 4 := by decide +kernel
theorem glL_111 : GoodIn lw_all (wsV RX0 111 RX10 yX10_spans (ws_ yX10_spans cX10_spans 7 (some .int))) := lw_V q2728 q2729 q2730 q147 q2731
theorem hglL_111 : yX10_spans.cls = RX10 ∧ yX10_spans.cls ≠ "java/lang/invoke/MethodHandle" ∧ yX10_spans.cls ≠ "java/lang/invoke/VarHandle" ∧ (parseMethodDescriptor yX10_spans.desc).map (fun d => d.parameters.length) = some 2 := by decide +kernel
theorem glL_112 : GoodIn lw_all (va_wsS RX0 112 yX0_sample (wsW_ yX0_sample cX0_sample 4 (some .int) [(0, 9, 12, 18)])) := lw_SW q2174 q2175 q115 q2176
theorem hglL_112 : yX0_sample.cls ≠ "java/lang/invoke/MethodHandle" ∧ yX0_sample.cls ≠ "java/lang/invoke/VarHandle" ∧ (parseMethodDescriptor yX0_sample.desc).map (fun d => d.parameters.length) = some 3 := by decide +kernel
theorem glL_114 : GoodIn lw_all (wsV RX0 114 RX10 yX10_sample (ws_ yX10_sample cX10_sample 2 (some .int))) := lw_V q2733 q2734 q2735 q147 q2736
theorem hglL_114 : yX10_sample.cls = RX10 ∧ yX10_sample.cls ≠ "java/lang/invoke/MethodHandle" ∧ yX10_sample.cls ≠ "java/lang/invoke/VarHandle" ∧ (parseMethodDescriptor yX10_sample.desc).map (fun d => d.parameters.length) = some 1 := by decide +kernel
theorem glL_115 : GoodIn lw_all (va_wsS RX0 115 yX0_wander (wsW_ yX0_wander cX0_wander 4 (some .int) [(0, 9, 12, 13)])) := lw_SW q2185 q2186 q115 q2187
theorem hglL_115 : yX0_wander.cls ≠ "java/lang/invoke/MethodHandle" ∧ yX0_wander.cls ≠ "java/lang/invoke/VarHandle" ∧ (parseMethodDescriptor yX0_wander.desc).map (fun d => d.parameters.length) = some 3 := by decide +kernel
theorem glL_117 : GoodIn lw_all (wsV RX0 117 RX10 yX10_wander (ws_ yX10_wander cX10_wander 6 (some .int))) := lw_V q2741 q2742 q2743 q147 q2744
theorem hglL_117 : yX10_wander.cls = RX10 ∧ yX10_wander.cls ≠ "java/lang/invoke/MethodHandle" ∧ yX10_wander.cls ≠ "java/lang/invoke/VarHandle" ∧ (parseMethodDescriptor yX10_wander.desc).map (fun d => d.parameters.length) = some 1 := by decide +kernel
theorem glL_118 : GoodIn lw_all (wsV RX0 118 RX1 yX1_steps (ws_ yX1_steps cX1_steps 2 (some .int))) := lw_V q1081 q1082 q1083 q116 q1084
theorem hglL_118 : yX1_steps.cls = RX1 ∧ yX1_steps.cls ≠ "java/lang/invoke/MethodHandle" ∧ yX1_steps.cls ≠ "java/lang/invoke/VarHandle" ∧ (parseMethodDescriptor yX1_steps.desc).map (fun d => d.parameters.length) = some 1 := by decide +kernel
theorem glL_121 : GoodIn lw_all (wsV RX0 121 RX10 yX10_steps (ws_ yX10_steps cX10_steps 2 (some .int))) := lw_V q2751 q2752 q2753 q147 q2754
theorem hglL_121 : yX10_steps.cls = RX10 ∧ yX10_steps.cls ≠ "java/lang/invoke/MethodHandle" ∧ yX10_steps.cls ≠ "java/lang/invoke/VarHandle" ∧ (parseMethodDescriptor yX10_steps.desc).map (fun d => d.parameters.length) = some 1 := by decide +kernel
theorem glL_122 : GoodIn lw_all (wsV RX0 122 RX1 yX1_lose (ws_ yX1_lose cX1_lose 3 (some .int))) := lw_V q1302 q1303 q1304 q116 q1305
theorem hglL_122 : yX1_lose.cls = RX1 ∧ yX1_lose.cls ≠ "java/lang/invoke/MethodHandle" ∧ yX1_lose.cls ≠ "java/lang/invoke/VarHandle" ∧ (parseMethodDescriptor yX1_lose.desc).map (fun d => d.parameters.length) = some 1 := by decide +kernel
theorem glL_125 : GoodIn lw_all (wsV RX0 125 RX10 yX10_lose (ws_ yX10_lose cX10_lose 2 (some .int))) := lw_V q2826 q2827 q2828 q147 q2829
theorem hglL_125 : yX10_lose.cls = RX10 ∧ yX10_lose.cls ≠ "java/lang/invoke/MethodHandle" ∧ yX10_lose.cls ≠ "java/lang/invoke/VarHandle" ∧ (parseMethodDescriptor yX10_lose.desc).map (fun d => d.parameters.length) = some 1 := by decide +kernel
theorem glL_126 : GoodIn lw_all (wsV RX0 126 RX1 yX1_stall (ws_ yX1_stall cX1_stall 3 (some .int))) := lw_V q1306 q1307 q1308 q116 q1309
theorem hglL_126 : yX1_stall.cls = RX1 ∧ yX1_stall.cls ≠ "java/lang/invoke/MethodHandle" ∧ yX1_stall.cls ≠ "java/lang/invoke/VarHandle" ∧ (parseMethodDescriptor yX1_stall.desc).map (fun d => d.parameters.length) = some 1 := by decide +kernel
theorem glL_129 : GoodIn lw_all (wsV RX0 129 RX10 yX10_stall (ws_ yX10_stall cX10_stall 2 (some .int))) := lw_V q2834 q2835 q2836 q147 q2837
theorem hglL_129 : yX10_stall.cls = RX10 ∧ yX10_stall.cls ≠ "java/lang/invoke/MethodHandle" ∧ yX10_stall.cls ≠ "java/lang/invoke/VarHandle" ∧ (parseMethodDescriptor yX10_stall.desc).map (fun d => d.parameters.length) = some 1 := by decide +kernel
theorem glL_130 : GoodIn lw_all (va_wsS RX0 130 yX0_turn (wsW_ yX0_turn cX0_turn 5 (some .int) [(0, 10, 13, 18)])) := lw_SW q2244 q2245 q115 q2246
theorem hglL_130 : yX0_turn.cls ≠ "java/lang/invoke/MethodHandle" ∧ yX0_turn.cls ≠ "java/lang/invoke/VarHandle" ∧ (parseMethodDescriptor yX0_turn.desc).map (fun d => d.parameters.length) = some 4 := by decide +kernel
theorem glL_132 : GoodIn lw_all (wsV RX0 132 RX10 yX10_turn (ws_ yX10_turn cX10_turn 3 (some .int))) := lw_V q2838 q2839 q2840 q147 q2841
theorem hglL_132 : yX10_turn.cls = RX10 ∧ yX10_turn.cls ≠ "java/lang/invoke/MethodHandle" ∧ yX10_turn.cls ≠ "java/lang/invoke/VarHandle" ∧ (parseMethodDescriptor yX10_turn.desc).map (fun d => d.parameters.length) = some 2 := by decide +kernel
theorem glL_133 : GoodIn lw_all (wsV RX0 133 RX1 yX1_undo (ws_ yX1_undo cX1_undo 1 (some .int))) := lw_V q1310 q1311 q1312 q116 q1313
theorem hglL_133 : yX1_undo.cls = RX1 ∧ yX1_undo.cls ≠ "java/lang/invoke/MethodHandle" ∧ yX1_undo.cls ≠ "java/lang/invoke/VarHandle" ∧ (parseMethodDescriptor yX1_undo.desc).map (fun d => d.parameters.length) = some 0 := by decide +kernel
theorem glL_136 : GoodIn lw_all (wsV RX0 136 RX10 yX10_undo (ws_ yX10_undo cX10_undo 2 (some .int))) := lw_V q2842 q2843 q2844 q147 q2845
theorem hglL_136 : yX10_undo.cls = RX10 ∧ yX10_undo.cls ≠ "java/lang/invoke/MethodHandle" ∧ yX10_undo.cls ≠ "java/lang/invoke/VarHandle" ∧ (parseMethodDescriptor yX10_undo.desc).map (fun d => d.parameters.length) = some 0 := by decide +kernel
theorem glL_137 : GoodIn lw_all (va_wsS RX0 137 yX0_then (wsW_ yX0_then cX0_then 5 (some .int) [(0, 10, 13, 18), (0, 10, 17, 13)])) := lw_SW q2251 q2252 q115 q2253
theorem hglL_137 : yX0_then.cls ≠ "java/lang/invoke/MethodHandle" ∧ yX0_then.cls ≠ "java/lang/invoke/VarHandle" ∧ (parseMethodDescriptor yX0_then.desc).map (fun d => d.parameters.length) = some 4 := by decide +kernel
theorem glL_139 : GoodIn lw_all (wsV RX0 139 RX10 yX10_then (ws_ yX10_then cX10_then 3 (some .int))) := lw_V q2846 q2847 q2848 q147 q2849
theorem hglL_139 : yX10_then.cls = RX10 ∧ yX10_then.cls ≠ "java/lang/invoke/MethodHandle" ∧ yX10_then.cls ≠ "java/lang/invoke/VarHandle" ∧ (parseMethodDescriptor yX10_then.desc).map (fun d => d.parameters.length) = some 2 := by decide +kernel
theorem glL_140 : GoodIn lw_all (va_wsS RX0 140 yX0_when (wsW_ yX0_when cX0_when 4 (some .int) [(0, 9, 12, 18)])) := lw_SW q2265 q2266 q115 q2267
theorem hglL_140 : yX0_when.cls ≠ "java/lang/invoke/MethodHandle" ∧ yX0_when.cls ≠ "java/lang/invoke/VarHandle" ∧ (parseMethodDescriptor yX0_when.desc).map (fun d => d.parameters.length) = some 3 := by decide +kernel
theorem glL_142 : GoodIn lw_all (wsV RX0 142 RX10 yX10_when (ws_ yX10_when cX10_when 3 (some .int))) := lw_V q2863 q2864 q2865 q147 q2866
theorem hglL_142 : yX10_when.cls = RX10 ∧ yX10_when.cls ≠ "java/lang/invoke/MethodHandle" ∧ yX10_when.cls ≠ "java/lang/invoke/VarHandle" ∧ (parseMethodDescriptor yX10_when.desc).map (fun d => d.parameters.length) = some 1 := by decide +kernel
theorem glL_143 : GoodIn lw_all (wsV RX0 143 RX1 yX1_settles (ws_ yX1_settles cX1_settles 3 (some .int))) := lw_V q1315 q1316 q1317 q116 q1318
theorem hglL_143 : yX1_settles.cls = RX1 ∧ yX1_settles.cls ≠ "java/lang/invoke/MethodHandle" ∧ yX1_settles.cls ≠ "java/lang/invoke/VarHandle" ∧ (parseMethodDescriptor yX1_settles.desc).map (fun d => d.parameters.length) = some 0 := by decide +kernel
theorem glL_146 : GoodIn lw_all (wsV RX0 146 RX10 yX10_settles (ws_ yX10_settles cX10_settles 3 (some .int))) := lw_V q2872 q2873 q2874 q147 q2875
theorem hglL_146 : yX10_settles.cls = RX10 ∧ yX10_settles.cls ≠ "java/lang/invoke/MethodHandle" ∧ yX10_settles.cls ≠ "java/lang/invoke/VarHandle" ∧ (parseMethodDescriptor yX10_settles.desc).map (fun d => d.parameters.length) = some 0 := by decide +kernel
theorem glL_147 : GoodIn lw_all (va_wsS RX0 147 yX0_toAim (wsW_ yX0_toAim cX0_toAim 5 (some .int) [(0, 10, 13, 18), (0, 10, 17, 13)])) := lw_SW q2296 q2297 q115 q2298
theorem hglL_147 : yX0_toAim.cls ≠ "java/lang/invoke/MethodHandle" ∧ yX0_toAim.cls ≠ "java/lang/invoke/VarHandle" ∧ (parseMethodDescriptor yX0_toAim.desc).map (fun d => d.parameters.length) = some 4 := by decide +kernel
theorem glL_149 : GoodIn lw_all (wsV RX0 149 RX10 yX10_toAim (ws_ yX10_toAim cX10_toAim 5 (some .int))) := lw_V q2881 q2882 q2883 q147 q2884
theorem hglL_149 : yX10_toAim.cls = RX10 ∧ yX10_toAim.cls ≠ "java/lang/invoke/MethodHandle" ∧ yX10_toAim.cls ≠ "java/lang/invoke/VarHandle" ∧ (parseMethodDescriptor yX10_toAim.desc).map (fun d => d.parameters.length) = some 2 := by decide +kernel
theorem glL_150 : GoodIn lw_all (va_wsS RX0 150 yX0_toGain (wsW_ yX0_toGain cX0_toGain 5 (some .int) [(0, 10, 13, 18), (0, 10, 17, 13)])) := lw_SW q2308 q2309 q115 q2310
theorem hglL_150 : yX0_toGain.cls ≠ "java/lang/invoke/MethodHandle" ∧ yX0_toGain.cls ≠ "java/lang/invoke/VarHandle" ∧ (parseMethodDescriptor yX0_toGain.desc).map (fun d => d.parameters.length) = some 4 := by decide +kernel
theorem glL_152 : GoodIn lw_all (wsV RX0 152 RX10 yX10_toGain (ws_ yX10_toGain cX10_toGain 5 (some .int))) := lw_V q2889 q2890 q2891 q147 q2892
theorem hglL_152 : yX10_toGain.cls = RX10 ∧ yX10_toGain.cls ≠ "java/lang/invoke/MethodHandle" ∧ yX10_toGain.cls ≠ "java/lang/invoke/VarHandle" ∧ (parseMethodDescriptor yX10_toGain.desc).map (fun d => d.parameters.length) = some 2 := by decide +kernel
theorem glL_153 : GoodIn lw_all (wsV RX0 153 RX1 yX1_note (ws_ yX1_note cX1_note 3 (some .int))) := lw_V q1330 q1331 q1332 q116 q1333
theorem hglL_153 : yX1_note.cls = RX1 ∧ yX1_note.cls ≠ "java/lang/invoke/MethodHandle" ∧ yX1_note.cls ≠ "java/lang/invoke/VarHandle" ∧ (parseMethodDescriptor yX1_note.desc).map (fun d => d.parameters.length) = some 2 := by decide +kernel
theorem glL_156 : GoodIn lw_all (wsV RX0 156 RX10 yX10_note (ws_ yX10_note cX10_note 3 (some .int))) := lw_V q2897 q2898 q2899 q147 q2900
theorem hglL_156 : yX10_note.cls = RX10 ∧ yX10_note.cls ≠ "java/lang/invoke/MethodHandle" ∧ yX10_note.cls ≠ "java/lang/invoke/VarHandle" ∧ (parseMethodDescriptor yX10_note.desc).map (fun d => d.parameters.length) = some 2 := by decide +kernel
theorem glL_157 : GoodIn lw_all (va_wsS RX0 157 yX0_other (wsW_ yX0_other cX0_other 4 (some .int) [(0, 9, 12, 18)])) := lw_SW q2319 q2320 q115 q2321
theorem hglL_157 : yX0_other.cls ≠ "java/lang/invoke/MethodHandle" ∧ yX0_other.cls ≠ "java/lang/invoke/VarHandle" ∧ (parseMethodDescriptor yX0_other.desc).map (fun d => d.parameters.length) = some 3 := by decide +kernel
theorem glL_159 : GoodIn lw_all (wsV RX0 159 RX10 yX10_other (ws_ yX10_other cX10_other 2 (some .int))) := lw_V q2903 q2904 q2905 q147 q2906
theorem hglL_159 : yX10_other.cls = RX10 ∧ yX10_other.cls ≠ "java/lang/invoke/MethodHandle" ∧ yX10_other.cls ≠ "java/lang/invoke/VarHandle" ∧ (parseMethodDescriptor yX10_other.desc).map (fun d => d.parameters.length) = some 1 := by decide +kernel
theorem glL_160 : GoodIn lw_all (va_wsS RX0 160 yX0_look (wsW_ yX0_look cX0_look 4 (some .int) [(0, 9, 12, 18)])) := lw_SW q2334 q2335 q115 q2336
theorem hglL_160 : yX0_look.cls ≠ "java/lang/invoke/MethodHandle" ∧ yX0_look.cls ≠ "java/lang/invoke/VarHandle" ∧ (parseMethodDescriptor yX0_look.desc).map (fun d => d.parameters.length) = some 3 := by decide +kernel
theorem glL_162 : GoodIn lw_all (wsV RX0 162 RX10 yX10_look (ws_ yX10_look cX10_look 6 (some .int))) := lw_V q2915 q2916 q2917 q147 q2918
theorem hglL_162 : yX10_look.cls = RX10 ∧ yX10_look.cls ≠ "java/lang/invoke/MethodHandle" ∧ yX10_look.cls ≠ "java/lang/invoke/VarHandle" ∧ (parseMethodDescriptor yX10_look.desc).map (fun d => d.parameters.length) = some 1 := by decide +kernel
theorem glL_163 : GoodIn lw_all (wsV RX0 163 RX1 yX1_forget (ws_ yX1_forget cX1_forget 1 none)) := lw_V q1334 q1335 q1336 q116 q1337
theorem hglL_163 : yX1_forget.cls = RX1 ∧ yX1_forget.cls ≠ "java/lang/invoke/MethodHandle" ∧ yX1_forget.cls ≠ "java/lang/invoke/VarHandle" ∧ (parseMethodDescriptor yX1_forget.desc).map (fun d => d.parameters.length) = some 0 := by decide +kernel
theorem glL_166 : GoodIn lw_all (wsV RX0 166 RX10 yX10_forget (ws_ yX10_forget cX10_forget 1 none)) := lw_V q2923 q2924 q2925 q147 q2926
theorem hglL_166 : yX10_forget.cls = RX10 ∧ yX10_forget.cls ≠ "java/lang/invoke/MethodHandle" ∧ yX10_forget.cls ≠ "java/lang/invoke/VarHandle" ∧ (parseMethodDescriptor yX10_forget.desc).map (fun d => d.parameters.length) = some 0 := by decide +kernel
theorem glL_167 : GoodIn lw_all (va_wsS RX0 167 yX0_storms (wsW_ yX0_storms cX0_storms 5 (some .int) [(0, 10, 13, 13)])) := lw_SW q2346 q2347 q115 q2348
theorem hglL_167 : yX0_storms.cls ≠ "java/lang/invoke/MethodHandle" ∧ yX0_storms.cls ≠ "java/lang/invoke/VarHandle" ∧ (parseMethodDescriptor yX0_storms.desc).map (fun d => d.parameters.length) = some 4 := by decide +kernel
theorem glL_169 : GoodIn lw_all (wsV RX0 169 RX10 yX10_storms (ws_ yX10_storms cX10_storms 7 (some .int))) := lw_V q2927 q2928 q2929 q147 q2930
theorem hglL_169 : yX10_storms.cls = RX10 ∧ yX10_storms.cls ≠ "java/lang/invoke/MethodHandle" ∧ yX10_storms.cls ≠ "java/lang/invoke/VarHandle" ∧ (parseMethodDescriptor yX10_storms.desc).map (fun d => d.parameters.length) = some 2 := by decide +kernel
theorem glL_170 : GoodIn lw_all (va_wsS RX0 170 yX0_years (wsW_ yX0_years cX0_years 6 (some .int) [(0, 12, 15, 18), (0, 12, 19, 13)])) := lw_SW q2353 q2354 q115 q2355
theorem hglL_170 : yX0_years.cls ≠ "java/lang/invoke/MethodHandle" ∧ yX0_years.cls ≠ "java/lang/invoke/VarHandle" ∧ (parseMethodDescriptor yX0_years.desc).map (fun d => d.parameters.length) = some 5 := by decide +kernel
theorem glL_173 : GoodIn lw_all (wsV RX0 173 RX10 yX10_years (ws_ yX10_years cX10_years 7 (some .int))) := lw_V q2932 q2933 q2934 q147 q2935
theorem hglL_173 : yX10_years.cls = RX10 ∧ yX10_years.cls ≠ "java/lang/invoke/MethodHandle" ∧ yX10_years.cls ≠ "java/lang/invoke/VarHandle" ∧ (parseMethodDescriptor yX10_years.desc).map (fun d => d.parameters.length) = some 3 := by decide +kernel
theorem glL_174 : GoodIn lw_all (wsV RX0 174 RX1 yX1_image (ws_ yX1_image cX1_image 1 none)) := lw_V q1338 q1339 q1340 q116 q1341
theorem hglL_174 : yX1_image.cls = RX1 ∧ yX1_image.cls ≠ "java/lang/invoke/MethodHandle" ∧ yX1_image.cls ≠ "java/lang/invoke/VarHandle" ∧ (parseMethodDescriptor yX1_image.desc).map (fun d => d.parameters.length) = some 0 := by decide +kernel
theorem glL_177 : GoodIn lw_all (wsV RX0 177 RX10 yX10_image (ws_ yX10_image cX10_image 1 none)) := lw_V q2941 q2942 q2943 q147 q2944
theorem hglL_177 : yX10_image.cls = RX10 ∧ yX10_image.cls ≠ "java/lang/invoke/MethodHandle" ∧ yX10_image.cls ≠ "java/lang/invoke/VarHandle" ∧ (parseMethodDescriptor yX10_image.desc).map (fun d => d.parameters.length) = some 0 := by decide +kernel
theorem glL_178 : GoodIn lw_all (wsV RX0 178 RX1 yX1_restore (ws_ yX1_restore cX1_restore 1 (some .boolean))) := lw_V q1347 q1348 q1349 q116 q1350
theorem hglL_178 : yX1_restore.cls = RX1 ∧ yX1_restore.cls ≠ "java/lang/invoke/MethodHandle" ∧ yX1_restore.cls ≠ "java/lang/invoke/VarHandle" ∧ (parseMethodDescriptor yX1_restore.desc).map (fun d => d.parameters.length) = some 0 := by decide +kernel
theorem glL_182 : GoodIn lw_all (wsV RX0 182 RX10 yX10_restore (ws_ yX10_restore cX10_restore 1 (some .boolean))) := lw_V q2945 q2946 q2947 q147 q2948
theorem hglL_182 : yX10_restore.cls = RX10 ∧ yX10_restore.cls ≠ "java/lang/invoke/MethodHandle" ∧ yX10_restore.cls ≠ "java/lang/invoke/VarHandle" ∧ (parseMethodDescriptor yX10_restore.desc).map (fun d => d.parameters.length) = some 0 := by decide +kernel
def lawF_0 (N : dNx) (M : cx_M) (P : dP) (L : dL) (k n : Nat) (o : Nat) (a : Nat → Int32) (R : cx_M → dP → dL → Nat → Nat → Prop) : Prop := cq_cal (cCc_feed N.1 M (a 1) (a 2) (a 3) (a 4) (a 5)) fun M1 v1 => cq_cal (tw_feed N.1.1 M1 (a 1) (a 2) (a 3) (a 4) (a 5)) fun M2 v2 => if v1 = v2 then R M2 P L k n else False
set_option maxRecDepth 100000 in
theorem lawC_0 {l : Launch} {g : cx_G} {X : cx_X} {N : dNx} {Q : State → Prop} {b m o i : Nat} {xs : Nat → Int32} {M : cx_M} {P : dP} {L : dL} {k n : Nat} {R : cx_M → dP → dL → Nat → Nat → Prop} (H : lwH l g N) (HS : lwS g b m xs) (hi : i + 6 ≤ m) (hm : m ≤ 384) (hk : k ≤ 1200128 ∧ n ≤ 5501098) (h : lawF_0 N M P L k n o (fun j => xs (i + j)) R) (K : ∀ M P L k n, (k ≤ 1200128 ∧ n ≤ 5501098) → R M P L k n → cq_V l (dG g L P) X sLw cL_law 1559 (lwV b o i N.2) [] M k n Q) : cq_V l (dG g L P) X sLw cL_law 172 (lwV b o i N.2) [] M k n Q := by
  unfold lawF_0 at h
  refine cq_aload_n 1 dL_law_172 rfl ?_
  refine cq_aload_n 0 dL_law_173 rfl ?_
  refine cq_iload 4 dL_law_174 rfl ?_
  refine cq_iconst 1 dL_law_176 cx_ic_1 ?_
  refine cq_iadd dL_law_177 ?_
  refine cq_elX (i := i) (c := 1) HS (nI_add i 1) (by omega) hm dL_law_178 ?_
  refine cq_aload_n 0 dL_law_179 rfl ?_
  refine cq_iload 4 dL_law_180 rfl ?_
  refine cq_iconst 2 dL_law_182 cx_ic_2 ?_
  refine cq_iadd dL_law_183 ?_
  refine cq_elX (i := i) (c := 2) HS (nI_add i 2) (by omega) hm dL_law_184 ?_
  refine cq_aload_n 0 dL_law_185 rfl ?_
  refine cq_iload 4 dL_law_186 rfl ?_
  refine cq_iconst 3 dL_law_188 cx_ic_3 ?_
  refine cq_iadd dL_law_189 ?_
  refine cq_elX (i := i) (c := 3) HS (nI_add i 3) (by omega) hm dL_law_190 ?_
  refine cq_aload_n 0 dL_law_191 rfl ?_
  refine cq_iload 4 dL_law_192 rfl ?_
  refine cq_iconst 4 dL_law_194 cx_ic_4 ?_
  refine cq_iadd dL_law_195 ?_
  refine cq_elX (i := i) (c := 4) HS (nI_add i 4) (by omega) hm dL_law_196 ?_
  refine cq_aload_n 0 dL_law_197 rfl ?_
  refine cq_iload 4 dL_law_198 rfl ?_
  refine cq_iconst 5 dL_law_200 cx_ic_5 ?_
  refine cq_iadd dL_law_201 ?_
  refine cq_elX (i := i) (c := 5) HS (nI_add i 5) (by omega) hm dL_law_202 ?_
  refine cq_cVi [.int (xs (i + 1)), .int (xs (i + 2)), .int (xs (i + 3)), .int (xs (i + 4)), .int (xs (i + 5))] [] h (fun rs' h' => cCc_feed_m (g := dG g L P) (N := N.1) (H.1.2.1 L P) M (xs (i + 1)) (xs (i + 2)) (xs (i + 3)) (xs (i + 4)) (xs (i + 5)) rs' h') (cCc_rc0 (H.1.2.1 L P).2.2.2.2.2.2.2.1) dL_law_203 glL_74 hglL_74 ⟨cx_le rfl, cx_le rfl⟩ rfl ⟨rfl, rfl⟩ hk rfl (cx_le rfl) (fun M1 v1 h => ?_)
  refine cq_aload_n 2 dL_law_206 rfl ?_
  refine cq_aload_n 0 dL_law_207 rfl ?_
  refine cq_iload 4 dL_law_208 rfl ?_
  refine cq_iconst 1 dL_law_210 cx_ic_1 ?_
  refine cq_iadd dL_law_211 ?_
  refine cq_elX (i := i) (c := 1) HS (nI_add i 1) (by omega) hm dL_law_212 ?_
  refine cq_aload_n 0 dL_law_213 rfl ?_
  refine cq_iload 4 dL_law_214 rfl ?_
  refine cq_iconst 2 dL_law_216 cx_ic_2 ?_
  refine cq_iadd dL_law_217 ?_
  refine cq_elX (i := i) (c := 2) HS (nI_add i 2) (by omega) hm dL_law_218 ?_
  refine cq_aload_n 0 dL_law_219 rfl ?_
  refine cq_iload 4 dL_law_220 rfl ?_
  refine cq_iconst 3 dL_law_222 cx_ic_3 ?_
  refine cq_iadd dL_law_223 ?_
  refine cq_elX (i := i) (c := 3) HS (nI_add i 3) (by omega) hm dL_law_224 ?_
  refine cq_aload_n 0 dL_law_225 rfl ?_
  refine cq_iload 4 dL_law_226 rfl ?_
  refine cq_iconst 4 dL_law_228 cx_ic_4 ?_
  refine cq_iadd dL_law_229 ?_
  refine cq_elX (i := i) (c := 4) HS (nI_add i 4) (by omega) hm dL_law_230 ?_
  refine cq_aload_n 0 dL_law_231 rfl ?_
  refine cq_iload 4 dL_law_232 rfl ?_
  refine cq_iconst 5 dL_law_234 cx_ic_5 ?_
  refine cq_iadd dL_law_235 ?_
  refine cq_elX (i := i) (c := 5) HS (nI_add i 5) (by omega) hm dL_law_236 ?_
  refine cq_cVi [.int (xs (i + 1)), .int (xs (i + 2)), .int (xs (i + 3)), .int (xs (i + 4)), .int (xs (i + 5))] [.int v1] h (fun rs' h' => tw_feed_m (g := dG g L P) (N := N.1.1) (H.2.2 L P) M1 (xs (i + 1)) (xs (i + 2)) (xs (i + 3)) (xs (i + 4)) (xs (i + 5)) rs' h') (tw_rc (H.2.2 L P)) dL_law_237 glL_78 hglL_78 ⟨cx_le rfl, cx_le rfl⟩ rfl ⟨rfl, rfl⟩ hk rfl (cx_le rfl) (fun M2 v2 h => ?_)
  refine cq_icmp_eq 1559 h dL_law_240 rfl (fun h => ?_) (fun h => h.elim)
  exact K _ _ _ _ _ hk h
def lawF_1b (N : dNx) (M : cx_M) (P : dP) (L : dL) (k n : Nat) (o : Nat) (v1 : Int32) (a : Nat → Int32) (R : cx_M → dP → dL → Nat → Nat → Prop) : Prop := cq_cal (tw_line N.1.1 M (a 1)) fun M2 v2 => cq_cal (tw_thrown N.1.1 M2) fun M3 v3 => if v3 = v1 then (if v1 = 0 then ((o, (2, 0, 1)) ∈ L ∧ cq_ldw M3 (dc o) 1 0 fun w => if lg_cmp w (Int32.toInt64 v2) = 0 then R M3 P L k n else False) else R M3 P L k n) else False
set_option maxRecDepth 100000 in
theorem lawC_1b {l : Launch} {g : cx_G} {X : cx_X} {N : dNx} {Q : State → Prop} {b m o i : Nat} {xs : Nat → Int32} {M : cx_M} {P : dP} {L : dL} {k n : Nat} {R : cx_M → dP → dL → Nat → Nat → Prop} {v1 : Int32} (H : lwH l g N) (HS : lwS g b m xs) (hi : i + 6 ≤ m) (hm : m ≤ 384) (hk : k ≤ 1200128 ∧ n ≤ 5501098) (h : lawF_1b N M P L k n o v1 (fun j => xs (i + j)) R) (K : ∀ M P L k n, (k ≤ 1200128 ∧ n ≤ 5501098) → R M P L k n → cq_V l (dG g L P) X sLw cL_law 1559 (lwV b o i N.2) [] M k n Q) : cq_V l (dG g L P) X sLw cL_law 256 (lwV b o i N.2) [.int v1] M k n Q := by
  unfold lawF_1b at h
  refine cq_istore [(5, .int v1), (0, .ref b), (1, .ref (N.2 500)), (2, .ref (N.2 60)), (3, .ref o), (4, .int (nI i))] dL_law_256 (cx_lt rfl) rfl ?_
  refine cq_aload_n 3 dL_law_258 rfl ?_
  refine cq_aload_n 1 dL_law_259 rfl ?_
  refine cq_iload 5 dL_law_260 rfl ?_
  refine cq_iconst 1 dL_law_262 cx_ic_1 ?_
  refine cq_iadd dL_law_263 ?_
  refine cq_elX (i := i) (c := 1) HS (nI_add i 1) (by omega) hm dL_law_264 ?_
  refine cq_cVi [.int (xs (i + 1))] [] h (fun rs' h' => tw_line_m (g := dG g L P) (N := N.1.1) (H.2.2 L P) M (xs (i + 1)) rs' h') (tw_rc (H.2.2 L P)) dL_law_265 glL_84 hglL_84 ⟨cx_le rfl, cx_le rfl⟩ rfl ⟨rfl, rfl⟩ hk rfl (cx_le rfl) (fun M2 v2 h => ?_)
  refine cq_istore [(6, .int v2), (5, .int v1), (0, .ref b), (1, .ref (N.2 500)), (2, .ref (N.2 60)), (3, .ref o), (4, .int (nI i))] dL_law_268 (cx_lt rfl) rfl ?_
  refine cq_aload_n 4 dL_law_270 rfl ?_
  refine cq_cVi [] [] h (fun rs' h' => tw_thrown_m (g := dG g L P) (N := N.1.1) (H.2.2 L P) M2 rs' h') (tw_rc (H.2.2 L P)) dL_law_271 glL_85 hglL_85 ⟨cx_le rfl, cx_le rfl⟩ rfl ⟨rfl, rfl⟩ hk rfl (cx_le rfl) (fun M3 v3 h => ?_)
  refine cq_iload 1 dL_law_274 rfl ?_
  refine cq_icmp_eq 281 h dL_law_276 rfl (fun h => ?_) (fun h => h.elim)
  refine cq_iload 1 dL_law_281 rfl ?_
  refine cq_if_ne 298 h dL_law_283 rfl (fun h => ?_) (fun h => ?_)
  · refine cq_goto 1559 dL_law_298 rfl ?_
    refine cq_sub (lv' := lwV b o i N.2) [2, 3, 4, 5, 6] rfl ?_
    exact K _ _ _ _ _ hk h
  · refine cq_aload_n 5 dL_law_286 rfl ?_
    refine cq_iconst 0 dL_law_287 cx_ic_0 ?_
    obtain ⟨hm9, h⟩ := h
    refine cq_nd H.1.1.1.1.1 (fun hn => cq_ldW h (dG_LI H.1.1.1.1.1 hn hm9) dL_law_288 (fun w h => ?_))
    refine cq_iload 0 dL_law_289 rfl ?_
    refine cq_i2l dL_law_291 ?_
    refine cq_lcmp dL_law_292 ?_
    refine cq_if_eq 298 h dL_law_293 rfl (fun h => ?_) (fun h => h.elim)
    refine cq_goto 1559 dL_law_298 rfl ?_
    refine cq_sub (lv' := lwV b o i N.2) [2, 3, 4, 5, 6] rfl ?_
    exact K _ _ _ _ _ hk h
def lawF_2 (N : dNx) (M : cx_M) (P : dP) (L : dL) (k n : Nat) (o : Nat) (a : Nat → Int32) (R : cx_M → dP → dL → Nat → Nat → Prop) : Prop := cq_cal (cCc_fault N.1 M) fun M1 v1 => cq_cal (tw_fault N.1.1 M1) fun M2 v2 => if v1 = v2 then R M2 P L k n else False
set_option maxRecDepth 100000 in
theorem lawC_2 {l : Launch} {g : cx_G} {X : cx_X} {N : dNx} {Q : State → Prop} {b m o i : Nat} {xs : Nat → Int32} {M : cx_M} {P : dP} {L : dL} {k n : Nat} {R : cx_M → dP → dL → Nat → Nat → Prop} (H : lwH l g N) (HS : lwS g b m xs) (hi : i + 6 ≤ m) (hm : m ≤ 384) (hk : k ≤ 1200128 ∧ n ≤ 5501098) (h : lawF_2 N M P L k n o (fun j => xs (i + j)) R) (K : ∀ M P L k n, (k ≤ 1200128 ∧ n ≤ 5501098) → R M P L k n → cq_V l (dG g L P) X sLw cL_law 1559 (lwV b o i N.2) [] M k n Q) : cq_V l (dG g L P) X sLw cL_law 301 (lwV b o i N.2) [] M k n Q := by
  unfold lawF_2 at h
  refine cq_aload_n 1 dL_law_301 rfl ?_
  refine cq_cVi [] [] h (fun rs' h' => cCc_fault_m (g := dG g L P) (N := N.1) (H.1.2.1 L P) M rs' h') (cCc_rc0 (H.1.2.1 L P).2.2.2.2.2.2.2.1) dL_law_302 glL_89 hglL_89 ⟨cx_le rfl, cx_le rfl⟩ rfl ⟨rfl, rfl⟩ hk rfl (cx_le rfl) (fun M1 v1 h => ?_)
  refine cq_aload_n 2 dL_law_305 rfl ?_
  refine cq_cVi [] [.int v1] h (fun rs' h' => tw_fault_m (g := dG g L P) (N := N.1.1) (H.2.2 L P) M1 rs' h') (tw_rc (H.2.2 L P)) dL_law_306 glL_92 hglL_92 ⟨cx_le rfl, cx_le rfl⟩ rfl ⟨rfl, rfl⟩ hk rfl (cx_le rfl) (fun M2 v2 h => ?_)
  refine cq_icmp_eq 1559 h dL_law_309 rfl (fun h => ?_) (fun h => h.elim)
  exact K _ _ _ _ _ hk h
def lawF_3 (N : dNx) (M : cx_M) (P : dP) (L : dL) (k n : Nat) (o : Nat) (a : Nat → Int32) (R : cx_M → dP → dL → Nat → Nat → Prop) : Prop := dLw_count N (1200128 - k) (5501098 - n) M P L o (a 1) (fun M1 P1 L1 v1 _ e k1 n1 => e = 0 ∧ cq_cal (tw_count N.1.1 M1 (a 1)) fun M2 v2 => cq_cal (tw_thrown N.1.1 M2) fun M3 v3 => if v3 = v1 then (if v1 = 0 then ((o, (2, 0, 1)) ∈ L1 ∧ cq_ldw M3 (dc o) 1 0 fun w => if lg_cmp w (Int32.toInt64 v2) = 0 then R M3 P1 L1 (k + k1) (n + n1) else False) else R M3 P1 L1 (k + k1) (n + n1)) else False)
set_option maxRecDepth 100000 in
theorem lawC_3 {l : Launch} {g : cx_G} {X : cx_X} {N : dNx} {Q : State → Prop} {b m o i : Nat} {xs : Nat → Int32} {M : cx_M} {P : dP} {L : dL} {k n : Nat} {R : cx_M → dP → dL → Nat → Nat → Prop} (H : lwH l g N) (HS : lwS g b m xs) (hi : i + 6 ≤ m) (hm : m ≤ 384) (hk : k ≤ 1200128 ∧ n ≤ 5501098) (h : lawF_3 N M P L k n o (fun j => xs (i + j)) R) (K : ∀ M P L k n, (k ≤ 1200128 ∧ n ≤ 5501098) → R M P L k n → cq_V l (dG g L P) X sLw cL_law 1559 (lwV b o i N.2) [] M k n Q) : cq_V l (dG g L P) X sLw cL_law 314 (lwV b o i N.2) [] M k n Q := by
  unfold lawF_3 at h
  refine cq_aload_n 1 dL_law_314 rfl ?_
  refine cq_aload_n 0 dL_law_315 rfl ?_
  refine cq_iload 4 dL_law_316 rfl ?_
  refine cq_iconst 1 dL_law_318 cx_ic_1 ?_
  refine cq_iadd dL_law_319 ?_
  refine cq_elX (i := i) (c := 1) HS (nI_add i 1) (by omega) hm dL_law_320 ?_
  refine cq_aload_n 3 dL_law_321 rfl ?_
  refine cd_xSN [.ref (N.2 500), .int (xs (i + 1)), .ref o] [] (dLw_count_m (bc := 1200128 - k) (bs := 5501098 - n) H M P L o (xs (i + 1)) h) dL_law_322 glL_93 hglL_93 ⟨cx_le rfl, cx_le rfl⟩ (cd_bud hk) rfl (cx_le rfl) (fun _ _ _ _ _ _ _ h => h.1) (fun M1 P1 L1 v1 r1 k1 n1 hk1 h => ?_)
  replace hk1 := cd_bk hk hk1
  replace h := h.2
  refine cq_istore [(5, .int v1), (0, .ref b), (1, .ref (N.2 500)), (2, .ref (N.2 60)), (3, .ref o), (4, .int (nI i))] dL_law_325 (cx_lt rfl) rfl ?_
  refine cq_aload_n 3 dL_law_327 rfl ?_
  refine cq_aload_n 1 dL_law_328 rfl ?_
  refine cq_iload 5 dL_law_329 rfl ?_
  refine cq_iconst 1 dL_law_331 cx_ic_1 ?_
  refine cq_iadd dL_law_332 ?_
  refine cq_elX (i := i) (c := 1) HS (nI_add i 1) (by omega) hm dL_law_333 ?_
  refine cq_cVi [.int (xs (i + 1))] [] h (fun rs' h' => tw_count_m (g := dG g L1 P1) (N := N.1.1) (H.2.2 L1 P1) M1 (xs (i + 1)) rs' h') (tw_rc (H.2.2 L1 P1)) dL_law_334 glL_95 hglL_95 ⟨cx_le rfl, cx_le rfl⟩ rfl ⟨rfl, rfl⟩ hk1 rfl (cx_le rfl) (fun M2 v2 h => ?_)
  refine cq_istore [(6, .int v2), (5, .int v1), (0, .ref b), (1, .ref (N.2 500)), (2, .ref (N.2 60)), (3, .ref o), (4, .int (nI i))] dL_law_337 (cx_lt rfl) rfl ?_
  refine cq_aload_n 4 dL_law_339 rfl ?_
  refine cq_cVi [] [] h (fun rs' h' => tw_thrown_m (g := dG g L1 P1) (N := N.1.1) (H.2.2 L1 P1) M2 rs' h') (tw_rc (H.2.2 L1 P1)) dL_law_340 glL_85 hglL_85 ⟨cx_le rfl, cx_le rfl⟩ rfl ⟨rfl, rfl⟩ hk1 rfl (cx_le rfl) (fun M3 v3 h => ?_)
  refine cq_iload 1 dL_law_343 rfl ?_
  refine cq_icmp_eq 350 h dL_law_345 rfl (fun h => ?_) (fun h => h.elim)
  refine cq_iload 1 dL_law_350 rfl ?_
  refine cq_if_ne 367 h dL_law_352 rfl (fun h => ?_) (fun h => ?_)
  · refine cq_goto 1559 dL_law_367 rfl ?_
    refine cq_sub (lv' := lwV b o i N.2) [2, 3, 4, 5, 6] rfl ?_
    exact K _ _ _ _ _ hk1 h
  · refine cq_aload_n 5 dL_law_355 rfl ?_
    refine cq_iconst 0 dL_law_356 cx_ic_0 ?_
    obtain ⟨hm9, h⟩ := h
    refine cq_nd H.1.1.1.1.1 (fun hn => cq_ldW h (dG_LI H.1.1.1.1.1 hn hm9) dL_law_357 (fun w h => ?_))
    refine cq_iload 0 dL_law_358 rfl ?_
    refine cq_i2l dL_law_360 ?_
    refine cq_lcmp dL_law_361 ?_
    refine cq_if_eq 367 h dL_law_362 rfl (fun h => ?_) (fun h => h.elim)
    refine cq_goto 1559 dL_law_367 rfl ?_
    refine cq_sub (lv' := lwV b o i N.2) [2, 3, 4, 5, 6] rfl ?_
    exact K _ _ _ _ _ hk1 h
def lawF_4 (N : dNx) (M : cx_M) (P : dP) (L : dL) (k n : Nat) (o : Nat) (a : Nat → Int32) (R : cx_M → dP → dL → Nat → Nat → Prop) : Prop := dLw_set N (1200128 - k) (5501098 - n) M P L o (a 1) (fun M1 P1 L1 v1 _ e k1 n1 => e = 0 ∧ cq_cal (tw_set N.1.1 M1 (a 1)) fun M2 v2 => cq_cal (tw_thrown N.1.1 M2) fun M3 v3 => if v3 = v1 then (if v1 = 0 then ((o, (2, 0, 1)) ∈ L1 ∧ cq_ldw M3 (dc o) 1 0 fun w => if lg_cmp w (Int32.toInt64 v2) = 0 then R M3 P1 L1 (k + k1) (n + n1) else False) else R M3 P1 L1 (k + k1) (n + n1)) else False)
set_option maxRecDepth 100000 in
theorem lawC_4 {l : Launch} {g : cx_G} {X : cx_X} {N : dNx} {Q : State → Prop} {b m o i : Nat} {xs : Nat → Int32} {M : cx_M} {P : dP} {L : dL} {k n : Nat} {R : cx_M → dP → dL → Nat → Nat → Prop} (H : lwH l g N) (HS : lwS g b m xs) (hi : i + 6 ≤ m) (hm : m ≤ 384) (hk : k ≤ 1200128 ∧ n ≤ 5501098) (h : lawF_4 N M P L k n o (fun j => xs (i + j)) R) (K : ∀ M P L k n, (k ≤ 1200128 ∧ n ≤ 5501098) → R M P L k n → cq_V l (dG g L P) X sLw cL_law 1559 (lwV b o i N.2) [] M k n Q) : cq_V l (dG g L P) X sLw cL_law 370 (lwV b o i N.2) [] M k n Q := by
  unfold lawF_4 at h
  refine cq_aload_n 1 dL_law_370 rfl ?_
  refine cq_aload_n 0 dL_law_371 rfl ?_
  refine cq_iload 4 dL_law_372 rfl ?_
  refine cq_iconst 1 dL_law_374 cx_ic_1 ?_
  refine cq_iadd dL_law_375 ?_
  refine cq_elX (i := i) (c := 1) HS (nI_add i 1) (by omega) hm dL_law_376 ?_
  refine cq_aload_n 3 dL_law_377 rfl ?_
  refine cd_xSN [.ref (N.2 500), .int (xs (i + 1)), .ref o] [] (dLw_set_m (bc := 1200128 - k) (bs := 5501098 - n) H M P L o (xs (i + 1)) h) dL_law_378 glL_96 hglL_96 ⟨cx_le rfl, cx_le rfl⟩ (cd_bud hk) rfl (cx_le rfl) (fun _ _ _ _ _ _ _ h => h.1) (fun M1 P1 L1 v1 r1 k1 n1 hk1 h => ?_)
  replace hk1 := cd_bk hk hk1
  replace h := h.2
  refine cq_istore [(5, .int v1), (0, .ref b), (1, .ref (N.2 500)), (2, .ref (N.2 60)), (3, .ref o), (4, .int (nI i))] dL_law_381 (cx_lt rfl) rfl ?_
  refine cq_aload_n 3 dL_law_383 rfl ?_
  refine cq_aload_n 1 dL_law_384 rfl ?_
  refine cq_iload 5 dL_law_385 rfl ?_
  refine cq_iconst 1 dL_law_387 cx_ic_1 ?_
  refine cq_iadd dL_law_388 ?_
  refine cq_elX (i := i) (c := 1) HS (nI_add i 1) (by omega) hm dL_law_389 ?_
  refine cq_cVi [.int (xs (i + 1))] [] h (fun rs' h' => tw_set_m (g := dG g L1 P1) (N := N.1.1) (H.2.2 L1 P1) M1 (xs (i + 1)) rs' h') (tw_rc (H.2.2 L1 P1)) dL_law_390 glL_98 hglL_98 ⟨cx_le rfl, cx_le rfl⟩ rfl ⟨rfl, rfl⟩ hk1 rfl (cx_le rfl) (fun M2 v2 h => ?_)
  refine cq_istore [(6, .int v2), (5, .int v1), (0, .ref b), (1, .ref (N.2 500)), (2, .ref (N.2 60)), (3, .ref o), (4, .int (nI i))] dL_law_393 (cx_lt rfl) rfl ?_
  refine cq_aload_n 4 dL_law_395 rfl ?_
  refine cq_cVi [] [] h (fun rs' h' => tw_thrown_m (g := dG g L1 P1) (N := N.1.1) (H.2.2 L1 P1) M2 rs' h') (tw_rc (H.2.2 L1 P1)) dL_law_396 glL_85 hglL_85 ⟨cx_le rfl, cx_le rfl⟩ rfl ⟨rfl, rfl⟩ hk1 rfl (cx_le rfl) (fun M3 v3 h => ?_)
  refine cq_iload 1 dL_law_399 rfl ?_
  refine cq_icmp_eq 406 h dL_law_401 rfl (fun h => ?_) (fun h => h.elim)
  refine cq_iload 1 dL_law_406 rfl ?_
  refine cq_if_ne 423 h dL_law_408 rfl (fun h => ?_) (fun h => ?_)
  · refine cq_goto 1559 dL_law_423 rfl ?_
    refine cq_sub (lv' := lwV b o i N.2) [2, 3, 4, 5, 6] rfl ?_
    exact K _ _ _ _ _ hk1 h
  · refine cq_aload_n 5 dL_law_411 rfl ?_
    refine cq_iconst 0 dL_law_412 cx_ic_0 ?_
    obtain ⟨hm9, h⟩ := h
    refine cq_nd H.1.1.1.1.1 (fun hn => cq_ldW h (dG_LI H.1.1.1.1.1 hn hm9) dL_law_413 (fun w h => ?_))
    refine cq_iload 0 dL_law_414 rfl ?_
    refine cq_i2l dL_law_416 ?_
    refine cq_lcmp dL_law_417 ?_
    refine cq_if_eq 423 h dL_law_418 rfl (fun h => ?_) (fun h => h.elim)
    refine cq_goto 1559 dL_law_423 rfl ?_
    refine cq_sub (lv' := lwV b o i N.2) [2, 3, 4, 5, 6] rfl ?_
    exact K _ _ _ _ _ hk1 h
def lawF_5 (N : dNx) (M : cx_M) (P : dP) (L : dL) (k n : Nat) (o : Nat) (a : Nat → Int32) (R : cx_M → dP → dL → Nat → Nat → Prop) : Prop := dLw_flying N (1200128 - k) (5501098 - n) M P L o (a 1) (a 2) (fun M1 P1 L1 v1 _ e k1 n1 => e = 0 ∧ cq_cal (tw_flying N.1.1 M1 (a 1) (a 2)) fun M2 v2 => cq_cal (tw_thrown N.1.1 M2) fun M3 v3 => if v3 = v1 then (if v1 = 0 then ((o, (2, 0, 1)) ∈ L1 ∧ cq_ldw M3 (dc o) 1 0 fun w => if lg_cmp w (Int32.toInt64 v2) = 0 then R M3 P1 L1 (k + k1) (n + n1) else False) else R M3 P1 L1 (k + k1) (n + n1)) else False)
set_option maxRecDepth 100000 in
theorem lawC_5 {l : Launch} {g : cx_G} {X : cx_X} {N : dNx} {Q : State → Prop} {b m o i : Nat} {xs : Nat → Int32} {M : cx_M} {P : dP} {L : dL} {k n : Nat} {R : cx_M → dP → dL → Nat → Nat → Prop} (H : lwH l g N) (HS : lwS g b m xs) (hi : i + 6 ≤ m) (hm : m ≤ 384) (hk : k ≤ 1200128 ∧ n ≤ 5501098) (h : lawF_5 N M P L k n o (fun j => xs (i + j)) R) (K : ∀ M P L k n, (k ≤ 1200128 ∧ n ≤ 5501098) → R M P L k n → cq_V l (dG g L P) X sLw cL_law 1559 (lwV b o i N.2) [] M k n Q) : cq_V l (dG g L P) X sLw cL_law 426 (lwV b o i N.2) [] M k n Q := by
  unfold lawF_5 at h
  refine cq_aload_n 1 dL_law_426 rfl ?_
  refine cq_aload_n 0 dL_law_427 rfl ?_
  refine cq_iload 4 dL_law_428 rfl ?_
  refine cq_iconst 1 dL_law_430 cx_ic_1 ?_
  refine cq_iadd dL_law_431 ?_
  refine cq_elX (i := i) (c := 1) HS (nI_add i 1) (by omega) hm dL_law_432 ?_
  refine cq_aload_n 0 dL_law_433 rfl ?_
  refine cq_iload 4 dL_law_434 rfl ?_
  refine cq_iconst 2 dL_law_436 cx_ic_2 ?_
  refine cq_iadd dL_law_437 ?_
  refine cq_elX (i := i) (c := 2) HS (nI_add i 2) (by omega) hm dL_law_438 ?_
  refine cq_aload_n 3 dL_law_439 rfl ?_
  refine cd_xSN [.ref (N.2 500), .int (xs (i + 1)), .int (xs (i + 2)), .ref o] [] (dLw_flying_m (bc := 1200128 - k) (bs := 5501098 - n) H M P L o (xs (i + 1)) (xs (i + 2)) h) dL_law_440 glL_99 hglL_99 ⟨cx_le rfl, cx_le rfl⟩ (cd_bud hk) rfl (cx_le rfl) (fun _ _ _ _ _ _ _ h => h.1) (fun M1 P1 L1 v1 r1 k1 n1 hk1 h => ?_)
  replace hk1 := cd_bk hk hk1
  replace h := h.2
  refine cq_istore [(5, .int v1), (0, .ref b), (1, .ref (N.2 500)), (2, .ref (N.2 60)), (3, .ref o), (4, .int (nI i))] dL_law_443 (cx_lt rfl) rfl ?_
  refine cq_aload_n 3 dL_law_445 rfl ?_
  refine cq_aload_n 1 dL_law_446 rfl ?_
  refine cq_iload 5 dL_law_447 rfl ?_
  refine cq_iconst 1 dL_law_449 cx_ic_1 ?_
  refine cq_iadd dL_law_450 ?_
  refine cq_elX (i := i) (c := 1) HS (nI_add i 1) (by omega) hm dL_law_451 ?_
  refine cq_aload_n 1 dL_law_452 rfl ?_
  refine cq_iload 5 dL_law_453 rfl ?_
  refine cq_iconst 2 dL_law_455 cx_ic_2 ?_
  refine cq_iadd dL_law_456 ?_
  refine cq_elX (i := i) (c := 2) HS (nI_add i 2) (by omega) hm dL_law_457 ?_
  refine cq_cVi [.int (xs (i + 1)), .int (xs (i + 2))] [] h (fun rs' h' => tw_flying_m (g := dG g L1 P1) (N := N.1.1) (H.2.2 L1 P1) M1 (xs (i + 1)) (xs (i + 2)) rs' h') (tw_rc (H.2.2 L1 P1)) dL_law_458 glL_102 hglL_102 ⟨cx_le rfl, cx_le rfl⟩ rfl ⟨rfl, rfl⟩ hk1 rfl (cx_le rfl) (fun M2 v2 h => ?_)
  refine cq_istore [(6, .int v2), (5, .int v1), (0, .ref b), (1, .ref (N.2 500)), (2, .ref (N.2 60)), (3, .ref o), (4, .int (nI i))] dL_law_461 (cx_lt rfl) rfl ?_
  refine cq_aload_n 4 dL_law_463 rfl ?_
  refine cq_cVi [] [] h (fun rs' h' => tw_thrown_m (g := dG g L1 P1) (N := N.1.1) (H.2.2 L1 P1) M2 rs' h') (tw_rc (H.2.2 L1 P1)) dL_law_464 glL_85 hglL_85 ⟨cx_le rfl, cx_le rfl⟩ rfl ⟨rfl, rfl⟩ hk1 rfl (cx_le rfl) (fun M3 v3 h => ?_)
  refine cq_iload 1 dL_law_467 rfl ?_
  refine cq_icmp_eq 474 h dL_law_469 rfl (fun h => ?_) (fun h => h.elim)
  refine cq_iload 1 dL_law_474 rfl ?_
  refine cq_if_ne 491 h dL_law_476 rfl (fun h => ?_) (fun h => ?_)
  · refine cq_goto 1559 dL_law_491 rfl ?_
    refine cq_sub (lv' := lwV b o i N.2) [2, 3, 4, 5, 6] rfl ?_
    exact K _ _ _ _ _ hk1 h
  · refine cq_aload_n 5 dL_law_479 rfl ?_
    refine cq_iconst 0 dL_law_480 cx_ic_0 ?_
    obtain ⟨hm9, h⟩ := h
    refine cq_nd H.1.1.1.1.1 (fun hn => cq_ldW h (dG_LI H.1.1.1.1.1 hn hm9) dL_law_481 (fun w h => ?_))
    refine cq_iload 0 dL_law_482 rfl ?_
    refine cq_i2l dL_law_484 ?_
    refine cq_lcmp dL_law_485 ?_
    refine cq_if_eq 491 h dL_law_486 rfl (fun h => ?_) (fun h => h.elim)
    refine cq_goto 1559 dL_law_491 rfl ?_
    refine cq_sub (lv' := lwV b o i N.2) [2, 3, 4, 5, 6] rfl ?_
    exact K _ _ _ _ _ hk1 h
def lawF_6 (N : dNx) (M : cx_M) (P : dP) (L : dL) (k n : Nat) (o : Nat) (a : Nat → Int32) (R : cx_M → dP → dL → Nat → Nat → Prop) : Prop := dLw_slot N (1200128 - k) (5501098 - n) M P L o (a 1) (fun M1 P1 L1 v1 _ e k1 n1 => e = 0 ∧ cq_cal (tw_slot N.1.1 M1 (a 1)) fun M2 v2 => cq_cal (tw_thrown N.1.1 M2) fun M3 v3 => if v3 = v1 then (if v1 = 0 then ((o, (2, 0, 1)) ∈ L1 ∧ cq_ldw M3 (dc o) 1 0 fun w => if lg_cmp w (Int32.toInt64 v2) = 0 then R M3 P1 L1 (k + k1) (n + n1) else False) else R M3 P1 L1 (k + k1) (n + n1)) else False)
set_option maxRecDepth 100000 in
theorem lawC_6 {l : Launch} {g : cx_G} {X : cx_X} {N : dNx} {Q : State → Prop} {b m o i : Nat} {xs : Nat → Int32} {M : cx_M} {P : dP} {L : dL} {k n : Nat} {R : cx_M → dP → dL → Nat → Nat → Prop} (H : lwH l g N) (HS : lwS g b m xs) (hi : i + 6 ≤ m) (hm : m ≤ 384) (hk : k ≤ 1200128 ∧ n ≤ 5501098) (h : lawF_6 N M P L k n o (fun j => xs (i + j)) R) (K : ∀ M P L k n, (k ≤ 1200128 ∧ n ≤ 5501098) → R M P L k n → cq_V l (dG g L P) X sLw cL_law 1559 (lwV b o i N.2) [] M k n Q) : cq_V l (dG g L P) X sLw cL_law 494 (lwV b o i N.2) [] M k n Q := by
  unfold lawF_6 at h
  refine cq_aload_n 1 dL_law_494 rfl ?_
  refine cq_aload_n 0 dL_law_495 rfl ?_
  refine cq_iload 4 dL_law_496 rfl ?_
  refine cq_iconst 1 dL_law_498 cx_ic_1 ?_
  refine cq_iadd dL_law_499 ?_
  refine cq_elX (i := i) (c := 1) HS (nI_add i 1) (by omega) hm dL_law_500 ?_
  refine cq_aload_n 3 dL_law_501 rfl ?_
  refine cd_xSN [.ref (N.2 500), .int (xs (i + 1)), .ref o] [] (dLw_slot_m (bc := 1200128 - k) (bs := 5501098 - n) H M P L o (xs (i + 1)) h) dL_law_502 glL_103 hglL_103 ⟨cx_le rfl, cx_le rfl⟩ (cd_bud hk) rfl (cx_le rfl) (fun _ _ _ _ _ _ _ h => h.1) (fun M1 P1 L1 v1 r1 k1 n1 hk1 h => ?_)
  replace hk1 := cd_bk hk hk1
  replace h := h.2
  refine cq_istore [(5, .int v1), (0, .ref b), (1, .ref (N.2 500)), (2, .ref (N.2 60)), (3, .ref o), (4, .int (nI i))] dL_law_505 (cx_lt rfl) rfl ?_
  refine cq_aload_n 3 dL_law_507 rfl ?_
  refine cq_aload_n 1 dL_law_508 rfl ?_
  refine cq_iload 5 dL_law_509 rfl ?_
  refine cq_iconst 1 dL_law_511 cx_ic_1 ?_
  refine cq_iadd dL_law_512 ?_
  refine cq_elX (i := i) (c := 1) HS (nI_add i 1) (by omega) hm dL_law_513 ?_
  refine cq_cVi [.int (xs (i + 1))] [] h (fun rs' h' => tw_slot_m (g := dG g L1 P1) (N := N.1.1) (H.2.2 L1 P1) M1 (xs (i + 1)) rs' h') (tw_rc (H.2.2 L1 P1)) dL_law_514 glL_105 hglL_105 ⟨cx_le rfl, cx_le rfl⟩ rfl ⟨rfl, rfl⟩ hk1 rfl (cx_le rfl) (fun M2 v2 h => ?_)
  refine cq_istore [(6, .int v2), (5, .int v1), (0, .ref b), (1, .ref (N.2 500)), (2, .ref (N.2 60)), (3, .ref o), (4, .int (nI i))] dL_law_517 (cx_lt rfl) rfl ?_
  refine cq_aload_n 4 dL_law_519 rfl ?_
  refine cq_cVi [] [] h (fun rs' h' => tw_thrown_m (g := dG g L1 P1) (N := N.1.1) (H.2.2 L1 P1) M2 rs' h') (tw_rc (H.2.2 L1 P1)) dL_law_520 glL_85 hglL_85 ⟨cx_le rfl, cx_le rfl⟩ rfl ⟨rfl, rfl⟩ hk1 rfl (cx_le rfl) (fun M3 v3 h => ?_)
  refine cq_iload 1 dL_law_523 rfl ?_
  refine cq_icmp_eq 530 h dL_law_525 rfl (fun h => ?_) (fun h => h.elim)
  refine cq_iload 1 dL_law_530 rfl ?_
  refine cq_if_ne 547 h dL_law_532 rfl (fun h => ?_) (fun h => ?_)
  · refine cq_goto 1559 dL_law_547 rfl ?_
    refine cq_sub (lv' := lwV b o i N.2) [2, 3, 4, 5, 6] rfl ?_
    exact K _ _ _ _ _ hk1 h
  · refine cq_aload_n 5 dL_law_535 rfl ?_
    refine cq_iconst 0 dL_law_536 cx_ic_0 ?_
    obtain ⟨hm9, h⟩ := h
    refine cq_nd H.1.1.1.1.1 (fun hn => cq_ldW h (dG_LI H.1.1.1.1.1 hn hm9) dL_law_537 (fun w h => ?_))
    refine cq_iload 0 dL_law_538 rfl ?_
    refine cq_i2l dL_law_540 ?_
    refine cq_lcmp dL_law_541 ?_
    refine cq_if_eq 547 h dL_law_542 rfl (fun h => ?_) (fun h => h.elim)
    refine cq_goto 1559 dL_law_547 rfl ?_
    refine cq_sub (lv' := lwV b o i N.2) [2, 3, 4, 5, 6] rfl ?_
    exact K _ _ _ _ _ hk1 h
def lawF_7 (N : dNx) (M : cx_M) (P : dP) (L : dL) (k n : Nat) (o : Nat) (a : Nat → Int32) (R : cx_M → dP → dL → Nat → Nat → Prop) : Prop := dLw_played N (1200128 - k) (5501098 - n) M P L o (a 1) (a 2) (fun M1 P1 L1 v1 _ e k1 n1 => e = 0 ∧ cq_cal (tw_played N.1.1 M1 (a 1) (a 2)) fun M2 v2 => cq_cal (tw_thrown N.1.1 M2) fun M3 v3 => if v3 = v1 then (if v1 = 0 then ((o, (2, 0, 1)) ∈ L1 ∧ cq_ldw M3 (dc o) 1 0 fun w => if lg_cmp w (Int32.toInt64 v2) = 0 then R M3 P1 L1 (k + k1) (n + n1) else False) else R M3 P1 L1 (k + k1) (n + n1)) else False)
set_option maxRecDepth 100000 in
theorem lawC_7 {l : Launch} {g : cx_G} {X : cx_X} {N : dNx} {Q : State → Prop} {b m o i : Nat} {xs : Nat → Int32} {M : cx_M} {P : dP} {L : dL} {k n : Nat} {R : cx_M → dP → dL → Nat → Nat → Prop} (H : lwH l g N) (HS : lwS g b m xs) (hi : i + 6 ≤ m) (hm : m ≤ 384) (hk : k ≤ 1200128 ∧ n ≤ 5501098) (h : lawF_7 N M P L k n o (fun j => xs (i + j)) R) (K : ∀ M P L k n, (k ≤ 1200128 ∧ n ≤ 5501098) → R M P L k n → cq_V l (dG g L P) X sLw cL_law 1559 (lwV b o i N.2) [] M k n Q) : cq_V l (dG g L P) X sLw cL_law 550 (lwV b o i N.2) [] M k n Q := by
  unfold lawF_7 at h
  refine cq_aload_n 1 dL_law_550 rfl ?_
  refine cq_aload_n 0 dL_law_551 rfl ?_
  refine cq_iload 4 dL_law_552 rfl ?_
  refine cq_iconst 1 dL_law_554 cx_ic_1 ?_
  refine cq_iadd dL_law_555 ?_
  refine cq_elX (i := i) (c := 1) HS (nI_add i 1) (by omega) hm dL_law_556 ?_
  refine cq_aload_n 0 dL_law_557 rfl ?_
  refine cq_iload 4 dL_law_558 rfl ?_
  refine cq_iconst 2 dL_law_560 cx_ic_2 ?_
  refine cq_iadd dL_law_561 ?_
  refine cq_elX (i := i) (c := 2) HS (nI_add i 2) (by omega) hm dL_law_562 ?_
  refine cq_aload_n 3 dL_law_563 rfl ?_
  refine cd_xSN [.ref (N.2 500), .int (xs (i + 1)), .int (xs (i + 2)), .ref o] [] (dLw_played_m (bc := 1200128 - k) (bs := 5501098 - n) H M P L o (xs (i + 1)) (xs (i + 2)) h) dL_law_564 glL_106 hglL_106 ⟨cx_le rfl, cx_le rfl⟩ (cd_bud hk) rfl (cx_le rfl) (fun _ _ _ _ _ _ _ h => h.1) (fun M1 P1 L1 v1 r1 k1 n1 hk1 h => ?_)
  replace hk1 := cd_bk hk hk1
  replace h := h.2
  refine cq_istore [(5, .int v1), (0, .ref b), (1, .ref (N.2 500)), (2, .ref (N.2 60)), (3, .ref o), (4, .int (nI i))] dL_law_567 (cx_lt rfl) rfl ?_
  refine cq_aload_n 3 dL_law_569 rfl ?_
  refine cq_aload_n 1 dL_law_570 rfl ?_
  refine cq_iload 5 dL_law_571 rfl ?_
  refine cq_iconst 1 dL_law_573 cx_ic_1 ?_
  refine cq_iadd dL_law_574 ?_
  refine cq_elX (i := i) (c := 1) HS (nI_add i 1) (by omega) hm dL_law_575 ?_
  refine cq_aload_n 1 dL_law_576 rfl ?_
  refine cq_iload 5 dL_law_577 rfl ?_
  refine cq_iconst 2 dL_law_579 cx_ic_2 ?_
  refine cq_iadd dL_law_580 ?_
  refine cq_elX (i := i) (c := 2) HS (nI_add i 2) (by omega) hm dL_law_581 ?_
  refine cq_cVi [.int (xs (i + 1)), .int (xs (i + 2))] [] h (fun rs' h' => tw_played_m (g := dG g L1 P1) (N := N.1.1) (H.2.2 L1 P1) M1 (xs (i + 1)) (xs (i + 2)) rs' h') (tw_rc (H.2.2 L1 P1)) dL_law_582 glL_108 hglL_108 ⟨cx_le rfl, cx_le rfl⟩ rfl ⟨rfl, rfl⟩ hk1 rfl (cx_le rfl) (fun M2 v2 h => ?_)
  refine cq_istore [(6, .int v2), (5, .int v1), (0, .ref b), (1, .ref (N.2 500)), (2, .ref (N.2 60)), (3, .ref o), (4, .int (nI i))] dL_law_585 (cx_lt rfl) rfl ?_
  refine cq_aload_n 4 dL_law_587 rfl ?_
  refine cq_cVi [] [] h (fun rs' h' => tw_thrown_m (g := dG g L1 P1) (N := N.1.1) (H.2.2 L1 P1) M2 rs' h') (tw_rc (H.2.2 L1 P1)) dL_law_588 glL_85 hglL_85 ⟨cx_le rfl, cx_le rfl⟩ rfl ⟨rfl, rfl⟩ hk1 rfl (cx_le rfl) (fun M3 v3 h => ?_)
  refine cq_iload 1 dL_law_591 rfl ?_
  refine cq_icmp_eq 598 h dL_law_593 rfl (fun h => ?_) (fun h => h.elim)
  refine cq_iload 1 dL_law_598 rfl ?_
  refine cq_if_ne 615 h dL_law_600 rfl (fun h => ?_) (fun h => ?_)
  · refine cq_goto 1559 dL_law_615 rfl ?_
    refine cq_sub (lv' := lwV b o i N.2) [2, 3, 4, 5, 6] rfl ?_
    exact K _ _ _ _ _ hk1 h
  · refine cq_aload_n 5 dL_law_603 rfl ?_
    refine cq_iconst 0 dL_law_604 cx_ic_0 ?_
    obtain ⟨hm9, h⟩ := h
    refine cq_nd H.1.1.1.1.1 (fun hn => cq_ldW h (dG_LI H.1.1.1.1.1 hn hm9) dL_law_605 (fun w h => ?_))
    refine cq_iload 0 dL_law_606 rfl ?_
    refine cq_i2l dL_law_608 ?_
    refine cq_lcmp dL_law_609 ?_
    refine cq_if_eq 615 h dL_law_610 rfl (fun h => ?_) (fun h => h.elim)
    refine cq_goto 1559 dL_law_615 rfl ?_
    refine cq_sub (lv' := lwV b o i N.2) [2, 3, 4, 5, 6] rfl ?_
    exact K _ _ _ _ _ hk1 h
def lawF_8 (N : dNx) (M : cx_M) (P : dP) (L : dL) (k n : Nat) (o : Nat) (a : Nat → Int32) (R : cx_M → dP → dL → Nat → Nat → Prop) : Prop := dLw_spans N (1200128 - k) (5501098 - n) M P L o (a 1) (a 2) (fun M1 P1 L1 v1 _ e k1 n1 => e = 0 ∧ cq_cal (tw_spans N.1.1 M1 (a 1) (a 2)) fun M2 v2 => cq_cal (tw_thrown N.1.1 M2) fun M3 v3 => if v3 = v1 then (if v1 = 0 then ((o, (2, 0, 1)) ∈ L1 ∧ cq_ldw M3 (dc o) 1 0 fun w => if lg_cmp w (Int32.toInt64 v2) = 0 then R M3 P1 L1 (k + k1) (n + n1) else False) else R M3 P1 L1 (k + k1) (n + n1)) else False)
set_option maxRecDepth 100000 in
theorem lawC_8 {l : Launch} {g : cx_G} {X : cx_X} {N : dNx} {Q : State → Prop} {b m o i : Nat} {xs : Nat → Int32} {M : cx_M} {P : dP} {L : dL} {k n : Nat} {R : cx_M → dP → dL → Nat → Nat → Prop} (H : lwH l g N) (HS : lwS g b m xs) (hi : i + 6 ≤ m) (hm : m ≤ 384) (hk : k ≤ 1200128 ∧ n ≤ 5501098) (h : lawF_8 N M P L k n o (fun j => xs (i + j)) R) (K : ∀ M P L k n, (k ≤ 1200128 ∧ n ≤ 5501098) → R M P L k n → cq_V l (dG g L P) X sLw cL_law 1559 (lwV b o i N.2) [] M k n Q) : cq_V l (dG g L P) X sLw cL_law 618 (lwV b o i N.2) [] M k n Q := by
  unfold lawF_8 at h
  refine cq_aload_n 1 dL_law_618 rfl ?_
  refine cq_aload_n 0 dL_law_619 rfl ?_
  refine cq_iload 4 dL_law_620 rfl ?_
  refine cq_iconst 1 dL_law_622 cx_ic_1 ?_
  refine cq_iadd dL_law_623 ?_
  refine cq_elX (i := i) (c := 1) HS (nI_add i 1) (by omega) hm dL_law_624 ?_
  refine cq_aload_n 0 dL_law_625 rfl ?_
  refine cq_iload 4 dL_law_626 rfl ?_
  refine cq_iconst 2 dL_law_628 cx_ic_2 ?_
  refine cq_iadd dL_law_629 ?_
  refine cq_elX (i := i) (c := 2) HS (nI_add i 2) (by omega) hm dL_law_630 ?_
  refine cq_aload_n 3 dL_law_631 rfl ?_
  refine cd_xSN [.ref (N.2 500), .int (xs (i + 1)), .int (xs (i + 2)), .ref o] [] (dLw_spans_m (bc := 1200128 - k) (bs := 5501098 - n) H M P L o (xs (i + 1)) (xs (i + 2)) h) dL_law_632 glL_109 hglL_109 ⟨cx_le rfl, cx_le rfl⟩ (cd_bud hk) rfl (cx_le rfl) (fun _ _ _ _ _ _ _ h => h.1) (fun M1 P1 L1 v1 r1 k1 n1 hk1 h => ?_)
  replace hk1 := cd_bk hk hk1
  replace h := h.2
  refine cq_istore [(5, .int v1), (0, .ref b), (1, .ref (N.2 500)), (2, .ref (N.2 60)), (3, .ref o), (4, .int (nI i))] dL_law_635 (cx_lt rfl) rfl ?_
  refine cq_aload_n 3 dL_law_637 rfl ?_
  refine cq_aload_n 1 dL_law_638 rfl ?_
  refine cq_iload 5 dL_law_639 rfl ?_
  refine cq_iconst 1 dL_law_641 cx_ic_1 ?_
  refine cq_iadd dL_law_642 ?_
  refine cq_elX (i := i) (c := 1) HS (nI_add i 1) (by omega) hm dL_law_643 ?_
  refine cq_aload_n 1 dL_law_644 rfl ?_
  refine cq_iload 5 dL_law_645 rfl ?_
  refine cq_iconst 2 dL_law_647 cx_ic_2 ?_
  refine cq_iadd dL_law_648 ?_
  refine cq_elX (i := i) (c := 2) HS (nI_add i 2) (by omega) hm dL_law_649 ?_
  refine cq_cVi [.int (xs (i + 1)), .int (xs (i + 2))] [] h (fun rs' h' => tw_spans_m (g := dG g L1 P1) (N := N.1.1) (H.2.2 L1 P1) M1 (xs (i + 1)) (xs (i + 2)) rs' h') (tw_rc (H.2.2 L1 P1)) dL_law_650 glL_111 hglL_111 ⟨cx_le rfl, cx_le rfl⟩ rfl ⟨rfl, rfl⟩ hk1 rfl (cx_le rfl) (fun M2 v2 h => ?_)
  refine cq_istore [(6, .int v2), (5, .int v1), (0, .ref b), (1, .ref (N.2 500)), (2, .ref (N.2 60)), (3, .ref o), (4, .int (nI i))] dL_law_653 (cx_lt rfl) rfl ?_
  refine cq_aload_n 4 dL_law_655 rfl ?_
  refine cq_cVi [] [] h (fun rs' h' => tw_thrown_m (g := dG g L1 P1) (N := N.1.1) (H.2.2 L1 P1) M2 rs' h') (tw_rc (H.2.2 L1 P1)) dL_law_656 glL_85 hglL_85 ⟨cx_le rfl, cx_le rfl⟩ rfl ⟨rfl, rfl⟩ hk1 rfl (cx_le rfl) (fun M3 v3 h => ?_)
  refine cq_iload 1 dL_law_659 rfl ?_
  refine cq_icmp_eq 666 h dL_law_661 rfl (fun h => ?_) (fun h => h.elim)
  refine cq_iload 1 dL_law_666 rfl ?_
  refine cq_if_ne 683 h dL_law_668 rfl (fun h => ?_) (fun h => ?_)
  · refine cq_goto 1559 dL_law_683 rfl ?_
    refine cq_sub (lv' := lwV b o i N.2) [2, 3, 4, 5, 6] rfl ?_
    exact K _ _ _ _ _ hk1 h
  · refine cq_aload_n 5 dL_law_671 rfl ?_
    refine cq_iconst 0 dL_law_672 cx_ic_0 ?_
    obtain ⟨hm9, h⟩ := h
    refine cq_nd H.1.1.1.1.1 (fun hn => cq_ldW h (dG_LI H.1.1.1.1.1 hn hm9) dL_law_673 (fun w h => ?_))
    refine cq_iload 0 dL_law_674 rfl ?_
    refine cq_i2l dL_law_676 ?_
    refine cq_lcmp dL_law_677 ?_
    refine cq_if_eq 683 h dL_law_678 rfl (fun h => ?_) (fun h => h.elim)
    refine cq_goto 1559 dL_law_683 rfl ?_
    refine cq_sub (lv' := lwV b o i N.2) [2, 3, 4, 5, 6] rfl ?_
    exact K _ _ _ _ _ hk1 h
def lawF_9 (N : dNx) (M : cx_M) (P : dP) (L : dL) (k n : Nat) (o : Nat) (a : Nat → Int32) (R : cx_M → dP → dL → Nat → Nat → Prop) : Prop := dLw_sample N (1200128 - k) (5501098 - n) M P L o (a 1) (fun M1 P1 L1 v1 _ e k1 n1 => e = 0 ∧ cq_cal (tw_sample N.1.1 M1 (a 1)) fun M2 v2 => cq_cal (tw_thrown N.1.1 M2) fun M3 v3 => if v3 = v1 then (if v1 = 0 then ((o, (2, 0, 1)) ∈ L1 ∧ cq_ldw M3 (dc o) 1 0 fun w => if lg_cmp w (Int32.toInt64 v2) = 0 then R M3 P1 L1 (k + k1) (n + n1) else False) else R M3 P1 L1 (k + k1) (n + n1)) else False)
set_option maxRecDepth 100000 in
theorem lawC_9 {l : Launch} {g : cx_G} {X : cx_X} {N : dNx} {Q : State → Prop} {b m o i : Nat} {xs : Nat → Int32} {M : cx_M} {P : dP} {L : dL} {k n : Nat} {R : cx_M → dP → dL → Nat → Nat → Prop} (H : lwH l g N) (HS : lwS g b m xs) (hi : i + 6 ≤ m) (hm : m ≤ 384) (hk : k ≤ 1200128 ∧ n ≤ 5501098) (h : lawF_9 N M P L k n o (fun j => xs (i + j)) R) (K : ∀ M P L k n, (k ≤ 1200128 ∧ n ≤ 5501098) → R M P L k n → cq_V l (dG g L P) X sLw cL_law 1559 (lwV b o i N.2) [] M k n Q) : cq_V l (dG g L P) X sLw cL_law 686 (lwV b o i N.2) [] M k n Q := by
  unfold lawF_9 at h
  refine cq_aload_n 1 dL_law_686 rfl ?_
  refine cq_aload_n 0 dL_law_687 rfl ?_
  refine cq_iload 4 dL_law_688 rfl ?_
  refine cq_iconst 1 dL_law_690 cx_ic_1 ?_
  refine cq_iadd dL_law_691 ?_
  refine cq_elX (i := i) (c := 1) HS (nI_add i 1) (by omega) hm dL_law_692 ?_
  refine cq_aload_n 3 dL_law_693 rfl ?_
  refine cd_xSN [.ref (N.2 500), .int (xs (i + 1)), .ref o] [] (dLw_sample_m (bc := 1200128 - k) (bs := 5501098 - n) H M P L o (xs (i + 1)) h) dL_law_694 glL_112 hglL_112 ⟨cx_le rfl, cx_le rfl⟩ (cd_bud hk) rfl (cx_le rfl) (fun _ _ _ _ _ _ _ h => h.1) (fun M1 P1 L1 v1 r1 k1 n1 hk1 h => ?_)
  replace hk1 := cd_bk hk hk1
  replace h := h.2
  refine cq_istore [(5, .int v1), (0, .ref b), (1, .ref (N.2 500)), (2, .ref (N.2 60)), (3, .ref o), (4, .int (nI i))] dL_law_697 (cx_lt rfl) rfl ?_
  refine cq_aload_n 3 dL_law_699 rfl ?_
  refine cq_aload_n 1 dL_law_700 rfl ?_
  refine cq_iload 5 dL_law_701 rfl ?_
  refine cq_iconst 1 dL_law_703 cx_ic_1 ?_
  refine cq_iadd dL_law_704 ?_
  refine cq_elX (i := i) (c := 1) HS (nI_add i 1) (by omega) hm dL_law_705 ?_
  refine cq_cVi [.int (xs (i + 1))] [] h (fun rs' h' => tw_sample_m (g := dG g L1 P1) (N := N.1.1) (H.2.2 L1 P1) M1 (xs (i + 1)) rs' h') (tw_rc (H.2.2 L1 P1)) dL_law_706 glL_114 hglL_114 ⟨cx_le rfl, cx_le rfl⟩ rfl ⟨rfl, rfl⟩ hk1 rfl (cx_le rfl) (fun M2 v2 h => ?_)
  refine cq_istore [(6, .int v2), (5, .int v1), (0, .ref b), (1, .ref (N.2 500)), (2, .ref (N.2 60)), (3, .ref o), (4, .int (nI i))] dL_law_709 (cx_lt rfl) rfl ?_
  refine cq_aload_n 4 dL_law_711 rfl ?_
  refine cq_cVi [] [] h (fun rs' h' => tw_thrown_m (g := dG g L1 P1) (N := N.1.1) (H.2.2 L1 P1) M2 rs' h') (tw_rc (H.2.2 L1 P1)) dL_law_712 glL_85 hglL_85 ⟨cx_le rfl, cx_le rfl⟩ rfl ⟨rfl, rfl⟩ hk1 rfl (cx_le rfl) (fun M3 v3 h => ?_)
  refine cq_iload 1 dL_law_715 rfl ?_
  refine cq_icmp_eq 722 h dL_law_717 rfl (fun h => ?_) (fun h => h.elim)
  refine cq_iload 1 dL_law_722 rfl ?_
  refine cq_if_ne 739 h dL_law_724 rfl (fun h => ?_) (fun h => ?_)
  · refine cq_goto 1559 dL_law_739 rfl ?_
    refine cq_sub (lv' := lwV b o i N.2) [2, 3, 4, 5, 6] rfl ?_
    exact K _ _ _ _ _ hk1 h
  · refine cq_aload_n 5 dL_law_727 rfl ?_
    refine cq_iconst 0 dL_law_728 cx_ic_0 ?_
    obtain ⟨hm9, h⟩ := h
    refine cq_nd H.1.1.1.1.1 (fun hn => cq_ldW h (dG_LI H.1.1.1.1.1 hn hm9) dL_law_729 (fun w h => ?_))
    refine cq_iload 0 dL_law_730 rfl ?_
    refine cq_i2l dL_law_732 ?_
    refine cq_lcmp dL_law_733 ?_
    refine cq_if_eq 739 h dL_law_734 rfl (fun h => ?_) (fun h => h.elim)
    refine cq_goto 1559 dL_law_739 rfl ?_
    refine cq_sub (lv' := lwV b o i N.2) [2, 3, 4, 5, 6] rfl ?_
    exact K _ _ _ _ _ hk1 h
def lawF_10 (N : dNx) (M : cx_M) (P : dP) (L : dL) (k n : Nat) (o : Nat) (a : Nat → Int32) (R : cx_M → dP → dL → Nat → Nat → Prop) : Prop := dLw_wander N (1200128 - k) (5501098 - n) M P L o (a 1) (fun M1 P1 L1 v1 _ e k1 n1 => e = 0 ∧ cq_cal (tw_wander N.1.1 M1 (a 1)) fun M2 v2 => cq_cal (tw_thrown N.1.1 M2) fun M3 v3 => if v3 = v1 then (if v1 = 0 then ((o, (2, 0, 1)) ∈ L1 ∧ cq_ldw M3 (dc o) 1 0 fun w => if lg_cmp w (Int32.toInt64 v2) = 0 then R M3 P1 L1 (k + k1) (n + n1) else False) else R M3 P1 L1 (k + k1) (n + n1)) else False)
set_option maxRecDepth 100000 in
theorem lawC_10 {l : Launch} {g : cx_G} {X : cx_X} {N : dNx} {Q : State → Prop} {b m o i : Nat} {xs : Nat → Int32} {M : cx_M} {P : dP} {L : dL} {k n : Nat} {R : cx_M → dP → dL → Nat → Nat → Prop} (H : lwH l g N) (HS : lwS g b m xs) (hi : i + 6 ≤ m) (hm : m ≤ 384) (hk : k ≤ 1200128 ∧ n ≤ 5501098) (h : lawF_10 N M P L k n o (fun j => xs (i + j)) R) (K : ∀ M P L k n, (k ≤ 1200128 ∧ n ≤ 5501098) → R M P L k n → cq_V l (dG g L P) X sLw cL_law 1559 (lwV b o i N.2) [] M k n Q) : cq_V l (dG g L P) X sLw cL_law 742 (lwV b o i N.2) [] M k n Q := by
  unfold lawF_10 at h
  refine cq_aload_n 1 dL_law_742 rfl ?_
  refine cq_aload_n 0 dL_law_743 rfl ?_
  refine cq_iload 4 dL_law_744 rfl ?_
  refine cq_iconst 1 dL_law_746 cx_ic_1 ?_
  refine cq_iadd dL_law_747 ?_
  refine cq_elX (i := i) (c := 1) HS (nI_add i 1) (by omega) hm dL_law_748 ?_
  refine cq_aload_n 3 dL_law_749 rfl ?_
  refine cd_xSN [.ref (N.2 500), .int (xs (i + 1)), .ref o] [] (dLw_wander_m (bc := 1200128 - k) (bs := 5501098 - n) H M P L o (xs (i + 1)) h) dL_law_750 glL_115 hglL_115 ⟨cx_le rfl, cx_le rfl⟩ (cd_bud hk) rfl (cx_le rfl) (fun _ _ _ _ _ _ _ h => h.1) (fun M1 P1 L1 v1 r1 k1 n1 hk1 h => ?_)
  replace hk1 := cd_bk hk hk1
  replace h := h.2
  refine cq_istore [(5, .int v1), (0, .ref b), (1, .ref (N.2 500)), (2, .ref (N.2 60)), (3, .ref o), (4, .int (nI i))] dL_law_753 (cx_lt rfl) rfl ?_
  refine cq_aload_n 3 dL_law_755 rfl ?_
  refine cq_aload_n 1 dL_law_756 rfl ?_
  refine cq_iload 5 dL_law_757 rfl ?_
  refine cq_iconst 1 dL_law_759 cx_ic_1 ?_
  refine cq_iadd dL_law_760 ?_
  refine cq_elX (i := i) (c := 1) HS (nI_add i 1) (by omega) hm dL_law_761 ?_
  refine cq_cVi [.int (xs (i + 1))] [] h (fun rs' h' => tw_wander_m (g := dG g L1 P1) (N := N.1.1) (H.2.2 L1 P1) M1 (xs (i + 1)) rs' h') (tw_rc (H.2.2 L1 P1)) dL_law_762 glL_117 hglL_117 ⟨cx_le rfl, cx_le rfl⟩ rfl ⟨rfl, rfl⟩ hk1 rfl (cx_le rfl) (fun M2 v2 h => ?_)
  refine cq_istore [(6, .int v2), (5, .int v1), (0, .ref b), (1, .ref (N.2 500)), (2, .ref (N.2 60)), (3, .ref o), (4, .int (nI i))] dL_law_765 (cx_lt rfl) rfl ?_
  refine cq_aload_n 4 dL_law_767 rfl ?_
  refine cq_cVi [] [] h (fun rs' h' => tw_thrown_m (g := dG g L1 P1) (N := N.1.1) (H.2.2 L1 P1) M2 rs' h') (tw_rc (H.2.2 L1 P1)) dL_law_768 glL_85 hglL_85 ⟨cx_le rfl, cx_le rfl⟩ rfl ⟨rfl, rfl⟩ hk1 rfl (cx_le rfl) (fun M3 v3 h => ?_)
  refine cq_iload 1 dL_law_771 rfl ?_
  refine cq_icmp_eq 778 h dL_law_773 rfl (fun h => ?_) (fun h => h.elim)
  refine cq_iload 1 dL_law_778 rfl ?_
  refine cq_if_ne 795 h dL_law_780 rfl (fun h => ?_) (fun h => ?_)
  · refine cq_goto 1559 dL_law_795 rfl ?_
    refine cq_sub (lv' := lwV b o i N.2) [2, 3, 4, 5, 6] rfl ?_
    exact K _ _ _ _ _ hk1 h
  · refine cq_aload_n 5 dL_law_783 rfl ?_
    refine cq_iconst 0 dL_law_784 cx_ic_0 ?_
    obtain ⟨hm9, h⟩ := h
    refine cq_nd H.1.1.1.1.1 (fun hn => cq_ldW h (dG_LI H.1.1.1.1.1 hn hm9) dL_law_785 (fun w h => ?_))
    refine cq_iload 0 dL_law_786 rfl ?_
    refine cq_i2l dL_law_788 ?_
    refine cq_lcmp dL_law_789 ?_
    refine cq_if_eq 795 h dL_law_790 rfl (fun h => ?_) (fun h => h.elim)
    refine cq_goto 1559 dL_law_795 rfl ?_
    refine cq_sub (lv' := lwV b o i N.2) [2, 3, 4, 5, 6] rfl ?_
    exact K _ _ _ _ _ hk1 h
def lawF_11 (N : dNx) (M : cx_M) (P : dP) (L : dL) (k n : Nat) (o : Nat) (a : Nat → Int32) (R : cx_M → dP → dL → Nat → Nat → Prop) : Prop := cq_cal (cCc_steps N.1 M (a 1)) fun M1 v1 => cq_cal (tw_steps N.1.1 M1 (a 1)) fun M2 v2 => if v1 = v2 then R M2 P L k n else False
set_option maxRecDepth 100000 in
theorem lawC_11 {l : Launch} {g : cx_G} {X : cx_X} {N : dNx} {Q : State → Prop} {b m o i : Nat} {xs : Nat → Int32} {M : cx_M} {P : dP} {L : dL} {k n : Nat} {R : cx_M → dP → dL → Nat → Nat → Prop} (H : lwH l g N) (HS : lwS g b m xs) (hi : i + 6 ≤ m) (hm : m ≤ 384) (hk : k ≤ 1200128 ∧ n ≤ 5501098) (h : lawF_11 N M P L k n o (fun j => xs (i + j)) R) (K : ∀ M P L k n, (k ≤ 1200128 ∧ n ≤ 5501098) → R M P L k n → cq_V l (dG g L P) X sLw cL_law 1559 (lwV b o i N.2) [] M k n Q) : cq_V l (dG g L P) X sLw cL_law 798 (lwV b o i N.2) [] M k n Q := by
  unfold lawF_11 at h
  refine cq_aload_n 1 dL_law_798 rfl ?_
  refine cq_aload_n 0 dL_law_799 rfl ?_
  refine cq_iload 4 dL_law_800 rfl ?_
  refine cq_iconst 1 dL_law_802 cx_ic_1 ?_
  refine cq_iadd dL_law_803 ?_
  refine cq_elX (i := i) (c := 1) HS (nI_add i 1) (by omega) hm dL_law_804 ?_
  refine cq_cVi [.int (xs (i + 1))] [] h (fun rs' h' => cCc_steps_m (g := dG g L P) (N := N.1) (H.1.2.1 L P) M (xs (i + 1)) rs' h') (cCc_rc0 (H.1.2.1 L P).2.2.2.2.2.2.2.1) dL_law_805 glL_118 hglL_118 ⟨cx_le rfl, cx_le rfl⟩ rfl ⟨rfl, rfl⟩ hk rfl (cx_le rfl) (fun M1 v1 h => ?_)
  refine cq_aload_n 2 dL_law_808 rfl ?_
  refine cq_aload_n 0 dL_law_809 rfl ?_
  refine cq_iload 4 dL_law_810 rfl ?_
  refine cq_iconst 1 dL_law_812 cx_ic_1 ?_
  refine cq_iadd dL_law_813 ?_
  refine cq_elX (i := i) (c := 1) HS (nI_add i 1) (by omega) hm dL_law_814 ?_
  refine cq_cVi [.int (xs (i + 1))] [.int v1] h (fun rs' h' => tw_steps_m (g := dG g L P) (N := N.1.1) (H.2.2 L P) M1 (xs (i + 1)) rs' h') (tw_rc (H.2.2 L P)) dL_law_815 glL_121 hglL_121 ⟨cx_le rfl, cx_le rfl⟩ rfl ⟨rfl, rfl⟩ hk rfl (cx_le rfl) (fun M2 v2 h => ?_)
  refine cq_icmp_eq 1559 h dL_law_818 rfl (fun h => ?_) (fun h => h.elim)
  exact K _ _ _ _ _ hk h
def lawF_12 (N : dNx) (M : cx_M) (P : dP) (L : dL) (k n : Nat) (o : Nat) (a : Nat → Int32) (R : cx_M → dP → dL → Nat → Nat → Prop) : Prop := cq_cal (cCc_lose N.1 M (a 1)) fun M1 v1 => cq_cal (tw_lose N.1.1 M1 (a 1)) fun M2 v2 => if v1 = v2 then R M2 P L k n else False
set_option maxRecDepth 100000 in
theorem lawC_12 {l : Launch} {g : cx_G} {X : cx_X} {N : dNx} {Q : State → Prop} {b m o i : Nat} {xs : Nat → Int32} {M : cx_M} {P : dP} {L : dL} {k n : Nat} {R : cx_M → dP → dL → Nat → Nat → Prop} (H : lwH l g N) (HS : lwS g b m xs) (hi : i + 6 ≤ m) (hm : m ≤ 384) (hk : k ≤ 1200128 ∧ n ≤ 5501098) (h : lawF_12 N M P L k n o (fun j => xs (i + j)) R) (K : ∀ M P L k n, (k ≤ 1200128 ∧ n ≤ 5501098) → R M P L k n → cq_V l (dG g L P) X sLw cL_law 1559 (lwV b o i N.2) [] M k n Q) : cq_V l (dG g L P) X sLw cL_law 823 (lwV b o i N.2) [] M k n Q := by
  unfold lawF_12 at h
  refine cq_aload_n 1 dL_law_823 rfl ?_
  refine cq_aload_n 0 dL_law_824 rfl ?_
  refine cq_iload 4 dL_law_825 rfl ?_
  refine cq_iconst 1 dL_law_827 cx_ic_1 ?_
  refine cq_iadd dL_law_828 ?_
  refine cq_elX (i := i) (c := 1) HS (nI_add i 1) (by omega) hm dL_law_829 ?_
  refine cq_cVi [.int (xs (i + 1))] [] h (fun rs' h' => cCc_lose_m (g := dG g L P) (N := N.1) (H.1.2.1 L P) M (xs (i + 1)) rs' h') (cCc_rc0 (H.1.2.1 L P).2.2.2.2.2.2.2.1) dL_law_830 glL_122 hglL_122 ⟨cx_le rfl, cx_le rfl⟩ rfl ⟨rfl, rfl⟩ hk rfl (cx_le rfl) (fun M1 v1 h => ?_)
  refine cq_aload_n 2 dL_law_833 rfl ?_
  refine cq_aload_n 0 dL_law_834 rfl ?_
  refine cq_iload 4 dL_law_835 rfl ?_
  refine cq_iconst 1 dL_law_837 cx_ic_1 ?_
  refine cq_iadd dL_law_838 ?_
  refine cq_elX (i := i) (c := 1) HS (nI_add i 1) (by omega) hm dL_law_839 ?_
  refine cq_cVi [.int (xs (i + 1))] [.int v1] h (fun rs' h' => tw_lose_m (g := dG g L P) (N := N.1.1) (H.2.2 L P) M1 (xs (i + 1)) rs' h') (tw_rc (H.2.2 L P)) dL_law_840 glL_125 hglL_125 ⟨cx_le rfl, cx_le rfl⟩ rfl ⟨rfl, rfl⟩ hk rfl (cx_le rfl) (fun M2 v2 h => ?_)
  refine cq_icmp_eq 1559 h dL_law_843 rfl (fun h => ?_) (fun h => h.elim)
  exact K _ _ _ _ _ hk h
def lawF_13 (N : dNx) (M : cx_M) (P : dP) (L : dL) (k n : Nat) (o : Nat) (a : Nat → Int32) (R : cx_M → dP → dL → Nat → Nat → Prop) : Prop := cq_cal (cCc_stall N.1 M (a 1)) fun M1 v1 => cq_cal (tw_stall N.1.1 M1 (a 1)) fun M2 v2 => if v1 = v2 then R M2 P L k n else False
set_option maxRecDepth 100000 in
theorem lawC_13 {l : Launch} {g : cx_G} {X : cx_X} {N : dNx} {Q : State → Prop} {b m o i : Nat} {xs : Nat → Int32} {M : cx_M} {P : dP} {L : dL} {k n : Nat} {R : cx_M → dP → dL → Nat → Nat → Prop} (H : lwH l g N) (HS : lwS g b m xs) (hi : i + 6 ≤ m) (hm : m ≤ 384) (hk : k ≤ 1200128 ∧ n ≤ 5501098) (h : lawF_13 N M P L k n o (fun j => xs (i + j)) R) (K : ∀ M P L k n, (k ≤ 1200128 ∧ n ≤ 5501098) → R M P L k n → cq_V l (dG g L P) X sLw cL_law 1559 (lwV b o i N.2) [] M k n Q) : cq_V l (dG g L P) X sLw cL_law 848 (lwV b o i N.2) [] M k n Q := by
  unfold lawF_13 at h
  refine cq_aload_n 1 dL_law_848 rfl ?_
  refine cq_aload_n 0 dL_law_849 rfl ?_
  refine cq_iload 4 dL_law_850 rfl ?_
  refine cq_iconst 1 dL_law_852 cx_ic_1 ?_
  refine cq_iadd dL_law_853 ?_
  refine cq_elX (i := i) (c := 1) HS (nI_add i 1) (by omega) hm dL_law_854 ?_
  refine cq_cVi [.int (xs (i + 1))] [] h (fun rs' h' => cCc_stall_m (g := dG g L P) (N := N.1) (H.1.2.1 L P) M (xs (i + 1)) rs' h') (cCc_rc0 (H.1.2.1 L P).2.2.2.2.2.2.2.1) dL_law_855 glL_126 hglL_126 ⟨cx_le rfl, cx_le rfl⟩ rfl ⟨rfl, rfl⟩ hk rfl (cx_le rfl) (fun M1 v1 h => ?_)
  refine cq_aload_n 2 dL_law_858 rfl ?_
  refine cq_aload_n 0 dL_law_859 rfl ?_
  refine cq_iload 4 dL_law_860 rfl ?_
  refine cq_iconst 1 dL_law_862 cx_ic_1 ?_
  refine cq_iadd dL_law_863 ?_
  refine cq_elX (i := i) (c := 1) HS (nI_add i 1) (by omega) hm dL_law_864 ?_
  refine cq_cVi [.int (xs (i + 1))] [.int v1] h (fun rs' h' => tw_stall_m (g := dG g L P) (N := N.1.1) (H.2.2 L P) M1 (xs (i + 1)) rs' h') (tw_rc (H.2.2 L P)) dL_law_865 glL_129 hglL_129 ⟨cx_le rfl, cx_le rfl⟩ rfl ⟨rfl, rfl⟩ hk rfl (cx_le rfl) (fun M2 v2 h => ?_)
  refine cq_icmp_eq 1559 h dL_law_868 rfl (fun h => ?_) (fun h => h.elim)
  exact K _ _ _ _ _ hk h
def lawF_14 (N : dNx) (M : cx_M) (P : dP) (L : dL) (k n : Nat) (o : Nat) (a : Nat → Int32) (R : cx_M → dP → dL → Nat → Nat → Prop) : Prop := dLw_turn N (1200128 - k) (5501098 - n) M P L o (a 1) (a 2) (fun M1 P1 L1 v1 _ e k1 n1 => e = 0 ∧ cq_cal (tw_turn N.1.1 M1 (a 1) (a 2)) fun M2 v2 => cq_cal (tw_thrown N.1.1 M2) fun M3 v3 => if v3 = v1 then (if v1 = 0 then ((o, (2, 0, 1)) ∈ L1 ∧ cq_ldw M3 (dc o) 1 0 fun w => if lg_cmp w (Int32.toInt64 v2) = 0 then R M3 P1 L1 (k + k1) (n + n1) else False) else R M3 P1 L1 (k + k1) (n + n1)) else False)
set_option maxRecDepth 100000 in
theorem lawC_14 {l : Launch} {g : cx_G} {X : cx_X} {N : dNx} {Q : State → Prop} {b m o i : Nat} {xs : Nat → Int32} {M : cx_M} {P : dP} {L : dL} {k n : Nat} {R : cx_M → dP → dL → Nat → Nat → Prop} (H : lwH l g N) (HS : lwS g b m xs) (hi : i + 6 ≤ m) (hm : m ≤ 384) (hk : k ≤ 1200128 ∧ n ≤ 5501098) (h : lawF_14 N M P L k n o (fun j => xs (i + j)) R) (K : ∀ M P L k n, (k ≤ 1200128 ∧ n ≤ 5501098) → R M P L k n → cq_V l (dG g L P) X sLw cL_law 1559 (lwV b o i N.2) [] M k n Q) : cq_V l (dG g L P) X sLw cL_law 873 (lwV b o i N.2) [] M k n Q := by
  unfold lawF_14 at h
  refine cq_aload_n 1 dL_law_873 rfl ?_
  refine cq_aload_n 0 dL_law_874 rfl ?_
  refine cq_iload 4 dL_law_875 rfl ?_
  refine cq_iconst 1 dL_law_877 cx_ic_1 ?_
  refine cq_iadd dL_law_878 ?_
  refine cq_elX (i := i) (c := 1) HS (nI_add i 1) (by omega) hm dL_law_879 ?_
  refine cq_aload_n 0 dL_law_880 rfl ?_
  refine cq_iload 4 dL_law_881 rfl ?_
  refine cq_iconst 2 dL_law_883 cx_ic_2 ?_
  refine cq_iadd dL_law_884 ?_
  refine cq_elX (i := i) (c := 2) HS (nI_add i 2) (by omega) hm dL_law_885 ?_
  refine cq_aload_n 3 dL_law_886 rfl ?_
  refine cd_xSN [.ref (N.2 500), .int (xs (i + 1)), .int (xs (i + 2)), .ref o] [] (dLw_turn_m (bc := 1200128 - k) (bs := 5501098 - n) H M P L o (xs (i + 1)) (xs (i + 2)) h) dL_law_887 glL_130 hglL_130 ⟨cx_le rfl, cx_le rfl⟩ (cd_bud hk) rfl (cx_le rfl) (fun _ _ _ _ _ _ _ h => h.1) (fun M1 P1 L1 v1 r1 k1 n1 hk1 h => ?_)
  replace hk1 := cd_bk hk hk1
  replace h := h.2
  refine cq_istore [(5, .int v1), (0, .ref b), (1, .ref (N.2 500)), (2, .ref (N.2 60)), (3, .ref o), (4, .int (nI i))] dL_law_890 (cx_lt rfl) rfl ?_
  refine cq_aload_n 3 dL_law_892 rfl ?_
  refine cq_aload_n 1 dL_law_893 rfl ?_
  refine cq_iload 5 dL_law_894 rfl ?_
  refine cq_iconst 1 dL_law_896 cx_ic_1 ?_
  refine cq_iadd dL_law_897 ?_
  refine cq_elX (i := i) (c := 1) HS (nI_add i 1) (by omega) hm dL_law_898 ?_
  refine cq_aload_n 1 dL_law_899 rfl ?_
  refine cq_iload 5 dL_law_900 rfl ?_
  refine cq_iconst 2 dL_law_902 cx_ic_2 ?_
  refine cq_iadd dL_law_903 ?_
  refine cq_elX (i := i) (c := 2) HS (nI_add i 2) (by omega) hm dL_law_904 ?_
  refine cq_cVi [.int (xs (i + 1)), .int (xs (i + 2))] [] h (fun rs' h' => tw_turn_m (g := dG g L1 P1) (N := N.1.1) (H.2.2 L1 P1) M1 (xs (i + 1)) (xs (i + 2)) rs' h') (tw_rc (H.2.2 L1 P1)) dL_law_905 glL_132 hglL_132 ⟨cx_le rfl, cx_le rfl⟩ rfl ⟨rfl, rfl⟩ hk1 rfl (cx_le rfl) (fun M2 v2 h => ?_)
  refine cq_istore [(6, .int v2), (5, .int v1), (0, .ref b), (1, .ref (N.2 500)), (2, .ref (N.2 60)), (3, .ref o), (4, .int (nI i))] dL_law_908 (cx_lt rfl) rfl ?_
  refine cq_aload_n 4 dL_law_910 rfl ?_
  refine cq_cVi [] [] h (fun rs' h' => tw_thrown_m (g := dG g L1 P1) (N := N.1.1) (H.2.2 L1 P1) M2 rs' h') (tw_rc (H.2.2 L1 P1)) dL_law_911 glL_85 hglL_85 ⟨cx_le rfl, cx_le rfl⟩ rfl ⟨rfl, rfl⟩ hk1 rfl (cx_le rfl) (fun M3 v3 h => ?_)
  refine cq_iload 1 dL_law_914 rfl ?_
  refine cq_icmp_eq 921 h dL_law_916 rfl (fun h => ?_) (fun h => h.elim)
  refine cq_iload 1 dL_law_921 rfl ?_
  refine cq_if_ne 938 h dL_law_923 rfl (fun h => ?_) (fun h => ?_)
  · refine cq_goto 1559 dL_law_938 rfl ?_
    refine cq_sub (lv' := lwV b o i N.2) [2, 3, 4, 5, 6] rfl ?_
    exact K _ _ _ _ _ hk1 h
  · refine cq_aload_n 5 dL_law_926 rfl ?_
    refine cq_iconst 0 dL_law_927 cx_ic_0 ?_
    obtain ⟨hm9, h⟩ := h
    refine cq_nd H.1.1.1.1.1 (fun hn => cq_ldW h (dG_LI H.1.1.1.1.1 hn hm9) dL_law_928 (fun w h => ?_))
    refine cq_iload 0 dL_law_929 rfl ?_
    refine cq_i2l dL_law_931 ?_
    refine cq_lcmp dL_law_932 ?_
    refine cq_if_eq 938 h dL_law_933 rfl (fun h => ?_) (fun h => h.elim)
    refine cq_goto 1559 dL_law_938 rfl ?_
    refine cq_sub (lv' := lwV b o i N.2) [2, 3, 4, 5, 6] rfl ?_
    exact K _ _ _ _ _ hk1 h
def lawF_15 (N : dNx) (M : cx_M) (P : dP) (L : dL) (k n : Nat) (o : Nat) (a : Nat → Int32) (R : cx_M → dP → dL → Nat → Nat → Prop) : Prop := cq_cal (cCc_undo N.1 M) fun M1 v1 => cq_cal (tw_undo N.1.1 M1) fun M2 v2 => if v1 = v2 then R M2 P L k n else False
set_option maxRecDepth 100000 in
theorem lawC_15 {l : Launch} {g : cx_G} {X : cx_X} {N : dNx} {Q : State → Prop} {b m o i : Nat} {xs : Nat → Int32} {M : cx_M} {P : dP} {L : dL} {k n : Nat} {R : cx_M → dP → dL → Nat → Nat → Prop} (H : lwH l g N) (HS : lwS g b m xs) (hi : i + 6 ≤ m) (hm : m ≤ 384) (hk : k ≤ 1200128 ∧ n ≤ 5501098) (h : lawF_15 N M P L k n o (fun j => xs (i + j)) R) (K : ∀ M P L k n, (k ≤ 1200128 ∧ n ≤ 5501098) → R M P L k n → cq_V l (dG g L P) X sLw cL_law 1559 (lwV b o i N.2) [] M k n Q) : cq_V l (dG g L P) X sLw cL_law 941 (lwV b o i N.2) [] M k n Q := by
  unfold lawF_15 at h
  refine cq_aload_n 1 dL_law_941 rfl ?_
  refine cq_cVi [] [] h (fun rs' h' => cCc_undo_m (g := dG g L P) (N := N.1) (H.1.2.1 L P) M rs' h') (cCc_rc0 (H.1.2.1 L P).2.2.2.2.2.2.2.1) dL_law_942 glL_133 hglL_133 ⟨cx_le rfl, cx_le rfl⟩ rfl ⟨rfl, rfl⟩ hk rfl (cx_le rfl) (fun M1 v1 h => ?_)
  refine cq_aload_n 2 dL_law_945 rfl ?_
  refine cq_cVi [] [.int v1] h (fun rs' h' => tw_undo_m (g := dG g L P) (N := N.1.1) (H.2.2 L P) M1 rs' h') (tw_rc (H.2.2 L P)) dL_law_946 glL_136 hglL_136 ⟨cx_le rfl, cx_le rfl⟩ rfl ⟨rfl, rfl⟩ hk rfl (cx_le rfl) (fun M2 v2 h => ?_)
  refine cq_icmp_eq 1559 h dL_law_949 rfl (fun h => ?_) (fun h => h.elim)
  exact K _ _ _ _ _ hk h
def lawF_16 (N : dNx) (M : cx_M) (P : dP) (L : dL) (k n : Nat) (o : Nat) (a : Nat → Int32) (R : cx_M → dP → dL → Nat → Nat → Prop) : Prop := dLw_then N (1200128 - k) (5501098 - n) M P L o (a 1) (a 2) (fun M1 P1 L1 v1 _ e k1 n1 => e = 0 ∧ cq_cal (tw_then N.1.1 M1 (a 1) (a 2)) fun M2 v2 => cq_cal (tw_thrown N.1.1 M2) fun M3 v3 => if v3 = v1 then (if v1 = 0 then ((o, (2, 0, 1)) ∈ L1 ∧ cq_ldw M3 (dc o) 1 0 fun w => if lg_cmp w (Int32.toInt64 v2) = 0 then R M3 P1 L1 (k + k1) (n + n1) else False) else R M3 P1 L1 (k + k1) (n + n1)) else False)
set_option maxRecDepth 100000 in
theorem lawC_16 {l : Launch} {g : cx_G} {X : cx_X} {N : dNx} {Q : State → Prop} {b m o i : Nat} {xs : Nat → Int32} {M : cx_M} {P : dP} {L : dL} {k n : Nat} {R : cx_M → dP → dL → Nat → Nat → Prop} (H : lwH l g N) (HS : lwS g b m xs) (hi : i + 6 ≤ m) (hm : m ≤ 384) (hk : k ≤ 1200128 ∧ n ≤ 5501098) (h : lawF_16 N M P L k n o (fun j => xs (i + j)) R) (K : ∀ M P L k n, (k ≤ 1200128 ∧ n ≤ 5501098) → R M P L k n → cq_V l (dG g L P) X sLw cL_law 1559 (lwV b o i N.2) [] M k n Q) : cq_V l (dG g L P) X sLw cL_law 954 (lwV b o i N.2) [] M k n Q := by
  unfold lawF_16 at h
  refine cq_aload_n 1 dL_law_954 rfl ?_
  refine cq_aload_n 0 dL_law_955 rfl ?_
  refine cq_iload 4 dL_law_956 rfl ?_
  refine cq_iconst 1 dL_law_958 cx_ic_1 ?_
  refine cq_iadd dL_law_959 ?_
  refine cq_elX (i := i) (c := 1) HS (nI_add i 1) (by omega) hm dL_law_960 ?_
  refine cq_aload_n 0 dL_law_961 rfl ?_
  refine cq_iload 4 dL_law_962 rfl ?_
  refine cq_iconst 2 dL_law_964 cx_ic_2 ?_
  refine cq_iadd dL_law_965 ?_
  refine cq_elX (i := i) (c := 2) HS (nI_add i 2) (by omega) hm dL_law_966 ?_
  refine cq_aload_n 3 dL_law_967 rfl ?_
  refine cd_xSN [.ref (N.2 500), .int (xs (i + 1)), .int (xs (i + 2)), .ref o] [] (dLw_then_m (bc := 1200128 - k) (bs := 5501098 - n) H M P L o (xs (i + 1)) (xs (i + 2)) h) dL_law_968 glL_137 hglL_137 ⟨cx_le rfl, cx_le rfl⟩ (cd_bud hk) rfl (cx_le rfl) (fun _ _ _ _ _ _ _ h => h.1) (fun M1 P1 L1 v1 r1 k1 n1 hk1 h => ?_)
  replace hk1 := cd_bk hk hk1
  replace h := h.2
  refine cq_istore [(5, .int v1), (0, .ref b), (1, .ref (N.2 500)), (2, .ref (N.2 60)), (3, .ref o), (4, .int (nI i))] dL_law_971 (cx_lt rfl) rfl ?_
  refine cq_aload_n 3 dL_law_973 rfl ?_
  refine cq_aload_n 1 dL_law_974 rfl ?_
  refine cq_iload 5 dL_law_975 rfl ?_
  refine cq_iconst 1 dL_law_977 cx_ic_1 ?_
  refine cq_iadd dL_law_978 ?_
  refine cq_elX (i := i) (c := 1) HS (nI_add i 1) (by omega) hm dL_law_979 ?_
  refine cq_aload_n 1 dL_law_980 rfl ?_
  refine cq_iload 5 dL_law_981 rfl ?_
  refine cq_iconst 2 dL_law_983 cx_ic_2 ?_
  refine cq_iadd dL_law_984 ?_
  refine cq_elX (i := i) (c := 2) HS (nI_add i 2) (by omega) hm dL_law_985 ?_
  refine cq_cVi [.int (xs (i + 1)), .int (xs (i + 2))] [] h (fun rs' h' => tw_then_m (g := dG g L1 P1) (N := N.1.1) (H.2.2 L1 P1) M1 (xs (i + 1)) (xs (i + 2)) rs' h') (tw_rc (H.2.2 L1 P1)) dL_law_986 glL_139 hglL_139 ⟨cx_le rfl, cx_le rfl⟩ rfl ⟨rfl, rfl⟩ hk1 rfl (cx_le rfl) (fun M2 v2 h => ?_)
  refine cq_istore [(6, .int v2), (5, .int v1), (0, .ref b), (1, .ref (N.2 500)), (2, .ref (N.2 60)), (3, .ref o), (4, .int (nI i))] dL_law_989 (cx_lt rfl) rfl ?_
  refine cq_aload_n 4 dL_law_991 rfl ?_
  refine cq_cVi [] [] h (fun rs' h' => tw_thrown_m (g := dG g L1 P1) (N := N.1.1) (H.2.2 L1 P1) M2 rs' h') (tw_rc (H.2.2 L1 P1)) dL_law_992 glL_85 hglL_85 ⟨cx_le rfl, cx_le rfl⟩ rfl ⟨rfl, rfl⟩ hk1 rfl (cx_le rfl) (fun M3 v3 h => ?_)
  refine cq_iload 1 dL_law_995 rfl ?_
  refine cq_icmp_eq 1002 h dL_law_997 rfl (fun h => ?_) (fun h => h.elim)
  refine cq_iload 1 dL_law_1002 rfl ?_
  refine cq_if_ne 1019 h dL_law_1004 rfl (fun h => ?_) (fun h => ?_)
  · refine cq_goto 1559 dL_law_1019 rfl ?_
    refine cq_sub (lv' := lwV b o i N.2) [2, 3, 4, 5, 6] rfl ?_
    exact K _ _ _ _ _ hk1 h
  · refine cq_aload_n 5 dL_law_1007 rfl ?_
    refine cq_iconst 0 dL_law_1008 cx_ic_0 ?_
    obtain ⟨hm9, h⟩ := h
    refine cq_nd H.1.1.1.1.1 (fun hn => cq_ldW h (dG_LI H.1.1.1.1.1 hn hm9) dL_law_1009 (fun w h => ?_))
    refine cq_iload 0 dL_law_1010 rfl ?_
    refine cq_i2l dL_law_1012 ?_
    refine cq_lcmp dL_law_1013 ?_
    refine cq_if_eq 1019 h dL_law_1014 rfl (fun h => ?_) (fun h => h.elim)
    refine cq_goto 1559 dL_law_1019 rfl ?_
    refine cq_sub (lv' := lwV b o i N.2) [2, 3, 4, 5, 6] rfl ?_
    exact K _ _ _ _ _ hk1 h
def lawF_17 (N : dNx) (M : cx_M) (P : dP) (L : dL) (k n : Nat) (o : Nat) (a : Nat → Int32) (R : cx_M → dP → dL → Nat → Nat → Prop) : Prop := dLw_when N (1200128 - k) (5501098 - n) M P L o (a 1) (fun M1 P1 L1 v1 _ e k1 n1 => e = 0 ∧ cq_cal (tw_when N.1.1 M1 (a 1)) fun M2 v2 => cq_cal (tw_thrown N.1.1 M2) fun M3 v3 => if v3 = v1 then (if v1 = 0 then ((o, (2, 0, 1)) ∈ L1 ∧ cq_ldw M3 (dc o) 1 0 fun w => if lg_cmp w (Int32.toInt64 v2) = 0 then R M3 P1 L1 (k + k1) (n + n1) else False) else R M3 P1 L1 (k + k1) (n + n1)) else False)
set_option maxRecDepth 100000 in
theorem lawC_17 {l : Launch} {g : cx_G} {X : cx_X} {N : dNx} {Q : State → Prop} {b m o i : Nat} {xs : Nat → Int32} {M : cx_M} {P : dP} {L : dL} {k n : Nat} {R : cx_M → dP → dL → Nat → Nat → Prop} (H : lwH l g N) (HS : lwS g b m xs) (hi : i + 6 ≤ m) (hm : m ≤ 384) (hk : k ≤ 1200128 ∧ n ≤ 5501098) (h : lawF_17 N M P L k n o (fun j => xs (i + j)) R) (K : ∀ M P L k n, (k ≤ 1200128 ∧ n ≤ 5501098) → R M P L k n → cq_V l (dG g L P) X sLw cL_law 1559 (lwV b o i N.2) [] M k n Q) : cq_V l (dG g L P) X sLw cL_law 1022 (lwV b o i N.2) [] M k n Q := by
  unfold lawF_17 at h
  refine cq_aload_n 1 dL_law_1022 rfl ?_
  refine cq_aload_n 0 dL_law_1023 rfl ?_
  refine cq_iload 4 dL_law_1024 rfl ?_
  refine cq_iconst 1 dL_law_1026 cx_ic_1 ?_
  refine cq_iadd dL_law_1027 ?_
  refine cq_elX (i := i) (c := 1) HS (nI_add i 1) (by omega) hm dL_law_1028 ?_
  refine cq_aload_n 3 dL_law_1029 rfl ?_
  refine cd_xSN [.ref (N.2 500), .int (xs (i + 1)), .ref o] [] (dLw_when_m (bc := 1200128 - k) (bs := 5501098 - n) H M P L o (xs (i + 1)) h) dL_law_1030 glL_140 hglL_140 ⟨cx_le rfl, cx_le rfl⟩ (cd_bud hk) rfl (cx_le rfl) (fun _ _ _ _ _ _ _ h => h.1) (fun M1 P1 L1 v1 r1 k1 n1 hk1 h => ?_)
  replace hk1 := cd_bk hk hk1
  replace h := h.2
  refine cq_istore [(5, .int v1), (0, .ref b), (1, .ref (N.2 500)), (2, .ref (N.2 60)), (3, .ref o), (4, .int (nI i))] dL_law_1033 (cx_lt rfl) rfl ?_
  refine cq_aload_n 3 dL_law_1035 rfl ?_
  refine cq_aload_n 1 dL_law_1036 rfl ?_
  refine cq_iload 5 dL_law_1037 rfl ?_
  refine cq_iconst 1 dL_law_1039 cx_ic_1 ?_
  refine cq_iadd dL_law_1040 ?_
  refine cq_elX (i := i) (c := 1) HS (nI_add i 1) (by omega) hm dL_law_1041 ?_
  refine cq_cVi [.int (xs (i + 1))] [] h (fun rs' h' => tw_when_m (g := dG g L1 P1) (N := N.1.1) (H.2.2 L1 P1) M1 (xs (i + 1)) rs' h') (tw_rc (H.2.2 L1 P1)) dL_law_1042 glL_142 hglL_142 ⟨cx_le rfl, cx_le rfl⟩ rfl ⟨rfl, rfl⟩ hk1 rfl (cx_le rfl) (fun M2 v2 h => ?_)
  refine cq_istore [(6, .int v2), (5, .int v1), (0, .ref b), (1, .ref (N.2 500)), (2, .ref (N.2 60)), (3, .ref o), (4, .int (nI i))] dL_law_1045 (cx_lt rfl) rfl ?_
  refine cq_aload_n 4 dL_law_1047 rfl ?_
  refine cq_cVi [] [] h (fun rs' h' => tw_thrown_m (g := dG g L1 P1) (N := N.1.1) (H.2.2 L1 P1) M2 rs' h') (tw_rc (H.2.2 L1 P1)) dL_law_1048 glL_85 hglL_85 ⟨cx_le rfl, cx_le rfl⟩ rfl ⟨rfl, rfl⟩ hk1 rfl (cx_le rfl) (fun M3 v3 h => ?_)
  refine cq_iload 1 dL_law_1051 rfl ?_
  refine cq_icmp_eq 1058 h dL_law_1053 rfl (fun h => ?_) (fun h => h.elim)
  refine cq_iload 1 dL_law_1058 rfl ?_
  refine cq_if_ne 1075 h dL_law_1060 rfl (fun h => ?_) (fun h => ?_)
  · refine cq_goto 1559 dL_law_1075 rfl ?_
    refine cq_sub (lv' := lwV b o i N.2) [2, 3, 4, 5, 6] rfl ?_
    exact K _ _ _ _ _ hk1 h
  · refine cq_aload_n 5 dL_law_1063 rfl ?_
    refine cq_iconst 0 dL_law_1064 cx_ic_0 ?_
    obtain ⟨hm9, h⟩ := h
    refine cq_nd H.1.1.1.1.1 (fun hn => cq_ldW h (dG_LI H.1.1.1.1.1 hn hm9) dL_law_1065 (fun w h => ?_))
    refine cq_iload 0 dL_law_1066 rfl ?_
    refine cq_i2l dL_law_1068 ?_
    refine cq_lcmp dL_law_1069 ?_
    refine cq_if_eq 1075 h dL_law_1070 rfl (fun h => ?_) (fun h => h.elim)
    refine cq_goto 1559 dL_law_1075 rfl ?_
    refine cq_sub (lv' := lwV b o i N.2) [2, 3, 4, 5, 6] rfl ?_
    exact K _ _ _ _ _ hk1 h
def lawF_18 (N : dNx) (M : cx_M) (P : dP) (L : dL) (k n : Nat) (o : Nat) (a : Nat → Int32) (R : cx_M → dP → dL → Nat → Nat → Prop) : Prop := cq_cal (cCc_settles N.1 M) fun M1 v1 => cq_cal (tw_settles N.1.1 M1) fun M2 v2 => if v1 = v2 then R M2 P L k n else False
set_option maxRecDepth 100000 in
theorem lawC_18 {l : Launch} {g : cx_G} {X : cx_X} {N : dNx} {Q : State → Prop} {b m o i : Nat} {xs : Nat → Int32} {M : cx_M} {P : dP} {L : dL} {k n : Nat} {R : cx_M → dP → dL → Nat → Nat → Prop} (H : lwH l g N) (HS : lwS g b m xs) (hi : i + 6 ≤ m) (hm : m ≤ 384) (hk : k ≤ 1200128 ∧ n ≤ 5501098) (h : lawF_18 N M P L k n o (fun j => xs (i + j)) R) (K : ∀ M P L k n, (k ≤ 1200128 ∧ n ≤ 5501098) → R M P L k n → cq_V l (dG g L P) X sLw cL_law 1559 (lwV b o i N.2) [] M k n Q) : cq_V l (dG g L P) X sLw cL_law 1078 (lwV b o i N.2) [] M k n Q := by
  unfold lawF_18 at h
  refine cq_aload_n 1 dL_law_1078 rfl ?_
  refine cq_cVi [] [] h (fun rs' h' => cCc_settles_m (g := dG g L P) (N := N.1) (H.1.2.1 L P) M rs' h') (cCc_rc0 (H.1.2.1 L P).2.2.2.2.2.2.2.1) dL_law_1079 glL_143 hglL_143 ⟨cx_le rfl, cx_le rfl⟩ rfl ⟨rfl, rfl⟩ hk rfl (cx_le rfl) (fun M1 v1 h => ?_)
  refine cq_aload_n 2 dL_law_1082 rfl ?_
  refine cq_cVi [] [.int v1] h (fun rs' h' => tw_settles_m (g := dG g L P) (N := N.1.1) (H.2.2 L P) M1 rs' h') (tw_rc (H.2.2 L P)) dL_law_1083 glL_146 hglL_146 ⟨cx_le rfl, cx_le rfl⟩ rfl ⟨rfl, rfl⟩ hk rfl (cx_le rfl) (fun M2 v2 h => ?_)
  refine cq_icmp_eq 1559 h dL_law_1086 rfl (fun h => ?_) (fun h => h.elim)
  exact K _ _ _ _ _ hk h
def lawF_19 (N : dNx) (M : cx_M) (P : dP) (L : dL) (k n : Nat) (o : Nat) (a : Nat → Int32) (R : cx_M → dP → dL → Nat → Nat → Prop) : Prop := dLw_toAim N (1200128 - k) (5501098 - n) M P L o (a 1) (a 2) (fun M1 P1 L1 v1 _ e k1 n1 => e = 0 ∧ cq_cal (tw_toAim N.1.1 M1 (a 1) (a 2)) fun M2 v2 => cq_cal (tw_thrown N.1.1 M2) fun M3 v3 => if v3 = v1 then (if v1 = 0 then ((o, (2, 0, 1)) ∈ L1 ∧ cq_ldw M3 (dc o) 1 0 fun w => if lg_cmp w (Int32.toInt64 v2) = 0 then R M3 P1 L1 (k + k1) (n + n1) else False) else R M3 P1 L1 (k + k1) (n + n1)) else False)
set_option maxRecDepth 100000 in
theorem lawC_19 {l : Launch} {g : cx_G} {X : cx_X} {N : dNx} {Q : State → Prop} {b m o i : Nat} {xs : Nat → Int32} {M : cx_M} {P : dP} {L : dL} {k n : Nat} {R : cx_M → dP → dL → Nat → Nat → Prop} (H : lwH l g N) (HS : lwS g b m xs) (hi : i + 6 ≤ m) (hm : m ≤ 384) (hk : k ≤ 1200128 ∧ n ≤ 5501098) (h : lawF_19 N M P L k n o (fun j => xs (i + j)) R) (K : ∀ M P L k n, (k ≤ 1200128 ∧ n ≤ 5501098) → R M P L k n → cq_V l (dG g L P) X sLw cL_law 1559 (lwV b o i N.2) [] M k n Q) : cq_V l (dG g L P) X sLw cL_law 1091 (lwV b o i N.2) [] M k n Q := by
  unfold lawF_19 at h
  refine cq_aload_n 1 dL_law_1091 rfl ?_
  refine cq_aload_n 0 dL_law_1092 rfl ?_
  refine cq_iload 4 dL_law_1093 rfl ?_
  refine cq_iconst 1 dL_law_1095 cx_ic_1 ?_
  refine cq_iadd dL_law_1096 ?_
  refine cq_elX (i := i) (c := 1) HS (nI_add i 1) (by omega) hm dL_law_1097 ?_
  refine cq_aload_n 0 dL_law_1098 rfl ?_
  refine cq_iload 4 dL_law_1099 rfl ?_
  refine cq_iconst 2 dL_law_1101 cx_ic_2 ?_
  refine cq_iadd dL_law_1102 ?_
  refine cq_elX (i := i) (c := 2) HS (nI_add i 2) (by omega) hm dL_law_1103 ?_
  refine cq_aload_n 3 dL_law_1104 rfl ?_
  refine cd_xSN [.ref (N.2 500), .int (xs (i + 1)), .int (xs (i + 2)), .ref o] [] (dLw_toAim_m (bc := 1200128 - k) (bs := 5501098 - n) H M P L o (xs (i + 1)) (xs (i + 2)) h) dL_law_1105 glL_147 hglL_147 ⟨cx_le rfl, cx_le rfl⟩ (cd_bud hk) rfl (cx_le rfl) (fun _ _ _ _ _ _ _ h => h.1) (fun M1 P1 L1 v1 r1 k1 n1 hk1 h => ?_)
  replace hk1 := cd_bk hk hk1
  replace h := h.2
  refine cq_istore [(5, .int v1), (0, .ref b), (1, .ref (N.2 500)), (2, .ref (N.2 60)), (3, .ref o), (4, .int (nI i))] dL_law_1108 (cx_lt rfl) rfl ?_
  refine cq_aload_n 3 dL_law_1110 rfl ?_
  refine cq_aload_n 1 dL_law_1111 rfl ?_
  refine cq_iload 5 dL_law_1112 rfl ?_
  refine cq_iconst 1 dL_law_1114 cx_ic_1 ?_
  refine cq_iadd dL_law_1115 ?_
  refine cq_elX (i := i) (c := 1) HS (nI_add i 1) (by omega) hm dL_law_1116 ?_
  refine cq_aload_n 1 dL_law_1117 rfl ?_
  refine cq_iload 5 dL_law_1118 rfl ?_
  refine cq_iconst 2 dL_law_1120 cx_ic_2 ?_
  refine cq_iadd dL_law_1121 ?_
  refine cq_elX (i := i) (c := 2) HS (nI_add i 2) (by omega) hm dL_law_1122 ?_
  refine cq_cVi [.int (xs (i + 1)), .int (xs (i + 2))] [] h (fun rs' h' => tw_toAim_m (g := dG g L1 P1) (N := N.1.1) (H.2.2 L1 P1) M1 (xs (i + 1)) (xs (i + 2)) rs' h') (tw_rc (H.2.2 L1 P1)) dL_law_1123 glL_149 hglL_149 ⟨cx_le rfl, cx_le rfl⟩ rfl ⟨rfl, rfl⟩ hk1 rfl (cx_le rfl) (fun M2 v2 h => ?_)
  refine cq_istore [(6, .int v2), (5, .int v1), (0, .ref b), (1, .ref (N.2 500)), (2, .ref (N.2 60)), (3, .ref o), (4, .int (nI i))] dL_law_1126 (cx_lt rfl) rfl ?_
  refine cq_aload_n 4 dL_law_1128 rfl ?_
  refine cq_cVi [] [] h (fun rs' h' => tw_thrown_m (g := dG g L1 P1) (N := N.1.1) (H.2.2 L1 P1) M2 rs' h') (tw_rc (H.2.2 L1 P1)) dL_law_1129 glL_85 hglL_85 ⟨cx_le rfl, cx_le rfl⟩ rfl ⟨rfl, rfl⟩ hk1 rfl (cx_le rfl) (fun M3 v3 h => ?_)
  refine cq_iload 1 dL_law_1132 rfl ?_
  refine cq_icmp_eq 1139 h dL_law_1134 rfl (fun h => ?_) (fun h => h.elim)
  refine cq_iload 1 dL_law_1139 rfl ?_
  refine cq_if_ne 1156 h dL_law_1141 rfl (fun h => ?_) (fun h => ?_)
  · refine cq_goto 1559 dL_law_1156 rfl ?_
    refine cq_sub (lv' := lwV b o i N.2) [2, 3, 4, 5, 6] rfl ?_
    exact K _ _ _ _ _ hk1 h
  · refine cq_aload_n 5 dL_law_1144 rfl ?_
    refine cq_iconst 0 dL_law_1145 cx_ic_0 ?_
    obtain ⟨hm9, h⟩ := h
    refine cq_nd H.1.1.1.1.1 (fun hn => cq_ldW h (dG_LI H.1.1.1.1.1 hn hm9) dL_law_1146 (fun w h => ?_))
    refine cq_iload 0 dL_law_1147 rfl ?_
    refine cq_i2l dL_law_1149 ?_
    refine cq_lcmp dL_law_1150 ?_
    refine cq_if_eq 1156 h dL_law_1151 rfl (fun h => ?_) (fun h => h.elim)
    refine cq_goto 1559 dL_law_1156 rfl ?_
    refine cq_sub (lv' := lwV b o i N.2) [2, 3, 4, 5, 6] rfl ?_
    exact K _ _ _ _ _ hk1 h
def lawF_20 (N : dNx) (M : cx_M) (P : dP) (L : dL) (k n : Nat) (o : Nat) (a : Nat → Int32) (R : cx_M → dP → dL → Nat → Nat → Prop) : Prop := dLw_toGain N (1200128 - k) (5501098 - n) M P L o (a 1) (a 2) (fun M1 P1 L1 v1 _ e k1 n1 => e = 0 ∧ cq_cal (tw_toGain N.1.1 M1 (a 1) (a 2)) fun M2 v2 => cq_cal (tw_thrown N.1.1 M2) fun M3 v3 => if v3 = v1 then (if v1 = 0 then ((o, (2, 0, 1)) ∈ L1 ∧ cq_ldw M3 (dc o) 1 0 fun w => if lg_cmp w (Int32.toInt64 v2) = 0 then R M3 P1 L1 (k + k1) (n + n1) else False) else R M3 P1 L1 (k + k1) (n + n1)) else False)
set_option maxRecDepth 100000 in
theorem lawC_20 {l : Launch} {g : cx_G} {X : cx_X} {N : dNx} {Q : State → Prop} {b m o i : Nat} {xs : Nat → Int32} {M : cx_M} {P : dP} {L : dL} {k n : Nat} {R : cx_M → dP → dL → Nat → Nat → Prop} (H : lwH l g N) (HS : lwS g b m xs) (hi : i + 6 ≤ m) (hm : m ≤ 384) (hk : k ≤ 1200128 ∧ n ≤ 5501098) (h : lawF_20 N M P L k n o (fun j => xs (i + j)) R) (K : ∀ M P L k n, (k ≤ 1200128 ∧ n ≤ 5501098) → R M P L k n → cq_V l (dG g L P) X sLw cL_law 1559 (lwV b o i N.2) [] M k n Q) : cq_V l (dG g L P) X sLw cL_law 1159 (lwV b o i N.2) [] M k n Q := by
  unfold lawF_20 at h
  refine cq_aload_n 1 dL_law_1159 rfl ?_
  refine cq_aload_n 0 dL_law_1160 rfl ?_
  refine cq_iload 4 dL_law_1161 rfl ?_
  refine cq_iconst 1 dL_law_1163 cx_ic_1 ?_
  refine cq_iadd dL_law_1164 ?_
  refine cq_elX (i := i) (c := 1) HS (nI_add i 1) (by omega) hm dL_law_1165 ?_
  refine cq_aload_n 0 dL_law_1166 rfl ?_
  refine cq_iload 4 dL_law_1167 rfl ?_
  refine cq_iconst 2 dL_law_1169 cx_ic_2 ?_
  refine cq_iadd dL_law_1170 ?_
  refine cq_elX (i := i) (c := 2) HS (nI_add i 2) (by omega) hm dL_law_1171 ?_
  refine cq_aload_n 3 dL_law_1172 rfl ?_
  refine cd_xSN [.ref (N.2 500), .int (xs (i + 1)), .int (xs (i + 2)), .ref o] [] (dLw_toGain_m (bc := 1200128 - k) (bs := 5501098 - n) H M P L o (xs (i + 1)) (xs (i + 2)) h) dL_law_1173 glL_150 hglL_150 ⟨cx_le rfl, cx_le rfl⟩ (cd_bud hk) rfl (cx_le rfl) (fun _ _ _ _ _ _ _ h => h.1) (fun M1 P1 L1 v1 r1 k1 n1 hk1 h => ?_)
  replace hk1 := cd_bk hk hk1
  replace h := h.2
  refine cq_istore [(5, .int v1), (0, .ref b), (1, .ref (N.2 500)), (2, .ref (N.2 60)), (3, .ref o), (4, .int (nI i))] dL_law_1176 (cx_lt rfl) rfl ?_
  refine cq_aload_n 3 dL_law_1178 rfl ?_
  refine cq_aload_n 1 dL_law_1179 rfl ?_
  refine cq_iload 5 dL_law_1180 rfl ?_
  refine cq_iconst 1 dL_law_1182 cx_ic_1 ?_
  refine cq_iadd dL_law_1183 ?_
  refine cq_elX (i := i) (c := 1) HS (nI_add i 1) (by omega) hm dL_law_1184 ?_
  refine cq_aload_n 1 dL_law_1185 rfl ?_
  refine cq_iload 5 dL_law_1186 rfl ?_
  refine cq_iconst 2 dL_law_1188 cx_ic_2 ?_
  refine cq_iadd dL_law_1189 ?_
  refine cq_elX (i := i) (c := 2) HS (nI_add i 2) (by omega) hm dL_law_1190 ?_
  refine cq_cVi [.int (xs (i + 1)), .int (xs (i + 2))] [] h (fun rs' h' => tw_toGain_m (g := dG g L1 P1) (N := N.1.1) (H.2.2 L1 P1) M1 (xs (i + 1)) (xs (i + 2)) rs' h') (tw_rc (H.2.2 L1 P1)) dL_law_1191 glL_152 hglL_152 ⟨cx_le rfl, cx_le rfl⟩ rfl ⟨rfl, rfl⟩ hk1 rfl (cx_le rfl) (fun M2 v2 h => ?_)
  refine cq_istore [(6, .int v2), (5, .int v1), (0, .ref b), (1, .ref (N.2 500)), (2, .ref (N.2 60)), (3, .ref o), (4, .int (nI i))] dL_law_1194 (cx_lt rfl) rfl ?_
  refine cq_aload_n 4 dL_law_1196 rfl ?_
  refine cq_cVi [] [] h (fun rs' h' => tw_thrown_m (g := dG g L1 P1) (N := N.1.1) (H.2.2 L1 P1) M2 rs' h') (tw_rc (H.2.2 L1 P1)) dL_law_1197 glL_85 hglL_85 ⟨cx_le rfl, cx_le rfl⟩ rfl ⟨rfl, rfl⟩ hk1 rfl (cx_le rfl) (fun M3 v3 h => ?_)
  refine cq_iload 1 dL_law_1200 rfl ?_
  refine cq_icmp_eq 1207 h dL_law_1202 rfl (fun h => ?_) (fun h => h.elim)
  refine cq_iload 1 dL_law_1207 rfl ?_
  refine cq_if_ne 1224 h dL_law_1209 rfl (fun h => ?_) (fun h => ?_)
  · refine cq_goto 1559 dL_law_1224 rfl ?_
    refine cq_sub (lv' := lwV b o i N.2) [2, 3, 4, 5, 6] rfl ?_
    exact K _ _ _ _ _ hk1 h
  · refine cq_aload_n 5 dL_law_1212 rfl ?_
    refine cq_iconst 0 dL_law_1213 cx_ic_0 ?_
    obtain ⟨hm9, h⟩ := h
    refine cq_nd H.1.1.1.1.1 (fun hn => cq_ldW h (dG_LI H.1.1.1.1.1 hn hm9) dL_law_1214 (fun w h => ?_))
    refine cq_iload 0 dL_law_1215 rfl ?_
    refine cq_i2l dL_law_1217 ?_
    refine cq_lcmp dL_law_1218 ?_
    refine cq_if_eq 1224 h dL_law_1219 rfl (fun h => ?_) (fun h => h.elim)
    refine cq_goto 1559 dL_law_1224 rfl ?_
    refine cq_sub (lv' := lwV b o i N.2) [2, 3, 4, 5, 6] rfl ?_
    exact K _ _ _ _ _ hk1 h
def lawF_21 (N : dNx) (M : cx_M) (P : dP) (L : dL) (k n : Nat) (o : Nat) (a : Nat → Int32) (R : cx_M → dP → dL → Nat → Nat → Prop) : Prop := cq_cal (cCc_note N.1 M (a 1) (a 2)) fun M1 v1 => cq_cal (tw_note N.1.1 M1 (a 1) (a 2)) fun M2 v2 => if v1 = v2 then R M2 P L k n else False
set_option maxRecDepth 100000 in
theorem lawC_21 {l : Launch} {g : cx_G} {X : cx_X} {N : dNx} {Q : State → Prop} {b m o i : Nat} {xs : Nat → Int32} {M : cx_M} {P : dP} {L : dL} {k n : Nat} {R : cx_M → dP → dL → Nat → Nat → Prop} (H : lwH l g N) (HS : lwS g b m xs) (hi : i + 6 ≤ m) (hm : m ≤ 384) (hk : k ≤ 1200128 ∧ n ≤ 5501098) (h : lawF_21 N M P L k n o (fun j => xs (i + j)) R) (K : ∀ M P L k n, (k ≤ 1200128 ∧ n ≤ 5501098) → R M P L k n → cq_V l (dG g L P) X sLw cL_law 1559 (lwV b o i N.2) [] M k n Q) : cq_V l (dG g L P) X sLw cL_law 1227 (lwV b o i N.2) [] M k n Q := by
  unfold lawF_21 at h
  refine cq_aload_n 1 dL_law_1227 rfl ?_
  refine cq_aload_n 0 dL_law_1228 rfl ?_
  refine cq_iload 4 dL_law_1229 rfl ?_
  refine cq_iconst 1 dL_law_1231 cx_ic_1 ?_
  refine cq_iadd dL_law_1232 ?_
  refine cq_elX (i := i) (c := 1) HS (nI_add i 1) (by omega) hm dL_law_1233 ?_
  refine cq_aload_n 0 dL_law_1234 rfl ?_
  refine cq_iload 4 dL_law_1235 rfl ?_
  refine cq_iconst 2 dL_law_1237 cx_ic_2 ?_
  refine cq_iadd dL_law_1238 ?_
  refine cq_elX (i := i) (c := 2) HS (nI_add i 2) (by omega) hm dL_law_1239 ?_
  refine cq_cVi [.int (xs (i + 1)), .int (xs (i + 2))] [] h (fun rs' h' => cCc_note_m (g := dG g L P) (N := N.1) (H.1.2.1 L P) M (xs (i + 1)) (xs (i + 2)) rs' h') (cCc_rc0 (H.1.2.1 L P).2.2.2.2.2.2.2.1) dL_law_1240 glL_153 hglL_153 ⟨cx_le rfl, cx_le rfl⟩ rfl ⟨rfl, rfl⟩ hk rfl (cx_le rfl) (fun M1 v1 h => ?_)
  refine cq_aload_n 2 dL_law_1243 rfl ?_
  refine cq_aload_n 0 dL_law_1244 rfl ?_
  refine cq_iload 4 dL_law_1245 rfl ?_
  refine cq_iconst 1 dL_law_1247 cx_ic_1 ?_
  refine cq_iadd dL_law_1248 ?_
  refine cq_elX (i := i) (c := 1) HS (nI_add i 1) (by omega) hm dL_law_1249 ?_
  refine cq_aload_n 0 dL_law_1250 rfl ?_
  refine cq_iload 4 dL_law_1251 rfl ?_
  refine cq_iconst 2 dL_law_1253 cx_ic_2 ?_
  refine cq_iadd dL_law_1254 ?_
  refine cq_elX (i := i) (c := 2) HS (nI_add i 2) (by omega) hm dL_law_1255 ?_
  refine cq_cVi [.int (xs (i + 1)), .int (xs (i + 2))] [.int v1] h (fun rs' h' => tw_note_m (g := dG g L P) (N := N.1.1) (H.2.2 L P) M1 (xs (i + 1)) (xs (i + 2)) rs' h') (tw_rc (H.2.2 L P)) dL_law_1256 glL_156 hglL_156 ⟨cx_le rfl, cx_le rfl⟩ rfl ⟨rfl, rfl⟩ hk rfl (cx_le rfl) (fun M2 v2 h => ?_)
  refine cq_icmp_eq 1559 h dL_law_1259 rfl (fun h => ?_) (fun h => h.elim)
  exact K _ _ _ _ _ hk h
def lawF_22 (N : dNx) (M : cx_M) (P : dP) (L : dL) (k n : Nat) (o : Nat) (a : Nat → Int32) (R : cx_M → dP → dL → Nat → Nat → Prop) : Prop := dLw_other N (1200128 - k) (5501098 - n) M P L o (a 1) (fun M1 P1 L1 v1 _ e k1 n1 => e = 0 ∧ cq_cal (tw_other N.1.1 M1 (a 1)) fun M2 v2 => cq_cal (tw_thrown N.1.1 M2) fun M3 v3 => if v3 = v1 then (if v1 = 0 then ((o, (2, 0, 1)) ∈ L1 ∧ cq_ldw M3 (dc o) 1 0 fun w => if lg_cmp w (Int32.toInt64 v2) = 0 then R M3 P1 L1 (k + k1) (n + n1) else False) else R M3 P1 L1 (k + k1) (n + n1)) else False)
set_option maxRecDepth 100000 in
theorem lawC_22 {l : Launch} {g : cx_G} {X : cx_X} {N : dNx} {Q : State → Prop} {b m o i : Nat} {xs : Nat → Int32} {M : cx_M} {P : dP} {L : dL} {k n : Nat} {R : cx_M → dP → dL → Nat → Nat → Prop} (H : lwH l g N) (HS : lwS g b m xs) (hi : i + 6 ≤ m) (hm : m ≤ 384) (hk : k ≤ 1200128 ∧ n ≤ 5501098) (h : lawF_22 N M P L k n o (fun j => xs (i + j)) R) (K : ∀ M P L k n, (k ≤ 1200128 ∧ n ≤ 5501098) → R M P L k n → cq_V l (dG g L P) X sLw cL_law 1559 (lwV b o i N.2) [] M k n Q) : cq_V l (dG g L P) X sLw cL_law 1264 (lwV b o i N.2) [] M k n Q := by
  unfold lawF_22 at h
  refine cq_aload_n 1 dL_law_1264 rfl ?_
  refine cq_aload_n 0 dL_law_1265 rfl ?_
  refine cq_iload 4 dL_law_1266 rfl ?_
  refine cq_iconst 1 dL_law_1268 cx_ic_1 ?_
  refine cq_iadd dL_law_1269 ?_
  refine cq_elX (i := i) (c := 1) HS (nI_add i 1) (by omega) hm dL_law_1270 ?_
  refine cq_aload_n 3 dL_law_1271 rfl ?_
  refine cd_xSN [.ref (N.2 500), .int (xs (i + 1)), .ref o] [] (dLw_other_m (bc := 1200128 - k) (bs := 5501098 - n) H M P L o (xs (i + 1)) h) dL_law_1272 glL_157 hglL_157 ⟨cx_le rfl, cx_le rfl⟩ (cd_bud hk) rfl (cx_le rfl) (fun _ _ _ _ _ _ _ h => h.1) (fun M1 P1 L1 v1 r1 k1 n1 hk1 h => ?_)
  replace hk1 := cd_bk hk hk1
  replace h := h.2
  refine cq_istore [(5, .int v1), (0, .ref b), (1, .ref (N.2 500)), (2, .ref (N.2 60)), (3, .ref o), (4, .int (nI i))] dL_law_1275 (cx_lt rfl) rfl ?_
  refine cq_aload_n 3 dL_law_1277 rfl ?_
  refine cq_aload_n 1 dL_law_1278 rfl ?_
  refine cq_iload 5 dL_law_1279 rfl ?_
  refine cq_iconst 1 dL_law_1281 cx_ic_1 ?_
  refine cq_iadd dL_law_1282 ?_
  refine cq_elX (i := i) (c := 1) HS (nI_add i 1) (by omega) hm dL_law_1283 ?_
  refine cq_cVi [.int (xs (i + 1))] [] h (fun rs' h' => tw_other_m (g := dG g L1 P1) (N := N.1.1) (H.2.2 L1 P1) M1 (xs (i + 1)) rs' h') (tw_rc (H.2.2 L1 P1)) dL_law_1284 glL_159 hglL_159 ⟨cx_le rfl, cx_le rfl⟩ rfl ⟨rfl, rfl⟩ hk1 rfl (cx_le rfl) (fun M2 v2 h => ?_)
  refine cq_istore [(6, .int v2), (5, .int v1), (0, .ref b), (1, .ref (N.2 500)), (2, .ref (N.2 60)), (3, .ref o), (4, .int (nI i))] dL_law_1287 (cx_lt rfl) rfl ?_
  refine cq_aload_n 4 dL_law_1289 rfl ?_
  refine cq_cVi [] [] h (fun rs' h' => tw_thrown_m (g := dG g L1 P1) (N := N.1.1) (H.2.2 L1 P1) M2 rs' h') (tw_rc (H.2.2 L1 P1)) dL_law_1290 glL_85 hglL_85 ⟨cx_le rfl, cx_le rfl⟩ rfl ⟨rfl, rfl⟩ hk1 rfl (cx_le rfl) (fun M3 v3 h => ?_)
  refine cq_iload 1 dL_law_1293 rfl ?_
  refine cq_icmp_eq 1300 h dL_law_1295 rfl (fun h => ?_) (fun h => h.elim)
  refine cq_iload 1 dL_law_1300 rfl ?_
  refine cq_if_ne 1317 h dL_law_1302 rfl (fun h => ?_) (fun h => ?_)
  · refine cq_goto 1559 dL_law_1317 rfl ?_
    refine cq_sub (lv' := lwV b o i N.2) [2, 3, 4, 5, 6] rfl ?_
    exact K _ _ _ _ _ hk1 h
  · refine cq_aload_n 5 dL_law_1305 rfl ?_
    refine cq_iconst 0 dL_law_1306 cx_ic_0 ?_
    obtain ⟨hm9, h⟩ := h
    refine cq_nd H.1.1.1.1.1 (fun hn => cq_ldW h (dG_LI H.1.1.1.1.1 hn hm9) dL_law_1307 (fun w h => ?_))
    refine cq_iload 0 dL_law_1308 rfl ?_
    refine cq_i2l dL_law_1310 ?_
    refine cq_lcmp dL_law_1311 ?_
    refine cq_if_eq 1317 h dL_law_1312 rfl (fun h => ?_) (fun h => h.elim)
    refine cq_goto 1559 dL_law_1317 rfl ?_
    refine cq_sub (lv' := lwV b o i N.2) [2, 3, 4, 5, 6] rfl ?_
    exact K _ _ _ _ _ hk1 h
def lawF_23 (N : dNx) (M : cx_M) (P : dP) (L : dL) (k n : Nat) (o : Nat) (a : Nat → Int32) (R : cx_M → dP → dL → Nat → Nat → Prop) : Prop := dLw_look N (1200128 - k) (5501098 - n) M P L o (a 1) (fun M1 P1 L1 v1 _ e k1 n1 => e = 0 ∧ cq_cal (tw_look N.1.1 M1 (a 1)) fun M2 v2 => cq_cal (tw_thrown N.1.1 M2) fun M3 v3 => if v3 = v1 then (if v1 = 0 then ((o, (2, 0, 1)) ∈ L1 ∧ cq_ldw M3 (dc o) 1 0 fun w => if lg_cmp w (Int32.toInt64 v2) = 0 then R M3 P1 L1 (k + k1) (n + n1) else False) else R M3 P1 L1 (k + k1) (n + n1)) else False)
set_option maxRecDepth 100000 in
theorem lawC_23 {l : Launch} {g : cx_G} {X : cx_X} {N : dNx} {Q : State → Prop} {b m o i : Nat} {xs : Nat → Int32} {M : cx_M} {P : dP} {L : dL} {k n : Nat} {R : cx_M → dP → dL → Nat → Nat → Prop} (H : lwH l g N) (HS : lwS g b m xs) (hi : i + 6 ≤ m) (hm : m ≤ 384) (hk : k ≤ 1200128 ∧ n ≤ 5501098) (h : lawF_23 N M P L k n o (fun j => xs (i + j)) R) (K : ∀ M P L k n, (k ≤ 1200128 ∧ n ≤ 5501098) → R M P L k n → cq_V l (dG g L P) X sLw cL_law 1559 (lwV b o i N.2) [] M k n Q) : cq_V l (dG g L P) X sLw cL_law 1320 (lwV b o i N.2) [] M k n Q := by
  unfold lawF_23 at h
  refine cq_aload_n 1 dL_law_1320 rfl ?_
  refine cq_aload_n 0 dL_law_1321 rfl ?_
  refine cq_iload 4 dL_law_1322 rfl ?_
  refine cq_iconst 1 dL_law_1324 cx_ic_1 ?_
  refine cq_iadd dL_law_1325 ?_
  refine cq_elX (i := i) (c := 1) HS (nI_add i 1) (by omega) hm dL_law_1326 ?_
  refine cq_aload_n 3 dL_law_1327 rfl ?_
  refine cd_xSN [.ref (N.2 500), .int (xs (i + 1)), .ref o] [] (dLw_look_m (bc := 1200128 - k) (bs := 5501098 - n) H M P L o (xs (i + 1)) h) dL_law_1328 glL_160 hglL_160 ⟨cx_le rfl, cx_le rfl⟩ (cd_bud hk) rfl (cx_le rfl) (fun _ _ _ _ _ _ _ h => h.1) (fun M1 P1 L1 v1 r1 k1 n1 hk1 h => ?_)
  replace hk1 := cd_bk hk hk1
  replace h := h.2
  refine cq_istore [(5, .int v1), (0, .ref b), (1, .ref (N.2 500)), (2, .ref (N.2 60)), (3, .ref o), (4, .int (nI i))] dL_law_1331 (cx_lt rfl) rfl ?_
  refine cq_aload_n 3 dL_law_1333 rfl ?_
  refine cq_aload_n 1 dL_law_1334 rfl ?_
  refine cq_iload 5 dL_law_1335 rfl ?_
  refine cq_iconst 1 dL_law_1337 cx_ic_1 ?_
  refine cq_iadd dL_law_1338 ?_
  refine cq_elX (i := i) (c := 1) HS (nI_add i 1) (by omega) hm dL_law_1339 ?_
  refine cq_cVi [.int (xs (i + 1))] [] h (fun rs' h' => tw_look_m (g := dG g L1 P1) (N := N.1.1) (H.2.2 L1 P1) M1 (xs (i + 1)) rs' h') (tw_rc (H.2.2 L1 P1)) dL_law_1340 glL_162 hglL_162 ⟨cx_le rfl, cx_le rfl⟩ rfl ⟨rfl, rfl⟩ hk1 rfl (cx_le rfl) (fun M2 v2 h => ?_)
  refine cq_istore [(6, .int v2), (5, .int v1), (0, .ref b), (1, .ref (N.2 500)), (2, .ref (N.2 60)), (3, .ref o), (4, .int (nI i))] dL_law_1343 (cx_lt rfl) rfl ?_
  refine cq_aload_n 4 dL_law_1345 rfl ?_
  refine cq_cVi [] [] h (fun rs' h' => tw_thrown_m (g := dG g L1 P1) (N := N.1.1) (H.2.2 L1 P1) M2 rs' h') (tw_rc (H.2.2 L1 P1)) dL_law_1346 glL_85 hglL_85 ⟨cx_le rfl, cx_le rfl⟩ rfl ⟨rfl, rfl⟩ hk1 rfl (cx_le rfl) (fun M3 v3 h => ?_)
  refine cq_iload 1 dL_law_1349 rfl ?_
  refine cq_icmp_eq 1356 h dL_law_1351 rfl (fun h => ?_) (fun h => h.elim)
  refine cq_iload 1 dL_law_1356 rfl ?_
  refine cq_if_ne 1373 h dL_law_1358 rfl (fun h => ?_) (fun h => ?_)
  · refine cq_goto 1559 dL_law_1373 rfl ?_
    refine cq_sub (lv' := lwV b o i N.2) [2, 3, 4, 5, 6] rfl ?_
    exact K _ _ _ _ _ hk1 h
  · refine cq_aload_n 5 dL_law_1361 rfl ?_
    refine cq_iconst 0 dL_law_1362 cx_ic_0 ?_
    obtain ⟨hm9, h⟩ := h
    refine cq_nd H.1.1.1.1.1 (fun hn => cq_ldW h (dG_LI H.1.1.1.1.1 hn hm9) dL_law_1363 (fun w h => ?_))
    refine cq_iload 0 dL_law_1364 rfl ?_
    refine cq_i2l dL_law_1366 ?_
    refine cq_lcmp dL_law_1367 ?_
    refine cq_if_eq 1373 h dL_law_1368 rfl (fun h => ?_) (fun h => h.elim)
    refine cq_goto 1559 dL_law_1373 rfl ?_
    refine cq_sub (lv' := lwV b o i N.2) [2, 3, 4, 5, 6] rfl ?_
    exact K _ _ _ _ _ hk1 h
def lawF_24 (N : dNx) (M : cx_M) (P : dP) (L : dL) (k n : Nat) (o : Nat) (a : Nat → Int32) (R : cx_M → dP → dL → Nat → Nat → Prop) : Prop := cq_cal (cCc_forget N.1 M) fun M1 _ => cq_cal (tw_forget N.1.1 M1) fun M2 _ => R M2 P L k n
set_option maxRecDepth 100000 in
theorem lawC_24 {l : Launch} {g : cx_G} {X : cx_X} {N : dNx} {Q : State → Prop} {b m o i : Nat} {xs : Nat → Int32} {M : cx_M} {P : dP} {L : dL} {k n : Nat} {R : cx_M → dP → dL → Nat → Nat → Prop} (H : lwH l g N) (HS : lwS g b m xs) (hi : i + 6 ≤ m) (hm : m ≤ 384) (hk : k ≤ 1200128 ∧ n ≤ 5501098) (h : lawF_24 N M P L k n o (fun j => xs (i + j)) R) (K : ∀ M P L k n, (k ≤ 1200128 ∧ n ≤ 5501098) → R M P L k n → cq_V l (dG g L P) X sLw cL_law 1559 (lwV b o i N.2) [] M k n Q) : cq_V l (dG g L P) X sLw cL_law 1376 (lwV b o i N.2) [] M k n Q := by
  unfold lawF_24 at h
  refine cq_aload_n 1 dL_law_1376 rfl ?_
  refine cq_cVv [] [] h (fun rs' h' => cCc_forget_m (g := dG g L P) (N := N.1) (H.1.2.1 L P) M rs' h') (cCc_rc0 (H.1.2.1 L P).2.2.2.2.2.2.2.1) dL_law_1377 glL_163 hglL_163 ⟨cx_le rfl, cx_le rfl⟩ rfl ⟨rfl, rfl⟩ hk rfl (cx_le rfl) (fun M1 _ h => ?_)
  refine cq_aload_n 2 dL_law_1380 rfl ?_
  refine cq_cVv [] [] h (fun rs' h' => tw_forget_m (g := dG g L P) (N := N.1.1) (H.2.2 L P) M1 rs' h') (tw_rc (H.2.2 L P)) dL_law_1381 glL_166 hglL_166 ⟨cx_le rfl, cx_le rfl⟩ rfl ⟨rfl, rfl⟩ hk rfl (cx_le rfl) (fun M2 _ h => ?_)
  refine cq_goto 1559 dL_law_1384 rfl ?_
  exact K _ _ _ _ _ hk h
def lawF_25 (N : dNx) (M : cx_M) (P : dP) (L : dL) (k n : Nat) (o : Nat) (a : Nat → Int32) (R : cx_M → dP → dL → Nat → Nat → Prop) : Prop := dLw_storms N (1200128 - k) (5501098 - n) M P L o (a 1) (a 2) (fun M1 P1 L1 v1 _ e k1 n1 => e = 0 ∧ cq_cal (tw_storms N.1.1 M1 (a 1) (a 2)) fun M2 v2 => cq_cal (tw_thrown N.1.1 M2) fun M3 v3 => if v3 = v1 then (if v1 = 0 then ((o, (2, 0, 1)) ∈ L1 ∧ cq_ldw M3 (dc o) 1 0 fun w => if lg_cmp w (Int32.toInt64 v2) = 0 then R M3 P1 L1 (k + k1) (n + n1) else False) else R M3 P1 L1 (k + k1) (n + n1)) else False)
set_option maxRecDepth 100000 in
theorem lawC_25 {l : Launch} {g : cx_G} {X : cx_X} {N : dNx} {Q : State → Prop} {b m o i : Nat} {xs : Nat → Int32} {M : cx_M} {P : dP} {L : dL} {k n : Nat} {R : cx_M → dP → dL → Nat → Nat → Prop} (H : lwH l g N) (HS : lwS g b m xs) (hi : i + 6 ≤ m) (hm : m ≤ 384) (hk : k ≤ 1200128 ∧ n ≤ 5501098) (h : lawF_25 N M P L k n o (fun j => xs (i + j)) R) (K : ∀ M P L k n, (k ≤ 1200128 ∧ n ≤ 5501098) → R M P L k n → cq_V l (dG g L P) X sLw cL_law 1559 (lwV b o i N.2) [] M k n Q) : cq_V l (dG g L P) X sLw cL_law 1387 (lwV b o i N.2) [] M k n Q := by
  unfold lawF_25 at h
  refine cq_aload_n 1 dL_law_1387 rfl ?_
  refine cq_aload_n 0 dL_law_1388 rfl ?_
  refine cq_iload 4 dL_law_1389 rfl ?_
  refine cq_iconst 1 dL_law_1391 cx_ic_1 ?_
  refine cq_iadd dL_law_1392 ?_
  refine cq_elX (i := i) (c := 1) HS (nI_add i 1) (by omega) hm dL_law_1393 ?_
  refine cq_aload_n 0 dL_law_1394 rfl ?_
  refine cq_iload 4 dL_law_1395 rfl ?_
  refine cq_iconst 2 dL_law_1397 cx_ic_2 ?_
  refine cq_iadd dL_law_1398 ?_
  refine cq_elX (i := i) (c := 2) HS (nI_add i 2) (by omega) hm dL_law_1399 ?_
  refine cq_aload_n 3 dL_law_1400 rfl ?_
  refine cd_xSN [.ref (N.2 500), .int (xs (i + 1)), .int (xs (i + 2)), .ref o] [] (dLw_storms_m (bc := 1200128 - k) (bs := 5501098 - n) H M P L o (xs (i + 1)) (xs (i + 2)) h) dL_law_1401 glL_167 hglL_167 ⟨cx_le rfl, cx_le rfl⟩ (cd_bud hk) rfl (cx_le rfl) (fun _ _ _ _ _ _ _ h => h.1) (fun M1 P1 L1 v1 r1 k1 n1 hk1 h => ?_)
  replace hk1 := cd_bk hk hk1
  replace h := h.2
  refine cq_istore [(5, .int v1), (0, .ref b), (1, .ref (N.2 500)), (2, .ref (N.2 60)), (3, .ref o), (4, .int (nI i))] dL_law_1404 (cx_lt rfl) rfl ?_
  refine cq_aload_n 3 dL_law_1406 rfl ?_
  refine cq_aload_n 1 dL_law_1407 rfl ?_
  refine cq_iload 5 dL_law_1408 rfl ?_
  refine cq_iconst 1 dL_law_1410 cx_ic_1 ?_
  refine cq_iadd dL_law_1411 ?_
  refine cq_elX (i := i) (c := 1) HS (nI_add i 1) (by omega) hm dL_law_1412 ?_
  refine cq_aload_n 1 dL_law_1413 rfl ?_
  refine cq_iload 5 dL_law_1414 rfl ?_
  refine cq_iconst 2 dL_law_1416 cx_ic_2 ?_
  refine cq_iadd dL_law_1417 ?_
  refine cq_elX (i := i) (c := 2) HS (nI_add i 2) (by omega) hm dL_law_1418 ?_
  refine cq_cVi [.int (xs (i + 1)), .int (xs (i + 2))] [] h (fun rs' h' => tw_storms_m (g := dG g L1 P1) (N := N.1.1) (H.2.2 L1 P1) M1 (xs (i + 1)) (xs (i + 2)) rs' h') (tw_rc (H.2.2 L1 P1)) dL_law_1419 glL_169 hglL_169 ⟨cx_le rfl, cx_le rfl⟩ rfl ⟨rfl, rfl⟩ hk1 rfl (cx_le rfl) (fun M2 v2 h => ?_)
  refine cq_istore [(6, .int v2), (5, .int v1), (0, .ref b), (1, .ref (N.2 500)), (2, .ref (N.2 60)), (3, .ref o), (4, .int (nI i))] dL_law_1422 (cx_lt rfl) rfl ?_
  refine cq_aload_n 4 dL_law_1424 rfl ?_
  refine cq_cVi [] [] h (fun rs' h' => tw_thrown_m (g := dG g L1 P1) (N := N.1.1) (H.2.2 L1 P1) M2 rs' h') (tw_rc (H.2.2 L1 P1)) dL_law_1425 glL_85 hglL_85 ⟨cx_le rfl, cx_le rfl⟩ rfl ⟨rfl, rfl⟩ hk1 rfl (cx_le rfl) (fun M3 v3 h => ?_)
  refine cq_iload 1 dL_law_1428 rfl ?_
  refine cq_icmp_eq 1435 h dL_law_1430 rfl (fun h => ?_) (fun h => h.elim)
  refine cq_iload 1 dL_law_1435 rfl ?_
  refine cq_if_ne 1452 h dL_law_1437 rfl (fun h => ?_) (fun h => ?_)
  · refine cq_goto 1559 dL_law_1452 rfl ?_
    refine cq_sub (lv' := lwV b o i N.2) [2, 3, 4, 5, 6] rfl ?_
    exact K _ _ _ _ _ hk1 h
  · refine cq_aload_n 5 dL_law_1440 rfl ?_
    refine cq_iconst 0 dL_law_1441 cx_ic_0 ?_
    obtain ⟨hm9, h⟩ := h
    refine cq_nd H.1.1.1.1.1 (fun hn => cq_ldW h (dG_LI H.1.1.1.1.1 hn hm9) dL_law_1442 (fun w h => ?_))
    refine cq_iload 0 dL_law_1443 rfl ?_
    refine cq_i2l dL_law_1445 ?_
    refine cq_lcmp dL_law_1446 ?_
    refine cq_if_eq 1452 h dL_law_1447 rfl (fun h => ?_) (fun h => h.elim)
    refine cq_goto 1559 dL_law_1452 rfl ?_
    refine cq_sub (lv' := lwV b o i N.2) [2, 3, 4, 5, 6] rfl ?_
    exact K _ _ _ _ _ hk1 h
def lawF_26 (N : dNx) (M : cx_M) (P : dP) (L : dL) (k n : Nat) (o : Nat) (a : Nat → Int32) (R : cx_M → dP → dL → Nat → Nat → Prop) : Prop := dLw_years N (1200128 - k) (5501098 - n) M P L o (a 1) (a 2) (a 3) (fun M1 P1 L1 v1 _ e k1 n1 => e = 0 ∧ cq_cal (tw_years N.1.1 M1 (a 1) (a 2) (a 3)) fun M2 v2 => cq_cal (tw_thrown N.1.1 M2) fun M3 v3 => if v3 = v1 then (if v1 = 0 then ((o, (2, 0, 1)) ∈ L1 ∧ cq_ldw M3 (dc o) 1 0 fun w => if lg_cmp w (Int32.toInt64 v2) = 0 then R M3 P1 L1 (k + k1) (n + n1) else False) else R M3 P1 L1 (k + k1) (n + n1)) else False)
set_option maxRecDepth 100000 in
theorem lawC_26 {l : Launch} {g : cx_G} {X : cx_X} {N : dNx} {Q : State → Prop} {b m o i : Nat} {xs : Nat → Int32} {M : cx_M} {P : dP} {L : dL} {k n : Nat} {R : cx_M → dP → dL → Nat → Nat → Prop} (H : lwH l g N) (HS : lwS g b m xs) (hi : i + 6 ≤ m) (hm : m ≤ 384) (hk : k ≤ 1200128 ∧ n ≤ 5501098) (h : lawF_26 N M P L k n o (fun j => xs (i + j)) R) (K : ∀ M P L k n, (k ≤ 1200128 ∧ n ≤ 5501098) → R M P L k n → cq_V l (dG g L P) X sLw cL_law 1559 (lwV b o i N.2) [] M k n Q) : cq_V l (dG g L P) X sLw cL_law 1455 (lwV b o i N.2) [] M k n Q := by
  unfold lawF_26 at h
  refine cq_aload_n 1 dL_law_1455 rfl ?_
  refine cq_aload_n 0 dL_law_1456 rfl ?_
  refine cq_iload 4 dL_law_1457 rfl ?_
  refine cq_iconst 1 dL_law_1459 cx_ic_1 ?_
  refine cq_iadd dL_law_1460 ?_
  refine cq_elX (i := i) (c := 1) HS (nI_add i 1) (by omega) hm dL_law_1461 ?_
  refine cq_aload_n 0 dL_law_1462 rfl ?_
  refine cq_iload 4 dL_law_1463 rfl ?_
  refine cq_iconst 2 dL_law_1465 cx_ic_2 ?_
  refine cq_iadd dL_law_1466 ?_
  refine cq_elX (i := i) (c := 2) HS (nI_add i 2) (by omega) hm dL_law_1467 ?_
  refine cq_aload_n 0 dL_law_1468 rfl ?_
  refine cq_iload 4 dL_law_1469 rfl ?_
  refine cq_iconst 3 dL_law_1471 cx_ic_3 ?_
  refine cq_iadd dL_law_1472 ?_
  refine cq_elX (i := i) (c := 3) HS (nI_add i 3) (by omega) hm dL_law_1473 ?_
  refine cq_aload_n 3 dL_law_1474 rfl ?_
  refine cd_xSN [.ref (N.2 500), .int (xs (i + 1)), .int (xs (i + 2)), .int (xs (i + 3)), .ref o] [] (dLw_years_m (bc := 1200128 - k) (bs := 5501098 - n) H M P L o (xs (i + 1)) (xs (i + 2)) (xs (i + 3)) h) dL_law_1475 glL_170 hglL_170 ⟨cx_le rfl, cx_le rfl⟩ (cd_bud hk) rfl (cx_le rfl) (fun _ _ _ _ _ _ _ h => h.1) (fun M1 P1 L1 v1 r1 k1 n1 hk1 h => ?_)
  replace hk1 := cd_bk hk hk1
  replace h := h.2
  refine cq_istore [(5, .int v1), (0, .ref b), (1, .ref (N.2 500)), (2, .ref (N.2 60)), (3, .ref o), (4, .int (nI i))] dL_law_1478 (cx_lt rfl) rfl ?_
  refine cq_aload_n 3 dL_law_1480 rfl ?_
  refine cq_aload_n 1 dL_law_1481 rfl ?_
  refine cq_iload 5 dL_law_1482 rfl ?_
  refine cq_iconst 1 dL_law_1484 cx_ic_1 ?_
  refine cq_iadd dL_law_1485 ?_
  refine cq_elX (i := i) (c := 1) HS (nI_add i 1) (by omega) hm dL_law_1486 ?_
  refine cq_aload_n 1 dL_law_1487 rfl ?_
  refine cq_iload 5 dL_law_1488 rfl ?_
  refine cq_iconst 2 dL_law_1490 cx_ic_2 ?_
  refine cq_iadd dL_law_1491 ?_
  refine cq_elX (i := i) (c := 2) HS (nI_add i 2) (by omega) hm dL_law_1492 ?_
  refine cq_aload_n 1 dL_law_1493 rfl ?_
  refine cq_iload 5 dL_law_1494 rfl ?_
  refine cq_iconst 3 dL_law_1496 cx_ic_3 ?_
  refine cq_iadd dL_law_1497 ?_
  refine cq_elX (i := i) (c := 3) HS (nI_add i 3) (by omega) hm dL_law_1498 ?_
  refine cq_cVi [.int (xs (i + 1)), .int (xs (i + 2)), .int (xs (i + 3))] [] h (fun rs' h' => tw_years_m (g := dG g L1 P1) (N := N.1.1) (H.2.2 L1 P1) M1 (xs (i + 1)) (xs (i + 2)) (xs (i + 3)) rs' h') (tw_rc (H.2.2 L1 P1)) dL_law_1499 glL_173 hglL_173 ⟨cx_le rfl, cx_le rfl⟩ rfl ⟨rfl, rfl⟩ hk1 rfl (cx_le rfl) (fun M2 v2 h => ?_)
  refine cq_istore [(6, .int v2), (5, .int v1), (0, .ref b), (1, .ref (N.2 500)), (2, .ref (N.2 60)), (3, .ref o), (4, .int (nI i))] dL_law_1502 (cx_lt rfl) rfl ?_
  refine cq_aload_n 4 dL_law_1504 rfl ?_
  refine cq_cVi [] [] h (fun rs' h' => tw_thrown_m (g := dG g L1 P1) (N := N.1.1) (H.2.2 L1 P1) M2 rs' h') (tw_rc (H.2.2 L1 P1)) dL_law_1505 glL_85 hglL_85 ⟨cx_le rfl, cx_le rfl⟩ rfl ⟨rfl, rfl⟩ hk1 rfl (cx_le rfl) (fun M3 v3 h => ?_)
  refine cq_iload 1 dL_law_1508 rfl ?_
  refine cq_icmp_eq 1515 h dL_law_1510 rfl (fun h => ?_) (fun h => h.elim)
  refine cq_iload 1 dL_law_1515 rfl ?_
  refine cq_if_ne 1532 h dL_law_1517 rfl (fun h => ?_) (fun h => ?_)
  · refine cq_goto 1559 dL_law_1532 rfl ?_
    refine cq_sub (lv' := lwV b o i N.2) [2, 3, 4, 5, 6] rfl ?_
    exact K _ _ _ _ _ hk1 h
  · refine cq_aload_n 5 dL_law_1520 rfl ?_
    refine cq_iconst 0 dL_law_1521 cx_ic_0 ?_
    obtain ⟨hm9, h⟩ := h
    refine cq_nd H.1.1.1.1.1 (fun hn => cq_ldW h (dG_LI H.1.1.1.1.1 hn hm9) dL_law_1522 (fun w h => ?_))
    refine cq_iload 0 dL_law_1523 rfl ?_
    refine cq_i2l dL_law_1525 ?_
    refine cq_lcmp dL_law_1526 ?_
    refine cq_if_eq 1532 h dL_law_1527 rfl (fun h => ?_) (fun h => h.elim)
    refine cq_goto 1559 dL_law_1532 rfl ?_
    refine cq_sub (lv' := lwV b o i N.2) [2, 3, 4, 5, 6] rfl ?_
    exact K _ _ _ _ _ hk1 h
def lawF_27 (N : dNx) (M : cx_M) (P : dP) (L : dL) (k n : Nat) (o : Nat) (a : Nat → Int32) (R : cx_M → dP → dL → Nat → Nat → Prop) : Prop := cq_cal (cCc_image N.1 M) fun M1 _ => cq_cal (tw_image N.1.1 M1) fun M2 _ => R M2 P L k n
set_option maxRecDepth 100000 in
theorem lawC_27 {l : Launch} {g : cx_G} {X : cx_X} {N : dNx} {Q : State → Prop} {b m o i : Nat} {xs : Nat → Int32} {M : cx_M} {P : dP} {L : dL} {k n : Nat} {R : cx_M → dP → dL → Nat → Nat → Prop} (H : lwH l g N) (HS : lwS g b m xs) (hi : i + 6 ≤ m) (hm : m ≤ 384) (hk : k ≤ 1200128 ∧ n ≤ 5501098) (h : lawF_27 N M P L k n o (fun j => xs (i + j)) R) (K : ∀ M P L k n, (k ≤ 1200128 ∧ n ≤ 5501098) → R M P L k n → cq_V l (dG g L P) X sLw cL_law 1559 (lwV b o i N.2) [] M k n Q) : cq_V l (dG g L P) X sLw cL_law 1535 (lwV b o i N.2) [] M k n Q := by
  unfold lawF_27 at h
  refine cq_aload_n 1 dL_law_1535 rfl ?_
  refine cq_cVv [] [] h (fun rs' h' => cCc_image_m (g := dG g L P) (N := N.1) (H.1.2.1 L P) M rs' h') (cCc_rc0 (H.1.2.1 L P).2.2.2.2.2.2.2.1) dL_law_1536 glL_174 hglL_174 ⟨cx_le rfl, cx_le rfl⟩ rfl ⟨rfl, rfl⟩ hk rfl (cx_le rfl) (fun M1 _ h => ?_)
  refine cq_aload_n 2 dL_law_1539 rfl ?_
  refine cq_cVv [] [] h (fun rs' h' => tw_image_m (g := dG g L P) (N := N.1.1) (H.2.2 L P) M1 rs' h') (tw_rc (H.2.2 L P)) dL_law_1540 glL_177 hglL_177 ⟨cx_le rfl, cx_le rfl⟩ rfl ⟨rfl, rfl⟩ hk rfl (cx_le rfl) (fun M2 _ h => ?_)
  refine cq_goto 1559 dL_law_1543 rfl ?_
  exact K _ _ _ _ _ hk h
def lawF_28 (N : dNx) (M : cx_M) (P : dP) (L : dL) (k n : Nat) (o : Nat) (a : Nat → Int32) (R : cx_M → dP → dL → Nat → Nat → Prop) : Prop := cq_cal (cCc_restore N.1 M) fun M1 v1 => cq_cal (tw_restore N.1.1 M1) fun M2 v2 => if v1 = v2 then R M2 P L k n else False
set_option maxRecDepth 100000 in
theorem lawC_28 {l : Launch} {g : cx_G} {X : cx_X} {N : dNx} {Q : State → Prop} {b m o i : Nat} {xs : Nat → Int32} {M : cx_M} {P : dP} {L : dL} {k n : Nat} {R : cx_M → dP → dL → Nat → Nat → Prop} (H : lwH l g N) (HS : lwS g b m xs) (hi : i + 6 ≤ m) (hm : m ≤ 384) (hk : k ≤ 1200128 ∧ n ≤ 5501098) (h : lawF_28 N M P L k n o (fun j => xs (i + j)) R) (K : ∀ M P L k n, (k ≤ 1200128 ∧ n ≤ 5501098) → R M P L k n → cq_V l (dG g L P) X sLw cL_law 1559 (lwV b o i N.2) [] M k n Q) : cq_V l (dG g L P) X sLw cL_law 1546 (lwV b o i N.2) [] M k n Q := by
  unfold lawF_28 at h
  refine cq_aload_n 1 dL_law_1546 rfl ?_
  refine cq_cVi [] [] h (fun rs' h' => cCc_restore_m (g := dG g L P) (N := N.1) (H.1.2.1 L P) M rs' h') (cCc_rc0 (H.1.2.1 L P).2.2.2.2.2.2.2.1) dL_law_1547 glL_178 hglL_178 ⟨cx_le rfl, cx_le rfl⟩ rfl ⟨rfl, rfl⟩ hk rfl (cx_le rfl) (fun M1 v1 h => ?_)
  refine cq_aload_n 2 dL_law_1550 rfl ?_
  refine cq_cVi [] [.int v1] h (fun rs' h' => tw_restore_m (g := dG g L P) (N := N.1.1) (H.2.2 L P) M1 rs' h') (tw_rc (H.2.2 L P)) dL_law_1551 glL_182 hglL_182 ⟨cx_le rfl, cx_le rfl⟩ rfl ⟨rfl, rfl⟩ hk rfl (cx_le rfl) (fun M2 v2 h => ?_)
  refine cq_icmp_eq 1559 h dL_law_1554 rfl (fun h => ?_) (fun h => h.elim)
  exact K _ _ _ _ _ hk h
