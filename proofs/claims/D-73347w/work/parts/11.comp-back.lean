theorem g_X1_180 : GoodIn lw_all (va_wsS RX1 180 yX1_within (ws_ yX1_within cX1_within 3 (some .boolean))) := lw_S q1085 q1086 q116 q1087
theorem hg_X1_180 : yX1_within.cls ≠ "java/lang/invoke/MethodHandle" ∧ yX1_within.cls ≠ "java/lang/invoke/VarHandle" ∧ (parseMethodDescriptor yX1_within.desc).map (fun d => d.parameters.length) = some 3 := by decide +kernel
theorem g_X1_184 : GoodIn lw_all (va_wsS RX1 184 yX1_there (ws_ yX1_there cX1_there 1 none)) := lw_S q1753 q1754 q116 q1755
theorem hg_X1_184 : yX1_there.cls ≠ "java/lang/invoke/MethodHandle" ∧ yX1_there.cls ≠ "java/lang/invoke/VarHandle" ∧ (parseMethodDescriptor yX1_there.desc).map (fun d => d.parameters.length) = some 1 := by decide +kernel
theorem g_X1_214 : GoodIn lw_all (wsV RX1 214 RX6 yX6_level (ws_ yX6_level cX6_level 4 (some .int))) := lw_V q985 q986 q987 q141 q988
theorem hg_X1_214 : yX6_level.cls = RX6 ∧ yX6_level.cls ≠ "java/lang/invoke/MethodHandle" ∧ yX6_level.cls ≠ "java/lang/invoke/VarHandle" ∧ (parseMethodDescriptor yX6_level.desc).map (fun d => d.parameters.length) = some 1 := by decide +kernel
theorem g_X1_227 : GoodIn lw_all (va_wsS RX1 227 yX1_regained (ws_ yX1_regained cX1_regained 2 (some .int))) := lw_S q1771 q1772 q116 q1773
theorem hg_X1_227 : yX1_regained.cls ≠ "java/lang/invoke/MethodHandle" ∧ yX1_regained.cls ≠ "java/lang/invoke/VarHandle" ∧ (parseMethodDescriptor yX1_regained.desc).map (fun d => d.parameters.length) = some 2 := by decide +kernel
theorem g_X1_240 : GoodIn lw_all (wsV RX1 240 RX6 yX6_kept (ws_ yX6_kept cX6_kept 2 (some .int))) := lw_V q1774 q1775 q1776 q141 q1777
theorem hg_X1_240 : yX6_kept.cls = RX6 ∧ yX6_kept.cls ≠ "java/lang/invoke/MethodHandle" ∧ yX6_kept.cls ≠ "java/lang/invoke/VarHandle" ∧ (parseMethodDescriptor yX6_kept.desc).map (fun d => d.parameters.length) = some 1 := by decide +kernel
theorem g_J19_139 : GoodIn lw_all (wsV RJ19 139 RJ19 yJ19_ensureCapacity (ws_ yJ19_ensureCapacity cJ19_ensureCapacity 3 none)) := lw_V q1136 q1138 qs11 q142 q1139
theorem hg_J19_139 : yJ19_ensureCapacity.cls = RJ19 ∧ yJ19_ensureCapacity.cls ≠ "java/lang/invoke/MethodHandle" ∧ yJ19_ensureCapacity.cls ≠ "java/lang/invoke/VarHandle" ∧ (parseMethodDescriptor yJ19_ensureCapacity.desc).map (fun d => d.parameters.length) = some 1 := by decide +kernel
theorem g_J19_56 : GoodIn lw_all (wsV RJ19 56 RJ19 yJ19_checkInvariants (ws_ yJ19_checkInvariants cJ19_checkInvariants 1 none)) := lw_V q1150 q1152 qs12 q142 q1153
theorem hg_J19_56 : yJ19_checkInvariants.cls = RJ19 ∧ yJ19_checkInvariants.cls ≠ "java/lang/invoke/MethodHandle" ∧ yJ19_checkInvariants.cls ≠ "java/lang/invoke/VarHandle" ∧ (parseMethodDescriptor yJ19_checkInvariants.desc).map (fun d => d.parameters.length) = some 0 := by decide +kernel
theorem g_X6_160 : GoodIn lw_all (va_wsS RX6 160 yX6_copies (ws_ yX6_copies cX6_copies 2 none)) := lw_S q1123 q1124 q141 q1125
theorem hg_X6_160 : yX6_copies.cls ≠ "java/lang/invoke/MethodHandle" ∧ yX6_copies.cls ≠ "java/lang/invoke/VarHandle" ∧ (parseMethodDescriptor yX6_copies.desc).map (fun d => d.parameters.length) = some 2 := by decide +kernel
theorem g_X6_164 : GoodIn lw_all (wsV RX6 164 RJ19 yJ19_clear (ws_ yJ19_clear cJ19_clear 1 none)) := lw_V q1127 q1128 q1129 q142 q1130
theorem hg_X6_164 : yJ19_clear.cls = RJ19 ∧ yJ19_clear.cls ≠ "java/lang/invoke/MethodHandle" ∧ yJ19_clear.cls ≠ "java/lang/invoke/VarHandle" ∧ (parseMethodDescriptor yJ19_clear.desc).map (fun d => d.parameters.length) = some 0 := by decide +kernel
theorem g_X6_167 : GoodIn lw_all (wsV RX6 167 RJ19 yJ19_or (ws_ yJ19_or cJ19_or 4 none)) := lw_V q1131 q1132 q1133 q142 q1134
theorem hg_X6_167 : yJ19_or.cls = RJ19 ∧ yJ19_or.cls ≠ "java/lang/invoke/MethodHandle" ∧ yJ19_or.cls ≠ "java/lang/invoke/VarHandle" ∧ (parseMethodDescriptor yJ19_or.desc).map (fun d => d.parameters.length) = some 1 := by decide +kernel
theorem g_X5_52 : GoodIn lw_all (wsV RX5 52 RX6 yX6_like (ws_ yX6_like cX6_like 2 none)) := lw_V q1119 q1120 q1121 q141 q1122
theorem hg_X5_52 : yX6_like.cls = RX6 ∧ yX6_like.cls ≠ "java/lang/invoke/MethodHandle" ∧ yX6_like.cls ≠ "java/lang/invoke/VarHandle" ∧ (parseMethodDescriptor yX6_like.desc).map (fun d => d.parameters.length) = some 1 := by decide +kernel
theorem g_X1_382 : GoodIn lw_all (wsV RX1 382 RX1 yX1_refuses (ws_ yX1_refuses cX1_refuses 2 (some .int))) := lw_V q1156 q1158 qs13 q116 q1159
theorem hg_X1_382 : yX1_refuses.cls = RX1 ∧ yX1_refuses.cls ≠ "java/lang/invoke/MethodHandle" ∧ yX1_refuses.cls ≠ "java/lang/invoke/VarHandle" ∧ (parseMethodDescriptor yX1_refuses.desc).map (fun d => d.parameters.length) = some 1 := by decide +kernel
theorem g_X1_379 : GoodIn lw_all (wsV RX1 379 RX5 yX5_keeps (ws_ yX5_keeps cX5_keeps 1 none)) := lw_V q1092 q1093 q1094 q140 q1095
theorem hg_X1_379 : yX5_keeps.cls = RX5 ∧ yX5_keeps.cls ≠ "java/lang/invoke/MethodHandle" ∧ yX5_keeps.cls ≠ "java/lang/invoke/VarHandle" ∧ (parseMethodDescriptor yX5_keeps.desc).map (fun d => d.parameters.length) = some 0 := by decide +kernel
theorem g_X1_134 : GoodIn lw_all (wsV RX1 134 RX1 yX1_lay (ws_ yX1_lay cX1_lay 3 none)) := lw_V q1073 q1075 qs8 q116 q1076
theorem hg_X1_134 : yX1_lay.cls = RX1 ∧ yX1_lay.cls ≠ "java/lang/invoke/MethodHandle" ∧ yX1_lay.cls ≠ "java/lang/invoke/VarHandle" ∧ (parseMethodDescriptor yX1_lay.desc).map (fun d => d.parameters.length) = some 1 := by decide +kernel
theorem g_X1_121 : GoodIn lw_all (wsV RX1 121 RX6 yX6_back (ws_ yX6_back cX6_back 2 (some .int))) := lw_V q961 q962 q963 q141 q964
theorem hg_X1_121 : yX6_back.cls = RX6 ∧ yX6_back.cls ≠ "java/lang/invoke/MethodHandle" ∧ yX6_back.cls ≠ "java/lang/invoke/VarHandle" ∧ (parseMethodDescriptor yX6_back.desc).map (fun d => d.parameters.length) = some 1 := by decide +kernel
theorem g_X7_22 : GoodIn lw_all (wsV RX7 22 RX7 yX7_has (ws_ yX7_has cX7_has 2 (some .boolean))) := lw_V q1199 q1201 qs17 q144 q1202
theorem hg_X7_22 : yX7_has.cls = RX7 ∧ yX7_has.cls ≠ "java/lang/invoke/MethodHandle" ∧ yX7_has.cls ≠ "java/lang/invoke/VarHandle" ∧ (parseMethodDescriptor yX7_has.desc).map (fun d => d.parameters.length) = some 1 := by decide +kernel
theorem g_X6_182 : GoodIn lw_all (wsV RX6 182 RX7 yX7_delay (ws_ yX7_delay cX7_delay 2 (some .int))) := lw_V q1195 q1196 q1197 q144 q1198
theorem hg_X6_182 : yX7_delay.cls = RX7 ∧ yX7_delay.cls ≠ "java/lang/invoke/MethodHandle" ∧ yX7_delay.cls ≠ "java/lang/invoke/VarHandle" ∧ (parseMethodDescriptor yX7_delay.desc).map (fun d => d.parameters.length) = some 1 := by decide +kernel
theorem g_X6_206 : GoodIn lw_all (wsV RX6 206 RX7 yX7_keepsDelay (ws_ yX7_keepsDelay cX7_keepsDelay 3 none)) := lw_V q1222 q1223 q1224 q144 q1225
theorem hg_X6_206 : yX7_keepsDelay.cls = RX7 ∧ yX7_keepsDelay.cls ≠ "java/lang/invoke/MethodHandle" ∧ yX7_keepsDelay.cls ≠ "java/lang/invoke/VarHandle" ∧ (parseMethodDescriptor yX7_keepsDelay.desc).map (fun d => d.parameters.length) = some 2 := by decide +kernel
theorem g_X6_212 : GoodIn lw_all (wsV RX6 212 RX7 yX7_lost (ws_ yX7_lost cX7_lost 2 (some .int))) := lw_V q1234 q1235 q1236 q144 q1237
theorem hg_X6_212 : yX7_lost.cls = RX7 ∧ yX7_lost.cls ≠ "java/lang/invoke/MethodHandle" ∧ yX7_lost.cls ≠ "java/lang/invoke/VarHandle" ∧ (parseMethodDescriptor yX7_lost.desc).map (fun d => d.parameters.length) = some 1 := by decide +kernel
theorem g_X6_214 : GoodIn lw_all (wsV RX6 214 RX7 yX7_keepsLost (ws_ yX7_keepsLost cX7_keepsLost 3 none)) := lw_V q1238 q1239 q1240 q144 q1241
theorem hg_X6_214 : yX7_keepsLost.cls = RX7 ∧ yX7_keepsLost.cls ≠ "java/lang/invoke/MethodHandle" ∧ yX7_keepsLost.cls ≠ "java/lang/invoke/VarHandle" ∧ (parseMethodDescriptor yX7_keepsLost.desc).map (fun d => d.parameters.length) = some 2 := by decide +kernel
theorem g_X6_221 : GoodIn lw_all (wsV RX6 221 RX6 yX6_isLostBy (ws_ yX6_isLostBy cX6_isLostBy 3 (some .boolean))) := lw_V q1230 q1232 qs19 q141 q1233
theorem hg_X6_221 : yX6_isLostBy.cls = RX6 ∧ yX6_isLostBy.cls ≠ "java/lang/invoke/MethodHandle" ∧ yX6_isLostBy.cls ≠ "java/lang/invoke/VarHandle" ∧ (parseMethodDescriptor yX6_isLostBy.desc).map (fun d => d.parameters.length) = some 1 := by decide +kernel
theorem g_X6_231 : GoodIn lw_all (wsV RX6 231 RX3 yX3_sees (ws_ yX3_sees cX3_sees 3 none)) := lw_V q1175 q1176 q1177 q137 q1178
theorem hg_X6_231 : yX3_sees.cls = RX3 ∧ yX3_sees.cls ≠ "java/lang/invoke/MethodHandle" ∧ yX3_sees.cls ≠ "java/lang/invoke/VarHandle" ∧ (parseMethodDescriptor yX3_sees.desc).map (fun d => d.parameters.length) = some 2 := by decide +kernel
theorem g_X6_246 : GoodIn lw_all (wsV RX6 246 RX6 yX6_delayBy (ws_ yX6_delayBy cX6_delayBy 3 (some .int))) := lw_V q1191 q1193 qs16 q141 q1194
theorem hg_X6_246 : yX6_delayBy.cls = RX6 ∧ yX6_delayBy.cls ≠ "java/lang/invoke/MethodHandle" ∧ yX6_delayBy.cls ≠ "java/lang/invoke/VarHandle" ∧ (parseMethodDescriptor yX6_delayBy.desc).map (fun d => d.parameters.length) = some 1 := by decide +kernel
theorem g_X6_250 : GoodIn lw_all (wsV RX6 250 RX6 yX6_isLost (ws_ yX6_isLost cX6_isLost 3 (some .boolean))) := lw_V q1226 q1228 qs18 q141 q1229
theorem hg_X6_250 : yX6_isLost.cls = RX6 ∧ yX6_isLost.cls ≠ "java/lang/invoke/MethodHandle" ∧ yX6_isLost.cls ≠ "java/lang/invoke/VarHandle" ∧ (parseMethodDescriptor yX6_isLost.desc).map (fun d => d.parameters.length) = some 1 := by decide +kernel
theorem g_X6_260 : GoodIn lw_all (wsV RX6 260 RX6 yX6_comes (ws_ yX6_comes cX6_comes 7 none)) := lw_V q1246 q1248 qs21 q141 q1249
theorem hg_X6_260 : yX6_comes.cls = RX6 ∧ yX6_comes.cls ≠ "java/lang/invoke/MethodHandle" ∧ yX6_comes.cls ≠ "java/lang/invoke/VarHandle" ∧ (parseMethodDescriptor yX6_comes.desc).map (fun d => d.parameters.length) = some 3 := by decide +kernel
theorem g_J19_52 : GoodIn lw_all (va_wsS RJ19 52 yJ19_wordIndex (ws_ yJ19_wordIndex cJ19_wordIndex 1 (some .int))) := lw_S q634 q635 q142 q636
theorem hg_J19_52 : yJ19_wordIndex.cls ≠ "java/lang/invoke/MethodHandle" ∧ yJ19_wordIndex.cls ≠ "java/lang/invoke/VarHandle" ∧ (parseMethodDescriptor yJ19_wordIndex.desc).map (fun d => d.parameters.length) = some 1 := by decide +kernel
theorem g_J19_155 : GoodIn lw_all (wsV RJ19 155 RJ19 yJ19_expandTo (ws_ yJ19_expandTo cJ19_expandTo 3 none)) := lw_V q1289 q1291 qs24 q142 q1292
theorem hg_J19_155 : yJ19_expandTo.cls = RJ19 ∧ yJ19_expandTo.cls ≠ "java/lang/invoke/MethodHandle" ∧ yJ19_expandTo.cls ≠ "java/lang/invoke/VarHandle" ∧ (parseMethodDescriptor yJ19_expandTo.desc).map (fun d => d.parameters.length) = some 1 := by decide +kernel
theorem g_J19_158 : GoodIn lw_all (wsV RJ19 158 RJ19 yJ19_recalculateWordsInUse (ws_ yJ19_recalculateWordsInUse cJ19_recalculateWordsInUse 2 none)) := lw_V q1298 q1300 qs25 q142 q1301
theorem hg_J19_158 : yJ19_recalculateWordsInUse.cls = RJ19 ∧ yJ19_recalculateWordsInUse.cls ≠ "java/lang/invoke/MethodHandle" ∧ yJ19_recalculateWordsInUse.cls ≠ "java/lang/invoke/VarHandle" ∧ (parseMethodDescriptor yJ19_recalculateWordsInUse.desc).map (fun d => d.parameters.length) = some 0 := by decide +kernel
theorem g_J19_170 : GoodIn lw_all (wsV RJ19 170 RJ19 yJ19_clear_2 (ws_ yJ19_clear_2 cJ19_clear_2 3 none)) := lw_V q1293 q1294 q1295 q142 q1296
theorem hg_J19_170 : yJ19_clear_2.cls = RJ19 ∧ yJ19_clear_2.cls ≠ "java/lang/invoke/MethodHandle" ∧ yJ19_clear_2.cls ≠ "java/lang/invoke/VarHandle" ∧ (parseMethodDescriptor yJ19_clear_2.desc).map (fun d => d.parameters.length) = some 1 := by decide +kernel
theorem g_J19_167 : GoodIn lw_all (wsV RJ19 167 RJ19 yJ19_set_2 (ws_ yJ19_set_2 cJ19_set_2 3 none)) := lw_V q1285 q1286 q1287 q142 q1288
theorem hg_J19_167 : yJ19_set_2.cls = RJ19 ∧ yJ19_set_2.cls ≠ "java/lang/invoke/MethodHandle" ∧ yJ19_set_2.cls ≠ "java/lang/invoke/VarHandle" ∧ (parseMethodDescriptor yJ19_set_2.desc).map (fun d => d.parameters.length) = some 1 := by decide +kernel
theorem g_X6_264 : GoodIn lw_all (wsV RX6 264 RX2 yX2_octet (ws_ yX2_octet cX2_octet 2 (some .int))) := lw_V q1259 q1260 q1261 q117 q1262
theorem hg_X6_264 : yX2_octet.cls = RX2 ∧ yX2_octet.cls ≠ "java/lang/invoke/MethodHandle" ∧ yX2_octet.cls ≠ "java/lang/invoke/VarHandle" ∧ (parseMethodDescriptor yX2_octet.desc).map (fun d => d.parameters.length) = some 1 := by decide +kernel
theorem g_X6_272 : GoodIn lw_all (wsV RX6 272 RJ19 yJ19_set (ws_ yJ19_set cJ19_set 3 none)) := lw_V q1281 q1282 q1283 q142 q1284
theorem hg_X6_272 : yJ19_set.cls = RJ19 ∧ yJ19_set.cls ≠ "java/lang/invoke/MethodHandle" ∧ yJ19_set.cls ≠ "java/lang/invoke/VarHandle" ∧ (parseMethodDescriptor yJ19_set.desc).map (fun d => d.parameters.length) = some 2 := by decide +kernel
theorem g_X6_151 : GoodIn lw_all (wsV RX6 151 RX6 yX6_empties (ws_ yX6_empties cX6_empties 2 none)) := lw_V q1013 q1015 qs7 q141 q1016
theorem hg_X6_151 : yX6_empties.cls = RX6 ∧ yX6_empties.cls ≠ "java/lang/invoke/MethodHandle" ∧ yX6_empties.cls ≠ "java/lang/invoke/VarHandle" ∧ (parseMethodDescriptor yX6_empties.desc).map (fun d => d.parameters.length) = some 0 := by decide +kernel
theorem g_X6_279 : GoodIn lw_all (wsV RX6 279 RX6 yX6_come (ws_ yX6_come cX6_come 4 none)) := lw_V q1242 q1244 qs20 q141 q1245
theorem hg_X6_279 : yX6_come.cls = RX6 ∧ yX6_come.cls ≠ "java/lang/invoke/MethodHandle" ∧ yX6_come.cls ≠ "java/lang/invoke/VarHandle" ∧ (parseMethodDescriptor yX6_come.desc).map (fun d => d.parameters.length) = some 1 := by decide +kernel
theorem g_X6_282 : GoodIn lw_all (wsV RX6 282 RX6 yX6_level (ws_ yX6_level cX6_level 4 (some .int))) := lw_V q1250 q986 q987 q141 q988
theorem hg_X6_282 : yX6_level.cls = RX6 ∧ yX6_level.cls ≠ "java/lang/invoke/MethodHandle" ∧ yX6_level.cls ≠ "java/lang/invoke/VarHandle" ∧ (parseMethodDescriptor yX6_level.desc).map (fun d => d.parameters.length) = some 1 := by decide +kernel
theorem g_X6_275 : GoodIn lw_all (wsV RX6 275 RX6 yX6_sends (ws_ yX6_sends cX6_sends 3 none)) := lw_V q1169 q1171 qs15 q141 q1172
theorem hg_X6_275 : yX6_sends.cls = RX6 ∧ yX6_sends.cls ≠ "java/lang/invoke/MethodHandle" ∧ yX6_sends.cls ≠ "java/lang/invoke/VarHandle" ∧ (parseMethodDescriptor yX6_sends.desc).map (fun d => d.parameters.length) = some 1 := by decide +kernel
theorem g_X6_288 : GoodIn lw_all (wsV RX6 288 RX6 yX6_steers (ws_ yX6_steers cX6_steers 3 none)) := lw_V q1251 q1253 qs22 q141 q1254
theorem hg_X6_288 : yX6_steers.cls = RX6 ∧ yX6_steers.cls ≠ "java/lang/invoke/MethodHandle" ∧ yX6_steers.cls ≠ "java/lang/invoke/VarHandle" ∧ (parseMethodDescriptor yX6_steers.desc).map (fun d => d.parameters.length) = some 1 := by decide +kernel
theorem g_X6_291 : GoodIn lw_all (wsV RX6 291 RX6 yX6_plays (ws_ yX6_plays cX6_plays 7 none)) := lw_V q1255 q1257 qs23 q141 q1258
theorem hg_X6_291 : yX6_plays.cls = RX6 ∧ yX6_plays.cls ≠ "java/lang/invoke/MethodHandle" ∧ yX6_plays.cls ≠ "java/lang/invoke/VarHandle" ∧ (parseMethodDescriptor yX6_plays.desc).map (fun d => d.parameters.length) = some 2 := by decide +kernel
theorem g_X1_389 : GoodIn lw_all (wsV RX1 389 RX6 yX6_goes (ws_ yX6_goes cX6_goes 4 none)) := lw_V q1165 q1166 q1167 q141 q1168
theorem hg_X1_389 : yX6_goes.cls = RX6 ∧ yX6_goes.cls ≠ "java/lang/invoke/MethodHandle" ∧ yX6_goes.cls ≠ "java/lang/invoke/VarHandle" ∧ (parseMethodDescriptor yX6_goes.desc).map (fun d => d.parameters.length) = some 2 := by decide +kernel
theorem g_X1_487 : GoodIn lw_all (wsV RX1 487 RX1 yX1_draw (ws_ yX1_draw cX1_draw 2 (some .int))) := lw_V q2364 q2366 qs56 q116 q2367
theorem hg_X1_487 : yX1_draw.cls = RX1 ∧ yX1_draw.cls ≠ "java/lang/invoke/MethodHandle" ∧ yX1_draw.cls ≠ "java/lang/invoke/VarHandle" ∧ (parseMethodDescriptor yX1_draw.desc).map (fun d => d.parameters.length) = some 1 := by decide +kernel
theorem gN_X5_56 : Cond.methodLinkNest RX5 56 yX6_copies "CircuitCells" ∈ lw_tbl ∧ Cond.static yX6_copies ∈ lw_all ∧ Cond.initialized yX6_copies.cls ∈ lw_all ∧ GoodIn lw_all (ws_ yX6_copies cX6_copies 2 none) := ⟨q1346, q1124, q141, lw_meth q1125⟩
theorem hgN_X5_56 : yX6_copies.cls ≠ "java/lang/invoke/MethodHandle" ∧ yX6_copies.cls ≠ "java/lang/invoke/VarHandle" ∧ (parseMethodDescriptor yX6_copies.desc).map (fun d => d.parameters.length) = some 2 := by decide +kernel
theorem g_X1_493 : GoodIn lw_all (wsV RX1 493 RX5 yX5_like (ws_ yX5_like cX5_like 3 none)) := lw_V q1342 q1343 q1344 q140 q1345
theorem hg_X1_493 : yX5_like.cls = RX5 ∧ yX5_like.cls ≠ "java/lang/invoke/MethodHandle" ∧ yX5_like.cls ≠ "java/lang/invoke/VarHandle" ∧ (parseMethodDescriptor yX5_like.desc).map (fun d => d.parameters.length) = some 1 := by decide +kernel
theorem g_X1_403 : GoodIn lw_all (wsV RX1 403 RX6 yX6_like (ws_ yX6_like cX6_like 2 none)) := lw_V q1314 q1120 q1121 q141 q1122
theorem hg_X1_403 : yX6_like.cls = RX6 ∧ yX6_like.cls ≠ "java/lang/invoke/MethodHandle" ∧ yX6_like.cls ≠ "java/lang/invoke/VarHandle" ∧ (parseMethodDescriptor yX6_like.desc).map (fun d => d.parameters.length) = some 1 := by decide +kernel
theorem g_X1_397 : GoodIn lw_all (wsV RX1 397 RX1 yX1_goes (ws_ yX1_goes cX1_goes 4 none)) := lw_V q1160 q1162 qs14 q116 q1163
theorem hg_X1_397 : yX1_goes.cls = RX1 ∧ yX1_goes.cls ≠ "java/lang/invoke/MethodHandle" ∧ yX1_goes.cls ≠ "java/lang/invoke/VarHandle" ∧ (parseMethodDescriptor yX1_goes.desc).map (fun d => d.parameters.length) = some 2 := by decide +kernel
theorem g_X1_411 : GoodIn lw_all (wsV RX1 411 RX1 yX1_tries (ws_ yX1_tries cX1_tries 2 none)) := lw_V q1319 q1321 qs26 q116 q1322
theorem hg_X1_411 : yX1_tries.cls = RX1 ∧ yX1_tries.cls ≠ "java/lang/invoke/MethodHandle" ∧ yX1_tries.cls ≠ "java/lang/invoke/VarHandle" ∧ (parseMethodDescriptor yX1_tries.desc).map (fun d => d.parameters.length) = some 1 := by decide +kernel
theorem g_X1_462 : GoodIn lw_all (wsV RX1 462 RX1 yX1_isNoted (ws_ yX1_isNoted cX1_isNoted 4 (some .boolean))) := lw_V q2326 q2328 qs52 q116 q2329
theorem hg_X1_462 : yX1_isNoted.cls = RX1 ∧ yX1_isNoted.cls ≠ "java/lang/invoke/MethodHandle" ∧ yX1_isNoted.cls ≠ "java/lang/invoke/VarHandle" ∧ (parseMethodDescriptor yX1_isNoted.desc).map (fun d => d.parameters.length) = some 0 := by decide +kernel
theorem g_X1_465 : GoodIn lw_all (wsV RX1 465 RX1 yX1_isGuess (ws_ yX1_isGuess cX1_isGuess 2 (some .boolean))) := lw_V q2330 q2332 qs53 q116 q2333
theorem hg_X1_465 : yX1_isGuess.cls = RX1 ∧ yX1_isGuess.cls ≠ "java/lang/invoke/MethodHandle" ∧ yX1_isGuess.cls ≠ "java/lang/invoke/VarHandle" ∧ (parseMethodDescriptor yX1_isGuess.desc).map (fun d => d.parameters.length) = some 1 := by decide +kernel
theorem g_X1_474 : GoodIn lw_all (wsV RX1 474 RX1 yX1_unlike (ws_ yX1_unlike cX1_unlike 6 (some .int))) := lw_V q2342 q2344 qs54 q116 q2345
theorem hg_X1_474 : yX1_unlike.cls = RX1 ∧ yX1_unlike.cls ≠ "java/lang/invoke/MethodHandle" ∧ yX1_unlike.cls ≠ "java/lang/invoke/VarHandle" ∧ (parseMethodDescriptor yX1_unlike.desc).map (fun d => d.parameters.length) = some 2 := by decide +kernel
theorem g_X1_393 : GoodIn lw_all (wsV RX1 393 RX1 yX1_does (ws_ yX1_does cX1_does 2 (some .boolean))) := lw_V q1088 q1090 qs9 q116 q1091
theorem hg_X1_393 : yX1_does.cls = RX1 ∧ yX1_does.cls ≠ "java/lang/invoke/MethodHandle" ∧ yX1_does.cls ≠ "java/lang/invoke/VarHandle" ∧ (parseMethodDescriptor yX1_does.desc).map (fun d => d.parameters.length) = some 1 := by decide +kernel
theorem g_X1_446 : GoodIn lw_all (wsV RX1 446 RX1 yX1_off (ws_ yX1_off cX1_off 2 (some .int))) := lw_V q1323 q1325 qs27 q116 q1326
theorem hg_X1_446 : yX1_off.cls = RX1 ∧ yX1_off.cls ≠ "java/lang/invoke/MethodHandle" ∧ yX1_off.cls ≠ "java/lang/invoke/VarHandle" ∧ (parseMethodDescriptor yX1_off.desc).map (fun d => d.parameters.length) = some 1 := by decide +kernel
theorem g_X6_295 : GoodIn lw_all (wsV RX6 295 RX6 yX6_kept (ws_ yX6_kept cX6_kept 2 (some .int))) := lw_V q1812 q1775 q1776 q141 q1777
theorem hg_X6_295 : yX6_kept.cls = RX6 ∧ yX6_kept.cls ≠ "java/lang/invoke/MethodHandle" ∧ yX6_kept.cls ≠ "java/lang/invoke/VarHandle" ∧ (parseMethodDescriptor yX6_kept.desc).map (fun d => d.parameters.length) = some 1 := by decide +kernel
theorem g_X1_357 : GoodIn lw_all (wsV RX1 357 RX6 yX6_sampleAt (ws_ yX6_sampleAt cX6_sampleAt 2 (some .int))) := lw_V q2181 q2182 q2183 q141 q2184
theorem hg_X1_357 : yX6_sampleAt.cls = RX6 ∧ yX6_sampleAt.cls ≠ "java/lang/invoke/MethodHandle" ∧ yX6_sampleAt.cls ≠ "java/lang/invoke/VarHandle" ∧ (parseMethodDescriptor yX6_sampleAt.desc).map (fun d => d.parameters.length) = some 1 := by decide +kernel
theorem g_X1_137 : GoodIn lw_all (va_wsS RX1 137 yX1_right (ws_ yX1_right cX1_right 1 none)) := lw_S q1360 q1361 q116 q1362
theorem hg_X1_137 : yX1_right.cls ≠ "java/lang/invoke/MethodHandle" ∧ yX1_right.cls ≠ "java/lang/invoke/VarHandle" ∧ (parseMethodDescriptor yX1_right.desc).map (fun d => d.parameters.length) = some 1 := by decide +kernel
theorem g_X1_407 : GoodIn lw_all (va_wsS RX1 407 yX1_soon (ws_ yX1_soon cX1_soon 2 none)) := lw_S q2258 q2259 q116 q2260
theorem hg_X1_407 : yX1_soon.cls ≠ "java/lang/invoke/MethodHandle" ∧ yX1_soon.cls ≠ "java/lang/invoke/VarHandle" ∧ (parseMethodDescriptor yX1_soon.desc).map (fun d => d.parameters.length) = some 2 := by decide +kernel
theorem g_X1_450 : GoodIn lw_all (wsV RX1 450 RX7 yX7_begins (ws_ yX7_begins cX7_begins 3 (some (.object "CircuitCells$Course")))) := lw_V q2304 q2305 q2306 q144 q2307
theorem hg_X1_450 : yX7_begins.cls = RX7 ∧ yX7_begins.cls ≠ "java/lang/invoke/MethodHandle" ∧ yX7_begins.cls ≠ "java/lang/invoke/VarHandle" ∧ (parseMethodDescriptor yX7_begins.desc).map (fun d => d.parameters.length) = some 1 := by decide +kernel
theorem g_X1_454 : GoodIn lw_all (wsV RX1 454 RX1 yX1_mostOff (ws_ yX1_mostOff cX1_mostOff 4 (some .int))) := lw_V q2315 q2317 qs51 q116 q2318
theorem hg_X1_454 : yX1_mostOff.cls = RX1 ∧ yX1_mostOff.cls ≠ "java/lang/invoke/MethodHandle" ∧ yX1_mostOff.cls ≠ "java/lang/invoke/VarHandle" ∧ (parseMethodDescriptor yX1_mostOff.desc).map (fun d => d.parameters.length) = some 1 := by decide +kernel
theorem g_X1_490 : GoodIn lw_all (wsV RX1 490 RX1 yX1_happens (ws_ yX1_happens cX1_happens 1 none)) := lw_V q2360 q2362 qs55 q116 q2363
theorem hg_X1_490 : yX1_happens.cls = RX1 ∧ yX1_happens.cls ≠ "java/lang/invoke/MethodHandle" ∧ yX1_happens.cls ≠ "java/lang/invoke/VarHandle" ∧ (parseMethodDescriptor yX1_happens.desc).map (fun d => d.parameters.length) = some 0 := by decide +kernel
abbrev sX6_back : cx_S := (2, RX6, cx_rI, { frames := 0, cells := 0, slots := 0, locals := 0 }, some .int, false)
noncomputable def cSt_back_0 (N : cx_N) (b : Nat) (M : cx_M) (x1 : Int32) : Option cx_R :=
  cx_get M b 6 fun v1 =>
  if x1 ≤ v1 then (
    cx_get M b 6 fun v2 =>
    cx_ld M (b + 40) 128 (cx_rem (v2 - x1) 128) fun v3 =>
    some (M, v3, 0))
  else (
    some (M, 126, 0))
set_option maxRecDepth 100000 in
theorem cSt_back_0_v {l : Launch} {g : cx_G} {adr : Nat → Nat} {X : cx_X} {N : cx_N} {b : Nat} (H : cCp_H g adr N) (hb : cSt_H g adr b) (M : cx_M) (x1 : Int32) (rs : cx_R) (h : cSt_back_0 N b M x1 = some rs) : cx_V l (g) X sX6_back cX6_back 0 [(0, .ref (adr b)), (1, .int x1)] [] M 0 0 rs := by
  unfold cSt_back_0 at h
  refine cx_iload_n 1 dX6_back_0 rfl ?_
  refine cx_aload_n 0 dX6_back_1 rfl ?_
  refine cx_getI h (cSt_F6 hb) q660 dX6_back_2 (fun v1 h => ?_)
  refine cx_icmp_le 13 h dX6_back_5 rfl (fun h => ?_) (fun h => ?_)
  · refine cx_aload_n 0 dX6_back_13 rfl ?_
    refine cx_getR (cSt_R39 hb) q720 dX6_back_14 ?_
    refine cx_aload_n 0 dX6_back_17 rfl ?_
    refine cx_getI h (cSt_F6 hb) q660 dX6_back_18 (fun v2 h => ?_)
    refine cx_iload_n 1 dX6_back_21 rfl ?_
    refine cx_isub dX6_back_22 ?_
    refine cx_sipush 128 dX6_back_23 cx_sp_128 ?_
    refine cx_iremC cx_ne_128 dX6_back_26 ?_
    refine cx_ldI h (cSt_A39 hb) dX6_back_27 (fun v3 h => ?_)
    exact cx_iret h rfl rfl (cx_le rfl) (cx_le rfl) dX6_back_28
  · refine cx_bipush 126 dX6_back_8 cx_bp_126 ?_
    refine cx_goto 28 dX6_back_10 rfl ?_
    exact cx_iret h rfl rfl (cx_le rfl) (cx_le rfl) dX6_back_28
noncomputable def cSt_back (N : cx_N) (b : Nat) (M : cx_M) (x1 : Int32) : Option cx_R := cSt_back_0 N b M x1
theorem cSt_back_m {l : Launch} {g : cx_G} {adr : Nat → Nat} {N : cx_N} {b : Nat} (H : cCp_H g adr N) (hb : cSt_H g adr b) (M : cx_M) (x1 : Int32) (rs : cx_R) (h : cSt_back N b M x1 = some rs) : cx_Met l (g) yX6_back cX6_back sX6_back [.ref (adr b), .int x1] M rs :=
  cx_met (by decide +kernel) rfl rfl (lv := [(0, .ref (adr b)), (1, .int x1)]) rfl (cx_le rfl) (fun X => cx_sub (lv' := [(0, .ref (adr b)), (1, .int x1)]) [0, 1] rfl (cSt_back_0_v H hb M x1 rs h))

