/-! STRINGS: by program (gen/know.py) -/
def kTi : List Nat := [11, 13, 15, 17, 23, 25, 27, 29, 31, 33, 35, 37, 39, 222, 230, 235]
def kRi : List Nat := [9, 136, 145, 146, 148, 150, 152, 154, 156, 157, 159, 179, 209, 214, 224, 225, 229, 231, 245, 250, 252, 257, 267, 269, 271, 273]
/-- a String constant at a, its bytes at v -/
def kStr (s : State) (args : Array Value) (t : Term) (n : Nat) (bs : List Int32) (a v : Nat) : Prop := t.eval args s none [] s = some (.ref a) ∧ va_O "java/lang/String" a (kA s) s s.heap ∧ va_OF "java/lang/String" "coder" "B" (.int 0) a (kA s) s s.heap ∧ va_OF "java/lang/String" "value" "[B" (.ref v) a (kA s) s s.heap ∧ va_T .byte v n (fun j => .int (bs.getD j 0)) (kA s) s s.heap
def kSc (t : Term) (n : Nat) (bs : List Int32) : List Cond := [.exactly t "java/lang/String", .eq (.field t "java/lang/String" "coder" "B") (.int 0), .arrayOf (.field t "java/lang/String" "value" "[B") .byte, .eq (.length (.field t "java/lang/String" "value" "[B")) (.int (Int32.ofNat n))] ++ (List.range n).map (fun j => .eq (.elem (.field t "java/lang/String" "value" "[B") (.int (Int32.ofNat j))) (.int (bs.getD j 0)))
theorem mem_at {l : List Cond} {is : List Nat} {cs : List Cond} (h : is.map (fun i => l[i]?) = cs.map some) : ∀ c ∈ cs, c ∈ l := by
  intro c hc
  have h1 : some c ∈ is.map (fun i => l[i]?) := by rw [h]; exact List.mem_map.mpr ⟨c, hc, rfl⟩
  obtain ⟨i, -, hi⟩ := List.mem_map.mp h1
  exact List.mem_of_getElem? hi
section KS
variable {s : State} {args : Array Value} {D : va_G} {dA : Nat → ClassId}
theorem kStr_of {t : Term} {n : Nat} {bs : List Int32} (hn : n < 2 ^ 31) (h : ∀ w ∈ kSc t n bs, w.before args s = true) : ∃ p : Nat × Nat, kStr s args t n bs p.1 p.2 := by
  have h1 : ∀ j, j < n → (Cond.eq (.elem (.field t "java/lang/String" "value" "[B") (.int (Int32.ofNat j))) (.int (bs.getD j 0))).before args s = true := fun j hj => h _ (List.mem_append_right _ (List.mem_map.mpr ⟨j, List.mem_range.mpr hj, rfl⟩))
  have h2 : ∀ w ∈ [Cond.exactly t "java/lang/String", .eq (.field t "java/lang/String" "coder" "B") (.int 0), .arrayOf (.field t "java/lang/String" "value" "[B") .byte, .eq (.length (.field t "java/lang/String" "value" "[B")) (.int (Int32.ofNat n))], w.before args s = true := fun w hw => h w (List.mem_append_left _ hw)
  obtain ⟨adK, adV, hS, hE⟩ := vk_Sof (s := s) (args := args) (N := 1) (tm := fun _ => t) (len := [n]) (byt := [bs]) (A := kA s) (fun i hi => by
      match i, hi with
      | 0, _ => exact hn) (fun i hi => h2 _ (by simp)) (fun i hi => h2 _ (by simp)) (fun i hi => h2 _ (by simp)) (fun i hi => by
      match i, hi with
      | 0, _ => exact h2 _ (by simp)) (fun i hi j hj => by
      match i, hi with
      | 0, _ => exact h1 j hj) (fun i j hi hj hne => absurd (by omega) hne) (fun a h => kA_old h)
  obtain ⟨c1, c2, c3, c4⟩ := hS.1 0 (by decide)
  exact ⟨(adK 0, adV 0), hE 0 (by decide), c1, c2, c3, c4⟩
theorem kStr_all {tm : Nat → Term} {len : Nat → Nat} {byt : Nat → List Int32} {m : Nat} (hn : ∀ w, w < m → len w < 2 ^ 31) (hg : ∀ w, w < m → ∀ c ∈ kSc (tm w) (len w) (byt w), c.before args s = true) : ∃ f : Nat → Nat × Nat, ∀ w, w < m → kStr s args (tm w) (len w) (byt w) (f w).1 (f w).2 := by
  have h : ∀ w : Nat, ∃ p : Nat × Nat, w < m → kStr s args (tm w) (len w) (byt w) p.1 p.2 := by
    intro w
    by_cases hw : w < m
    · obtain ⟨p, hp⟩ := kStr_of (s := s) (args := args) (t := tm w) (n := len w) (bs := byt w) (hn w hw) (hg w hw)
      exact ⟨p, fun _ => hp⟩
    · exact ⟨(0, 0), fun h => absurd h hw⟩
  exact Classical.axiomOfChoice h
theorem kn_kR {own tx : String} {k a : Nat} (h0 : vk_R own k tx a s) {U : State} (h : cx_K (vG0 D dA (kA s) (kZ s)) U) : vk_R own k tx a U := h.2.2.2 (fun U => vk_R own k tx a U) h0 (fun u V hu hv _ _ => hv.elim (fun hW => vk_R.warm hW hu) (fun e => vk_R.same e.symm hu))
theorem kn_O {t : Term} {n : Nat} {bs : List Int32} {a v : Nat} (h0 : kStr s args t n bs a v) {U : State} (h : cx_K (vG0 D dA (kA s) (kZ s)) U) : va_O "java/lang/String" a (kA s) U U.heap ∧ va_OF "java/lang/String" "coder" "B" (.int 0) a (kA s) U U.heap ∧ va_OF "java/lang/String" "value" "[B" (.ref v) a (kA s) U U.heap ∧ va_T .byte v n (fun j => .int (bs.getD j 0)) (kA s) U U.heap := by
  obtain ⟨-, h1, h2, h3, h4⟩ := h0
  exact ⟨kZ_mv (G := fun U H => va_O "java/lang/String" a (kA s) U H) (fun hvm h => va_O.moved hvm h) (fun h hq => va_O.kept h hq) h1 h.2.2.2, kZ_mv (G := fun U H => va_OF "java/lang/String" "coder" "B" (.int 0) a (kA s) U H) (fun hvm h => va_OF.moved hvm h) (fun h hq => va_OF.kept h hq) h2 h.2.2.2, kZ_mv (G := fun U H => va_OF "java/lang/String" "value" "[B" (.ref v) a (kA s) U H) (fun hvm h => va_OF.moved hvm h) (fun h hq => va_OF.kept h hq) h3 h.2.2.2, kZ_mv (G := fun U H => va_T .byte v n (fun j => .int (bs.getD j 0)) (kA s) U H) (fun hvm h => va_T.moved hvm h) (fun h hq => va_T.kept h hq) h4 h.2.2.2⟩
theorem kn_ROs {t : Term} {n : Nat} {bs : List Int32} {a v : Nat} (h0 : kStr s args t n bs a v) {U : State} (h : cx_K (vG0 D dA (kA s) (kZ s)) U) : cx_RO "java/lang/String" a U := by
  obtain ⟨cell, h1, h2, h3, -⟩ := (kn_O h0 h).1
  exact ⟨cell, h1, h2, h3⟩
theorem kn_Str {t : Term} {bs : List Int32} {a v : Nat} {f : Nat → Int32} (hf : f = fun j => bs.getD j 0) (h0 : kStr s args t bs.length bs a v) : cx_Str (vG0 D dA (kA s) (kZ s)) a v bs.length f ∧ ¬ kA s a := by
  subst hf
  refine ⟨fun M U hw h => ?_, ?_⟩
  · obtain ⟨h1, ⟨cf, k, fi, fl, cell, c1, c2, c3, c4, c5, -⟩, ⟨cf', k', fi', fl', cell', d1, d2, d3, d4, d5, -⟩, ⟨cl, e1, e2, e3, e4, e5, e6, -⟩⟩ := kn_O h0 h
    exact ⟨kn_ROs h0 h, ⟨cf, k, fi, fl, cell, c1, c2, c3, c4, c5⟩, ⟨cf', k', fi', fl', cell', d1, d2, d3, d4, d5⟩, ⟨cl, e1, e2, e3, ⟨e4, e5⟩, e6⟩⟩
  · obtain ⟨-, ⟨cell, h1, h2, h3, h4⟩, -⟩ := h0
    exact h4
/-- two String constants of different texts lie apart -/
theorem kStr_ne {t t' : Term} {n n' : Nat} {bs bs' : List Int32} {a v a' v' : Nat} (h : kStr s args t n bs a v) (h' : kStr s args t' n' bs' a' v') (hn : n < 2 ^ 31 ∧ n' < 2 ^ 31) (hd : n ≠ n' ∨ ∃ j, j < n ∧ j < n' ∧ bs.getD j 0 ≠ bs'.getD j 0) : a ≠ a' := by
  intro e
  subst e
  obtain ⟨-, -, -, ⟨cf, k, fi, fl, cell, c1, c2, c3, c4, c5, -⟩, ⟨cl, e1, e2, e3, e4, e5, e6, -⟩⟩ := h
  obtain ⟨-, -, -, ⟨cf', k', fi', fl', cell', d1, d2, d3, d4, d5, -⟩, ⟨cl', f1, f2, f3, f4, f5, f6, -⟩⟩ := h'
  rw [c1] at d1
  cases d1
  rw [c3] at d3
  cases d3
  rw [c5] at d5
  cases d5
  rw [e1] at f1
  cases f1
  rcases hd with hd | ⟨j, j1, j2, hd⟩
  · rw [e5] at f5
    have h1 := nI_clamp hn.1
    have h2 := nI_clamp hn.2
    have : nI n = nI n' := f5
    rw [this, h2] at h1
    exact hd h1.symm
  · have g1 := e6 j j1
    rw [f6 j j2] at g1
    have g2 := Option.some.inj g1
    injection g2 with g3
    exact hd g3.symm

theorem kTm_0 : ∀ c ∈ kSc (.string "CircuitCellsModel" (kTi.getD 0 0)) (twSlen.getD 0 0) (twSbyt.getD 0 []), c ∈ flatC (Jvm.Cond.and given_1 narrow_1) := mem_at (is := [830, 831, 832, 833, 834, 835, 836, 837, 838, 839]) (by decide +kernel)
theorem kTm_1 : ∀ c ∈ kSc (.string "CircuitCellsModel" (kTi.getD 1 0)) (twSlen.getD 1 0) (twSbyt.getD 1 []), c ∈ flatC (Jvm.Cond.and given_1 narrow_1) := mem_at (is := [843, 844, 845, 846, 847, 848, 849, 850]) (by decide +kernel)
theorem kTm_2 : ∀ c ∈ kSc (.string "CircuitCellsModel" (kTi.getD 2 0)) (twSlen.getD 2 0) (twSbyt.getD 2 []), c ∈ flatC (Jvm.Cond.and given_1 narrow_1) := mem_at (is := [854, 855, 856, 857, 858, 859, 860, 861]) (by decide +kernel)
theorem kTm_3 : ∀ c ∈ kSc (.string "CircuitCellsModel" (kTi.getD 3 0)) (twSlen.getD 3 0) (twSbyt.getD 3 []), c ∈ flatC (Jvm.Cond.and given_1 narrow_1) := mem_at (is := [865, 866, 867, 868, 869, 870, 871, 872, 873, 874]) (by decide +kernel)
theorem kTm_4 : ∀ c ∈ kSc (.string "CircuitCellsModel" (kTi.getD 4 0)) (twSlen.getD 4 0) (twSbyt.getD 4 []), c ∈ flatC (Jvm.Cond.and given_1 narrow_1) := mem_at (is := [878, 879, 880, 881, 882, 883, 884, 885]) (by decide +kernel)
theorem kTm_5 : ∀ c ∈ kSc (.string "CircuitCellsModel" (kTi.getD 5 0)) (twSlen.getD 5 0) (twSbyt.getD 5 []), c ∈ flatC (Jvm.Cond.and given_1 narrow_1) := mem_at (is := [889, 890, 891, 892, 893, 894, 895, 896, 897, 898]) (by decide +kernel)
theorem kTm_6 : ∀ c ∈ kSc (.string "CircuitCellsModel" (kTi.getD 6 0)) (twSlen.getD 6 0) (twSbyt.getD 6 []), c ∈ flatC (Jvm.Cond.and given_1 narrow_1) := mem_at (is := [902, 903, 904, 905, 906, 907, 908, 909]) (by decide +kernel)
theorem kTm_7 : ∀ c ∈ kSc (.string "CircuitCellsModel" (kTi.getD 7 0)) (twSlen.getD 7 0) (twSbyt.getD 7 []), c ∈ flatC (Jvm.Cond.and given_1 narrow_1) := mem_at (is := [913, 914, 915, 916, 917, 918, 919, 920, 921]) (by decide +kernel)
theorem kTm_8 : ∀ c ∈ kSc (.string "CircuitCellsModel" (kTi.getD 8 0)) (twSlen.getD 8 0) (twSbyt.getD 8 []), c ∈ flatC (Jvm.Cond.and given_1 narrow_1) := mem_at (is := [925, 926, 927, 928, 929, 930, 931, 932, 933, 934]) (by decide +kernel)
theorem kTm_9 : ∀ c ∈ kSc (.string "CircuitCellsModel" (kTi.getD 9 0)) (twSlen.getD 9 0) (twSbyt.getD 9 []), c ∈ flatC (Jvm.Cond.and given_1 narrow_1) := mem_at (is := [938, 939, 940, 941, 942, 943, 944, 945, 946]) (by decide +kernel)
theorem kTm_10 : ∀ c ∈ kSc (.string "CircuitCellsModel" (kTi.getD 10 0)) (twSlen.getD 10 0) (twSbyt.getD 10 []), c ∈ flatC (Jvm.Cond.and given_1 narrow_1) := mem_at (is := [950, 951, 952, 953, 954, 955, 956, 957]) (by decide +kernel)
theorem kTm_11 : ∀ c ∈ kSc (.string "CircuitCellsModel" (kTi.getD 11 0)) (twSlen.getD 11 0) (twSbyt.getD 11 []), c ∈ flatC (Jvm.Cond.and given_1 narrow_1) := mem_at (is := [961, 962, 963, 964, 965, 966, 967, 968, 969]) (by decide +kernel)
theorem kTm_12 : ∀ c ∈ kSc (.string "CircuitCellsModel" (kTi.getD 12 0)) (twSlen.getD 12 0) (twSbyt.getD 12 []), c ∈ flatC (Jvm.Cond.and given_1 narrow_1) := mem_at (is := [973, 974, 975, 976, 977, 978, 979, 980]) (by decide +kernel)
theorem kTm_13 : ∀ c ∈ kSc (.string "CircuitCellsModel" (kTi.getD 13 0)) (twSlen.getD 13 0) (twSbyt.getD 13 []), c ∈ flatC (Jvm.Cond.and given_1 narrow_1) := mem_at (is := [984, 985, 986, 987, 988, 989, 990]) (by decide +kernel)
theorem kTm_14 : ∀ c ∈ kSc (.string "CircuitCellsModel" (kTi.getD 14 0)) (twSlen.getD 14 0) (twSbyt.getD 14 []), c ∈ flatC (Jvm.Cond.and given_1 narrow_1) := mem_at (is := [994, 995, 996, 997, 998, 999, 1000]) (by decide +kernel)
theorem kTm_15 : ∀ c ∈ kSc (.string "CircuitCellsModel" (kTi.getD 15 0)) (twSlen.getD 15 0) (twSbyt.getD 15 []), c ∈ flatC (Jvm.Cond.and given_1 narrow_1) := mem_at (is := [1004, 1005, 1006, 1007, 1008, 1009]) (by decide +kernel)
theorem kRm_0 : ∀ c ∈ kSc (.string "CircuitCells$Reader" (kRi.getD 0 0)) ((rdS.getD 0 []).length) (rdS.getD 0 []), c ∈ flatC (Jvm.Cond.and given_1 narrow_1) := mem_at (is := [555, 556, 557, 558]) (by decide +kernel)
theorem kRm_1 : ∀ c ∈ kSc (.string "CircuitCells$Reader" (kRi.getD 1 0)) ((rdS.getD 1 []).length) (rdS.getD 1 []), c ∈ flatC (Jvm.Cond.and given_1 narrow_1) := mem_at (is := [815, 816, 817, 818, 819]) (by decide +kernel)
theorem kRm_2 : ∀ c ∈ kSc (.string "CircuitCells$Reader" (kRi.getD 2 0)) ((rdS.getD 2 []).length) (rdS.getD 2 []), c ∈ flatC (Jvm.Cond.and given_1 narrow_1) := mem_at (is := [592, 593, 594, 595, 596, 597, 598, 599]) (by decide +kernel)
theorem kRm_3 : ∀ c ∈ kSc (.string "CircuitCells$Reader" (kRi.getD 3 0)) ((rdS.getD 3 []).length) (rdS.getD 3 []), c ∈ flatC (Jvm.Cond.and given_1 narrow_1) := mem_at (is := [602, 603, 604, 605, 606, 607, 608, 609, 610, 611]) (by decide +kernel)
theorem kRm_4 : ∀ c ∈ kSc (.string "CircuitCells$Reader" (kRi.getD 4 0)) ((rdS.getD 4 []).length) (rdS.getD 4 []), c ∈ flatC (Jvm.Cond.and given_1 narrow_1) := mem_at (is := [614, 615, 616, 617, 618, 619, 620, 621]) (by decide +kernel)
theorem kRm_5 : ∀ c ∈ kSc (.string "CircuitCells$Reader" (kRi.getD 5 0)) ((rdS.getD 5 []).length) (rdS.getD 5 []), c ∈ flatC (Jvm.Cond.and given_1 narrow_1) := mem_at (is := [624, 625, 626, 627, 628, 629, 630, 631, 632]) (by decide +kernel)
theorem kRm_6 : ∀ c ∈ kSc (.string "CircuitCells$Reader" (kRi.getD 6 0)) ((rdS.getD 6 []).length) (rdS.getD 6 []), c ∈ flatC (Jvm.Cond.and given_1 narrow_1) := mem_at (is := [635, 636, 637, 638, 639, 640, 641, 642, 643, 644]) (by decide +kernel)
theorem kRm_7 : ∀ c ∈ kSc (.string "CircuitCells$Reader" (kRi.getD 7 0)) ((rdS.getD 7 []).length) (rdS.getD 7 []), c ∈ flatC (Jvm.Cond.and given_1 narrow_1) := mem_at (is := [647, 648, 649, 650, 651, 652, 653, 654, 655]) (by decide +kernel)
theorem kRm_8 : ∀ c ∈ kSc (.string "CircuitCells$Reader" (kRi.getD 8 0)) ((rdS.getD 8 []).length) (rdS.getD 8 []), c ∈ flatC (Jvm.Cond.and given_1 narrow_1) := mem_at (is := [658, 659, 660, 661, 662, 663, 664, 665]) (by decide +kernel)
theorem kRm_9 : ∀ c ∈ kSc (.string "CircuitCells$Reader" (kRi.getD 9 0)) ((rdS.getD 9 []).length) (rdS.getD 9 []), c ∈ flatC (Jvm.Cond.and given_1 narrow_1) := mem_at (is := [668, 669, 670, 671, 672, 673, 674, 675, 676]) (by decide +kernel)
theorem kRm_10 : ∀ c ∈ kSc (.string "CircuitCells$Reader" (kRi.getD 10 0)) ((rdS.getD 10 []).length) (rdS.getD 10 []), c ∈ flatC (Jvm.Cond.and given_1 narrow_1) := mem_at (is := [679, 680, 681, 682, 683, 684, 685, 686]) (by decide +kernel)
theorem kRm_11 : ∀ c ∈ kSc (.string "CircuitCells$Reader" (kRi.getD 11 0)) ((rdS.getD 11 []).length) (rdS.getD 11 []), c ∈ flatC (Jvm.Cond.and given_1 narrow_1) := mem_at (is := [689, 690, 691, 692, 693]) (by decide +kernel)
theorem kRm_12 : ∀ c ∈ kSc (.string "CircuitCells$Reader" (kRi.getD 12 0)) ((rdS.getD 12 []).length) (rdS.getD 12 []), c ∈ flatC (Jvm.Cond.and given_1 narrow_1) := mem_at (is := [696, 697, 698, 699, 700]) (by decide +kernel)
theorem kRm_13 : ∀ c ∈ kSc (.string "CircuitCells$Reader" (kRi.getD 13 0)) ((rdS.getD 13 []).length) (rdS.getD 13 []), c ∈ flatC (Jvm.Cond.and given_1 narrow_1) := mem_at (is := [807, 808, 809, 810, 811, 812]) (by decide +kernel)
theorem kRm_14 : ∀ c ∈ kSc (.string "CircuitCells$Reader" (kRi.getD 14 0)) ((rdS.getD 14 []).length) (rdS.getD 14 []), c ∈ flatC (Jvm.Cond.and given_1 narrow_1) := mem_at (is := [798, 799, 800, 801, 802, 803, 804]) (by decide +kernel)
theorem kRm_15 : ∀ c ∈ kSc (.string "CircuitCells$Reader" (kRi.getD 15 0)) ((rdS.getD 15 []).length) (rdS.getD 15 []), c ∈ flatC (Jvm.Cond.and given_1 narrow_1) := mem_at (is := [703, 704, 705, 706, 707, 708, 709]) (by decide +kernel)
theorem kRm_16 : ∀ c ∈ kSc (.string "CircuitCells$Reader" (kRi.getD 16 0)) ((rdS.getD 16 []).length) (rdS.getD 16 []), c ∈ flatC (Jvm.Cond.and given_1 narrow_1) := mem_at (is := [784, 785, 786, 787, 788]) (by decide +kernel)
theorem kRm_17 : ∀ c ∈ kSc (.string "CircuitCells$Reader" (kRi.getD 17 0)) ((rdS.getD 17 []).length) (rdS.getD 17 []), c ∈ flatC (Jvm.Cond.and given_1 narrow_1) := mem_at (is := [791, 792, 793, 794, 795]) (by decide +kernel)
theorem kRm_18 : ∀ c ∈ kSc (.string "CircuitCells$Reader" (kRi.getD 18 0)) ((rdS.getD 18 []).length) (rdS.getD 18 []), c ∈ flatC (Jvm.Cond.and given_1 narrow_1) := mem_at (is := [777, 778, 779, 780, 781]) (by decide +kernel)
theorem kRm_19 : ∀ c ∈ kSc (.string "CircuitCells$Reader" (kRi.getD 19 0)) ((rdS.getD 19 []).length) (rdS.getD 19 []), c ∈ flatC (Jvm.Cond.and given_1 narrow_1) := mem_at (is := [763, 764, 765, 766, 767]) (by decide +kernel)
theorem kRm_20 : ∀ c ∈ kSc (.string "CircuitCells$Reader" (kRi.getD 20 0)) ((rdS.getD 20 []).length) (rdS.getD 20 []), c ∈ flatC (Jvm.Cond.and given_1 narrow_1) := mem_at (is := [770, 771, 772, 773, 774]) (by decide +kernel)
theorem kRm_21 : ∀ c ∈ kSc (.string "CircuitCells$Reader" (kRi.getD 21 0)) ((rdS.getD 21 []).length) (rdS.getD 21 []), c ∈ flatC (Jvm.Cond.and given_1 narrow_1) := mem_at (is := [712, 713, 714, 715, 716]) (by decide +kernel)
theorem kRm_22 : ∀ c ∈ kSc (.string "CircuitCells$Reader" (kRi.getD 22 0)) ((rdS.getD 22 []).length) (rdS.getD 22 []), c ∈ flatC (Jvm.Cond.and given_1 narrow_1) := mem_at (is := [719, 720, 721, 722, 723, 724, 725, 726, 727, 728]) (by decide +kernel)
theorem kRm_23 : ∀ c ∈ kSc (.string "CircuitCells$Reader" (kRi.getD 23 0)) ((rdS.getD 23 []).length) (rdS.getD 23 []), c ∈ flatC (Jvm.Cond.and given_1 narrow_1) := mem_at (is := [731, 732, 733, 734, 735, 736, 737, 738]) (by decide +kernel)
theorem kRm_24 : ∀ c ∈ kSc (.string "CircuitCells$Reader" (kRi.getD 24 0)) ((rdS.getD 24 []).length) (rdS.getD 24 []), c ∈ flatC (Jvm.Cond.and given_1 narrow_1) := mem_at (is := [741, 742, 743, 744, 745, 746, 747, 748]) (by decide +kernel)
theorem kRm_25 : ∀ c ∈ kSc (.string "CircuitCells$Reader" (kRi.getD 25 0)) ((rdS.getD 25 []).length) (rdS.getD 25 []), c ∈ flatC (Jvm.Cond.and given_1 narrow_1) := mem_at (is := [751, 752, 753, 754, 755, 756, 757, 758, 759, 760]) (by decide +kernel)
theorem kn_twS (hgv : (Jvm.Cond.and given_1 narrow_1).before args s = true) : ∃ f : Nat → Nat × Nat, ∀ w, w < 16 → kStr s args (.string "CircuitCellsModel" (kTi.getD w 0)) (twSlen.getD w 0) (twSbyt.getD w []) (f w).1 (f w).2 :=
  kStr_all (tm := fun w => .string "CircuitCellsModel" (kTi.getD w 0)) (len := fun w => twSlen.getD w 0) (byt := fun w => twSbyt.getD w []) (by decide +kernel) (fun w hw c hc => flat_n hgv c (by
    match w, hw with
    | 0, _ => exact kTm_0 c hc
    | 1, _ => exact kTm_1 c hc
    | 2, _ => exact kTm_2 c hc
    | 3, _ => exact kTm_3 c hc
    | 4, _ => exact kTm_4 c hc
    | 5, _ => exact kTm_5 c hc
    | 6, _ => exact kTm_6 c hc
    | 7, _ => exact kTm_7 c hc
    | 8, _ => exact kTm_8 c hc
    | 9, _ => exact kTm_9 c hc
    | 10, _ => exact kTm_10 c hc
    | 11, _ => exact kTm_11 c hc
    | 12, _ => exact kTm_12 c hc
    | 13, _ => exact kTm_13 c hc
    | 14, _ => exact kTm_14 c hc
    | 15, _ => exact kTm_15 c hc
    | w + 16, hw => exact absurd hw (by omega)))
theorem kn_rdS (hgv : (Jvm.Cond.and given_1 narrow_1).before args s = true) : ∃ f : Nat → Nat × Nat, ∀ w, w < 26 → kStr s args (.string "CircuitCells$Reader" (kRi.getD w 0)) ((rdS.getD w []).length) (rdS.getD w []) (f w).1 (f w).2 :=
  kStr_all (tm := fun w => .string "CircuitCells$Reader" (kRi.getD w 0)) (len := fun w => (rdS.getD w []).length) (byt := fun w => rdS.getD w []) (by decide +kernel) (fun w hw c hc => flat_n hgv c (by
    match w, hw with
    | 0, _ => exact kRm_0 c hc
    | 1, _ => exact kRm_1 c hc
    | 2, _ => exact kRm_2 c hc
    | 3, _ => exact kRm_3 c hc
    | 4, _ => exact kRm_4 c hc
    | 5, _ => exact kRm_5 c hc
    | 6, _ => exact kRm_6 c hc
    | 7, _ => exact kRm_7 c hc
    | 8, _ => exact kRm_8 c hc
    | 9, _ => exact kRm_9 c hc
    | 10, _ => exact kRm_10 c hc
    | 11, _ => exact kRm_11 c hc
    | 12, _ => exact kRm_12 c hc
    | 13, _ => exact kRm_13 c hc
    | 14, _ => exact kRm_14 c hc
    | 15, _ => exact kRm_15 c hc
    | 16, _ => exact kRm_16 c hc
    | 17, _ => exact kRm_17 c hc
    | 18, _ => exact kRm_18 c hc
    | 19, _ => exact kRm_19 c hc
    | 20, _ => exact kRm_20 c hc
    | 21, _ => exact kRm_21 c hc
    | 22, _ => exact kRm_22 c hc
    | 23, _ => exact kRm_23 c hc
    | 24, _ => exact kRm_24 c hc
    | 25, _ => exact kRm_25 c hc
    | w + 26, hw => exact absurd hw (by omega)))
end KS
