/-! THE PLAIN LAW: INTS -/
theorem pi_0 : (0 : Int32).toInt = 0 := rfl
theorem pi_mul {a b : Int32} (h1 : -2147483648 ≤ a.toInt * b.toInt) (h2 : a.toInt * b.toInt < 2147483648) : (a * b).toInt = a.toInt * b.toInt := by
  rw [Int32.toInt_mul, Int.bmod_eq_of_le (by omega) (by omega)]
theorem pi_div {x y : Int32} (hx : 0 ≤ x.toInt) (hy : 0 < y.toInt) : (x / y).toInt = x.toInt / y.toInt := by
  have h1 : (x / y).toInt = x.toInt.tdiv y.toInt := by
    rw [Int32.toInt_div]
    have hx2 := i32_rng x
    have h0 := Int.tdiv_eq_ediv_of_nonneg (b := y.toInt) hx
    have h3 := Int.ediv_le_self y.toInt hx
    have h4 := Int.ediv_nonneg hx (Int.le_of_lt hy)
    rw [Int.bmod_eq_of_le (by omega) (by omega)]
  rw [h1, Int.tdiv_eq_ediv_of_nonneg hx]
theorem pi_rem {x y : Int32} (hx : 0 ≤ x.toInt) (hy : 0 < y.toInt) : (cx_rem x y).toInt = x.toInt % y.toInt := by
  have hx2 := i32_rng x
  have hd := pi_div hx hy
  have h3 : x.toInt / y.toInt * y.toInt = x.toInt - x.toInt % y.toInt := by
    have := Int.mul_ediv_add_emod x.toInt y.toInt
    rw [Int.mul_comm] at this
    omega
  have h4 := Int.emod_nonneg x.toInt (show y.toInt ≠ 0 by omega)
  have h6 := Int.ediv_nonneg hx (Int.le_of_lt hy)
  have h7 := Int.mul_nonneg h6 (Int.le_of_lt hy)
  have h5 : x.toInt % y.toInt ≤ x.toInt := by omega
  have hm : (x / y * y).toInt = x.toInt - x.toInt % y.toInt := by
    rw [pi_mul (by rw [hd, h3]; omega) (by rw [hd, h3]; omega), hd, h3]
  unfold cx_rem
  rw [i32_sub (by rw [hm]; omega) (by rw [hm]; omega), hm]
  omega
theorem pi_remk {x y : Int32} {k : Int} (hy : y.toInt = k) (hk : 0 < k) (hx : 0 ≤ x.toInt) : (cx_rem x y).toInt = x.toInt % k := by
  rw [pi_rem hx (by omega), hy]
theorem pi_rem64 {x : Int32} (hx : 0 ≤ x.toInt) : (cx_rem x 64).toInt = x.toInt % 64 := pi_remk rfl (by decide) hx
theorem pi_rem128 {x : Int32} (hx : 0 ≤ x.toInt) : (cx_rem x 128).toInt = x.toInt % 128 := pi_remk rfl (by decide) hx
theorem pi_rem256 {x : Int32} (hx : 0 ≤ x.toInt) : (cx_rem x 256).toInt = x.toInt % 256 := pi_remk rfl (by decide) hx
theorem pi_mask (x : Int32) {m : Int32} {k : Nat} (hk : k ≤ 16) (hm : m.toBitVec.toNat = 2 ^ k - 1) : (x &&& m).toInt = x.toInt % ((2 ^ k : Nat) : Int) := by
  have h2 : 2 ^ k ≤ 2 ^ 16 := Nat.pow_le_pow_right (by decide) hk
  have h0 : 0 < 2 ^ k := Nat.pow_pos (by decide)
  have h3 : 2 ^ 16 = 65536 := by decide
  have hl := Nat.mod_lt x.toBitVec.toNat h0
  rw [pk_and x k hm, nI_toInt (by omega)]
  have e : x.toInt = x.toBitVec.toInt := rfl
  obtain ⟨c, hc⟩ : ∃ c : Nat, 4294967296 = 2 ^ k * c := ⟨2 ^ (32 - k), by rw [← Nat.pow_add, show k + (32 - k) = 32 by omega]⟩
  rw [e, BitVec.toInt_eq_toNat_cond]
  split
  · rfl
  · have : ((2 ^ 32 : Nat) : Int) = ((2 ^ k : Nat) : Int) * (c : Int) := by rw [← Int.natCast_mul, ← hc]
    rw [this, Int.sub_mul_emod_self_left]
    rfl
theorem pi_and255 {x : Int32} : (x &&& 255).toInt = x.toInt % 256 := pi_mask x (k := 8) (by decide) (by decide)
theorem pi_rem255 {x : Int32} (hx : 0 ≤ x.toInt) : cx_rem x 256 = x &&& 255 := by
  rw [i32_eq, pi_rem256 hx, pi_and255]
theorem pi_max {x y : Int32} : (cx_max x y).toInt = max x.toInt y.toInt := by
  unfold cx_max
  split
  · next h => rw [i32_lt] at h; omega
  · next h => rw [i32_lt] at h; omega
theorem pi_min {x y : Int32} : (cx_min x y).toInt = min x.toInt y.toInt := by
  unfold cx_min
  split
  · next h => rw [i32_lt] at h; omega
  · next h => rw [i32_lt] at h; omega
theorem pi_nI {n : Nat} (h : n < 2147483648) : (nI n).toInt = (n : Int) := nI_toInt h
/-- an int that is not below nought as a number -/
def pn (x : Int32) : Nat := x.toNatClampNeg
theorem pn_def (x : Int32) : pn x = x.toInt.toNat := rfl
theorem pn_nI {x : Int32} (h : 0 ≤ x.toInt) : x = nI (pn x) := by
  have := i32_rng x
  rw [i32_eq, pi_nI (by rw [pn_def]; omega), pn_def]
  omega
theorem pn_inj {x y : Int32} (hx : 0 ≤ x.toInt) (hy : 0 ≤ y.toInt) (h : pn x = pn y) : x = y := by rw [pn_nI hx, pn_nI hy, h]
theorem pi_mulb {a b A B : Int} (ha : 0 ≤ a) (hA : a ≤ A) (hb : 0 ≤ b) (hB : b ≤ B) : 0 ≤ a * b ∧ a * b ≤ A * B :=
  ⟨Int.mul_nonneg ha hb, Int.mul_le_mul hA hB hb (by omega)⟩
theorem px_ld {M : cx_M} {c n : Nat} {i : Int32} {f : Int32 → Option cx_R} (h0 : 0 ≤ i.toInt) (h1 : i.toInt < n) : cx_ld M c n i f = f (M c (pn i)) := by
  unfold cx_ld pn
  rw [if_neg]
  rw [i32_lt, i32_nat]
  have : (0 : Int32).toInt = 0 := rfl
  omega
theorem px_st {M : cx_M} {c n : Nat} {i v : Int32} {f : cx_M → Option cx_R} (h0 : 0 ≤ i.toInt) (h1 : i.toInt < n) : cx_st M c n i v f = f (cx_up M c (pn i) v) := by
  unfold cx_st pn
  rw [if_neg]
  rw [i32_lt, i32_nat]
  have : (0 : Int32).toInt = 0 := rfl
  omega
theorem px_nz {b : Int32} {f : Option cx_R} (h : b ≠ 0) : cx_nz b f = f := by unfold cx_nz; rw [if_neg h]
theorem px_cal {o : Option cx_R} {M : cx_M} {v : Int32} {x : Nat} {f : cx_M → Int32 → Option cx_R} (h : o = some (M, v, x)) : cx_cal o f = f M v := by rw [h]; rfl
theorem px_up (M : cx_M) (c k : Nat) (v : Int32) (d j : Nat) : cx_up M c k v d j = if d = c ∧ j = k then v else M d j := by
  unfold cx_up cx_set upd
  by_cases h : d = c
  · subst h; simp
  · simp [h]
theorem px_upc {M : cx_M} {c k : Nat} {v : Int32} {d : Nat} (h : d ≠ c) : cx_up M c k v d = M d := by
  unfold cx_up cx_set; rw [if_neg h]
theorem px_setc {M : cx_M} {c d : Nat} {f : Nat → Int32} (h : d ≠ c) : cx_set M c f d = M d := by unfold cx_set; rw [if_neg h]
theorem px_sets {M : cx_M} {c : Nat} {f : Nat → Int32} : cx_set M c f c = f := by unfold cx_set; rw [if_pos rfl]
theorem px_comm {M : cx_M} {c k d j : Nat} {v w : Int32} (h : c ≠ d ∨ k ≠ j) : cx_up (cx_up M c k v) d j w = cx_up (cx_up M d j w) c k v := by
  funext a b
  rw [px_up, px_up, px_up, px_up]
  by_cases h1 : a = d ∧ b = j
  · by_cases h2 : a = c ∧ b = k
    · omega
    · rw [if_pos h1, if_neg h2, if_pos h1]
  · rw [if_neg h1, if_neg h1]
theorem px_upup {M : cx_M} {c k : Nat} {v w : Int32} : cx_up (cx_up M c k v) c k w = cx_up M c k w := by
  funext a b
  rw [px_up, px_up, px_up]
  split <;> rfl
/-! THE SPEC: a state's rows. 0: numbers (as the reference's row; 33, 34 gains, 35 whether a packet was dropped), 1 2 3: packet, due, stamp of what flies,
4: slots, 5: spots, 6: samples, 7: octets, 8: by fill -/
abbrev ps_S : Type := Nat → Nat → Int32
/-- what a line told: its numbers; octets; the rules of delay, of lost -/
abbrev ps_E : Type := (Nat → Int32) × (Int32 → Int32) × ((Nat → Int32) → Int32) × ((Nat → Int32) → Int32)
abbrev ps_T : Type := ps_S × List Bool
def ps_view (S : ps_S) : Nat → Int32 := fun k => if k = 0 then S 0 2 else if k = 1 then S 0 0 else if k = 2 then S 0 24 else S 0 31
def ps_delay (E : ps_E) (S : ps_S) : Int32 := if E.1 8 = 0 then 3 else cx_max 0 (cx_min 60 (E.2.2.1 (ps_view S)))
abbrev ps_rule (E : ps_E) (S : ps_S) : Prop := (0 < E.1 9 ∧ 0 < E.2.2.2 (ps_view S)) ∨ S 0 31 = 40
/-- whether the next packet is lost -/
def ps_isL (E : ps_E) (s : ps_T) : Bool := match s.2 with
  | x :: _ => x || decide (ps_rule E s.1)
  | [] => decide (0 < s.1 0 25) || decide (ps_rule E s.1)
def ps_draw (s : ps_T) : ps_T := match s.2 with
  | _ :: q => (s.1, q)
  | [] => if 0 < s.1 0 25 then (cx_up s.1 0 25 (s.1 0 25 - 1), []) else s
def ps_fly (S : ps_S) (d : Int32) : ps_S := cx_up (cx_up (cx_up (cx_up S 1 (pn (S 0 31)) (S 0 2)) 2 (pn (S 0 31)) (S 0 0 + d + S 0 26)) 3 (pn (S 0 31)) (S 0 0 &&& 255)) 0 31 (S 0 31 + 1)
def ps_send (E : ps_E) (s : ps_T) : ps_T :=
  let d := ps_delay E s.1
  let t := ps_draw s
  let S1 := if ps_isL E s = true then cx_up t.1 0 3 (t.1 0 3 + 1) else ps_fly t.1 d
  (cx_up (cx_up S1 0 24 d) 0 2 (S1 0 2 + 1), t.2)
def ps_made (E : ps_E) (s : ps_T) : ps_T :=
  let S1 := cx_up s.1 0 1 (s.1 0 1 + 1)
  if cx_rem (S1 0 1) (E.1 0) = 0 then ps_send E (S1, s.2) else (S1, s.2)
def ps_make (E : ps_E) : Nat → ps_T → ps_T
  | 0, s => s
  | n + 1, s => if s.1 0 22 < 1000 then s else ps_make E n (ps_made E (cx_up s.1 0 22 (s.1 0 22 - 1000), s.2))
def ps_far (E : ps_E) (s : ps_T) : ps_T := ps_make E 3 (cx_up s.1 0 22 (s.1 0 22 + (1000 + s.1 0 27)), s.2)
def ps_first (E : ps_E) (S : ps_S) (p st : Int32) : ps_S :=
  let n := cx_rem p 64
  cx_up (cx_up (cx_up (cx_up (cx_up (cx_up (cx_up (cx_up (cx_up S 0 14 (E.1 0 * n)) 0 8 1) 0 16 p) 0 15 (E.1 0 * n)) 0 17 n) 0 18 n) 0 19 st) 0 20 0) 0 21 0
def ps_lay (S : ps_S) (n sp p st : Int32) : ps_S :=
  let S2 := cx_up (cx_up S 4 (pn n) p) 5 (pn n) sp
  if S 0 18 < sp then cx_up (cx_up (cx_up (cx_up S2 0 21 (sp - S 0 17)) 0 20 (S 0 20 + ((st - S 0 19) &&& 255))) 0 18 sp) 0 19 st else S2
def ps_come2 (E : ps_E) (S1 : ps_S) (n p st : Int32) : ps_S :=
  let sp := S1 0 14 / E.1 0
  let a := cx_rem (n - cx_rem sp 64 + 64) 64
  if a < 32 then (if a < 16 then ps_lay S1 n (sp + a) p st else cx_up (cx_up S1 0 5 (S1 0 5 + 1)) 0 35 1) else cx_up (cx_up S1 0 4 (S1 0 4 + 1)) 0 35 1
def ps_come (E : ps_E) (S : ps_S) (p st : Int32) : ps_S := ps_come2 E (if S 0 8 = 0 then ps_first E S p st else S) (cx_rem p 64) p st
def ps_move (S : ps_S) (k l : Nat) : ps_S := cx_up (cx_up (cx_up S 1 l (S 1 k)) 2 l (S 2 k)) 3 l (S 3 k)
def ps_wipe (S : ps_S) (l m : Nat) : ps_S := fun c k => if (1 ≤ c ∧ c ≤ 3) ∧ (l ≤ k ∧ k < m) then 0 else S c k
def ps_recv (E : ps_E) : Nat → Nat → Nat → ps_S → ps_S
  | 0, k, l, S => cx_up (ps_wipe S l k) 0 31 (nI l)
  | m + 1, k, l, S => if S 2 k ≤ S 0 0 then ps_recv E m (k + 1) l (ps_come E S (S 1 k) (S 3 k)) else ps_recv E m (k + 1) (l + 1) (ps_move S k l)
def ps_top (S : ps_S) (sp : Int32) : Nat → Int32
  | 0 => -1
  | n + 1 => if S 4 n = -1 ∨ S 5 n < sp then ps_top S sp n else cx_max (ps_top S sp n) (S 5 n)
def ps_level (E : ps_E) (S : ps_S) : Int32 :=
  let h := ps_top S (S 0 14 / E.1 0) 64
  if S 0 8 = 0 ∨ h = -1 then 0 else (h + 1) * E.1 0 - S 0 14
def ps_begin (S : ps_S) (l : Int32) : ps_S := if S 0 8 = 1 ∧ ¬ l < S 0 29 then cx_up (cx_up (cx_up (cx_up (cx_up S 0 8 2) 0 23 0) 0 10 0) 0 9 0) 0 11 0 else S
def ps_turn (S : ps_S) (l : Int32) : ps_S :=
  let e := l - S 0 29
  let g := cx_max (-3200) (cx_min 3200 (S 0 10 + S 0 34 * e))
  let c := cx_max (-200) (cx_min 200 ((S 0 33 * e + g) / 16))
  cx_up (cx_up (cx_up (cx_up S 0 10 g) 0 9 c) 6 (pn (cx_rem (S 0 32) 128)) (S 0 11)) 0 32 (S 0 32 + 1)
def ps_steer (E : ps_E) (S : ps_S) : ps_S :=
  let l := ps_level E S
  let S1 := ps_begin S l
  if S1 0 8 = 2 ∧ cx_rem (S1 0 0) (E.1 4) = 0 then ps_turn S1 l else S1
def ps_back (S : ps_S) (n : Int32) : Int32 := if n ≤ S 0 6 then S 7 (pn (cx_rem (S 0 6 - n) 128)) else 126
def ps_fill (E : ps_E) (S : ps_S) : Int32 := if S 0 28 = 1 then 126 else ps_back S (if S 0 28 = 0 then 1 else E.1 6)
abbrev ps_is (E : ps_E) (S : ps_S) : Prop := S 4 (pn (cx_rem (S 0 14 / E.1 0) 64)) ≠ -1 ∧ S 5 (pn (cx_rem (S 0 14 / E.1 0) 64)) = S 0 14 / E.1 0
def ps_empty (S : ps_S) : ps_S := fun c k => if (c = 4 ∨ c = 5) ∧ k < 64 then -1 else S c k
def ps_o (E : ps_E) (S : ps_S) : Int32 := if ps_is E S then E.2.1 (S 4 (pn (cx_rem (S 0 14 / E.1 0) 64)) * E.1 0 + cx_rem (S 0 14) (E.1 0)) else ps_fill E S
def ps_w (E : ps_E) (S : ps_S) : Int32 := if ps_is E S ∧ ps_o E S ≠ E.2.1 (S 0 16 * E.1 0 + S 0 14 - S 0 15) then S 0 13 + 1 else S 0 13
/-- a play ahead of the reset -/
def ps_put (E : ps_E) (S : ps_S) (o w : Int32) (is : Bool) : ps_S :=
  cx_up (cx_up (cx_up (cx_up (cx_up (cx_up (cx_up S 0 13 w) 0 7 (if is = true then S 0 7 else S 0 7 + 1)) 0 30 (if is = true then 0 else S 0 30 + 1)) 7 (pn (cx_rem (S 0 6) 128)) o) 8 (pn (cx_rem (S 0 6) 128)) (if is = true then 0 else 1)) 0 6 (S 0 6 + 1)) 0 14 (S 0 14 + 1)
def ps_end (S : ps_S) : ps_S := if S 0 30 < 64 then S else ps_empty (cx_up (cx_up (cx_up S 0 30 0) 0 8 0) 0 12 (S 0 12 + 1))
def ps_play (E : ps_E) (S : ps_S) : ps_S := ps_end (ps_put E S (ps_o E S) (ps_w E S) (decide (ps_is E S)))
def ps_plays (E : ps_E) : Nat → ps_S → ps_S
  | 0, S => S
  | n + 1, S => if ¬ S 0 23 < 1000 ∧ S 0 8 = 2 then ps_plays E n (ps_play E (cx_up S 0 23 (S 0 23 - 1000))) else S
def ps_near (E : ps_E) (S : ps_S) : ps_S :=
  if S 0 8 = 2 then ps_plays E 3 (cx_up (cx_up S 0 23 (S 0 23 + (1000 + S 0 9))) 0 11 (S 0 11 + (S 0 27 - S 0 9))) else S
def ps_step (E : ps_E) (s : ps_T) : ps_T :=
  let t := ps_far E (cx_up s.1 0 35 0, s.2)
  let S2 := ps_near E (ps_steer E (ps_recv E (pn (t.1 0 31)) 0 0 t.1))
  (cx_up S2 0 0 (S2 0 0 + 1), t.2)
def ps_steps (E : ps_E) : Nat → ps_T → ps_T
  | 0, s => s
  | n + 1, s => ps_step E (ps_steps E n s)
/-! WHAT HOLDS OF A STATE -/
def ps_EO (E : ps_E) : Prop :=
  (1 ≤ (E.1 0).toInt ∧ (E.1 0).toInt ≤ 8) ∧ (1 ≤ (E.1 4).toInt ∧ (E.1 4).toInt ≤ 16) ∧ (1 ≤ (E.1 6).toInt ∧ (E.1 6).toInt ≤ 8) ∧ (0 ≤ (E.1 8).toInt ∧ 0 ≤ (E.1 9).toInt) ∧
  (∀ v w : Nat → Int32, (∀ k, k < 4 → v k = w k) → E.2.2.1 v = E.2.2.1 w) ∧ (∀ v w : Nat → Int32, (∀ k, k < 4 → v k = w k) → E.2.2.2 v = E.2.2.2 w)
/-- numbers: at most a packets made, p octets played, c dropped -/
def ps_Jn (E : ps_E) (S : ps_S) (a p c : Int) : Prop :=
  (0 ≤ (S 0 0).toInt ∧ (S 0 0).toInt ≤ 30000 ∧ a ≤ 90000 ∧ p ≤ 90000 ∧ c ≤ 2000000) ∧
  (0 ≤ (S 0 1).toInt ∧ (S 0 1).toInt ≤ a ∧ 0 ≤ (S 0 2).toInt ∧ (S 0 2).toInt ≤ (S 0 1).toInt) ∧
  (0 ≤ (S 0 4).toInt ∧ 0 ≤ (S 0 5).toInt ∧ (S 0 4).toInt + (S 0 5).toInt ≤ c ∧ 0 ≤ (S 0 31).toInt ∧ (S 0 31).toInt ≤ 40) ∧
  (0 ≤ (S 0 6).toInt ∧ (S 0 6).toInt ≤ p ∧ 0 ≤ (S 0 12).toInt ∧ (S 0 12).toInt ≤ (S 0 7).toInt ∧ (S 0 7).toInt ≤ (S 0 6).toInt) ∧
  (0 ≤ (S 0 8).toInt ∧ (S 0 8).toInt ≤ 2 ∧ -200 ≤ (S 0 9).toInt ∧ (S 0 9).toInt ≤ 200) ∧
  (0 ≤ (S 0 15).toInt ∧ (S 0 15).toInt ≤ 504 ∧ (S 0 15).toInt ≤ (S 0 14).toInt ∧ (S 0 14).toInt ≤ 504 + (S 0 6).toInt) ∧
  (0 ≤ (S 0 16).toInt ∧ (S 0 16).toInt ≤ 90000 ∧ (S 0 17).toInt = (S 0 15).toInt / (E.1 0).toInt ∧ 0 ≤ (S 0 19).toInt ∧ (S 0 19).toInt ≤ 255) ∧
  (-99 ≤ (S 0 27).toInt ∧ (S 0 27).toInt ≤ 99 ∧ 0 ≤ (S 0 28).toInt ∧ (S 0 28).toInt ≤ 2 ∧ 0 ≤ (S 0 32).toInt ∧ (S 0 32).toInt ≤ p)
def ps_Jf (S : ps_S) (m : Nat) : Prop := ∀ k, k < m → (0 ≤ (S 1 k).toInt ∧ (S 1 k).toInt ≤ 90000) ∧ 0 ≤ (S 3 k).toInt ∧ (S 3 k).toInt ≤ 255
def ps_Js (S : ps_S) : Prop := (∀ k, k < 64 → (S 4 k = -1 ∧ S 5 k = -1) ∨ ((0 ≤ (S 4 k).toInt ∧ (S 4 k).toInt ≤ 90000) ∧ 0 ≤ (S 5 k).toInt ∧ (S 5 k).toInt ≤ 100000)) ∧ (S 0 8 = 0 → ∀ k, k < 64 → S 4 k = -1 ∧ S 5 k = -1)
def ps_Jb (S : ps_S) : Prop := ∀ k, k < 128 → S 8 k = 0 ∨ S 8 k = 1
def ps_J (E : ps_E) (S : ps_S) (a p c : Int) : Prop := ps_Jn E S a p c ∧ ps_Jf S (pn (S 0 31)) ∧ ps_Js S ∧ ps_Jb S
/-- between steps: T steps behind the beginning -/
def ps_I (E : ps_E) (S : ps_S) (T : Nat) : Prop := ps_J E S (3 * T) (4 * T) (40 * T) ∧ S 0 0 = nI T ∧ T ≤ 22000 ∧ (0 ≤ (S 0 22).toInt ∧ (S 0 22).toInt < 1000) ∧ (S 0 8 = 2 → 0 ≤ (S 0 23).toInt ∧ (S 0 23).toInt < 1000)
def ps_used : List Nat := [0, 1, 2, 4, 5, 31, 6, 12, 7, 8, 9, 14, 15, 16, 17, 19, 27, 28, 32]
theorem ps_J_congr {E : ps_E} {S S' : ps_S} {a p c : Int} (h0 : ∀ j ∈ ps_used, S' 0 j = S 0 j) (hc : ∀ c, c ≠ 0 → S' c = S c) (h : ps_J E S a p c) : ps_J E S' a p c := by
  have e (j : Nat) (hj : j ∈ ps_used) : S' 0 j = S 0 j := h0 j hj
  obtain ⟨hn, hf, hs, hb⟩ := h
  refine ⟨?_, ?_, ?_, ?_⟩
  · unfold ps_Jn at hn ⊢
    rw [e 0 (by decide), e 1 (by decide), e 2 (by decide), e 4 (by decide), e 5 (by decide), e 31 (by decide), e 6 (by decide), e 12 (by decide), e 7 (by decide), e 8 (by decide), e 9 (by decide), e 14 (by decide), e 15 (by decide), e 16 (by decide), e 17 (by decide), e 19 (by decide), e 27 (by decide), e 28 (by decide), e 32 (by decide)]
    exact hn
  · unfold ps_Jf at hf ⊢
    rw [e 31 (by decide), hc 1 (by decide), hc 3 (by decide)]
    exact hf
  · unfold ps_Js at hs ⊢
    rw [e 8 (by decide), hc 4 (by decide), hc 5 (by decide)]
    exact hs
  · unfold ps_Jb at hb ⊢
    rw [hc 8 (by decide)]
    exact hb
theorem ps_J_up {E : ps_E} {S : ps_S} {a p c : Int} {k : Nat} (v : Int32) (hk : k ∉ ps_used) (h : ps_J E S a p c) : ps_J E (cx_up S 0 k v) a p c :=
  ps_J_congr (fun j hj => by rw [px_up, if_neg (show ¬ (0 = 0 ∧ j = k) from fun x => hk (x.2 ▸ hj))]) (fun d hd => px_upc hd) h
theorem ps_J_mono {E : ps_E} {S : ps_S} {a p c a' p' c' : Int} (h : ps_J E S a p c) (ha : a ≤ a') (hp : p ≤ p') (hc : c ≤ c') (ha' : a' ≤ 90000) (hp' : p' ≤ 90000) (hc' : c' ≤ 2000000) : ps_J E S a' p' c' := by
  obtain ⟨hn, hr⟩ := h
  refine ⟨?_, hr⟩
  unfold ps_Jn at hn ⊢
  omega
theorem ps_draw_n (s : ps_T) {k : Nat} (h : k ≠ 25) : (ps_draw s).1 0 k = s.1 0 k := by
  unfold ps_draw
  split
  · rfl
  · split
    · show cx_up s.1 0 25 _ 0 k = _
      rw [px_up, if_neg (by omega)]
    · rfl
theorem ps_draw_c (s : ps_T) {c : Nat} (h : c ≠ 0) : (ps_draw s).1 c = s.1 c := by
  unfold ps_draw
  split
  · rfl
  · split
    · exact px_upc h
    · rfl
theorem pn_succ {x : Int32} (h0 : 0 ≤ x.toInt) (h1 : x.toInt < 2147483647) : pn (x + 1) = pn x + 1 := by
  rw [pn_def, pn_def, i32_add (by rw [i32_1]; omega) (by rw [i32_1]; omega), i32_1]
  omega
theorem pi_succ {x : Int32} (h0 : -2147483648 ≤ x.toInt) (h1 : x.toInt < 2147483647) : (x + 1).toInt = x.toInt + 1 := by
  rw [i32_add (by rw [i32_1]; omega) (by rw [i32_1]; omega), i32_1]
theorem ps_send_J {E : ps_E} {s : ps_T} {a p c : Int} (h : ps_J E s.1 a p c) (hs : (s.1 0 2).toInt < (s.1 0 1).toInt) : ps_J E (ps_send E s).1 a p c := by
  have hd : ps_J E (ps_draw s).1 a p c := ps_J_congr (fun j hj => ps_draw_n s (fun e => by subst e; revert hj; decide)) (fun d hd => ps_draw_c s hd) h
  have hx : (ps_draw s).1 0 2 = s.1 0 2 := ps_draw_n s (by decide)
  have hx1 : (ps_draw s).1 0 1 = s.1 0 1 := ps_draw_n s (by decide)
  have hx31 : (ps_draw s).1 0 31 = s.1 0 31 := ps_draw_n s (by decide)
  have hn0 := h.1
  unfold ps_Jn at hn0
  have e2 : (s.1 0 2 + 1).toInt = (s.1 0 2).toInt + 1 := pi_succ (by omega) (by omega)
  unfold ps_send
  try dsimp only
  by_cases hl : ps_isL E s = true
  · simp only [if_pos hl]
    generalize (ps_draw s).1 = S at hd hx hx1
    have hd3 : ps_J E (cx_up (cx_up S 0 3 (S 0 3 + 1)) 0 24 (ps_delay E s.1)) a p c := ps_J_up _ (by decide) (ps_J_up _ (by decide) hd)
    obtain ⟨hn, hf, hsl, hb⟩ := hd3
    have e2' : (S 0 2 + 1).toInt = (S 0 2).toInt + 1 := by rw [hx]; exact e2
    have hs' : (S 0 2).toInt < (S 0 1).toInt := by rw [hx, hx1]; exact hs
    refine ⟨?_, ?_, ?_, ?_⟩
    · unfold ps_Jn at hn ⊢
      simp (decide := true) only [px_up, false_and, and_false, true_and, and_true, ↓reduceIte] at hn ⊢
      rw [e2']
      omega
    · exact hf
    · exact hsl
    · exact hb
  · have h31 : s.1 0 31 ≠ 40 := by
      intro e
      apply hl
      unfold ps_isL
      split <;> simp [ps_rule, e]
    simp only [if_neg hl]
    generalize (ps_draw s).1 = S at hd hx hx1 hx31
    have e31 : (S 0 31 + 1).toInt = (S 0 31).toInt + 1 := by rw [hx31]; exact pi_succ (by omega) (by omega)
    have p31 : pn (S 0 31 + 1) = pn (S 0 31) + 1 := by rw [hx31]; exact pn_succ (by omega) (by omega)
    have h40 : (s.1 0 31).toInt ≠ 40 := fun e => h31 (i32_eq.mpr e)
    have h255 : (S 0 0 &&& 255).toInt = (S 0 0).toInt % 256 := pi_and255
    have hS2 : (S 0 2).toInt ≤ 90000 ∧ 0 ≤ (S 0 2).toInt := by rw [hx]; omega
    have e2' : (S 0 2 + 1).toInt = (S 0 2).toInt + 1 := by rw [hx]; exact e2
    have hs' : (S 0 2).toInt < (S 0 1).toInt := by rw [hx, hx1]; exact hs
    have h40' : (S 0 31).toInt ≠ 40 := by rw [hx31]; exact h40
    obtain ⟨hn, hf, hsl, hb⟩ := hd
    refine ⟨?_, ?_, ?_, ?_⟩
    · unfold ps_Jn ps_fly at *
      simp (decide := true) only [px_up, false_and, and_false, true_and, and_true, ↓reduceIte] at hn ⊢
      rw [e31, e2']
      omega
    · intro k hk
      unfold ps_fly at hk ⊢
      simp (decide := true) only [px_up, false_and, and_false, true_and, and_true, ↓reduceIte] at hk ⊢
      rw [p31] at hk
      by_cases ek : k = pn (S 0 31)
      · subst ek
        simp only [and_self, ↓reduceIte, true_and]
        rw [h255]
        omega
      · simp only [ek, and_false, ↓reduceIte]
        exact hf k (by omega)
    · exact hsl
    · exact hb
theorem ps_made_J {E : ps_E} {s : ps_T} {a p c : Int} (h : ps_J E s.1 a p c) (ha : a + 1 ≤ 90000) : ps_J E (ps_made E s).1 (a + 1) p c := by
  have hn0 := h.1
  unfold ps_Jn at hn0
  have e1 : (s.1 0 1 + 1).toInt = (s.1 0 1).toInt + 1 := pi_succ (by omega) (by omega)
  have h1 : ps_J E (cx_up s.1 0 1 (s.1 0 1 + 1)) (a + 1) p c := by
    obtain ⟨hn, hf, hsl, hb⟩ := h
    refine ⟨?_, hf, hsl, hb⟩
    unfold ps_Jn at hn ⊢
    simp (decide := true) only [px_up, false_and, and_false, true_and, and_true, ↓reduceIte] at hn ⊢
    rw [e1]
    omega
  unfold ps_made
  try dsimp only
  split
  · refine ps_send_J h1 ?_
    simp (decide := true) only [px_up, false_and, and_false, true_and, and_true, ↓reduceIte]
    omega
  · exact h1
theorem ps_make_J {E : ps_E} {p c : Int} : ∀ (n : Nat) (s : ps_T) (a : Int), ps_J E s.1 a p c → a + n ≤ 90000 → ps_J E (ps_make E n s).1 (a + n) p c := by
  intro n
  induction n with
  | zero => intro s a h ha; rw [show ∀ z : Int, z + ((0 : Nat) : Int) = z by omega]; exact h
  | succ n ih =>
    intro s a h ha
    unfold ps_make
    split
    · exact ps_J_mono h (by omega) (Int.le_refl _) (Int.le_refl _) (by omega) (by have := h.1; unfold ps_Jn at this; omega) (by have := h.1; unfold ps_Jn at this; omega)
    · have := ih _ (a + 1) (ps_made_J (s := (cx_up s.1 0 22 (s.1 0 22 - 1000), s.2)) (ps_J_up _ (by decide) h) (by omega)) (by omega)
      rw [show a + ((n + 1 : Nat) : Int) = a + 1 + n by omega]
      exact this
theorem ps_first_J {E : ps_E} {S : ps_S} {a p c : Int} {pk st : Int32} (hE : ps_EO E) (h : ps_J E S a p c) (hp : 0 ≤ pk.toInt ∧ pk.toInt ≤ 90000) (hst : 0 ≤ st.toInt ∧ st.toInt ≤ 255) : ps_J E (ps_first E S pk st) a p c := by
  obtain ⟨hn, hf, hsl, hb⟩ := h
  have hr := pi_rem64 hp.1
  obtain ⟨⟨hE1, hE2⟩, -⟩ := hE
  have hm := pi_mulb (a := (E.1 0).toInt) (b := (cx_rem pk 64).toInt) (A := 8) (B := 63) (by omega) hE2 (by omega) (by omega)
  have em : (E.1 0 * cx_rem pk 64).toInt = (E.1 0).toInt * (cx_rem pk 64).toInt := pi_mul (by omega) (by omega)
  have e17 : (cx_rem pk 64).toInt = (E.1 0).toInt * (cx_rem pk 64).toInt / (E.1 0).toInt := by
    rw [Int.mul_ediv_cancel_left _ (by omega)]
  refine ⟨?_, hf, ?_, hb⟩
  · unfold ps_Jn ps_first at *
    simp (decide := true) only [px_up, false_and, and_false, true_and, and_true, ↓reduceIte] at hn ⊢
    rw [em]
    refine ⟨hn.1, hn.2.1, hn.2.2.1, hn.2.2.2.1, by omega, by omega, ⟨by omega, by omega, e17, by omega, by omega⟩, hn.2.2.2.2.2.2.2⟩
  · refine ⟨hsl.1, fun e => absurd e ?_⟩
    unfold ps_first
    simp (decide := true) only [px_up, false_and, and_false, true_and, and_true, ↓reduceIte]
    all_goals decide
theorem ps_a_bd {n sp : Int32} (hn : 0 ≤ n.toInt ∧ n.toInt < 64) (hs : 0 ≤ sp.toInt) : (cx_rem (n - cx_rem sp 64 + 64) 64).toInt = (n.toInt - sp.toInt % 64 + 64) % 64 := by
  have h1 := pi_rem64 hs
  have h64 : (64 : Int32).toInt = 64 := rfl
  have h2 : (n - cx_rem sp 64).toInt = n.toInt - sp.toInt % 64 := by rw [i32_sub (by omega) (by omega), h1]
  have h3 : (n - cx_rem sp 64 + 64).toInt = n.toInt - sp.toInt % 64 + 64 := by rw [i32_add (by omega) (by omega), h2, h64]
  rw [pi_rem64 (by omega), h3]
theorem ps_come_J {E : ps_E} {S : ps_S} {a p c : Int} {pk st : Int32} (hE : ps_EO E) (h : ps_J E S a p c) (hp : 0 ≤ pk.toInt ∧ pk.toInt ≤ 90000) (hst : 0 ≤ st.toInt ∧ st.toInt ≤ 255) (hc : c + 1 ≤ 2000000) : ps_J E (ps_come E S pk st) a p (c + 1) := by
  have h1 : ps_J E (if S 0 8 = 0 then ps_first E S pk st else S) a p c ∧ (if S 0 8 = 0 then ps_first E S pk st else S) 0 8 ≠ 0 := by
    split
    · refine ⟨ps_first_J hE h hp hst, ?_⟩
      unfold ps_first
      simp (decide := true) only [px_up, false_and, and_false, true_and, and_true, ↓reduceIte]
      all_goals decide
    · next e => exact ⟨h, e⟩
  unfold ps_come ps_come2
  generalize (if S 0 8 = 0 then ps_first E S pk st else S) = S1 at h1 ⊢
  obtain ⟨h1, h8⟩ := h1
  obtain ⟨hn, hf, hsl, hb⟩ := h1
  have hn0 := hn
  unfold ps_Jn at hn0
  obtain ⟨⟨hE1, hE2⟩, -⟩ := hE
  have hr := pi_rem64 hp.1
  have hd : (S1 0 14 / E.1 0).toInt = (S1 0 14).toInt / (E.1 0).toInt := pi_div (by omega) (by omega)
  have hd0 : 0 ≤ (S1 0 14).toInt / (E.1 0).toInt := Int.ediv_nonneg (by omega) (by omega)
  have hd1 : (S1 0 14).toInt / (E.1 0).toInt ≤ (S1 0 14).toInt := Int.ediv_le_self _ (by omega)
  have ha := ps_a_bd (n := cx_rem pk 64) (sp := S1 0 14 / E.1 0) (by omega) (by omega)
  try dsimp only
  split
  · next hlt =>
    split
    · next hlt2 =>
      have h16 : (16 : Int32).toInt = 16 := rfl
      rw [i32_lt, h16] at hlt2
      generalize hae : cx_rem (cx_rem pk 64 - cx_rem (S1 0 14 / E.1 0) 64 + 64) 64 = A at ha hlt hlt2 ⊢
      have hsp : (S1 0 14 / E.1 0 + A).toInt = (S1 0 14).toInt / (E.1 0).toInt + A.toInt := by rw [i32_add (by omega) (by omega), hd]
      have hpn : pn (cx_rem pk 64) < 64 := by rw [pn_def]; omega
      have key : ps_J E (cx_up (cx_up S1 4 (pn (cx_rem pk 64)) pk) 5 (pn (cx_rem pk 64)) (S1 0 14 / E.1 0 + A)) a p (c + 1) := by
        refine ⟨?_, hf, ⟨?_, fun e => absurd e h8⟩, hb⟩
        · unfold ps_Jn at hn ⊢
          simp (decide := true) only [px_up, false_and, and_false, true_and, and_true, ↓reduceIte] at hn ⊢
          omega
        · intro k hk
          simp (decide := true) only [px_up, false_and, and_false, true_and, and_true, ↓reduceIte]
          by_cases ek : k = pn (cx_rem pk 64)
          · right
            subst ek
            simp only [and_self, ↓reduceIte, true_and]
            omega
          · simp only [ek, and_false, ↓reduceIte]
            exact hsl.1 k hk
      unfold ps_lay
      try dsimp only
      split
      · refine ⟨?_, key.2.1, key.2.2.1, key.2.2.2⟩
        have hk := key.1
        unfold ps_Jn at hk ⊢
        simp (decide := true) only [px_up, false_and, and_false, true_and, and_true, ↓reduceIte] at hk ⊢
        omega
      · exact key
    · have e5 : (S1 0 5 + 1).toInt = (S1 0 5).toInt + 1 := pi_succ (by omega) (by omega)
      refine ps_J_up _ (by decide) ⟨?_, hf, hsl, hb⟩
      unfold ps_Jn at hn ⊢
      simp (decide := true) only [px_up, false_and, and_false, true_and, and_true, ↓reduceIte] at hn ⊢
      omega
  · have e4 : (S1 0 4 + 1).toInt = (S1 0 4).toInt + 1 := pi_succ (by omega) (by omega)
    refine ps_J_up _ (by decide) ⟨?_, hf, hsl, hb⟩
    unfold ps_Jn at hn ⊢
    simp (decide := true) only [px_up, false_and, and_false, true_and, and_true, ↓reduceIte] at hn ⊢
    omega
theorem ps_fly_0 {S : ps_S} {d : Int32} {j : Nat} (h : j ≠ 31) : ps_fly S d 0 j = S 0 j := by
  unfold ps_fly
  simp (decide := true) only [px_up, false_and, and_false, true_and, and_true, h, ↓reduceIte]
theorem ps_send_0 {E : ps_E} {s : ps_T} {j : Nat} (h : j ∉ [25, 3, 31, 24, 2]) : (ps_send E s).1 0 j = s.1 0 j := by
  have n1 : j ≠ 25 := fun e => h (by rw [e]; decide)
  have n2 : j ≠ 3 := fun e => h (by rw [e]; decide)
  have n3 : j ≠ 31 := fun e => h (by rw [e]; decide)
  have n4 : j ≠ 24 := fun e => h (by rw [e]; decide)
  have n5 : j ≠ 2 := fun e => h (by rw [e]; decide)
  unfold ps_send
  try dsimp only
  by_cases hl : ps_isL E s = true
  · simp only [if_pos hl, px_up, n2, n4, n5, and_false, ↓reduceIte]
    exact ps_draw_n s n1
  · simp only [if_neg hl, px_up, n4, n5, and_false, ↓reduceIte]
    rw [ps_fly_0 n3]
    exact ps_draw_n s n1
theorem ps_made_0 {E : ps_E} {s : ps_T} {j : Nat} (h : j ∉ [25, 3, 31, 24, 2, 1]) : (ps_made E s).1 0 j = s.1 0 j := by
  have n1 : j ≠ 1 := fun e => h (by rw [e]; decide)
  unfold ps_made
  try dsimp only
  split
  · rw [ps_send_0 (fun x => h (List.mem_append_left [1] x))]
    simp only [px_up, n1, and_false, ↓reduceIte]
  · simp only [px_up, n1, and_false, ↓reduceIte]
theorem ps_make_0 {E : ps_E} {j : Nat} (h : j ∉ [25, 3, 31, 24, 2, 1, 22]) : ∀ (n : Nat) (s : ps_T), (ps_make E n s).1 0 j = s.1 0 j := by
  have n1 : j ≠ 22 := fun e => h (by rw [e]; decide)
  intro n
  induction n with
  | zero => intro s; rfl
  | succ n ih =>
    intro s
    unfold ps_make
    split
    · rfl
    · rw [ih, ps_made_0 (fun x => h (List.mem_append_left [22] x))]
      simp only [px_up, n1, and_false, ↓reduceIte]
theorem ps_make_22 {E : ps_E} : ∀ (n : Nat) (s : ps_T), 0 ≤ (s.1 0 22).toInt → (s.1 0 22).toInt < 1000 * (n + 1) → 0 ≤ ((ps_make E n s).1 0 22).toInt ∧ ((ps_make E n s).1 0 22).toInt < 1000 := by
  intro n
  have hk : (1000 : Int32).toInt = 1000 := rfl
  induction n with
  | zero => intro s h1 h2; exact ⟨h1, by have h3 : ∀ x : Int, x < 1000 * (((0 : Nat) : Int) + 1) → x < 1000 := (by intro x hx; omega); exact h3 _ h2⟩
  | succ n ih =>
    intro s h1 h2
    unfold ps_make
    split
    · next h => rw [i32_lt, hk] at h; exact ⟨h1, h⟩
    · next h =>
      rw [i32_lt, hk] at h
      have hr := i32_rng (s.1 0 22)
      have e : (s.1 0 22 - 1000).toInt = (s.1 0 22).toInt - 1000 := by rw [i32_sub (by omega) (by omega), hk]
      have e2 : (ps_made E (cx_up s.1 0 22 (s.1 0 22 - 1000), s.2)).1 0 22 = s.1 0 22 - 1000 := by
        rw [ps_made_0 (by decide)]
        simp (decide := true) only [px_up, false_and, and_false, true_and, and_true, ↓reduceIte]
      refine ih _ ?_ ?_
      · rw [e2, e]; omega
      · rw [e2, e]; omega
theorem ps_first_0 {E : ps_E} {S : ps_S} {p st : Int32} {j : Nat} (h : j ∉ [14, 8, 16, 15, 17, 18, 19, 20, 21]) : ps_first E S p st 0 j = S 0 j := by
  have n1 : j ≠ 14 := fun e => h (by rw [e]; decide)
  have n2 : j ≠ 8 := fun e => h (by rw [e]; decide)
  have n3 : j ≠ 16 := fun e => h (by rw [e]; decide)
  have n4 : j ≠ 15 := fun e => h (by rw [e]; decide)
  have n5 : j ≠ 17 := fun e => h (by rw [e]; decide)
  have n6 : j ≠ 18 := fun e => h (by rw [e]; decide)
  have n7 : j ≠ 19 := fun e => h (by rw [e]; decide)
  have n8 : j ≠ 20 := fun e => h (by rw [e]; decide)
  have n9 : j ≠ 21 := fun e => h (by rw [e]; decide)
  unfold ps_first
  simp only [px_up, n1, n2, n3, n4, n5, n6, n7, n8, n9, and_false, ↓reduceIte]
theorem ps_first_c {E : ps_E} {S : ps_S} {p st : Int32} {c : Nat} (h : c ≠ 0) : ps_first E S p st c = S c := by
  funext j
  unfold ps_first
  simp only [px_up, h, false_and, ↓reduceIte]
theorem ps_lay_0 {S : ps_S} {n sp p st : Int32} {j : Nat} (h : j ∉ [18, 19, 20, 21]) : ps_lay S n sp p st 0 j = S 0 j := by
  have n6 : j ≠ 18 := fun e => h (by rw [e]; decide)
  have n7 : j ≠ 19 := fun e => h (by rw [e]; decide)
  have n8 : j ≠ 20 := fun e => h (by rw [e]; decide)
  have n9 : j ≠ 21 := fun e => h (by rw [e]; decide)
  unfold ps_lay
  try dsimp only
  split
  · simp (decide := true) only [px_up, false_and, and_false, true_and, and_true, n6, n7, n8, n9, ↓reduceIte]
  · simp (decide := true) only [px_up, false_and, and_false, true_and, and_true, ↓reduceIte]
theorem ps_lay_c {S : ps_S} {n sp p st : Int32} {c : Nat} (h0 : c ≠ 0) (h4 : c ≠ 4) (h5 : c ≠ 5) : ps_lay S n sp p st c = S c := by
  funext j
  unfold ps_lay
  try dsimp only
  split
  · simp only [px_up, h0, h4, h5, false_and, ↓reduceIte]
  · simp only [px_up, h4, h5, false_and, ↓reduceIte]
theorem ps_come_0 {E : ps_E} {S : ps_S} {p st : Int32} {j : Nat} (h : j ∉ [14, 8, 16, 15, 17, 18, 19, 20, 21, 4, 5, 35]) : ps_come E S p st 0 j = S 0 j := by
  have h1 : (if S 0 8 = 0 then ps_first E S p st else S) 0 j = S 0 j := by
    split
    · exact ps_first_0 (fun x => h (List.mem_append_left [4, 5, 35] x))
    · rfl
  have n1 : j ≠ 4 := fun e => h (by rw [e]; decide)
  have n2 : j ≠ 5 := fun e => h (by rw [e]; decide)
  have n3 : j ≠ 35 := fun e => h (by rw [e]; decide)
  unfold ps_come ps_come2
  try dsimp only
  generalize (if S 0 8 = 0 then ps_first E S p st else S) = S1 at h1 ⊢
  split
  · split
    · rw [ps_lay_0 (fun x => h ?_), h1]
      revert x
      exact (by decide : ∀ x ∈ [18, 19, 20, 21], x ∈ [14, 8, 16, 15, 17, 18, 19, 20, 21, 4, 5, 35]) j
    · rw [px_up, px_up, if_neg (by omega), if_neg (by omega), h1]
  · rw [px_up, px_up, if_neg (by omega), if_neg (by omega), h1]
theorem ps_come_c {E : ps_E} {S : ps_S} {p st : Int32} {c : Nat} (h0 : c ≠ 0) (h4 : c ≠ 4) (h5 : c ≠ 5) : ps_come E S p st c = S c := by
  have h1 : (if S 0 8 = 0 then ps_first E S p st else S) c = S c := by
    split
    · exact ps_first_c h0
    · rfl
  unfold ps_come ps_come2
  try dsimp only
  generalize (if S 0 8 = 0 then ps_first E S p st else S) = S1 at h1 ⊢
  split
  · split
    · rw [ps_lay_c h0 h4 h5, h1]
    · rw [px_upc h0, px_upc h0, h1]
  · rw [px_upc h0, px_upc h0, h1]
theorem ps_move_c {S : ps_S} {k l c : Nat} (h : c = 0 ∨ 4 ≤ c) : ps_move S k l c = S c := by
  unfold ps_move
  rw [px_upc (by omega), px_upc (by omega), px_upc (by omega)]
theorem ps_wipe_c {S : ps_S} {k l c : Nat} (h : c = 0 ∨ 4 ≤ c) : ps_wipe S k l c = S c := by
  funext j
  unfold ps_wipe
  rw [if_neg (by omega)]
theorem ps_recv_0 {E : ps_E} {j : Nat} (h : j ∉ [14, 8, 16, 15, 17, 18, 19, 20, 21, 4, 5, 35, 31]) : ∀ (m k l : Nat) (S : ps_S), ps_recv E m k l S 0 j = S 0 j := by
  have n1 : j ≠ 31 := fun e => h (by rw [e]; decide)
  intro m
  induction m with
  | zero =>
    intro k l S
    unfold ps_recv
    rw [px_up, if_neg (by omega), ps_wipe_c (Or.inl rfl)]
  | succ m ih =>
    intro k l S
    unfold ps_recv
    split
    · rw [ih, ps_come_0 (fun x => h (List.mem_append_left [31] x))]
    · rw [ih, ps_move_c (Or.inl rfl)]
theorem ps_recv_J {E : ps_E} {a p : Int} (hE : ps_EO E) : ∀ (m k l : Nat) (S : ps_S) (c : Int), ps_J E S a p c → pn (S 0 31) = k + m → l ≤ k → c + m ≤ 2000000 → ps_J E (ps_recv E m k l S) a p (c + m) := by
  intro m
  induction m with
  | zero =>
    intro k l S c h h31 hl hc
    have hk : k ≤ 40 := by
      have := h.1
      unfold ps_Jn at this
      rw [pn_def] at h31
      omega
    unfold ps_recv
    have e : (nI l).toInt = l := pi_nI (by omega)
    obtain ⟨hn, hf, hsl, hb⟩ := h
    refine ⟨?_, ?_, ?_, ?_⟩
    · unfold ps_Jn at hn ⊢
      simp (decide := true) only [px_up, false_and, and_false, true_and, and_true, ↓reduceIte] at hn ⊢
      rw [ps_wipe_c (Or.inl rfl), e]
      omega
    · intro j hj
      simp (decide := true) only [px_up, false_and, and_false, true_and, and_true, ↓reduceIte] at hj ⊢
      rw [pn_def, e] at hj
      unfold ps_wipe
      rw [if_neg (by omega), if_neg (by omega)]
      exact hf j (by omega)
    · have h4 : ps_wipe S l k 4 = S 4 := ps_wipe_c (by omega)
      have h5 : ps_wipe S l k 5 = S 5 := ps_wipe_c (by omega)
      have h0 : ps_wipe S l k 0 = S 0 := ps_wipe_c (by omega)
      unfold ps_Js at hsl ⊢
      rw [px_upc (by decide), px_upc (by decide), h4, h5, px_up, if_neg (by decide), h0]
      exact hsl
    · have h8 : ps_wipe S l k 8 = S 8 := ps_wipe_c (by omega)
      unfold ps_Jb at hb ⊢
      rw [px_upc (by decide), h8]
      exact hb
  | succ m ih =>
    intro k l S c h h31 hl hc
    have hk := h.2.1 k (by omega)
    unfold ps_recv
    split
    · have := ih (k + 1) l _ (c + 1) (ps_come_J hE h hk.1 hk.2 (by omega)) (by rw [ps_come_0 (by decide)]; omega) (by omega) (by omega)
      rw [show c + ((m + 1 : Nat) : Int) = c + 1 + m by omega]
      exact this
    · have hk40 : k + (m + 1) ≤ 40 := by
        have := h.1
        unfold ps_Jn at this
        rw [pn_def] at h31
        omega
      have hc0 : c + m ≤ 2000000 := by omega
      have h0 : ps_move S k l 0 = S 0 := ps_move_c (Or.inl rfl)
      have hm : ps_J E (ps_move S k l) a p c := by
        obtain ⟨hn, hf, hsl, hb⟩ := h
        refine ⟨?_, ?_, ?_, ?_⟩
        · unfold ps_Jn at hn ⊢
          rw [h0]
          exact hn
        · intro j hj
          rw [h0] at hj
          unfold ps_move
          simp (decide := true) only [px_up, false_and, and_false, true_and, and_true, ↓reduceIte]
          by_cases ej : j = l
          · simp only [ej, and_self, ↓reduceIte, true_and]
            exact hk
          · simp only [ej, and_false, ↓reduceIte]
            exact hf j hj
        · unfold ps_Js at hsl ⊢
          rw [h0, ps_move_c (by omega), ps_move_c (by omega)]
          exact hsl
        · unfold ps_Jb at hb ⊢
          rw [ps_move_c (by omega)]
          exact hb
      have := ih (k + 1) (l + 1) _ c hm (by rw [h0]; omega) (by omega) (by omega)
      exact ps_J_mono this (Int.le_refl _) (Int.le_refl _) (by omega) (by have := hm.1; unfold ps_Jn at this; omega) (by have := hm.1; unfold ps_Jn at this; omega) (by omega)
theorem ps_begin_J {E : ps_E} {S : ps_S} {a p c : Int} {l : Int32} (h : ps_J E S a p c) : ps_J E (ps_begin S l) a p c := by
  unfold ps_begin
  split
  · refine ps_J_up _ (by decide) ?_
    obtain ⟨hn, hf, hsl, hb⟩ := h
    refine ⟨?_, hf, ⟨hsl.1, fun e => absurd e ?_⟩, hb⟩
    · unfold ps_Jn at hn ⊢
      simp (decide := true) only [px_up, false_and, and_false, true_and, and_true, ↓reduceIte] at hn ⊢
      try rw [show (2 : Int32).toInt = 2 from rfl]
      try rw [show (0 : Int32).toInt = 0 from rfl]
      omega
    · simp (decide := true) only [px_up, false_and, and_false, true_and, and_true, ↓reduceIte]
      all_goals decide
  · exact h
theorem ps_clamp {k : Int} {lo hi x : Int32} (hl : lo.toInt = -k) (hh : hi.toInt = k) (hk : 0 ≤ k) : -k ≤ (cx_max lo (cx_min hi x)).toInt ∧ (cx_max lo (cx_min hi x)).toInt ≤ k := by
  rw [pi_max, pi_min]
  omega
theorem ps_turn_J {E : ps_E} {S : ps_S} {a p c : Int} {l : Int32} (h : ps_J E S a p c) (hp : p + 1 ≤ 90000) : ps_J E (ps_turn S l) a (p + 1) c := by
  have hn0 := h.1
  unfold ps_Jn at hn0
  have e32 : (S 0 32 + 1).toInt = (S 0 32).toInt + 1 := pi_succ (by omega) (by omega)
  unfold ps_turn
  have hc := ps_clamp (k := 200) (lo := -200) (hi := 200) (x := (S 0 33 * (l - S 0 29) + cx_max (-3200) (cx_min 3200 (S 0 10 + S 0 34 * (l - S 0 29)))) / 16) rfl rfl (by decide)
  try dsimp only
  obtain ⟨hn, hf, hsl, hb⟩ := h
  refine ⟨?_, hf, hsl, hb⟩
  unfold ps_Jn at hn ⊢
  simp (decide := true) only [px_up, false_and, and_false, true_and, and_true, ↓reduceIte] at hn ⊢
  rw [e32]
  omega
theorem ps_steer_J {E : ps_E} {S : ps_S} {a p c : Int} (h : ps_J E S a p c) (hp : p + 1 ≤ 90000) : ps_J E (ps_steer E S) a (p + 1) c := by
  unfold ps_steer
  try dsimp only
  have h1 := ps_begin_J (l := ps_level E S) h
  split
  · exact ps_turn_J h1 hp
  · exact ps_J_mono h1 (Int.le_refl _) (by omega) (Int.le_refl _) (by have := h.1; unfold ps_Jn at this; omega) hp (by have := h.1; unfold ps_Jn at this; omega)
theorem ps_begin_0 {S : ps_S} {l : Int32} {j : Nat} (h : j ∉ [8, 23, 10, 9, 11]) : ps_begin S l 0 j = S 0 j := by
  have n1 : j ≠ 8 := fun e => h (by rw [e]; decide)
  have n2 : j ≠ 23 := fun e => h (by rw [e]; decide)
  have n3 : j ≠ 10 := fun e => h (by rw [e]; decide)
  have n4 : j ≠ 9 := fun e => h (by rw [e]; decide)
  have n5 : j ≠ 11 := fun e => h (by rw [e]; decide)
  unfold ps_begin
  split
  · simp only [px_up, n1, n2, n3, n4, n5, and_false, ↓reduceIte]
  · rfl
theorem ps_turn_0 {S : ps_S} {l : Int32} {j : Nat} (h : j ∉ [10, 9, 32]) : ps_turn S l 0 j = S 0 j := by
  have n3 : j ≠ 10 := fun e => h (by rw [e]; decide)
  have n4 : j ≠ 9 := fun e => h (by rw [e]; decide)
  have n5 : j ≠ 32 := fun e => h (by rw [e]; decide)
  unfold ps_turn
  simp (decide := true) only [px_up, false_and, and_false, true_and, and_true, n3, n4, n5, and_false, ↓reduceIte]
theorem ps_steer_0 {E : ps_E} {S : ps_S} {j : Nat} (h : j ∉ [8, 23, 10, 9, 11, 32]) : ps_steer E S 0 j = S 0 j := by
  have h1 : j ∉ [8, 23, 10, 9, 11] := fun x => h (List.mem_append_left [32] x)
  have h2 : j ∉ [10, 9, 32] := fun x => h ((by decide : ∀ x ∈ [10, 9, 32], x ∈ [8, 23, 10, 9, 11, 32]) j x)
  unfold ps_steer
  try dsimp only
  split
  · rw [ps_turn_0 h2, ps_begin_0 h1]
  · rw [ps_begin_0 h1]
theorem ps_steer_23 {E : ps_E} {S : ps_S} (h : S 0 8 = 2 → 0 ≤ (S 0 23).toInt ∧ (S 0 23).toInt < 1000) : ps_steer E S 0 8 = 2 → 0 ≤ (ps_steer E S 0 23).toInt ∧ (ps_steer E S 0 23).toInt < 1000 := by
  have h1 : ps_begin S (ps_level E S) 0 8 = 2 → 0 ≤ (ps_begin S (ps_level E S) 0 23).toInt ∧ (ps_begin S (ps_level E S) 0 23).toInt < 1000 := by
    unfold ps_begin
    split
    · intro _
      simp (decide := true) only [px_up, false_and, and_false, true_and, and_true, ↓reduceIte]
    · exact h
  unfold ps_steer
  try dsimp only
  split
  · rw [ps_turn_0 (by decide), ps_turn_0 (by decide)]
    exact h1
  · exact h1
theorem ps_empty_0 {S : ps_S} {c : Nat} (h4 : c ≠ 4) (h5 : c ≠ 5) : ps_empty S c = S c := by
  funext j
  unfold ps_empty
  rw [if_neg (by omega)]
theorem ps_play_eq (E : ps_E) (S : ps_S) : ∃ o w, ps_play E S = ps_end (ps_put E S o w (decide (ps_is E S))) := ⟨_, _, rfl⟩
theorem ps_put_J {E : ps_E} {S : ps_S} {a p c : Int} {o w : Int32} {is : Bool} (h : ps_J E S a p c) (hp : p + 1 ≤ 90000) (h8 : S 0 8 = 2) : ps_J E (ps_put E S o w is) a (p + 1) c := by
  have hn0 := h.1
  unfold ps_Jn at hn0
  have e6 : (S 0 6 + 1).toInt = (S 0 6).toInt + 1 := pi_succ (by omega) (by omega)
  have e7 : (S 0 7 + 1).toInt = (S 0 7).toInt + 1 := pi_succ (by omega) (by omega)
  have e14 : (S 0 14 + 1).toInt = (S 0 14).toInt + 1 := pi_succ (by omega) (by omega)
  obtain ⟨hn, hf, hsl, hb⟩ := h
  unfold ps_put
  refine ⟨?_, hf, ?_, ?_⟩
  · unfold ps_Jn at hn ⊢
    simp (decide := true) only [px_up, false_and, and_false, true_and, and_true, ↓reduceIte] at hn ⊢
    rw [e6, e14]
    cases is
    · simp (decide := true) only [↓reduceIte]
      rw [e7]
      omega
    · simp (decide := true) only [↓reduceIte]
      omega
  · unfold ps_Js at hsl ⊢
    simp (decide := true) only [px_up, false_and, and_false, true_and, and_true, ↓reduceIte] at hsl ⊢
    exact hsl
  · intro k hk
    simp (decide := true) only [px_up, false_and, and_false, true_and, and_true, ↓reduceIte]
    split
    · cases is
      · exact Or.inr rfl
      · exact Or.inl rfl
    · exact hb k hk
theorem ps_play_J {E : ps_E} {S : ps_S} {a p c : Int} (h : ps_J E S a p c) (hp : p + 1 ≤ 90000) (h8 : S 0 8 = 2) : ps_J E (ps_play E S) a (p + 1) c := by
  obtain ⟨o, w, e⟩ := ps_play_eq E S
  rw [e]
  have h1 := ps_put_J (o := o) (w := w) (is := decide (ps_is E S)) h hp h8
  have hn0 := h.1
  unfold ps_Jn at hn0
  have e12 : (S 0 12 + 1).toInt = (S 0 12).toInt + 1 := pi_succ (by omega) (by omega)
  have e7 : (S 0 7 + 1).toInt = (S 0 7).toInt + 1 := pi_succ (by omega) (by omega)
  unfold ps_end
  split
  · exact h1
  · next h30 =>
    have hi : decide (ps_is E S) = false := by
      cases hd : decide (ps_is E S)
      · rfl
      · exfalso
        rw [hd] at h30
        apply h30
        unfold ps_put
        simp (decide := true) only [px_up, false_and, and_false, true_and, and_true, ↓reduceIte]
    rw [hi] at h1 ⊢
    obtain ⟨hn, hf, hsl, hb⟩ := h1
    have q12 : ps_put E S o w false 0 12 = S 0 12 := by
      unfold ps_put
      simp (decide := true) only [px_up, false_and, and_false, true_and, and_true, ↓reduceIte]
    have q7 : ps_put E S o w false 0 7 = S 0 7 + 1 := by
      unfold ps_put
      simp (decide := true) only [px_up, false_and, and_false, true_and, and_true, ↓reduceIte]
    refine ⟨?_, ?_, ?_, ?_⟩
    · unfold ps_Jn at hn ⊢
      rw [ps_empty_0 (by decide) (by decide)]
      simp (decide := true) only [px_up, false_and, and_false, true_and, and_true, ↓reduceIte] at hn ⊢
      rw [q12, e12, q7, e7]
      rw [q12, q7, e7] at hn
      try rw [show (0 : Int32).toInt = 0 from rfl]
      omega
    · unfold ps_Jf at hf ⊢
      rw [ps_empty_0 (by decide) (by decide), ps_empty_0 (by decide) (by decide), ps_empty_0 (by decide) (by decide)]
      simp (decide := true) only [px_up, false_and, and_false, true_and, and_true, ↓reduceIte] at hf ⊢
      exact hf
    · have hh : ∀ k, k < 64 → ps_empty (cx_up (cx_up (cx_up (ps_put E S o w false) 0 30 0) 0 8 0) 0 12 (ps_put E S o w false 0 12 + 1)) 4 k = -1 ∧ ps_empty (cx_up (cx_up (cx_up (ps_put E S o w false) 0 30 0) 0 8 0) 0 12 (ps_put E S o w false 0 12 + 1)) 5 k = -1 := by
        intro k hk
        unfold ps_empty
        simp (decide := true) only [hk, ↓reduceIte, and_true]
      exact ⟨fun k hk => Or.inl (hh k hk), fun _ => hh⟩
    · unfold ps_Jb at hb ⊢
      rw [ps_empty_0 (by decide) (by decide)]
      simp (decide := true) only [px_up, false_and, and_false, true_and, and_true, ↓reduceIte] at hb ⊢
      exact hb
theorem ps_play_0 {E : ps_E} {S : ps_S} {j : Nat} (h : j ∉ [13, 7, 30, 6, 14, 8, 12]) : ps_play E S 0 j = S 0 j := by
  have n1 : j ≠ 13 := fun e => h (by rw [e]; decide)
  have n2 : j ≠ 7 := fun e => h (by rw [e]; decide)
  have n3 : j ≠ 30 := fun e => h (by rw [e]; decide)
  have n4 : j ≠ 6 := fun e => h (by rw [e]; decide)
  have n5 : j ≠ 14 := fun e => h (by rw [e]; decide)
  have n6 : j ≠ 8 := fun e => h (by rw [e]; decide)
  have n7 : j ≠ 12 := fun e => h (by rw [e]; decide)
  obtain ⟨o, w, e⟩ := ps_play_eq E S
  have h1 : ps_put E S o w (decide (ps_is E S)) 0 j = S 0 j := by
    unfold ps_put
    simp (decide := true) only [px_up, false_and, and_false, true_and, and_true, n1, n2, n3, n4, n5, and_false, ↓reduceIte]
  rw [e]
  unfold ps_end
  split
  · exact h1
  · rw [ps_empty_0 (by decide) (by decide)]
    simp only [px_up, n3, n6, n7, and_false, ↓reduceIte]
    exact h1
theorem ps_plays_0 {E : ps_E} {j : Nat} (h : j ∉ [13, 7, 30, 6, 14, 8, 12, 23]) : ∀ (n : Nat) (S : ps_S), ps_plays E n S 0 j = S 0 j := by
  have n1 : j ≠ 23 := fun e => h (by rw [e]; decide)
  intro n
  induction n with
  | zero => intro S; rfl
  | succ n ih =>
    intro S
    unfold ps_plays
    split
    · rw [ih, ps_play_0 (fun x => h (List.mem_append_left [23] x))]
      simp only [px_up, n1, and_false, ↓reduceIte]
    · rfl
theorem ps_plays_J {E : ps_E} {a c : Int} : ∀ (n : Nat) (S : ps_S) (p : Int), ps_J E S a p c → p + n ≤ 90000 → ps_J E (ps_plays E n S) a (p + n) c := by
  intro n
  induction n with
  | zero => intro S p h hp; rw [show ∀ z : Int, z + ((0 : Nat) : Int) = z by omega]; exact h
  | succ n ih =>
    intro S p h hp
    unfold ps_plays
    split
    · next hc =>
      have h8 : cx_up S 0 23 (S 0 23 - 1000) 0 8 = 2 := by
        simp (decide := true) only [px_up, false_and, and_false, true_and, and_true, ↓reduceIte]
        exact hc.2
      have := ih _ (p + 1) (ps_play_J (ps_J_up (k := 23) (S 0 23 - 1000) (by decide) h) (by omega) h8) (by omega)
      rw [show p + ((n + 1 : Nat) : Int) = p + 1 + n by omega]
      exact this
    · exact ps_J_mono h (Int.le_refl _) (by omega) (Int.le_refl _) (by have := h.1; unfold ps_Jn at this; omega) hp (by have := h.1; unfold ps_Jn at this; omega)
theorem ps_plays_23 {E : ps_E} : ∀ (n : Nat) (S : ps_S), 0 ≤ (S 0 23).toInt → (S 0 23).toInt < 1000 * (n + 1) → (ps_plays E n S 0 8 = 2 → 0 ≤ (ps_plays E n S 0 23).toInt ∧ (ps_plays E n S 0 23).toInt < 1000) := by
  intro n
  have hk : (1000 : Int32).toInt = 1000 := rfl
  induction n with
  | zero => intro S h1 h2 _; exact ⟨h1, by have h3 : ∀ x : Int, x < 1000 * (((0 : Nat) : Int) + 1) → x < 1000 := (by intro x hx; omega); exact h3 _ h2⟩
  | succ n ih =>
    intro S h1 h2
    unfold ps_plays
    split
    · next h =>
      have h3 := h.1
      rw [i32_lt, hk] at h3
      have hr := i32_rng (S 0 23)
      have e : (S 0 23 - 1000).toInt = (S 0 23).toInt - 1000 := by rw [i32_sub (by omega) (by omega), hk]
      have e2 : ps_play E (cx_up S 0 23 (S 0 23 - 1000)) 0 23 = S 0 23 - 1000 := by
        rw [ps_play_0 (by decide)]
        simp (decide := true) only [px_up, false_and, and_false, true_and, and_true, ↓reduceIte]
      refine ih _ ?_ ?_
      · rw [e2, e]; omega
      · rw [e2, e]; omega
    · next h =>
      intro h8
      refine ⟨h1, ?_⟩
      by_cases h9 : S 0 23 < 1000
      · rw [i32_lt, hk] at h9; exact h9
      · exact absurd ⟨h9, h8⟩ h
theorem ps_near_J {E : ps_E} {S : ps_S} {a p c : Int} (h : ps_J E S a p c) (hp : p + 3 ≤ 90000) : ps_J E (ps_near E S) a (p + 3) c := by
  unfold ps_near
  split
  · exact ps_plays_J 3 _ p (ps_J_up _ (by decide) (ps_J_up _ (by decide) h)) hp
  · exact ps_J_mono h (Int.le_refl _) (by omega) (Int.le_refl _) (by have := h.1; unfold ps_Jn at this; omega) hp (by have := h.1; unfold ps_Jn at this; omega)
theorem ps_near_0 {E : ps_E} {S : ps_S} {j : Nat} (h : j ∉ [13, 7, 30, 6, 14, 8, 12, 23, 11]) : ps_near E S 0 j = S 0 j := by
  have n1 : j ≠ 23 := fun e => h (by rw [e]; decide)
  have n2 : j ≠ 11 := fun e => h (by rw [e]; decide)
  unfold ps_near
  split
  · rw [ps_plays_0 (fun x => h (List.mem_append_left [11] x))]
    simp only [px_up, n1, n2, and_false, ↓reduceIte]
  · rfl
theorem ps_near_23 {E : ps_E} {S : ps_S} (h9 : -200 ≤ (S 0 9).toInt ∧ (S 0 9).toInt ≤ 200) (h : S 0 8 = 2 → 0 ≤ (S 0 23).toInt ∧ (S 0 23).toInt < 1000) : ps_near E S 0 8 = 2 → 0 ≤ (ps_near E S 0 23).toInt ∧ (ps_near E S 0 23).toInt < 1000 := by
  unfold ps_near
  split
  · next h8 =>
    have h1 := h h8
    have hk : (1000 : Int32).toInt = 1000 := rfl
    have e1 : ((1000 : Int32) + S 0 9).toInt = 1000 + (S 0 9).toInt := by rw [i32_add (by omega) (by omega), hk]
    have e2 : (S 0 23 + ((1000 : Int32) + S 0 9)).toInt = (S 0 23).toInt + (1000 + (S 0 9).toInt) := by rw [i32_add (by omega) (by omega), e1]
    refine ps_plays_23 3 _ ?_ ?_
    · simp (decide := true) only [px_up, false_and, and_false, true_and, and_true, ↓reduceIte]
      omega
    · simp (decide := true) only [px_up, false_and, and_false, true_and, and_true, ↓reduceIte]
      omega
  · exact h
theorem ps_far_J {E : ps_E} {s : ps_T} {a p c : Int} (h : ps_J E s.1 a p c) (ha : a + 3 ≤ 90000) : ps_J E (ps_far E s).1 (a + 3) p c := by
  unfold ps_far
  exact ps_make_J 3 _ a (ps_J_up _ (by decide) h) ha
theorem ps_far_0 {E : ps_E} {s : ps_T} {j : Nat} (h : j ∉ [25, 3, 31, 24, 2, 1, 22]) : (ps_far E s).1 0 j = s.1 0 j := by
  have n1 : j ≠ 22 := fun e => h (by rw [e]; decide)
  unfold ps_far
  rw [ps_make_0 h]
  simp only [px_up, n1, and_false, ↓reduceIte]
theorem ps_far_22 {E : ps_E} {s : ps_T} (h : 0 ≤ (s.1 0 22).toInt ∧ (s.1 0 22).toInt < 1000) (h27 : -99 ≤ (s.1 0 27).toInt ∧ (s.1 0 27).toInt ≤ 99) : 0 ≤ ((ps_far E s).1 0 22).toInt ∧ ((ps_far E s).1 0 22).toInt < 1000 := by
  have hk : (1000 : Int32).toInt = 1000 := rfl
  have e1 : ((1000 : Int32) + s.1 0 27).toInt = 1000 + (s.1 0 27).toInt := by rw [i32_add (by omega) (by omega), hk]
  have e2 : (s.1 0 22 + ((1000 : Int32) + s.1 0 27)).toInt = (s.1 0 22).toInt + (1000 + (s.1 0 27).toInt) := by rw [i32_add (by omega) (by omega), e1]
  unfold ps_far
  refine ps_make_22 3 _ ?_ ?_
  · simp (decide := true) only [px_up, false_and, and_false, true_and, and_true, ↓reduceIte]
    omega
  · simp (decide := true) only [px_up, false_and, and_false, true_and, and_true, ↓reduceIte]
    omega
theorem ps_come_8 {E : ps_E} {S : ps_S} {p st : Int32} : ps_come E S p st 0 8 = if S 0 8 = 0 then 1 else S 0 8 := by
  have h1 : (if S 0 8 = 0 then ps_first E S p st else S) 0 8 = if S 0 8 = 0 then 1 else S 0 8 := by
    split
    · unfold ps_first
      simp (decide := true) only [px_up, false_and, and_false, true_and, and_true, ↓reduceIte]
    · rfl
  unfold ps_come ps_come2
  try dsimp only
  generalize (if S 0 8 = 0 then ps_first E S p st else S) = S1 at h1 ⊢
  split
  · split
    · rw [ps_lay_0 (by decide), h1]
    · rw [px_up, px_up, if_neg (by decide), if_neg (by decide), h1]
  · rw [px_up, px_up, if_neg (by decide), if_neg (by decide), h1]
theorem ps_recv_8 {E : ps_E} : ∀ (m k l : Nat) (S : ps_S), ps_recv E m k l S 0 8 = 2 → S 0 8 = 2 := by
  intro m
  induction m with
  | zero =>
    intro k l S
    unfold ps_recv
    rw [px_up, if_neg (by decide), ps_wipe_c (Or.inl rfl)]
    exact fun h => h
  | succ m ih =>
    intro k l S
    unfold ps_recv
    split
    · intro h
      have h1 := ih _ _ _ h
      rw [ps_come_8] at h1
      split at h1
      · exact absurd h1 (by decide)
      · exact h1
    · intro h
      have h1 := ih _ _ _ h
      rw [ps_move_c (Or.inl rfl)] at h1
      exact h1
theorem ps_step_I {E : ps_E} {s : ps_T} {T : Nat} (hE : ps_EO E) (h : ps_I E s.1 T) (hT : T + 1 ≤ 22000) : ps_I E (ps_step E s).1 (T + 1) := by
  obtain ⟨hJ, h0, -, h22, h23⟩ := h
  have hJ0 : ps_J E (cx_up s.1 0 35 0) (3 * T) (4 * T) (40 * T) := ps_J_up _ (by decide) hJ
  have hn0 := hJ.1
  unfold ps_Jn at hn0
  have J1 := ps_far_J (s := (cx_up s.1 0 35 0, s.2)) hJ0 (by omega)
  have g22 := ps_far_22 (E := E) (s := (cx_up s.1 0 35 0, s.2)) (by simpa (decide := true) only [px_up, false_and, and_false, true_and, and_true, ↓reduceIte] using h22) (by simp (decide := true) only [px_up, false_and, and_false, true_and, and_true, ↓reduceIte]; omega)
  have g0 : (ps_far E (cx_up s.1 0 35 0, s.2)).1 0 0 = nI T := by rw [ps_far_0 (by decide), ← h0]; simp (decide := true) only [px_up, false_and, and_false, true_and, and_true, ↓reduceIte]
  have g23 : (ps_far E (cx_up s.1 0 35 0, s.2)).1 0 23 = s.1 0 23 := by rw [ps_far_0 (by decide)]; simp (decide := true) only [px_up, false_and, and_false, true_and, and_true, ↓reduceIte]
  have g8 : (ps_far E (cx_up s.1 0 35 0, s.2)).1 0 8 = s.1 0 8 := by rw [ps_far_0 (by decide)]; simp (decide := true) only [px_up, false_and, and_false, true_and, and_true, ↓reduceIte]
  unfold ps_step
  try dsimp only
  generalize ps_far E (cx_up s.1 0 35 0, s.2) = t at J1 g22 g0 g23 g8 ⊢
  have h40 : pn (t.1 0 31) ≤ 40 := by
    have := J1.1
    unfold ps_Jn at this
    rw [pn_def]
    omega
  have J2 := ps_J_mono (ps_recv_J hE (pn (t.1 0 31)) 0 0 t.1 _ J1 (by omega) (by omega) (by omega)) (Int.le_refl _) (Int.le_refl _) (show _ ≤ (40 * (T + 1 : Nat) : Int) by omega) (by omega) (by omega) (by omega)
  have r23 : ps_recv E (pn (t.1 0 31)) 0 0 t.1 0 8 = 2 → 0 ≤ (ps_recv E (pn (t.1 0 31)) 0 0 t.1 0 23).toInt ∧ (ps_recv E (pn (t.1 0 31)) 0 0 t.1 0 23).toInt < 1000 := by
    intro e
    have e2 := ps_recv_8 _ _ _ _ e
    rw [ps_recv_0 (by decide), g23]
    rw [g8] at e2
    exact h23 e2
  have r22 : ps_recv E (pn (t.1 0 31)) 0 0 t.1 0 22 = t.1 0 22 := ps_recv_0 (by decide) _ _ _ _
  have r0 : ps_recv E (pn (t.1 0 31)) 0 0 t.1 0 0 = t.1 0 0 := ps_recv_0 (by decide) _ _ _ _
  generalize ps_recv E (pn (t.1 0 31)) 0 0 t.1 = R at J2 r23 r22 r0 ⊢
  have J3 := ps_steer_J J2 (by omega)
  have s23 := ps_steer_23 (E := E) r23
  have s22 : ps_steer E R 0 22 = R 0 22 := ps_steer_0 (by decide)
  have s0 : ps_steer E R 0 0 = R 0 0 := ps_steer_0 (by decide)
  generalize ps_steer E R = G at J3 s23 s22 s0 ⊢
  have J4 := ps_near_J J3 (by omega)
  have n23 := ps_near_23 (E := E) (by have := J3.1; unfold ps_Jn at this; omega) s23
  have n22 : ps_near E G 0 22 = G 0 22 := ps_near_0 (by decide)
  have n0 : ps_near E G 0 0 = G 0 0 := ps_near_0 (by decide)
  generalize ps_near E G = K at J4 n23 n22 n0 ⊢
  have e0 : K 0 0 = nI T := by rw [n0, s0, r0, g0]
  have e1 : K 0 0 + 1 = nI (T + 1) := by rw [e0, nI_succ]
  refine ⟨?_, ?_, hT, ?_, ?_⟩
  · have J5 := ps_J_mono (a' := 3 * (T + 1 : Nat)) (p' := 4 * (T + 1 : Nat)) (c' := 40 * (T + 1 : Nat)) J4 (by omega) (by omega) (by omega) (by omega) (by omega) (by omega)
    obtain ⟨hn, hf, hsl, hb⟩ := J5
    refine ⟨?_, hf, hsl, hb⟩
    unfold ps_Jn at hn ⊢
    simp (decide := true) only [px_up, false_and, and_false, true_and, and_true, ↓reduceIte] at hn ⊢
    rw [e1, pi_nI (by omega)]
    omega
  · simp (decide := true) only [px_up, false_and, and_false, true_and, and_true, ↓reduceIte]
    exact e1
  · simp (decide := true) only [px_up, false_and, and_false, true_and, and_true, ↓reduceIte]
    rw [n22, s22, r22]
    exact g22
  · simp (decide := true) only [px_up, false_and, and_false, true_and, and_true, ↓reduceIte]
    exact n23
theorem ps_steps_I {E : ps_E} {s : ps_T} {T : Nat} (hE : ps_EO E) (h : ps_I E s.1 T) : ∀ n, T + n ≤ 22000 → ps_I E (ps_steps E n s).1 (T + n)
  | 0, _ => h
  | n + 1, hn => ps_step_I hE (ps_steps_I hE h n (by omega)) (by omega)
