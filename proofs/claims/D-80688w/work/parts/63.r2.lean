/-! what holds between the calls; small laws of ints -/
set_option maxRecDepth 100000
abbrev r_bit (v : Int32) : Prop := v = 0 ∨ v = 1
/-- a sample: no NaN, of size 8 at most -/
abbrev r_s (x : UInt32) : Prop := x &&& 0x7fffffff ≤ 0x41000000
def r_word (lane : Int32) (w : Int64) : Prop := (lane = 0 → w = w.toInt32.toInt8.toInt32.toInt64) ∧ (lane = 1 → w = w.toInt32.toInt16.toInt32.toInt64) ∧ (lane = 2 → w = w.toInt32.toInt64) ∧ (lane = 3 → w = w.toInt32.toInt64 ∧ vf_n32 w.toInt32.toUInt32) ∧ (lane = 4 → vf_n64 w.toUInt64)
def rI_c (M : MS) : Prop := (0 ≤ (M.I 0).toInt ∧ (M.I 0).toInt ≤ 16) ∧ (∀ c, c < r_nc M → (0 ≤ (M.A 1 c).toInt ∧ (M.A 1 c).toInt ≤ 4) ∧ (0 ≤ (M.A 2 c).toInt ∧ (M.A 2 c).toInt ≤ 64) ∧ ∀ i, i < 64 → r_word (M.A 1 c) (M.L (64 * c + i))) ∧ ∀ j, 64 * r_nc M ≤ j → M.L j = 0
def r_pl (M : MS) (p : Nat) : Prop := (0 ≤ (M.A 5 p).toInt ∧ (M.A 5 p).toInt ≤ 7) ∧ r_s (M.F 6 p) ∧ (M.A 5 p = 3 → -64 ≤ (M.A 7 p).toInt ∧ (M.A 7 p).toInt ≤ 64) ∧ (M.A 5 p = 7 → 0 ≤ (M.A 7 p).toInt ∧ (M.A 7 p).toInt < (M.I 0).toInt) ∧
  (r_echo (M.A 5 p) → (0 ≤ (M.A 7 p).toInt ∧ (M.A 7 p).toInt ≤ 16) ∧ (-1 ≤ (M.A 10 p).toInt ∧ (M.A 10 p).toInt ≤ 16) ∧ 0 ≤ (M.A 9 p).toInt ∧ ((M.A 10 p).toInt ≤ 0 → M.A 9 p = 0) ∧ (0 < (M.A 10 p).toInt → (M.A 9 p).toInt < (M.A 10 p).toInt) ∧ ∀ i, i < 16 → r_s (M.F 11 (16 * p + i)))
def rI_p (M : MS) : Prop := (0 ≤ (M.I 4).toInt ∧ (M.I 4).toInt ≤ 12) ∧ (∀ p, p < r_np M → r_pl M p) ∧ ∀ p, r_np M ≤ p → p < 12 → M.A 8 p = 0 ∧ M.A 9 p = 0 ∧ ∀ i, i < 16 → M.F 11 (16 * p + i) = 0
def rI_t (M : MS) : Prop := ∀ t, t < 8 → r_bit (M.A 13 t) ∧ r_bit (M.A 16 t) ∧ r_bit (M.A 18 t) ∧ (-1 ≤ (M.A 14 t).toInt ∧ (M.A 14 t).toInt < (M.I 0).toInt) ∧ r_s (M.F 17 t) ∧
  ∀ j, j < 4 → (-1 ≤ (M.A 19 (4 * t + j)).toInt ∧ (M.A 19 (4 * t + j)).toInt < (M.I 4).toInt) ∧ (M.A 18 t = 1 → M.A 19 (4 * t + j) ≠ -1 → (M.A 5 (M.A 19 (4 * t + j)).toNatClampNeg).toInt ≤ 2)
def rI_r (M : MS) (E : RE) : Prop := (1 ≤ (M.I 26).toInt ∧ (M.I 26).toInt ≤ 4) ∧ r_bit (M.I 28) ∧ r_bit (M.I 29) ∧ E.I 7 = M.I 28 ∧ E.I 9 = (if M.I 28 = 0 then 0 else M.I 30) ∧ (0 ≤ (M.I 31).toInt ∧ (M.I 31).toInt ≤ 64) ∧
  (M.I 28 = 1 → 1 ≤ (M.I 30).toInt ∧ (M.I 31).toInt + (M.I 30).toInt ≤ 64) ∧ (0 ≤ (M.I 33).toInt ∧ (M.I 33).toInt ≤ 16 * (M.I 31).toInt) ∧ (0 ≤ (M.I 39).toInt ∧ (M.I 39).toInt ≤ 30) ∧ (M.I 28 = 0 → M.I 39 = 0)
abbrev r_tk (t : Int32) : Prop := 0 ≤ t.toInt ∧ t.toInt ≤ 7
/-- an edit that waits, as ScoreThreads has it (k t x y s) and as the Model (w a b c d) -/
def r_ed (M : MS) (k t x y s w a b c d : Int32) : Prop := w = k ∧ a = t ∧ r_bit s ∧
  ((k = 0 ∧ r_tk t ∧ (-1 ≤ x.toInt ∧ x.toInt < (M.I 0).toInt) ∧ b = x ∧ c = y ∧ d = s) ∨ (k = 1 ∧ r_tk t ∧ b = s) ∨ (k = 2 ∧ r_tk t ∧ (-1 ≤ y.toInt ∧ y.toInt < (M.I 4).toInt) ∧ b = x ∧ c = y) ∨ (k = 3 ∧ r_tk t ∧ r_s x.toUInt32 ∧ b = x) ∨ (k = 4 ∧ r_tk t ∧ b = s) ∨ (k = 5 ∧ (0 ≤ t.toInt ∧ t.toInt < (M.I 4).toInt) ∧ x.toInt ≤ 16 ∧ b = x))
def rI_q (M : MS) (E : RE) : Prop := ∀ q, q < (M.I 39).toNatClampNeg → r_ed M (E.Q 8 (5 * q)) (E.Q 8 (5 * q + 1)) (E.Q 8 (5 * q + 2)) (E.Q 8 (5 * q + 3)) (E.Q 8 (5 * q + 4)) (M.A 40 q) (M.A 41 q) (M.A 42 q) (M.A 43 q) (M.A 44 q)
def rI_f (M : MS) (E : RE) : Prop := ∀ i, i < (M.I 33).toNatClampNeg → i < 100 → E.Q 7 (5 * i) = M.A 34 i ∧ E.Q 7 (5 * i + 1) = M.A 35 i ∧ E.Q 7 (5 * i + 2) = M.A 36 i ∧ E.Q 7 (5 * i + 3) = M.A 37 i ∧ E.Q 7 (5 * i + 4) = M.A 38 i
def r_rows (M : MS) (E : RE) (t : Nat) : Prop := ∀ i, i < 8 → E.F (E.R 9 t) t i = M.F 25 (8 * t + i) ∧ r_s (M.F 25 (8 * t + i))
abbrev r_pc (M : MS) (E : RE) (t : Nat) : Prop := (0 ≤ (E.P t).toInt ∧ (E.P t).toInt ≤ 3) ∧ M.A 19 (4 * t + (E.P t).toNatClampNeg) ≠ -1
/-- how far a track is in the block under way -/
def r_bt (M : MS) (E : RE) (t : Nat) : Prop := (M.A 20 t = 0 ∧ M.A 13 t = 0 ∧ M.A 22 t = 0) ∨ (M.A 13 t = 1 ∧
  ((M.A 20 t = 1 ∧ M.A 21 t = 0 ∧ E.P t = -1 ∧ M.A 22 t = 0) ∨
   (M.A 20 t = 2 ∧ E.P t = M.A 21 t ∧ r_pc M E t ∧ r_bit (M.A 22 t) ∧ r_rows M E t) ∨
   (M.A 20 t = 3 ∧ r_bit (M.A 22 t) ∧ r_rows M E t) ∨
   (M.A 20 t = 4 ∧ M.A 22 t = 1 ∧ E.P t = M.A 23 (2 * t) ∧ (E.P t = -1 ∨ (r_pc M E t ∧ r_rows M E t))) ∨
   (M.A 20 t = 5 ∧ M.A 22 t = 2 ∧ r_rows M E t)))
def rI_b (M : MS) (E : RE) : Prop := (∀ t, t < 8 → ((E.R 9 t = 12 ∧ E.R 10 t = 13) ∨ (E.R 9 t = 13 ∧ E.R 10 t = 12)) ∧ (M.I 28 = 1 → r_bt M E t)) ∧
  (∀ w, w < 4 → M.A 27 w = -1 ∨ (M.I 28 = 1 ∧ (w : Int) < (M.I 26).toInt ∧ r_tk (M.A 27 w) ∧ M.A 20 (M.A 27 w).toNatClampNeg = 2)) ∧
  (∀ w w', w < 4 → w' < 4 → M.A 27 w ≠ -1 → M.A 27 w = M.A 27 w' → w = w') ∧
  (M.I 28 = 1 → ∀ t, t < 8 → M.A 20 t = 2 → ∃ w, w < 4 ∧ M.A 27 w = Int32.ofNat t)
def rInv (M : MS) (E : RE) : Prop := rI_c M ∧ rI_p M ∧ rI_t M ∧ rI_r M E ∧ rI_q M E ∧ rI_f M E ∧ rI_b M E
/-- what a call does, of both -/
def rOK {R : Type} (a0 : Nat) (M0 : MS) (ad : Nat → Nat → Nat) (g : zS) (bc bs : Nat) (fx : Option (R × zS)) (fm : Option (R × MS)) : Prop :=
  ∃ r g' ad' M' E', fx = some (r, g') ∧ fm = some (r, M') ∧ rX a0 M0 ad' M' E' g' ∧ ad' 0 0 = ad 0 0 ∧ rInv M' E' ∧ g.rc ≤ g'.rc + bc ∧ g.rs ≤ g'.rs + bs
theorem rn {x : Int32} (h : 0 ≤ x.toInt) : (x.toNatClampNeg : Int) = x.toInt := by
  rw [← Int32.toNat_toInt]
  exact Int.toNat_of_nonneg h
theorem rin_y {v a b : Int32} (h1 : a.toInt ≤ v.toInt) (h2 : v.toInt ≤ b.toInt) : fX0_isIn v a b = some 1 := by
  unfold fX0_isIn
  rw [if_neg (by rw [Int32.lt_iff_toInt_lt]; omega), if_neg (by rw [Int32.lt_iff_toInt_lt]; omega)]
theorem rin_n {v a b : Int32} (h : v.toInt < a.toInt ∨ b.toInt < v.toInt) : fX0_isIn v a b = some 0 := by
  unfold fX0_isIn
  by_cases h1 : v < a
  · rw [if_pos h1]
  · rw [if_neg h1, if_pos (by rw [Int32.lt_iff_toInt_lt] at *; omega)]
theorem rin2 (v a b : Int32) : fX2_in v a b = fX0_isIn v a b := rfl
theorem rin_cases (v a b : Int32) : (fX0_isIn v a b = some 1 ∧ a.toInt ≤ v.toInt ∧ v.toInt ≤ b.toInt) ∨ (fX0_isIn v a b = some 0 ∧ (v.toInt < a.toInt ∨ b.toInt < v.toInt)) := by
  by_cases h : a.toInt ≤ v.toInt ∧ v.toInt ≤ b.toInt
  · exact Or.inl ⟨rin_y h.1 h.2, h⟩
  · exact Or.inr ⟨rin_n (by omega), by omega⟩
theorem r_nan (x : UInt32) : ∃ r, fJ8_floatToIntBits x = some r := by
  unfold fJ8_floatToIntBits fJ8_isNaN
  by_cases h : Op.cmpValue (FP.fcmp x x) .l = 0
  · rw [if_pos h, zbj_v]
    exact ⟨_, if_pos rfl⟩
  · rw [if_neg h, zbj_v]
    exact ⟨_, if_neg (by decide)⟩
section RK
variable {R : Type} {a0 : Nat} {M0 : MS} {ad : Nat → Nat → Nat} {M M' : MS} {E E' : RE} {g g' : zS} {bc bs : Nat} {r : R}
theorem rOK.mk1 (h : rX a0 M0 ad M' E' g') (e : g'.2 = g.2) (hI : rInv M' E') : rOK a0 M0 ad g bc bs (some (r, g')) (some (r, M')) := by
  have e1 : g'.rc = g.rc := congrArg (fun q => q.2.1) e
  have e2 : g'.rs = g.rs := congrArg (fun q => q.2.2) e
  exact ⟨r, g', ad, M', E', rfl, rfl, h, rfl, hI, by omega, by omega⟩
theorem rOK.id (h : rX a0 M0 ad M E g) (hI : rInv M E) : rOK a0 M0 ad g bc bs (some (r, g)) (some (r, M)) := rOK.mk1 h rfl hI
end RK
theorem ri_1 : (1 : Int32).toInt = 1 := by decide
theorem ri_0 : (0 : Int32).toInt = 0 := by decide
theorem ri_4 : (4 : Int32).toInt = 4 := by decide
theorem ri_5 : (5 : Int32).toInt = 5 := by decide
theorem ri_6 : (6 : Int32).toInt = 6 := by decide
theorem ri_7 : (7 : Int32).toInt = 7 := by decide
theorem ri_8 : (8 : Int32).toInt = 8 := by decide
theorem ri_m1 : (-1 : Int32).toInt = -1 := by decide
theorem ri_20 : (20 : Int32).toInt = 20 := by decide
theorem ri_200 : (200 : Int32).toInt = 200 := by decide
theorem ri_100 : (100 : Int32).toInt = 100 := by decide
theorem ri_10 : (10 : Int32).toInt = 10 := by decide
