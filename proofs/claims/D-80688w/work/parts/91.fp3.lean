/-! floats: the nearest whole one, by both roads -/
set_option maxRecDepth 100000
section FP5
theorem near_scale {c D K : Nat} (hK : 0 < K) : FP.Core.nearest (c * K) (D * K) = FP.Core.nearest c D := by
  unfold FP.Core.nearest
  rw [Nat.mul_mod_mul_right, Nat.mul_div_mul_right _ _ hK]
  have h1 : 2 * (c % D * K) < D * K ↔ 2 * (c % D) < D := by
    rw [← Nat.mul_assoc]; exact Nat.mul_lt_mul_right hK
  have h2 : D * K < 2 * (c % D * K) ↔ D < 2 * (c % D) := by
    rw [← Nat.mul_assoc]; exact Nat.mul_lt_mul_right hK
  simp only [h1, h2]
theorem near_add {c E D : Nat} (hD : 0 < D) (hE : E % 2 = 0) : FP.Core.nearest (c + E * D) D = FP.Core.nearest c D + E := by
  unfold FP.Core.nearest
  rw [Nat.add_mul_mod_self_right, Nat.add_mul_div_right _ _ hD]
  split
  · rfl
  · split
    · omega
    · omega
theorem near_one (c : Nat) : FP.Core.nearest c 1 = c := by
  unfold FP.Core.nearest
  rw [if_pos (by omega), Nat.div_one]
theorem lead1 {c : Nat} (h : c ≠ 0) : FP.Core.leading c 1 = (c.log2 : Int) := by
  unfold FP.Core.leading
  have e : Nat.log2 1 = 0 := by decide
  rw [e]
  dsimp only
  have e1 : ((c.log2 : Int) - ((0 : Nat) : Int)).toNat = c.log2 := by omega
  have e2 : (-((c.log2 : Int) - ((0 : Nat) : Int))).toNat = 0 := by omega
  rw [e1, e2, if_pos]
  · omega
  · have := Nat.log2_self_le h
    omega
theorem log2_of {c l : Nat} (h1 : 2 ^ l ≤ c) (h2 : c < 2 ^ (l + 1)) : c.log2 = l := by
  have h0 : c ≠ 0 := by have := Nat.two_pow_pos l; omega
  have a := (Nat.log2_lt h0).mpr h2
  have b := (Nat.le_log2 h0).mpr h1
  omega
theorem log2_mul {c k : Nat} (h : c ≠ 0) : (c * 2 ^ k).log2 = c.log2 + k := by
  refine log2_of ?_ ?_
  · rw [Nat.pow_add]; exact Nat.mul_le_mul_right _ (Nat.log2_self_le h)
  · rw [show c.log2 + k + 1 = (c.log2 + 1) + k by omega, Nat.pow_add]
    exact Nat.mul_lt_mul_of_pos_right ((Nat.log2_lt h).mp (Nat.lt_succ_self _)) (Nat.two_pow_pos _)
/-- rounding looks at the number, not at how it is written -/
theorem rr_scale (f : FP.Core.Fmt) (s : Bool) (c k : Nat) (e : Int) : FP.Core.roundRatio f s (c * 2 ^ k) 1 (e - k) = FP.Core.roundRatio f s c 1 e := by
  unfold FP.Core.roundRatio
  by_cases h : c = 0
  · subst h; rw [Nat.zero_mul, if_pos rfl, if_pos rfl]
  · have h' : c * 2 ^ k ≠ 0 := Nat.mul_ne_zero h (Nat.pos_iff_ne_zero.mp (Nat.two_pow_pos k))
    rw [if_neg h, if_neg h']
    have eq : FP.Core.quantum f (c * 2 ^ k) 1 (e - k) = FP.Core.quantum f c 1 e := by
      unfold FP.Core.quantum
      rw [lead1 h, lead1 h', log2_mul h]
      have : ((c.log2 + k : Nat) : Int) + (e - k) = (c.log2 : Int) + e := by omega
      rw [this]
    rw [eq]
    generalize FP.Core.quantum f c 1 e = q
    unfold FP.Core.roundAt
    have en : FP.Core.nearest (FP.Core.unitsNum (c * 2 ^ k) (e - k) q) (FP.Core.unitsDen 1 (e - k) q) = FP.Core.nearest (FP.Core.unitsNum c e q) (FP.Core.unitsDen 1 e q) := by
      unfold FP.Core.unitsNum FP.Core.unitsDen
      rw [Nat.one_mul, Nat.one_mul, ← near_scale (K := 2 ^ (q - e).toNat) (Nat.two_pow_pos _), ← near_scale (c := c * 2 ^ (e - q).toNat) (K := 2 ^ (q - (e - k)).toNat) (Nat.two_pow_pos _)]
      rw [Nat.mul_assoc, Nat.mul_assoc, ← Nat.pow_add, ← Nat.pow_add, Nat.mul_assoc, ← Nat.pow_add, ← Nat.pow_add, ← Nat.pow_add]
      rw [show k + ((e - (k : Int) - q).toNat + (q - e).toNat) = (e - q).toNat + (q - (e - (k : Int))).toNat by omega, show (q - (e - (k : Int))).toNat + (q - e).toNat = (q - e).toNat + (q - (e - (k : Int))).toNat by omega]
    rw [en]
/-- a number that fits is kept -/
theorem rt64 {c : Nat} {q : Int} (hc : c ≠ 0) (h53 : c < 2 ^ 53) (hq : -1000 ≤ q ∧ q ≤ 900) : ∃ k : Nat, (∀ s : Bool, FP.Core.roundRatio FP.Core.b64 s c 1 q = .fin s (c * 2 ^ k) (q - k)) ∧ 2 ^ 52 ≤ c * 2 ^ k ∧ c * 2 ^ k < 2 ^ 53 ∧ k ≤ 52 := by
  have hl : c.log2 < 53 := (Nat.log2_lt hc).mpr h53
  refine ⟨52 - c.log2, fun s => ?_, ?_, ?_, by omega⟩
  · unfold FP.Core.roundRatio
    rw [if_neg hc]
    have eq : FP.Core.quantum FP.Core.b64 c 1 q = q - ((52 - c.log2 : Nat) : Int) := by
      unfold FP.Core.quantum
      rw [lead1 hc, b64_q, b64_p]
      omega
    rw [eq]
    unfold FP.Core.roundAt FP.Core.unitsNum FP.Core.unitsDen
    rw [show (q - (q - ((52 - c.log2 : Nat) : Int))).toNat = 52 - c.log2 by omega, show (q - ((52 - c.log2 : Nat) : Int) - q).toNat = 0 by omega, show 1 * 2 ^ 0 = 1 from rfl, near_one]
    unfold FP.Core.settle FP.Core.bound
    rw [b64_p, b64_Q, if_pos, if_pos (by omega)]
    have := Nat.mul_lt_mul_of_pos_right ((Nat.log2_lt hc).mp (Nat.lt_succ_self _)) (Nat.two_pow_pos (52 - c.log2))
    rw [← Nat.pow_add, show c.log2.succ + (52 - c.log2) = 53 by omega] at this
    exact this
  · have := Nat.mul_le_mul_right (2 ^ (52 - c.log2)) (Nat.log2_self_le hc)
    rw [← Nat.pow_add, show c.log2 + (52 - c.log2) = 52 by omega] at this
    exact this
  · have := Nat.mul_lt_mul_of_pos_right ((Nat.log2_lt hc).mp (Nat.lt_succ_self _)) (Nat.two_pow_pos (52 - c.log2))
    rw [← Nat.pow_add, show c.log2.succ + (52 - c.log2) = 53 by omega] at this
    exact this
/-- there and back: double -/
theorem de64 {c : Nat} {q : Int} (h1 : 2 ^ 52 ≤ c) (h2 : c < 2 ^ 53) (hq : -1074 ≤ q ∧ q ≤ 971) : ∃ m, m < 9218868437227405312 ∧ ∀ s : Bool, FP.Core.encode FP.Core.b64 (.fin s c q) = s.toNat * 9223372036854775808 + m ∧ FP.Core.decode FP.Core.b64 (s.toNat * 9223372036854775808 + m) = .fin s c q := by
  refine ⟨((q + 1074).toNat + 1) * 4503599627370496 + (c - 4503599627370496), by omega, fun s => ⟨?_, ?_⟩⟩
  · rw [enc64, if_neg (by omega)]
  · rw [dec64 s (by omega), if_neg (by omega), if_neg (by omega)]
    rw [show 4503599627370496 + (((q + 1074).toNat + 1) * 4503599627370496 + (c - 4503599627370496)) % 4503599627370496 = c by omega, show (-1074 + (((((q + 1074).toNat + 1) * 4503599627370496 + (c - 4503599627370496)) / 4503599627370496 - 1 : Nat) : Int)) = q by omega]
theorem de32 {c : Nat} {q : Int} (h1 : 2 ^ 23 ≤ c) (h2 : c < 2 ^ 24) (hq : -149 ≤ q ∧ q ≤ 104) : ∃ m, m < 2139095040 ∧ ∀ s : Bool, FP.Core.encode FP.Core.b32 (.fin s c q) = s.toNat * 2147483648 + m ∧ FP.Core.decode FP.Core.b32 (s.toNat * 2147483648 + m) = .fin s c q := by
  refine ⟨((q + 149).toNat + 1) * 8388608 + (c - 8388608), by omega, fun s => ⟨?_, ?_⟩⟩
  · rw [enc32, if_neg (by omega)]
  · rw [dec32 s (by omega), if_neg (by omega), if_neg (by omega)]
    rw [show 8388608 + (((q + 149).toNat + 1) * 8388608 + (c - 8388608)) % 8388608 = c by omega, show (-149 + (((((q + 149).toNat + 1) * 8388608 + (c - 8388608)) / 8388608 - 1 : Nat) : Int)) = q by omega]
end FP5
