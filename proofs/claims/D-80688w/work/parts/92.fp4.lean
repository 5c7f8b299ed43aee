/-! floats: the nearest whole one, by adding a great one and taking it away -/
set_option maxRecDepth 100000
section FP6
theorem big32 {c : Nat} {q : Int} (hc : c < 16777216) (hq : -149 ≤ q ∧ q ≤ -2) : FP.Core.round FP.Core.b32 (FP.Core.exactSum (.fin false c q) (.fin false 8388608 0)) = .fin false (FP.Core.nearest c (2 ^ (-q).toNat) + 8388608) 0 ∧ FP.Core.round FP.Core.b32 (FP.Core.exactSum (.fin false 8388608 0) (.fin false c q)) = .fin false (FP.Core.nearest c (2 ^ (-q).toNat) + 8388608) 0 ∧ FP.Core.nearest c (2 ^ (-q).toNat) + 8388608 < 16777216 := by
  obtain ⟨j, hj⟩ : ∃ j : Nat, q = -2 - (j : Int) := ⟨(-2 - q).toNat, by omega⟩
  have eD : (-q).toNat = j + 2 := by omega
  rw [eD]
  have hD : 2 ^ (j + 2) = 4 * 2 ^ j := by rw [Nat.pow_add]; omega
  have hp : 0 < 2 ^ j := Nat.two_pow_pos j
  have hN : FP.Core.nearest c (2 ^ (j + 2)) + 8388608 < 16777216 := by
    have hdv : c / 2 ^ (j + 2) ≤ c / 4 := Nat.div_le_div_left (by omega) (by decide)
    unfold FP.Core.nearest
    split
    · omega
    · split <;> omega
  have hR : FP.Core.roundRatio FP.Core.b32 false (c + 8388608 * 2 ^ (j + 2)) 1 q = .fin false (FP.Core.nearest c (2 ^ (j + 2)) + 8388608) 0 := by
    have h0 : c + 8388608 * 2 ^ (j + 2) ≠ 0 := by omega
    have hl : (c + 8388608 * 2 ^ (j + 2)).log2 = 23 + (j + 2) := by
      refine log2_of ?_ ?_
      · rw [Nat.pow_add 2 23 (j + 2)]; omega
      · rw [show 23 + (j + 2) + 1 = 24 + (j + 2) by omega, Nat.pow_add 2 24 (j + 2)]; omega
    unfold FP.Core.roundRatio
    rw [if_neg h0]
    have eq : FP.Core.quantum FP.Core.b32 (c + 8388608 * 2 ^ (j + 2)) 1 q = 0 := by
      unfold FP.Core.quantum
      rw [lead1 h0, hl, b32_q, b32_p]
      omega
    rw [eq]
    unfold FP.Core.roundAt FP.Core.unitsNum FP.Core.unitsDen
    rw [show (q - 0).toNat = 0 by omega, show (0 - q).toNat = j + 2 by omega, Nat.pow_zero, Nat.mul_one, Nat.one_mul, near_add (Nat.two_pow_pos _) (by decide)]
    unfold FP.Core.settle FP.Core.bound
    rw [b32_p, b32_Q, if_pos (by omega), if_pos (by omega)]
  have ev : FP.Core.inUnits c q q = c := by unfold FP.Core.inUnits; rw [show (q - q).toNat = 0 by omega]; omega
  have ew : FP.Core.inUnits 8388608 0 q = 8388608 * 2 ^ (j + 2) := by unfold FP.Core.inUnits; rw [show (0 - q).toNat = j + 2 by omega]
  refine ⟨?_, ?_, hN⟩
  · rw [← hR]
    show FP.Core.roundRatio FP.Core.b32 (FP.Core.sumSign false false (FP.Core.sumUnits false c q false 8388608 0 (min q 0))) (FP.Core.sumUnits false c q false 8388608 0 (min q 0)).natAbs 1 (min q 0) = _
    unfold FP.Core.sumUnits
    rw [show min q 0 = q by omega, ev, ew]
    show FP.Core.roundRatio FP.Core.b32 (FP.Core.sumSign false false ((c : Int) + ((8388608 * 2 ^ (j + 2) : Nat) : Int))) ((c : Int) + ((8388608 * 2 ^ (j + 2) : Nat) : Int)).natAbs 1 q = _
    rw [show ((c : Int) + ((8388608 * 2 ^ (j + 2) : Nat) : Int)).natAbs = c + 8388608 * 2 ^ (j + 2) by omega]
    unfold FP.Core.sumSign
    rw [if_neg (by omega), decide_eq_false (by omega)]
  · rw [← hR]
    show FP.Core.roundRatio FP.Core.b32 (FP.Core.sumSign false false (FP.Core.sumUnits false 8388608 0 false c q (min 0 q))) (FP.Core.sumUnits false 8388608 0 false c q (min 0 q)).natAbs 1 (min 0 q) = _
    unfold FP.Core.sumUnits
    rw [show min 0 q = q by omega, ev, ew]
    show FP.Core.roundRatio FP.Core.b32 (FP.Core.sumSign false false (((8388608 * 2 ^ (j + 2) : Nat) : Int) + (c : Int))) (((8388608 * 2 ^ (j + 2) : Nat) : Int) + (c : Int)).natAbs 1 q = _
    rw [show (((8388608 * 2 ^ (j + 2) : Nat) : Int) + (c : Int)).natAbs = c + 8388608 * 2 ^ (j + 2) by omega]
    unfold FP.Core.sumSign
    rw [if_neg (by omega), decide_eq_false (by omega)]
theorem back32 (N : Nat) : FP.Core.round FP.Core.b32 (FP.Core.exactSum (.fin false (N + 8388608) 0) (FP.Core.negate (.fin false 8388608 0))) = FP.Core.roundRatio FP.Core.b32 false N 1 0 := by
  show FP.Core.roundRatio FP.Core.b32 (FP.Core.sumSign false true (FP.Core.sumUnits false (N + 8388608) 0 true 8388608 0 0)) (FP.Core.sumUnits false (N + 8388608) 0 true 8388608 0 0).natAbs 1 0 = _
  have e : FP.Core.sumUnits false (N + 8388608) 0 true 8388608 0 0 = (N : Int) := by
    unfold FP.Core.sumUnits FP.Core.inUnits
    show (((N + 8388608) * 2 ^ 0 : Nat) : Int) + -((8388608 * 2 ^ 0 : Nat) : Int) = _
    omega
  rw [e, Int.natAbs_natCast]
  unfold FP.Core.sumSign
  by_cases h : (N : Int) = 0
  · rw [if_pos h]; rfl
  · rw [if_neg h, decide_eq_false (by omega)]
theorem big64 {c : Nat} {q : Int} (hc : c < 9007199254740992) (hq : -1074 ≤ q ∧ q ≤ -2) : FP.Core.round FP.Core.b64 (FP.Core.exactSum (.fin false c q) (.fin false 4503599627370496 0)) = .fin false (FP.Core.nearest c (2 ^ (-q).toNat) + 4503599627370496) 0 ∧ FP.Core.round FP.Core.b64 (FP.Core.exactSum (.fin false 4503599627370496 0) (.fin false c q)) = .fin false (FP.Core.nearest c (2 ^ (-q).toNat) + 4503599627370496) 0 ∧ FP.Core.nearest c (2 ^ (-q).toNat) + 4503599627370496 < 9007199254740992 := by
  obtain ⟨j, hj⟩ : ∃ j : Nat, q = -2 - (j : Int) := ⟨(-2 - q).toNat, by omega⟩
  have eD : (-q).toNat = j + 2 := by omega
  rw [eD]
  have hD : 2 ^ (j + 2) = 4 * 2 ^ j := by rw [Nat.pow_add]; omega
  have hp : 0 < 2 ^ j := Nat.two_pow_pos j
  have hN : FP.Core.nearest c (2 ^ (j + 2)) + 4503599627370496 < 9007199254740992 := by
    have hdv : c / 2 ^ (j + 2) ≤ c / 4 := Nat.div_le_div_left (by omega) (by decide)
    unfold FP.Core.nearest
    split
    · omega
    · split <;> omega
  have hR : FP.Core.roundRatio FP.Core.b64 false (c + 4503599627370496 * 2 ^ (j + 2)) 1 q = .fin false (FP.Core.nearest c (2 ^ (j + 2)) + 4503599627370496) 0 := by
    have h0 : c + 4503599627370496 * 2 ^ (j + 2) ≠ 0 := by omega
    have hl : (c + 4503599627370496 * 2 ^ (j + 2)).log2 = 52 + (j + 2) := by
      refine log2_of ?_ ?_
      · rw [Nat.pow_add 2 52 (j + 2)]; omega
      · rw [show 52 + (j + 2) + 1 = 53 + (j + 2) by omega, Nat.pow_add 2 53 (j + 2)]; omega
    unfold FP.Core.roundRatio
    rw [if_neg h0]
    have eq : FP.Core.quantum FP.Core.b64 (c + 4503599627370496 * 2 ^ (j + 2)) 1 q = 0 := by
      unfold FP.Core.quantum
      rw [lead1 h0, hl, b64_q, b64_p]
      omega
    rw [eq]
    unfold FP.Core.roundAt FP.Core.unitsNum FP.Core.unitsDen
    rw [show (q - 0).toNat = 0 by omega, show (0 - q).toNat = j + 2 by omega, Nat.pow_zero, Nat.mul_one, Nat.one_mul, near_add (Nat.two_pow_pos _) (by decide)]
    unfold FP.Core.settle FP.Core.bound
    rw [b64_p, b64_Q, if_pos (by omega), if_pos (by omega)]
  have ev : FP.Core.inUnits c q q = c := by unfold FP.Core.inUnits; rw [show (q - q).toNat = 0 by omega]; omega
  have ew : FP.Core.inUnits 4503599627370496 0 q = 4503599627370496 * 2 ^ (j + 2) := by unfold FP.Core.inUnits; rw [show (0 - q).toNat = j + 2 by omega]
  refine ⟨?_, ?_, hN⟩
  · rw [← hR]
    show FP.Core.roundRatio FP.Core.b64 (FP.Core.sumSign false false (FP.Core.sumUnits false c q false 4503599627370496 0 (min q 0))) (FP.Core.sumUnits false c q false 4503599627370496 0 (min q 0)).natAbs 1 (min q 0) = _
    unfold FP.Core.sumUnits
    rw [show min q 0 = q by omega, ev, ew]
    show FP.Core.roundRatio FP.Core.b64 (FP.Core.sumSign false false ((c : Int) + ((4503599627370496 * 2 ^ (j + 2) : Nat) : Int))) ((c : Int) + ((4503599627370496 * 2 ^ (j + 2) : Nat) : Int)).natAbs 1 q = _
    rw [show ((c : Int) + ((4503599627370496 * 2 ^ (j + 2) : Nat) : Int)).natAbs = c + 4503599627370496 * 2 ^ (j + 2) by omega]
    unfold FP.Core.sumSign
    rw [if_neg (by omega), decide_eq_false (by omega)]
  · rw [← hR]
    show FP.Core.roundRatio FP.Core.b64 (FP.Core.sumSign false false (FP.Core.sumUnits false 4503599627370496 0 false c q (min 0 q))) (FP.Core.sumUnits false 4503599627370496 0 false c q (min 0 q)).natAbs 1 (min 0 q) = _
    unfold FP.Core.sumUnits
    rw [show min 0 q = q by omega, ev, ew]
    show FP.Core.roundRatio FP.Core.b64 (FP.Core.sumSign false false (((4503599627370496 * 2 ^ (j + 2) : Nat) : Int) + (c : Int))) (((4503599627370496 * 2 ^ (j + 2) : Nat) : Int) + (c : Int)).natAbs 1 q = _
    rw [show (((4503599627370496 * 2 ^ (j + 2) : Nat) : Int) + (c : Int)).natAbs = c + 4503599627370496 * 2 ^ (j + 2) by omega]
    unfold FP.Core.sumSign
    rw [if_neg (by omega), decide_eq_false (by omega)]
theorem back64 (N : Nat) : FP.Core.round FP.Core.b64 (FP.Core.exactSum (.fin false (N + 4503599627370496) 0) (FP.Core.negate (.fin false 4503599627370496 0))) = FP.Core.roundRatio FP.Core.b64 false N 1 0 := by
  show FP.Core.roundRatio FP.Core.b64 (FP.Core.sumSign false true (FP.Core.sumUnits false (N + 4503599627370496) 0 true 4503599627370496 0 0)) (FP.Core.sumUnits false (N + 4503599627370496) 0 true 4503599627370496 0 0).natAbs 1 0 = _
  have e : FP.Core.sumUnits false (N + 4503599627370496) 0 true 4503599627370496 0 0 = (N : Int) := by
    unfold FP.Core.sumUnits FP.Core.inUnits
    show (((N + 4503599627370496) * 2 ^ 0 : Nat) : Int) + -((4503599627370496 * 2 ^ 0 : Nat) : Int) = _
    omega
  rw [e, Int.natAbs_natCast]
  unfold FP.Core.sumSign
  by_cases h : (N : Int) = 0
  · rw [if_pos h]; rfl
  · rw [if_neg h, decide_eq_false (by omega)]
end FP6
