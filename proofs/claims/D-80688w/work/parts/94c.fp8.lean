/-! floats: the bell, the gate -/
set_option maxRecDepth 100000
section FP10
theorem r_bits {x : UInt32} (h : vf_n32 x) : fJ8_floatToIntBits x = some x.toInt32 := by
  unfold fJ8_floatToIntBits fJ8_isNaN
  rw [if_pos ((r_cl1 h h).2.1.mpr rfl), zbj_v, if_pos rfl]
theorem sgn31 (x : UInt32) : (x >>> 31 == 1) = decide (2147483648 ≤ x.toNat) := by
  have := x.toNat_lt
  have e : (x >>> 31).toNat = x.toNat / 2147483648 := by
    rw [UInt32.toNat_shiftRight]
    show x.toNat >>> 31 = _
    rw [Nat.shiftRight_eq_div_pow]
  by_cases h : 2147483648 ≤ x.toNat
  · have : x >>> 31 = 1 := UInt32.toNat_inj.mp (e.trans (by show _ = 1; omega))
    rw [this, decide_eq_true h]; rfl
  · have : x >>> 31 = 0 := UInt32.toNat_inj.mp (e.trans (by show _ = 0; omega))
    rw [this, decide_eq_false h]; rfl
theorem toI_neg (x : UInt32) : x.toInt32 < 0 ↔ 2147483648 ≤ x.toNat := by
  have := x.toNat_lt
  rw [Int32.lt_iff_toInt_lt, ri_0]
  show x.toBitVec.toInt < 0 ↔ 2147483648 ≤ x.toBitVec.toNat
  rw [BitVec.toInt_eq_toNat_cond]
  have : x.toBitVec.toNat < 2 ^ 32 := x.toBitVec.isLt
  split <;> omega
theorem r_bell {v a : UInt32} (hv : vf_n32 v) (ha : vf_n32 a) {γ : Type} (m : γ) : (if 0 < (Op.cmpValue (FP.fcmp v a) .l) then some (v, m) else if (Op.cmpValue (FP.fcmp v a) .l) = 0 then zbj (fJ8_floatToIntBits v) (fun r28 => if r28 < 0 then some (a, m) else some (v, m)) else some (a, m)) = some (Native.java_lang_Math.nans.pick32 true v a, m) := by
  have c1 := r_cl1 hv ha
  unfold Native.java_lang_Math.nans.pick32
  rw [r_fcmp hv ha] at c1 ⊢
  rw [r_bits hv, zbj_v, sgn31]
  rcases Int.lt_trichotomy (fk v) (fk a) with h | h | h
  · rw [if_neg (mt c1.2.2.mp (by omega)), if_neg (mt c1.2.1.mp (by omega))]
    have e : compare (fk v) (fk a) = .lt := by rw [cmp_ite, if_pos h]
    rw [e]
    rfl
  · rw [if_neg (mt c1.2.2.mp (by omega)), if_pos (c1.2.1.mpr h)]
    have e : compare (fk v) (fk a) = .eq := by rw [cmp_ite, if_neg (by omega), if_pos h]
    rw [e]
    by_cases hs : 2147483648 ≤ v.toNat
    · rw [if_pos ((toI_neg v).mpr hs), decide_eq_true hs]; rfl
    · rw [if_neg (mt (toI_neg v).mp hs), decide_eq_false hs]; rfl
  · rw [if_pos (c1.2.2.mpr h)]
    have e : compare (fk v) (fk a) = .gt := by rw [cmp_ite, if_neg (by omega), if_neg (by omega)]
    rw [e]
    rfl
theorem pick_s {v a : UInt32} (hv : r_s v) (ha : r_s a) : r_s (Native.java_lang_Math.nans.pick32 true v a) := by
  unfold Native.java_lang_Math.nans.pick32
  split
  · exact ha
  · exact hv
  · split
    · exact ha
    · exact hv
end FP10
