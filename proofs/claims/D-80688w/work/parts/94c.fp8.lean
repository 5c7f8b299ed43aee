/-! floats: the bell, the gate -/
set_option maxRecDepth 100000
section FP10
theorem r_bits {x : UInt32} (h : vf_n32 x) : fJ8_floatToIntBits x = some x.toInt32 := by
  unfold fJ8_floatToIntBits fJ8_isNaN
  rw [if_pos ((r_cl1 h h).2.1.mpr rfl), zbj_v, if_pos rfl]
theorem sgn31 (x : UInt32) : (x >>> 31 == 1) = decide (2147483648 ≤ x.toNat) := by
  have := x.toNat_lt
  have e : (x >>> 31).toNat = x.toNat / 2147483648 := by
    rw [UInt32.toNat_shiftRight]
    show x.toNat >>> 31 = _
    rw [Nat.shiftRight_eq_div_pow]
  by_cases h : 2147483648 ≤ x.toNat
  · have : x >>> 31 = 1 := UInt32.toNat_inj.mp (e.trans (by show _ = 1; omega))
    rw [this, decide_eq_true h]; rfl
  · have : x >>> 31 = 0 := UInt32.toNat_inj.mp (e.trans (by show _ = 0; omega))
    rw [this, decide_eq_false h]; rfl
theorem toI_neg (x : UInt32) : x.toInt32 < 0 ↔ 2147483648 ≤ x.toNat := by
  have := x.toNat_lt
  rw [Int32.lt_iff_toInt_lt, ri_0]
  show x.toBitVec.toInt < 0 ↔ 2147483648 ≤ x.toBitVec.toNat
  rw [BitVec.toInt_eq_toNat_cond]
  have : x.toBitVec.toNat < 2 ^ 32 := x.toBitVec.isLt
  split <;> omega
theorem r_bell {v a : UInt32} (hv : vf_n32 v) (ha : vf_n32 a) {γ : Type} (m : γ) : (if 0 < (Op.cmpValue (FP.fcmp v a) .l) then some (v, m) else if (Op.cmpValue (FP.fcmp v a) .l) = 0 then zbj (fJ8_floatToIntBits v) (fun r28 => if r28 < 0 then some (a, m) else some (v, m)) else some (a, m)) = some (Native.java_lang_Math.nans.pick32 true v a, m) := by
  have c1 := r_cl1 hv ha
  unfold Native.java_lang_Math.nans.pick32
  rw [r_fcmp hv ha] at c1 ⊢
  rw [r_bits hv, zbj_v, sgn31]
  rcases Int.lt_trichotomy (fk v) (fk a) with h | h | h
  · rw [if_neg (mt c1.2.2.mp (by omega)), if_neg (mt c1.2.1.mp (by omega))]
    have e : compare (fk v) (fk a) = .lt := by rw [cmp_ite, if_pos h]
    rw [e]
    rfl
  · rw [if_neg (mt c1.2.2.mp (by omega)), if_pos (c1.2.1.mpr h)]
    have e : compare (fk v) (fk a) = .eq := by rw [cmp_ite, if_neg (by omega), if_pos h]
    rw [e]
    by_cases hs : 2147483648 ≤ v.toNat
    · rw [if_pos ((toI_neg v).mpr hs), decide_eq_true hs]; rfl
    · rw [if_neg (mt (toI_neg v).mp hs), decide_eq_false hs]; rfl
  · rw [if_pos (c1.2.2.mpr h)]
    have e : compare (fk v) (fk a) = .gt := by rw [cmp_ite, if_neg (by omega), if_neg (by omega)]
    rw [e]
    rfl
theorem pick_s {v a : UInt32} (hv : r_s v) (ha : r_s a) : r_s (Native.java_lang_Math.nans.pick32 true v a) := by
  unfold Native.java_lang_Math.nans.pick32
  split
  · exact ha
  · exact hv
  · split
    · exact ha
    · exact hv
theorem mask_n {x : UInt32} (h : vf_n32 x) : vf_n32 (x &&& 0x7fffffff) ∧ fk (x &&& 0x7fffffff) = ((x.toNat % 2147483648 : Nat) : Int) := by
  have e := fmask x
  rw [n32_iff] at h
  refine ⟨by rw [n32_iff, e]; omega, ?_⟩
  unfold fk
  rw [e, if_neg (by omega)]
theorem abs_n {x : UInt32} (h : vf_n32 x) : (0 ≤ Op.cmpValue (FP.fcmp x FP.fconst0) .g ∧ fk x = ((x.toNat % 2147483648 : Nat) : Int)) ∨ (¬ 0 ≤ Op.cmpValue (FP.fcmp x FP.fconst0) .g ∧ vf_n32 (FP.fneg x) ∧ fk (FP.fneg x) = ((x.toNat % 2147483648 : Nat) : Int)) := by
  have c1 := r_cl0 h n_0
  rw [k_0] at c1
  have hx := x.toNat_lt
  have h' := h
  rw [n32_iff] at h'
  by_cases hk : 0 ≤ fk x
  · refine Or.inl ⟨c1.2.2.2.mpr hk, ?_⟩
    unfold fk at hk ⊢
    split at hk <;> (first | rw [if_pos (by assumption)] | rw [if_neg (by assumption)]) <;> omega
  · refine Or.inr ⟨mt c1.2.2.2.mp hk, ?_⟩
    have hb : 2147483648 ≤ x.toNat := by
      unfold fk at hk
      split at hk <;> omega
    have en := fneg_n x
    rw [if_pos hb] at en
    refine ⟨by rw [n32_iff, en]; omega, ?_⟩
    unfold fk
    rw [en, if_neg (by omega)]
    omega
theorem gate_z (x : UInt32) : (x.toInt32 &&& (-2147483648 : Int32)).toUInt32 = ((FP.fconst0 &&& 0x7fffffff) ||| (if x >>> 31 == 1 then 0x80000000 else 0)) ∧ vn_sni2f (x.toInt32 &&& (-2147483648 : Int32)) = false ∧ r_s ((FP.fconst0 &&& 0x7fffffff) ||| (if x >>> 31 == 1 then 0x80000000 else 0)) := by
  have hx := x.toNat_lt
  have e1 : (x.toInt32 &&& (-2147483648 : Int32)).toUInt32 = x &&& 2147483648 := rfl
  have e2 : x &&& 2147483648 = ((FP.fconst0 &&& 0x7fffffff) ||| (if x >>> 31 == 1 then 0x80000000 else 0)) := by
    rw [sgn31]
    refine UInt32.toNat_inj.mp ?_
    rw [UInt32.toNat_and]
    show x.toNat &&& 2 ^ 31 = _
    by_cases h : 2147483648 ≤ x.toNat
    · rw [decide_eq_true h]
      show _ = 2 ^ 31
      refine Nat.eq_of_testBit_eq fun i => ?_
      rw [Nat.testBit_and, Nat.testBit_two_pow]
      by_cases hi : 31 = i
      · subst hi
        rw [Nat.testBit_eq_decide_div_mod_eq, decide_eq_true (show x.toNat / 2 ^ 31 % 2 = 1 by omega)]; rfl
      · rw [decide_eq_false hi, Bool.and_false]
    · rw [decide_eq_false h]
      show _ = 0
      refine Nat.eq_of_testBit_eq fun i => ?_
      rw [Nat.testBit_and, Nat.testBit_two_pow, Nat.zero_testBit]
      by_cases hi : 31 = i
      · subst hi
        rw [Nat.testBit_eq_decide_div_mod_eq, decide_eq_false (show ¬ x.toNat / 2 ^ 31 % 2 = 1 by omega)]; rfl
      · rw [decide_eq_false hi, Bool.and_false]
  have e3 : r_s ((FP.fconst0 &&& 0x7fffffff) ||| (if x >>> 31 == 1 then 0x80000000 else 0)) := by
    split <;> decide
  refine ⟨e1.trans e2, ?_, e3⟩
  unfold vn_sni2f
  rw [e1, e2]
  split <;> decide
end FP10
