/-! floats: samples, levels -/
set_option maxRecDepth 100000
/-- the order of the floats that are no NaNs, by their bits -/
def fk (a : UInt32) : Int := if 2 ^ 31 ≤ a.toNat then ((2 ^ 31 : Nat) : Int) - (a.toNat : Int) else (a.toNat : Int)
section F0
theorem fmask (x : UInt32) : (x &&& 0x7fffffff).toNat = x.toNat % 2 ^ 31 := by
  rw [UInt32.toNat_and]
  exact Nat.and_two_pow_sub_one_eq_mod x.toNat 31
theorem rs_iff (x : UInt32) : r_s x ↔ x.toNat % 2 ^ 31 ≤ 1090519040 := by
  rw [← fmask]
  exact UInt32.le_iff_toNat_le
theorem n32_iff (x : UInt32) : vf_n32 x ↔ x.toNat % 2 ^ 31 ≤ 2139095040 := by
  rw [← fmask]
  exact UInt32.le_iff_toNat_le
theorem rs_nn {x : UInt32} (h : r_s x) : vf_n32 x := by
  rw [n32_iff]
  have := (rs_iff x).mp h
  omega
theorem cmp_ite (a b : Int) : compare a b = if a < b then .lt else if a = b then .eq else .gt := rfl
end F0
section FP1
theorem b32_t : FP.Core.b32.tails = 8388608 := by decide
theorem b32_e : FP.Core.b32.exps = 256 := by decide
theorem b32_q : FP.Core.b32.qmin = -149 := by decide
theorem b32_Q : FP.Core.b32.qmax = 104 := by decide
theorem b32_p : FP.Core.b32.p = 24 := rfl
theorem b64_t : FP.Core.b64.tails = 4503599627370496 := by decide
theorem b64_e : FP.Core.b64.exps = 2048 := by decide
theorem b64_q : FP.Core.b64.qmin = -1074 := by decide
theorem b64_Q : FP.Core.b64.qmax = 971 := by decide
theorem b64_p : FP.Core.b64.p = 53 := rfl
theorem enc32 (s : Bool) (c : Nat) (q : Int) : FP.Core.encode FP.Core.b32 (.fin s c q) = if c < 8388608 then s.toNat * 2147483648 + c else s.toNat * 2147483648 + (((q + 149).toNat + 1) * 8388608 + (c - 8388608)) := by
  unfold FP.Core.encode FP.Core.assemble
  rw [b32_t, b32_e, b32_q]; dsimp only
  have : q - -149 = q + 149 := by omega
  rw [this]
  by_cases h : c < 8388608
  · rw [if_pos h, if_pos h]; omega
  · rw [if_neg h, if_neg h]; omega
theorem enc64 (s : Bool) (c : Nat) (q : Int) : FP.Core.encode FP.Core.b64 (.fin s c q) = if c < 4503599627370496 then s.toNat * 9223372036854775808 + c else s.toNat * 9223372036854775808 + (((q + 1074).toNat + 1) * 4503599627370496 + (c - 4503599627370496)) := by
  unfold FP.Core.encode FP.Core.assemble
  rw [b64_t, b64_e, b64_q]; dsimp only
  have : q - -1074 = q + 1074 := by omega
  rw [this]
  by_cases h : c < 4503599627370496
  · rw [if_pos h, if_pos h]; omega
  · rw [if_neg h, if_neg h]; omega
theorem inf32 (s : Bool) : FP.Core.encode FP.Core.b32 (.inf s) = s.toNat * 2147483648 + 2139095040 := by
  cases s <;> decide
theorem inf64 (s : Bool) : FP.Core.encode FP.Core.b64 (.inf s) = s.toNat * 9223372036854775808 + 9218868437227405312 := by
  cases s <;> decide
/-- a rounded ratio, in bits: its sign, and its size under the bound that its leading digit gives -/
theorem rr32 (s : Bool) (num den : Nat) (e : Int) : ∃ m, FP.Core.encode FP.Core.b32 (FP.Core.roundRatio FP.Core.b32 s num den e) = s.toNat * 2147483648 + m ∧ m ≤ 2139095040 ∧ ∀ L : Int, -126 ≤ L → (num = 0 ∨ FP.Core.leading num den + e ≤ L) → (m : Int) ≤ (L + 128) * 8388608 := by
  unfold FP.Core.roundRatio
  by_cases h0 : num = 0
  · rw [if_pos h0, enc32, if_pos (by omega)]
    exact ⟨0, rfl, by omega, fun L hL _ => by omega⟩
  · rw [if_neg h0]
    unfold FP.Core.roundAt FP.Core.settle FP.Core.bound
    generalize hc : FP.Core.nearest _ _ = c
    have hq1 : -149 ≤ FP.Core.quantum FP.Core.b32 num den e := by unfold FP.Core.quantum; rw [b32_q]; omega
    have hq2 : FP.Core.quantum FP.Core.b32 num den e ≤ max (-149) (FP.Core.leading num den + e - 23) := by unfold FP.Core.quantum; rw [b32_q, b32_p]; omega
    generalize FP.Core.quantum FP.Core.b32 num den e = q at hq1 hq2
    rw [b32_Q, b32_p, b32_t]
    by_cases h1 : c < 2 ^ 24
    · rw [if_pos h1]
      by_cases h2 : q ≤ 104
      · rw [if_pos h2, enc32]
        by_cases h3 : c < 8388608
        · rw [if_pos h3]
          exact ⟨c, rfl, by omega, fun L hL hl => by omega⟩
        · rw [if_neg h3]
          exact ⟨_, rfl, by omega, fun L hL hl => by omega⟩
      · rw [if_neg h2, inf32]
        exact ⟨_, rfl, by omega, fun L hL hl => by omega⟩
    · rw [if_neg h1]
      by_cases h2 : q + 1 ≤ 104
      · rw [if_pos h2, enc32, if_neg (by omega)]
        exact ⟨_, rfl, by omega, fun L hL hl => by omega⟩
      · rw [if_neg h2, inf32]
        exact ⟨_, rfl, by omega, fun L hL hl => by omega⟩
theorem rr64 (s : Bool) (num den : Nat) (e : Int) : ∃ m, FP.Core.encode FP.Core.b64 (FP.Core.roundRatio FP.Core.b64 s num den e) = s.toNat * 9223372036854775808 + m ∧ m ≤ 9218868437227405312 ∧ ∀ L : Int, -1022 ≤ L → (num = 0 ∨ FP.Core.leading num den + e ≤ L) → (m : Int) ≤ (L + 1024) * 4503599627370496 := by
  unfold FP.Core.roundRatio
  by_cases h0 : num = 0
  · rw [if_pos h0, enc64, if_pos (by omega)]
    exact ⟨0, rfl, by omega, fun L hL _ => by omega⟩
  · rw [if_neg h0]
    unfold FP.Core.roundAt FP.Core.settle FP.Core.bound
    generalize hc : FP.Core.nearest _ _ = c
    have hq1 : -1074 ≤ FP.Core.quantum FP.Core.b64 num den e := by unfold FP.Core.quantum; rw [b64_q]; omega
    have hq2 : FP.Core.quantum FP.Core.b64 num den e ≤ max (-1074) (FP.Core.leading num den + e - 52) := by unfold FP.Core.quantum; rw [b64_q, b64_p]; omega
    generalize FP.Core.quantum FP.Core.b64 num den e = q at hq1 hq2
    rw [b64_Q, b64_p, b64_t]
    by_cases h1 : c < 2 ^ 53
    · rw [if_pos h1]
      by_cases h2 : q ≤ 971
      · rw [if_pos h2, enc64]
        by_cases h3 : c < 4503599627370496
        · rw [if_pos h3]
          exact ⟨c, rfl, by omega, fun L hL hl => by omega⟩
        · rw [if_neg h3]
          exact ⟨_, rfl, by omega, fun L hL hl => by omega⟩
      · rw [if_neg h2, inf64]
        exact ⟨_, rfl, by omega, fun L hL hl => by omega⟩
    · rw [if_neg h1]
      by_cases h2 : q + 1 ≤ 971
      · rw [if_pos h2, enc64, if_neg (by omega)]
        exact ⟨_, rfl, by omega, fun L hL hl => by omega⟩
      · rw [if_neg h2, inf64]
        exact ⟨_, rfl, by omega, fun L hL hl => by omega⟩
/-- what the bits stand for -/
theorem dec32 (s : Bool) {m : Nat} (hm : m ≤ 2139095040) : FP.Core.decode FP.Core.b32 (s.toNat * 2147483648 + m) = if m = 2139095040 then .inf s else .fin s (if m < 8388608 then m else 8388608 + m % 8388608) (-149 + ((m / 8388608 - 1 : Nat) : Int)) := by
  have hs : s.toNat ≤ 1 := by cases s <;> decide
  have hT : FP.Core.fieldT FP.Core.b32 (s.toNat * 2147483648 + m) = m % 8388608 := by unfold FP.Core.fieldT; rw [b32_t]; omega
  have hE : FP.Core.fieldE FP.Core.b32 (s.toNat * 2147483648 + m) = m / 8388608 := by unfold FP.Core.fieldE; rw [b32_t, b32_e]; omega
  have hS : FP.Core.fieldS FP.Core.b32 (s.toNat * 2147483648 + m) = s := by
    unfold FP.Core.fieldS; rw [b32_t, b32_e]
    have : (s.toNat * 2147483648 + m) / 8388608 / 256 % 2 = s.toNat := by omega
    rw [this]; cases s <;> rfl
  unfold FP.Core.decode
  rw [hT, hE, hS, b32_e, b32_t, b32_q]
  by_cases h : m = 2139095040
  · subst h
    rw [if_pos (by decide), if_pos (by decide), if_pos rfl]
  · rw [if_neg h, if_neg (by omega)]
    by_cases h2 : m < 8388608
    · rw [if_pos (by omega), if_pos h2]
      have e1 : m % 8388608 = m := by omega
      have e2 : m / 8388608 - 1 = 0 := by omega
      rw [e1, e2]; rfl
    · rw [if_neg (by omega), if_neg h2]
      have e2 : (-149 + (((m / 8388608 : Nat) : Int) - 1)) = -149 + ((m / 8388608 - 1 : Nat) : Int) := by omega
      rw [e2]
theorem dec64 (s : Bool) {m : Nat} (hm : m ≤ 9218868437227405312) : FP.Core.decode FP.Core.b64 (s.toNat * 9223372036854775808 + m) = if m = 9218868437227405312 then .inf s else .fin s (if m < 4503599627370496 then m else 4503599627370496 + m % 4503599627370496) (-1074 + ((m / 4503599627370496 - 1 : Nat) : Int)) := by
  have hs : s.toNat ≤ 1 := by cases s <;> decide
  have hT : FP.Core.fieldT FP.Core.b64 (s.toNat * 9223372036854775808 + m) = m % 4503599627370496 := by unfold FP.Core.fieldT; rw [b64_t]; omega
  have hE : FP.Core.fieldE FP.Core.b64 (s.toNat * 9223372036854775808 + m) = m / 4503599627370496 := by unfold FP.Core.fieldE; rw [b64_t, b64_e]; omega
  have hS : FP.Core.fieldS FP.Core.b64 (s.toNat * 9223372036854775808 + m) = s := by
    unfold FP.Core.fieldS; rw [b64_t, b64_e]
    have : (s.toNat * 9223372036854775808 + m) / 4503599627370496 / 2048 % 2 = s.toNat := by omega
    rw [this]; cases s <;> rfl
  unfold FP.Core.decode
  rw [hT, hE, hS, b64_e, b64_t, b64_q]
  by_cases h : m = 9218868437227405312
  · subst h
    rw [if_pos (by decide), if_pos (by decide), if_pos rfl]
  · rw [if_neg h, if_neg (by omega)]
    by_cases h2 : m < 4503599627370496
    · rw [if_pos (by omega), if_pos h2]
      have e1 : m % 4503599627370496 = m := by omega
      have e2 : m / 4503599627370496 - 1 = 0 := by omega
      rw [e1, e2]; rfl
    · rw [if_neg (by omega), if_neg h2]
      have e2 : (-1074 + (((m / 4503599627370496 : Nat) : Int) - 1)) = -1074 + ((m / 4503599627370496 - 1 : Nat) : Int) := by omega
      rw [e2]
end FP1
section FP2
theorem split32 (x : UInt32) : ∃ s : Bool, x.toNat = s.toNat * 2147483648 + x.toNat % 2147483648 ∧ (s = true ↔ 2147483648 ≤ x.toNat) := by
  have := x.toNat_lt
  by_cases h : 2147483648 ≤ x.toNat
  · exact ⟨true, by simp only [Bool.toNat_true]; omega, by simp [h]⟩
  · exact ⟨false, by simp only [Bool.toNat_false]; omega, by simp [h]⟩
theorem split64 (x : UInt64) : ∃ s : Bool, x.toNat = s.toNat * 9223372036854775808 + x.toNat % 9223372036854775808 ∧ (s = true ↔ 9223372036854775808 ≤ x.toNat) := by
  have := x.toNat_lt
  by_cases h : 9223372036854775808 ≤ x.toNat
  · exact ⟨true, by simp only [Bool.toNat_true]; omega, by simp [h]⟩
  · exact ⟨false, by simp only [Bool.toNat_false]; omega, by simp [h]⟩
theorem fmask64 (x : UInt64) : (x &&& 0x7fffffffffffffff).toNat = x.toNat % 2 ^ 63 := by
  rw [UInt64.toNat_and]
  exact Nat.and_two_pow_sub_one_eq_mod x.toNat 63
theorem n64_iff (x : UInt64) : vf_n64 x ↔ x.toNat % 2 ^ 63 ≤ 9218868437227405312 := by
  rw [← fmask64]
  exact UInt64.le_iff_toNat_le
theorem of32 (s : Bool) {m : Nat} (hm : m < 2147483648) : (UInt32.ofNat (s.toNat * 2147483648 + m)).toNat = s.toNat * 2147483648 + m := by
  have hs : s.toNat ≤ 1 := by cases s <;> decide
  rw [UInt32.toNat_ofNat']
  omega
theorem of64 (s : Bool) {m : Nat} (hm : m < 9223372036854775808) : (UInt64.ofNat (s.toNat * 9223372036854775808 + m)).toNat = s.toNat * 9223372036854775808 + m := by
  have hs : s.toNat ≤ 1 := by cases s <;> decide
  rw [UInt64.toNat_ofNat']
  omega
/-- the size, in the least unit -/
def fv (m : Nat) : Nat := (if m < 8388608 then m else 8388608 + m % 8388608) * 2 ^ (m / 8388608 - 1)
theorem fv_lt {m m' : Nat} (h : m < m') : fv m < fv m' := by
  unfold fv
  by_cases h1 : m' < 8388608
  · have e1 : m' / 8388608 - 1 = 0 := by omega
    have e2 : m / 8388608 - 1 = 0 := by omega
    rw [if_pos h1, if_pos (by omega), e1, e2]; omega
  · rw [if_neg h1]
    by_cases h2 : m < 8388608
    · have e2 : m / 8388608 - 1 = 0 := by omega
      rw [if_pos h2, e2]
      have : 0 < 2 ^ (m' / 8388608 - 1) := Nat.two_pow_pos _
      generalize 2 ^ (m' / 8388608 - 1) = P at this
      have := Nat.mul_le_mul_left (8388608 + m' % 8388608) this
      omega
    · rw [if_neg h2]
      by_cases h3 : m / 8388608 = m' / 8388608
      · rw [h3]
        exact Nat.mul_lt_mul_of_pos_right (by omega) (Nat.two_pow_pos _)
      · have hle : 2 ^ (m / 8388608 - 1 + 1) ≤ 2 ^ (m' / 8388608 - 1) := Nat.pow_le_pow_right (by decide) (by omega)
        rw [Nat.pow_succ] at hle
        have hp : 0 < 2 ^ (m / 8388608 - 1) := Nat.two_pow_pos _
        generalize 2 ^ (m / 8388608 - 1) = P at hle hp
        generalize 2 ^ (m' / 8388608 - 1) = P' at hle
        have a1 : (8388608 + m % 8388608) * P < (8388608 * 2) * P := Nat.mul_lt_mul_of_pos_right (by omega) hp
        have a2 : 8388608 * (P * 2) ≤ 8388608 * P' := Nat.mul_le_mul_left _ hle
        have a3 : 8388608 * P' ≤ (8388608 + m' % 8388608) * P' := Nat.mul_le_mul_right _ (by omega)
        have a4 : (8388608 * 2) * P = 8388608 * (P * 2) := by rw [Nat.mul_assoc, Nat.mul_comm 2 P]
        omega
theorem fv_0 : fv 0 = 0 := by decide
theorem fv_inj {m m' : Nat} (h : fv m = fv m') : m = m' := by
  rcases Nat.lt_trichotomy m m' with a | a | a
  · have := fv_lt a; omega
  · exact a
  · have := fv_lt a; omega
theorem fv_iff {m m' : Nat} : fv m < fv m' ↔ m < m' := by
  rcases Nat.lt_trichotomy m m' with a | a | a
  · exact ⟨fun _ => a, fun _ => fv_lt a⟩
  · subst a; exact ⟨fun q => absurd q (Nat.lt_irrefl _), fun q => absurd q (Nat.lt_irrefl _)⟩
  · have := fv_lt a; exact ⟨fun q => by omega, fun q => by omega⟩
theorem cmp_scale (a b : Int) {K : Int} (hK : 0 < K) : compare (a * K) (b * K) = compare a b := by
  have h1 : a * K < b * K ↔ a < b := Int.mul_lt_mul_right hK
  have h2 : a * K = b * K ↔ a = b := ⟨fun q => Int.eq_of_mul_eq_mul_right (by omega) q, fun q => by rw [q]⟩
  rw [cmp_ite, cmp_ite]
  simp only [h1, h2]
theorem signed_mul (s : Bool) (c K : Nat) : FP.Core.signed s (c * K) = FP.Core.signed s c * (K : Int) := by
  cases s <;> simp [FP.Core.signed, Int.neg_mul]
theorem cmp_fv (s t : Bool) (m m' : Nat) : compare (FP.Core.signed s (fv m)) (FP.Core.signed t (fv m')) = compare (FP.Core.signed s m) (FP.Core.signed t m') := by
  have p1 : 0 < fv m ↔ 0 < m := by have := @fv_iff 0 m; rw [fv_0] at this; exact this
  have p2 : 0 < fv m' ↔ 0 < m' := by have := @fv_iff 0 m'; rw [fv_0] at this; exact this
  have p3 := @fv_iff m m'
  have p4 := @fv_iff m' m
  rw [cmp_ite, cmp_ite]
  cases s <;> cases t <;> simp only [FP.Core.signed, Bool.false_eq_true, if_false, if_true]
  all_goals
    congr 1
    · exact propext ⟨fun _ => by omega, fun _ => by omega⟩
    · congr 1
      exact propext ⟨fun _ => by omega, fun _ => by omega⟩
theorem order_fin (s t : Bool) (c d : Nat) (q r : Int) (hq : -149 ≤ q) (hr : -149 ≤ r) : FP.Core.order (.fin s c q) (.fin t d r) = some (compare (FP.Core.signed s (c * 2 ^ (q + 149).toNat)) (FP.Core.signed t (d * 2 ^ (r + 149).toNat))) := by
  show some (compare (FP.Core.signed s (FP.Core.inUnits c q (min q r))) (FP.Core.signed t (FP.Core.inUnits d r (min q r)))) = _
  have hm1 : min q r ≤ q := by omega
  have hm2 : min q r ≤ r := by omega
  have hm3 : -149 ≤ min q r := by omega
  generalize min q r = e at hm1 hm2 hm3
  have e1 : (q + 149).toNat = (q - e).toNat + (e + 149).toNat := by omega
  have e2 : (r + 149).toNat = (r - e).toNat + (e + 149).toNat := by omega
  unfold FP.Core.inUnits
  rw [e1, e2, Nat.pow_add, Nat.pow_add, ← Nat.mul_assoc, ← Nat.mul_assoc, signed_mul s _ (2 ^ (e + 149).toNat), signed_mul t _ (2 ^ (e + 149).toNat), cmp_scale]
  exact Int.ofNat_lt.mpr (Nat.two_pow_pos _)
theorem cmp32 (s t : Bool) {m m' : Nat} (hm : m ≤ 2139095040) (hm' : m' ≤ 2139095040) : FP.Core.cmp FP.Core.b32 (s.toNat * 2147483648 + m) (t.toNat * 2147483648 + m') = some (compare (FP.Core.signed s m) (FP.Core.signed t m')) := by
  unfold FP.Core.cmp
  rw [dec32 s hm, dec32 t hm']
  by_cases h1 : m = 2139095040
  · rw [if_pos h1]
    by_cases h2 : m' = 2139095040
    · rw [if_pos h2]; subst h1; subst h2
      cases s <;> cases t <;> decide
    · rw [if_neg h2]
      show some (compare (FP.Core.signed s 1) 0) = _
      congr 1
      rw [cmp_ite, cmp_ite]
      cases s <;> cases t <;> simp only [FP.Core.signed, Bool.false_eq_true, if_false, if_true]
      all_goals
        congr 1
        · exact propext ⟨fun _ => by omega, fun _ => by omega⟩
        · congr 1
          exact propext ⟨fun _ => by omega, fun _ => by omega⟩
  · rw [if_neg h1]
    by_cases h2 : m' = 2139095040
    · rw [if_pos h2]
      show some (compare 0 (FP.Core.signed t 1)) = _
      congr 1
      rw [cmp_ite, cmp_ite]
      cases s <;> cases t <;> simp only [FP.Core.signed, Bool.false_eq_true, if_false, if_true]
      all_goals
        congr 1
        · exact propext ⟨fun _ => by omega, fun _ => by omega⟩
        · congr 1
          exact propext ⟨fun _ => by omega, fun _ => by omega⟩
    · rw [if_neg h2, order_fin _ _ _ _ _ _ (by omega) (by omega)]
      have e1 : (-149 + ((m / 8388608 - 1 : Nat) : Int) + 149).toNat = m / 8388608 - 1 := by omega
      have e2 : (-149 + ((m' / 8388608 - 1 : Nat) : Int) + 149).toNat = m' / 8388608 - 1 := by omega
      rw [e1, e2]
      exact congrArg some (cmp_fv s t m m')
theorem fk_s {x : UInt32} {s : Bool} (h : s = true ↔ 2147483648 ≤ x.toNat) : fk x = FP.Core.signed s (x.toNat % 2147483648) := by
  have := x.toNat_lt
  unfold fk
  cases s
  · have h' : ¬ 2147483648 ≤ x.toNat := fun q => by simpa using h.mpr q
    rw [if_neg (by omega)]
    show _ = ((x.toNat % 2147483648 : Nat) : Int)
    omega
  · have h' : 2147483648 ≤ x.toNat := h.mp rfl
    rw [if_pos (by omega)]
    show _ = -((x.toNat % 2147483648 : Nat) : Int)
    omega
theorem fp_cmp {a b : UInt32} (ha : vf_n32 a) (hb : vf_n32 b) : FP.fcmp a b = some (compare (fk a) (fk b)) := by
  rw [n32_iff] at ha hb
  obtain ⟨s, es, hs⟩ := split32 a
  obtain ⟨t, et, ht⟩ := split32 b
  show FP.Core.cmp FP.Core.b32 a.toNat b.toNat = _
  rw [fk_s hs, fk_s ht, es, et, cmp32 s t ha hb, ← es, ← et]
end FP2
section FP3
theorem lead_le {num den k : Nat} (hd : 0 < den) (h : num < den * 2 ^ (k + 1)) (h0 : num ≠ 0) : FP.Core.leading num den ≤ k := by
  unfold FP.Core.leading
  have l1 : num.log2 < den.log2 + 1 + (k + 1) := by
    refine (Nat.log2_lt h0).mpr (Nat.lt_of_lt_of_le h ?_)
    rw [Nat.pow_add 2 (den.log2 + 1) (k + 1)]
    have hd' : den ≠ 0 := by omega
    exact Nat.mul_le_mul_right _ (Nat.le_of_lt ((Nat.log2_lt hd').mp (Nat.lt_succ_self den.log2)))
  dsimp only
  split
  · rename_i ht
    refine Classical.byContradiction fun hk => ?_
    have e1 : ((num.log2 : Int) - (den.log2 : Int)).toNat = k + 1 := by omega
    have e2 : (-((num.log2 : Int) - (den.log2 : Int))).toNat = 0 := by omega
    rw [e1, e2] at ht
    omega
  · omega
theorem lead_one {num k : Nat} (h : num < 2 ^ (k + 1)) (h0 : num ≠ 0) : FP.Core.leading num 1 ≤ k := lead_le (by decide) (by rw [Nat.one_mul]; exact h) h0
/-- a rounded number is no NaN -/
theorem round32 (s : Bool) (c : Nat) (q : Int) : vf_n32 (UInt32.ofNat (FP.Core.encode FP.Core.b32 (FP.Core.round FP.Core.b32 (.fin s c q)))) := by
  obtain ⟨m, e, hm, _⟩ := rr32 s c 1 q
  have e' : FP.Core.encode FP.Core.b32 (FP.Core.round FP.Core.b32 (.fin s c q)) = s.toNat * 2147483648 + m := e
  rw [e', n32_iff, of32 s (by omega)]
  omega
theorem fp_d2f {y : UInt64} (h : vf_n64 y) : vf_n32 (FP.d2f y) := by
  rw [n64_iff] at h
  obtain ⟨s, es, hs⟩ := split64 y
  have hd := dec64 s h
  have hdd : FP.Core.decode FP.Core.b64 y.toNat ≠ .nan := by
    rw [es, hd]; split <;> intro q <;> cases q
  have h1 : FP.Core.dIsNaN y = false := by
    show decide (FP.Core.decode FP.Core.b64 y.toNat = .nan) = false
    exact decide_eq_false hdd
  unfold FP.d2f
  rw [h1]
  show vf_n32 (UInt32.ofNat (FP.Core.encode FP.Core.b32 (FP.Core.round FP.Core.b32 (FP.Core.decode FP.Core.b64 y.toNat))))
  rw [es, hd]
  split
  · show vf_n32 (UInt32.ofNat (FP.Core.encode FP.Core.b32 (.inf s)))
    rw [inf32, n32_iff, of32 s (by omega)]
    omega
  · exact round32 _ _ _
/-- bits of a double under a bound: what they stand for -/
theorem fin64 (s : Bool) {m : Nat} {L : Int} (hL : -1022 ≤ L ∧ L ≤ 1000) (hm : (m : Int) ≤ (L + 1024) * 4503599627370496) : ∃ c q, FP.Core.decode FP.Core.b64 (s.toNat * 9223372036854775808 + m) = .fin s c q ∧ c < 9007199254740992 ∧ q ≤ L - 51 := by
  rw [dec64 s (by omega), if_neg (by omega)]
  refine ⟨_, _, rfl, ?_, ?_⟩
  · split <;> omega
  · omega
theorem fp_lane {w : Int64} {K : UInt64} {n : Nat} (hK : (K = 4638707616191610880 ∧ n = 128) ∨ (K = 4674736413210574848 ∧ n = 32768) ∨ (K = 4746794007248502784 ∧ n = 2147483648)) (hw : -(n : Int) ≤ w.toInt ∧ w.toInt ≤ n) : vf_n64 (FP.ddiv (FP.l2d w) K) ∧ r_s (FP.d2f (FP.ddiv (FP.l2d w) K)) := by
  obtain ⟨k, hk, hn, hKd⟩ : ∃ k : Nat, k ≤ 31 ∧ n = 2 ^ k ∧ FP.Core.decode FP.Core.b64 K.toNat = .fin false 4503599627370496 ((k : Int) - 52) := by
    rcases hK with ⟨a, b⟩ | ⟨a, b⟩ | ⟨a, b⟩
    · subst a; subst b; exact ⟨7, by decide, by decide, by decide +kernel⟩
    · subst a; subst b; exact ⟨15, by decide, by decide, by decide +kernel⟩
    · subst a; subst b; exact ⟨31, by decide, by decide, by decide +kernel⟩
  -- the whole number as a double
  obtain ⟨m, e1, hm, hL⟩ := rr64 (decide (w.toInt < 0)) w.toInt.natAbs 1 0
  have hb := hL (k : Int) (by omega) (by
    by_cases h0 : w.toInt.natAbs = 0
    · exact Or.inl h0
    · refine Or.inr ?_
      have : w.toInt.natAbs < 2 ^ (k + 1) := by rw [Nat.pow_succ, ← hn]; omega
      have := lead_one this h0
      omega)
  obtain ⟨c, q, hd, hc, hq⟩ := fin64 (decide (w.toInt < 0)) (L := (k : Int)) (by omega) hb
  have el : (FP.l2d w).toNat = (decide (w.toInt < 0)).toNat * 9223372036854775808 + m := by
    show (UInt64.ofNat (FP.Core.encode FP.Core.b64 (FP.Core.roundRatio FP.Core.b64 (decide (w.toInt < 0)) w.toInt.natAbs 1 0))).toNat = _
    rw [e1, of64 _ (by omega)]
  -- the quotient
  obtain ⟨m2, e2, hm2, hL2⟩ := rr64 (decide (w.toInt < 0) != false) c 4503599627370496 (q - ((k : Int) - 52))
  have hb2 := hL2 1 (by omega) (by
    by_cases h0 : c = 0
    · exact Or.inl h0
    · refine Or.inr ?_
      have := lead_le (num := c) (den := 4503599627370496) (k := 0) (by decide) (by omega) h0
      omega)
  obtain ⟨c2, q2, hd2, hc2, hq2⟩ := fin64 (decide (w.toInt < 0) != false) (L := 1) (by omega) hb2
  have ed : (FP.ddiv (FP.l2d w) K).toNat = (decide (w.toInt < 0) != false).toNat * 9223372036854775808 + m2 := by
    show (UInt64.ofNat (FP.Core.encode FP.Core.b64 (FP.Core.quotient FP.Core.b64 (FP.Core.decode FP.Core.b64 (FP.l2d w).toNat) (FP.Core.decode FP.Core.b64 K.toNat)))).toNat = _
    rw [el, hd, hKd]
    show (UInt64.ofNat (FP.Core.encode FP.Core.b64 (FP.Core.roundRatio FP.Core.b64 (decide (w.toInt < 0) != false) c 4503599627370496 (q - ((k : Int) - 52))))).toNat = _
    rw [e2, of64 _ (by omega)]
  have hn64 : vf_n64 (FP.ddiv (FP.l2d w) K) := by rw [n64_iff, ed]; omega
  refine ⟨hn64, ?_⟩
  obtain ⟨m3, e3, hm3, hL3⟩ := rr32 (decide (w.toInt < 0) != false) c2 1 q2
  have hb3 := hL3 2 (by omega) (by
    by_cases h0 : c2 = 0
    · exact Or.inl h0
    · refine Or.inr ?_
      have := lead_one (num := c2) (k := 52) (by omega) h0
      omega)
  have hnn : FP.Core.dIsNaN (FP.ddiv (FP.l2d w) K) = false := by
    show decide (FP.Core.decode FP.Core.b64 (FP.ddiv (FP.l2d w) K).toNat = .nan) = false
    rw [ed, hd2]; rfl
  have e4 : FP.d2f (FP.ddiv (FP.l2d w) K) = UInt32.ofNat ((decide (w.toInt < 0) != false).toNat * 2147483648 + m3) := by
    unfold FP.d2f
    rw [hnn]
    show UInt32.ofNat (FP.Core.encode FP.Core.b32 (FP.Core.round FP.Core.b32 (FP.Core.decode FP.Core.b64 (FP.ddiv (FP.l2d w) K).toNat))) = _
    rw [ed, hd2]
    exact congrArg UInt32.ofNat e3
  rw [e4, rs_iff, of32 _ (by omega)]
  omega
end FP3
section F0
theorem rs_key (x : UInt32) : r_s x ↔ -1090519040 ≤ fk x ∧ fk x ≤ 1090519040 := by
  rw [rs_iff]
  have := x.toNat_lt
  unfold fk
  split <;> omega
/-- a comparison, by keys -/
theorem r_fcmp {a b : UInt32} (ha : vf_n32 a) (hb : vf_n32 b) : FP.fcmp a b = some (compare (fk a) (fk b)) := fp_cmp ha hb
theorem r_cl0 {a b : UInt32} (ha : vf_n32 a) (hb : vf_n32 b) : (Op.cmpValue (FP.fcmp a b) .l < 0 ↔ fk a < fk b) ∧ (0 < Op.cmpValue (FP.fcmp a b) .g ↔ fk b < fk a) ∧ (Op.cmpValue (FP.fcmp a b) .l ≤ 0 ↔ fk a ≤ fk b) ∧ (0 ≤ Op.cmpValue (FP.fcmp a b) .g ↔ fk b ≤ fk a) := by
  rw [r_fcmp ha hb]
  rcases Int.lt_trichotomy (fk a) (fk b) with h | h | h
  · have e : compare (fk a) (fk b) = .lt := by rw [cmp_ite, if_pos h]
    rw [e]
    refine ⟨⟨fun _ => h, fun _ => by decide⟩, ⟨fun q => absurd q (by decide), fun q => by omega⟩, ⟨fun _ => by omega, fun _ => by decide⟩, ⟨fun q => absurd q (by decide), fun q => by omega⟩⟩
  · have e : compare (fk a) (fk b) = .eq := by rw [cmp_ite, if_neg (by omega), if_pos h]
    rw [e]
    refine ⟨⟨fun q => absurd q (by decide), fun q => by omega⟩, ⟨fun q => absurd q (by decide), fun q => by omega⟩, ⟨fun _ => by omega, fun _ => by decide⟩, ⟨fun _ => by omega, fun _ => by decide⟩⟩
  · have e : compare (fk a) (fk b) = .gt := by rw [cmp_ite, if_neg (by omega), if_neg (by omega)]
    rw [e]
    refine ⟨⟨fun q => absurd q (by decide), fun q => by omega⟩, ⟨fun _ => h, fun _ => by decide⟩, ⟨fun q => absurd q (by decide), fun q => by omega⟩, ⟨fun _ => by omega, fun _ => by decide⟩⟩
theorem r_k8 : fk (1090519040 : UInt32) = 1090519040 := by decide +kernel
theorem r_n8 : vf_n32 (1090519040 : UInt32) := by rw [n32_iff]; decide
theorem r_masks (b : Int32) : ((b &&& (2147483647 : Int32)) ≤ (2139095040 : Int32)) ↔ b.toUInt32.toNat % 2 ^ 31 ≤ 2139095040 := by
  have hn : (b.toBitVec &&& 2147483647#32).toNat = b.toBitVec.toNat % 2 ^ 31 := by
    rw [BitVec.toNat_and]
    exact Nat.and_two_pow_sub_one_eq_mod _ 31
  have ht : (b &&& (2147483647 : Int32)).toInt = ((b.toBitVec &&& 2147483647#32).toNat : Int) := by
    show (b.toBitVec &&& 2147483647#32).toInt = _
    exact BitVec.toInt_eq_toNat_of_lt (by omega)
  rw [Int32.le_iff_toInt_le, ht, hn, show (2139095040 : Int32).toInt = 2139095040 by decide]
  show _ ↔ b.toBitVec.toNat % 2 ^ 31 ≤ 2139095040
  omega
/-- a level: within its bounds (then a sample), or not -/
theorem r_level (b : Int32) {low : UInt32} (hl : vf_n32 low) (hk : -1090519040 ≤ fk low) : (fX0_isLevel b low = some 1 ∧ fX2_isWithin b low = some 1 ∧ r_s b.toUInt32) ∨ (fX0_isLevel b low = some 0 ∧ fX2_isWithin b low = some 0) := by
  unfold fX0_isLevel fX2_isWithin fX0_isNoFloat
  by_cases hm : (b &&& (2147483647 : Int32)) ≤ (2139095040 : Int32)
  · have hn : vf_n32 b.toUInt32 := by rw [n32_iff]; exact (r_masks b).mp hm
    have hsn : vn_sni2f b = false := by
      unfold vn_sni2f
      have h2 : b.toUInt32 &&& 0x7fffffff ≤ 0x7f800000 := hn
      have : ¬ (b.toUInt32 &&& 0x7fffffff > 0x7f800000) := UInt32.not_lt.mpr h2
      simp [this]
    rw [if_pos hm, if_pos hm, zbj_v, zjoin_v, if_pos rfl, zgd_pos hsn]
    dsimp only
    have c1 := r_cl0 hn hl
    have c2 := r_cl0 hn r_n8
    by_cases h1 : Op.cmpValue (FP.fcmp b.toUInt32 low) .l < 0
    · rw [if_pos h1]
      exact Or.inr ⟨rfl, rfl⟩
    · rw [if_neg h1]
      by_cases h2 : 0 < Op.cmpValue (FP.fcmp b.toUInt32 (1090519040 : UInt32)) .g
      · rw [if_pos h2]
        exact Or.inr ⟨rfl, rfl⟩
      · rw [if_neg h2]
        rw [c1.1] at h1
        rw [c2.2.1, r_k8] at h2
        exact Or.inl ⟨rfl, rfl, (rs_key _).mpr ⟨by omega, by omega⟩⟩
  · rw [if_neg hm, if_neg hm, zbj_v, zjoin_v, if_neg (by decide)]
    refine Or.inr ⟨?_, rfl⟩
    show (if Op.cmpValue (FP.fcmp (1120272384 : UInt32) low) .l < 0 then some (0 : Int32) else if 0 < Op.cmpValue (FP.fcmp (1120272384 : UInt32) (1090519040 : UInt32)) .g then some (0 : Int32) else some (1 : Int32)) = some 0
    by_cases h1 : Op.cmpValue (FP.fcmp (1120272384 : UInt32) low) .l < 0
    · rw [if_pos h1]
    · rw [if_neg h1, if_pos (by decide +kernel)]
end F0
