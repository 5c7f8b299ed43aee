/-! floats: the Model's nearest; the gate; the bell -/
set_option maxRecDepth 100000
section FP8
theorem fint_s (s : Bool) (N : Nat) : ∃ m, m ≤ 2139095040 ∧ ∀ t : Bool, (fint t N).toNat = t.toNat * 2147483648 + m := by
  have key : ∀ t : Bool, FP.Core.encode FP.Core.b32 (FP.Core.roundRatio FP.Core.b32 t N 1 0) = t.toNat * 2147483648 + FP.Core.encode FP.Core.b32 (FP.Core.roundRatio FP.Core.b32 false N 1 0) := by
    intro t
    unfold FP.Core.roundRatio
    by_cases h0 : N = 0
    · rw [if_pos h0, if_pos h0, enc32, enc32, if_pos (by decide), if_pos (by decide), Bool.toNat_false]
    · rw [if_neg h0, if_neg h0]
      unfold FP.Core.roundAt FP.Core.settle FP.Core.bound
      generalize FP.Core.quantum FP.Core.b32 N 1 0 = q
      generalize FP.Core.nearest _ _ = c
      rw [b32_Q, b32_p, b32_t]
      by_cases h1 : c < 2 ^ 24
      · rw [if_pos h1, if_pos h1]
        by_cases h2 : q ≤ 104
        · rw [if_pos h2, if_pos h2, enc32, enc32, Bool.toNat_false]
          by_cases h3 : c < 8388608
          · rw [if_pos h3, if_pos h3]; omega
          · rw [if_neg h3, if_neg h3]; omega
        · rw [if_neg h2, if_neg h2, inf32, inf32, Bool.toNat_false]
      · rw [if_neg h1, if_neg h1]
        by_cases h2 : q + 1 ≤ 104
        · rw [if_pos h2, if_pos h2, enc32, enc32, Bool.toNat_false, if_neg (by decide), if_neg (by decide)]; omega
        · rw [if_neg h2, if_neg h2, inf32, inf32, Bool.toNat_false]
  obtain ⟨m, e, hm, _⟩ := rr32 false N 1 0
  rw [Bool.toNat_false] at e
  refine ⟨m, hm, fun t => ?_⟩
  unfold fint
  rw [key t, show FP.Core.encode FP.Core.b32 (FP.Core.roundRatio FP.Core.b32 false N 1 0) = m by omega, of32 _ (by omega)]
theorem fneg_n (x : UInt32) : (FP.fneg x).toNat = if 2147483648 ≤ x.toNat then x.toNat - 2147483648 else x.toNat + 2147483648 := by
  have := x.toNat_lt
  unfold FP.fneg
  rw [UInt32.toNat_xor]
  show x.toNat ^^^ 2147483648 = _
  have key : ∀ m, m < 2147483648 → m ^^^ 2147483648 = m + 2147483648 := by
    intro m hm
    have hm : m < 2 ^ 31 := hm
    have e : m + 2 ^ 31 = 2 ^ 31 ||| m := by rw [Nat.add_comm]; exact Nat.two_pow_add_eq_or_of_lt hm 1
    show m ^^^ 2 ^ 31 = m + 2 ^ 31
    rw [e]
    refine Nat.eq_of_testBit_eq fun i => ?_
    rw [Nat.testBit_xor, Nat.testBit_or]
    by_cases hi : i = 31
    · subst hi
      rw [Nat.testBit_lt_two_pow hm]
      cases (2 ^ 31 : Nat).testBit 31 <;> rfl
    · rw [Nat.testBit_two_pow_of_ne (Ne.symm hi)]
      cases m.testBit i <;> rfl
  by_cases h : 2147483648 ≤ x.toNat
  · rw [if_pos h]
    have e1 := key (x.toNat - 2147483648) (by omega)
    rw [show x.toNat - 2147483648 + 2147483648 = x.toNat by omega] at e1
    rw [← e1, Nat.xor_assoc, Nat.xor_self, Nat.xor_zero]
    rw [e1]
  · rw [if_neg h, key _ (by omega)]
theorem fneg_fint (N : Nat) : FP.fneg (fint false N) = fint true N := by
  obtain ⟨m, hm, h⟩ := fint_s false N
  refine UInt32.toNat_inj.mp ?_
  rw [fneg_n, h true, h false, Bool.toNat_false, Bool.toNat_true, if_neg (by omega)]
  omega
theorem dec_big : FP.Core.decode FP.Core.b32 (1258291200 : UInt32).toNat = .fin false 8388608 0 := by decide +kernel
theorem n_big : vf_n32 (1258291200 : UInt32) := by rw [n32_iff]; decide
theorem k_big : fk (1258291200 : UInt32) = 1258291200 := by decide +kernel
theorem n_0 : vf_n32 FP.fconst0 := by rw [n32_iff]; decide
theorem k_0 : fk FP.fconst0 = 0 := by decide +kernel
/-- a positive number: the great one added and taken away -/
theorem near32 {z : UInt32} {c : Nat} {q : Int} (hd : FP.Core.decode FP.Core.b32 z.toNat = .fin false c q) (hc : c < 16777216) (hq : -149 ≤ q ∧ q ≤ -2) : vf_n32 (FP.fadd z (1258291200 : UInt32)) ∧ FP.fsub (FP.fadd z (1258291200 : UInt32)) (1258291200 : UInt32) = fint false (FP.Core.nearest c (2 ^ (-q).toNat)) := by
  obtain ⟨b1, _, b3⟩ := big32 hc hq
  generalize FP.Core.nearest c (2 ^ (-q).toNat) = N at b1 b3
  obtain ⟨m1, hm1, h1⟩ := de32 (c := N + 8388608) (q := 0) (by omega) (by omega) (by omega)
  have es : (FP.fadd z (1258291200 : UInt32)).toNat = (false : Bool).toNat * 2147483648 + m1 := by
    show (UInt32.ofNat (FP.Core.encode FP.Core.b32 (FP.Core.round FP.Core.b32 (FP.Core.exactSum (FP.Core.decode FP.Core.b32 z.toNat) (FP.Core.decode FP.Core.b32 (1258291200 : UInt32).toNat))))).toNat = _
    rw [hd, dec_big, b1, (h1 false).1, of32 _ (by omega)]
  refine ⟨by rw [n32_iff, es, Bool.toNat_false]; omega, ?_⟩
  show UInt32.ofNat (FP.Core.encode FP.Core.b32 (FP.Core.round FP.Core.b32 (FP.Core.exactSum (FP.Core.decode FP.Core.b32 (FP.fadd z (1258291200 : UInt32)).toNat) (FP.Core.negate (FP.Core.decode FP.Core.b32 (1258291200 : UInt32).toNat))))) = _
  rw [es, (h1 false).2, dec_big, back32]
  rfl
theorem r_near {y : UInt32} {s : Bool} {m c : Nat} {q : Int} (es : y.toNat = s.toNat * 2147483648 + m) (hm : m < 1249902592) (hd : ∀ t : Bool, FP.Core.decode FP.Core.b32 (t.toNat * 2147483648 + m) = .fin t c q) (hc : c < 16777216) (hq : -149 ≤ q ∧ q ≤ -2) (h0 : m = 0 → c = 0) : fX2_nearest y = some (fint s (FP.Core.nearest c (2 ^ (-q).toNat))) ∧ vf_n32 (fint s (FP.Core.nearest c (2 ^ (-q).toNat))) := by
  obtain ⟨mN, hmN, hN⟩ := fint_s s (FP.Core.nearest c (2 ^ (-q).toNat))
  have nN : ∀ t, vf_n32 (fint t (FP.Core.nearest c (2 ^ (-q).toNat))) := fun t => by
    rw [n32_iff, hN t]; omega
  refine ⟨?_, nN s⟩
  have hs : s.toNat ≤ 1 := by cases s <;> decide
  have ny : vf_n32 y := by rw [n32_iff, es]; omega
  have c1 := r_cl0 ny n_0
  have c2 := r_cl1 ny n_0
  rw [k_0] at c1 c2
  by_cases hz : m = 0
  · have ky : fk y = 0 := by
      unfold fk; rw [es, hz]
      cases s
      · rw [Bool.toNat_false, if_neg (by decide)]; rfl
      · rw [Bool.toNat_true, if_pos (by decide)]; rfl
    have e0 : y = fint s (FP.Core.nearest c (2 ^ (-q).toNat)) := by
      refine UInt32.toNat_inj.mp ?_
      rw [h0 hz]
      have : FP.Core.nearest 0 (2 ^ (-q).toNat) = 0 := by
        unfold FP.Core.nearest
        rw [Nat.zero_mod, Nat.zero_div, if_pos (Nat.two_pow_pos _)]
      rw [this, es, hz]
      cases s <;> decide +kernel
    have c3 := r_cl1 ny n_big
    rw [k_big] at c3
    unfold fX2_nearest
    rw [zjoin_v, if_pos (c1.2.2.2.mpr (by omega))]; dsimp only; rw [if_neg (mt c3.1.mp (by omega)), if_pos (c2.2.1.mpr ky), ← e0]
  · cases s
    · have ky : fk y = m := by
        unfold fk; rw [es, Bool.toNat_false, if_neg (by omega)]; omega
      have c3 := r_cl1 ny n_big
      rw [k_big] at c3
      have hdy : FP.Core.decode FP.Core.b32 y.toNat = .fin false c q := by rw [es]; exact hd false
      obtain ⟨a1, a2⟩ := near32 hdy hc hq
      unfold fX2_nearest
      rw [zjoin_v, if_pos (c1.2.2.2.mpr (by omega))]; dsimp only; rw [if_neg (mt c3.1.mp (by omega)), if_neg (mt c2.2.1.mp (by omega)), zgd_pos a1, a2, zgd_pos (nN false), zlet_v, if_pos (c1.2.2.2.mpr (by omega))]
    · have ky : fk y = -(m : Int) := by
        unfold fk; rw [es, Bool.toNat_true, if_pos (by omega)]; omega
      have en : (FP.fneg y).toNat = (false : Bool).toNat * 2147483648 + m := by
        rw [fneg_n, es, Bool.toNat_true, if_pos (by omega), Bool.toNat_false]; omega
      have nn : vf_n32 (FP.fneg y) := by rw [n32_iff, en, Bool.toNat_false]; omega
      have kn : fk (FP.fneg y) = m := by
        unfold fk; rw [en, Bool.toNat_false, if_neg (by omega)]; omega
      have c3 := r_cl1 nn n_big
      rw [k_big] at c3
      have hdy : FP.Core.decode FP.Core.b32 (FP.fneg y).toNat = .fin false c q := by rw [en]; exact hd false
      obtain ⟨a1, a2⟩ := near32 hdy hc hq
      unfold fX2_nearest
      rw [zjoin_v, if_neg (mt c1.2.2.2.mp (by omega))]; dsimp only; rw [if_neg (mt c3.1.mp (by omega)), if_neg (mt c2.2.1.mp (by omega)), zgd_pos a1, a2, zgd_pos (nN false), zlet_v, if_neg (mt c1.2.2.2.mp (by omega)), fneg_fint]
end FP8
