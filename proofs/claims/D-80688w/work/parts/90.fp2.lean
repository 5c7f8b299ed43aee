/-! floats: what the plugs' arithmetic gives -/
set_option maxRecDepth 100000
section FP4
/-- the data that are no NaNs -/
theorem nn_of32 {s : Bool} {d : FP.Core.Datum} (h : d = .inf s ∨ ∃ c q, d = .fin s c q) : vf_n32 (UInt32.ofNat (FP.Core.encode FP.Core.b32 (FP.Core.round FP.Core.b32 d))) := by
  rcases h with h | ⟨c, q, h⟩
  · rw [h]
    show vf_n32 (UInt32.ofNat (FP.Core.encode FP.Core.b32 (.inf s)))
    rw [inf32, n32_iff, of32 s (by omega)]
    omega
  · rw [h]; exact round32 _ _ _
theorem dec_nn {x : UInt32} (h : vf_n32 x) : ∃ s, FP.Core.decode FP.Core.b32 x.toNat = .inf s ∨ ∃ c q, FP.Core.decode FP.Core.b32 x.toNat = .fin s c q := by
  rw [n32_iff] at h
  obtain ⟨s, es, hs⟩ := split32 x
  rw [es, dec32 s h]
  refine ⟨s, ?_⟩
  split
  · exact Or.inl rfl
  · exact Or.inr ⟨_, _, rfl⟩
theorem nn_is {x : UInt32} (h : vf_n32 x) : FP.fIsNaN x = false := by
  obtain ⟨s, h1⟩ := dec_nn h
  show decide (FP.Core.decode FP.Core.b32 x.toNat = .nan) = false
  refine decide_eq_false fun q => ?_
  rcases h1 with h1 | ⟨c, q', h1⟩ <;> rw [h1] at q <;> cases q
/-- a sample as a number -/
theorem rs_fin {x : UInt32} (h : r_s x) : ∃ s c q, FP.Core.decode FP.Core.b32 x.toNat = .fin s c q ∧ c < 16777216 ∧ -149 ≤ q ∧ q ≤ -20 ∧ x.toNat = s.toNat * 2147483648 + x.toNat % 2147483648 ∧ (q = -20 → c = 8388608) := by
  rw [rs_iff] at h
  obtain ⟨s, es, hs⟩ := split32 x
  have hd := dec32 s (m := x.toNat % 2147483648) (by omega)
  rw [if_neg (by omega)] at hd
  refine ⟨s, _, _, (congrArg (FP.Core.decode FP.Core.b32) es).trans hd, ?_, by omega, by omega, es, fun hq => ?_⟩
  · split <;> omega
  · rw [if_neg (by omega)]; omega
theorem fmul_nn {x y : UInt32} (hx : r_s x) (hy : r_s y) : vf_n32 (FP.fmul x y) := by
  obtain ⟨s, c, q, h1, _⟩ := rs_fin hx
  obtain ⟨t, d, r, h2, _⟩ := rs_fin hy
  show vf_n32 (UInt32.ofNat (FP.Core.encode FP.Core.b32 (FP.Core.round FP.Core.b32 (FP.Core.exactProduct (FP.Core.decode FP.Core.b32 x.toNat) (FP.Core.decode FP.Core.b32 y.toNat)))))
  rw [h1, h2]
  exact round32 _ _ _
theorem fadd_nn {x y : UInt32} (hx : r_s x) (hy : vf_n32 y) : vf_n32 (FP.fadd x y) := by
  obtain ⟨s, c, q, h1, _⟩ := rs_fin hx
  obtain ⟨t, h2⟩ := dec_nn hy
  show vf_n32 (UInt32.ofNat (FP.Core.encode FP.Core.b32 (FP.Core.round FP.Core.b32 (FP.Core.exactSum (FP.Core.decode FP.Core.b32 x.toNat) (FP.Core.decode FP.Core.b32 y.toNat)))))
  rcases h2 with h2 | ⟨d, r, h2⟩
  · rw [h1, h2]; exact nn_of32 (s := t) (Or.inl rfl)
  · rw [h1, h2]; exact round32 _ _ _
theorem dec_4 : FP.Core.decode FP.Core.b32 (1082130432 : UInt32).toNat = .fin false 8388608 (-21) := by decide +kernel
theorem dec_1 : FP.Core.decode FP.Core.b32 (FP.fconst1).toNat = .fin false 8388608 (-23) := by decide +kernel
theorem fmul4_nn {x : UInt32} (hx : vf_n32 x) : vf_n32 (FP.fmul x (1082130432 : UInt32)) := by
  obtain ⟨s, h1⟩ := dec_nn hx
  show vf_n32 (UInt32.ofNat (FP.Core.encode FP.Core.b32 (FP.Core.round FP.Core.b32 (FP.Core.exactProduct (FP.Core.decode FP.Core.b32 x.toNat) (FP.Core.decode FP.Core.b32 (1082130432 : UInt32).toNat)))))
  rw [dec_4]
  rcases h1 with h1 | ⟨d, r, h1⟩
  · rw [h1]; exact nn_of32 (s := s != false) (Or.inl rfl)
  · rw [h1]; exact round32 _ _ _
theorem frem1_s {x : UInt32} (hx : r_s x) : r_s (FP.frem x FP.fconst1) := by
  obtain ⟨s, c, q, h1, _⟩ := rs_fin hx
  obtain ⟨m, e, hm, hL⟩ := rr32 s (FP.Core.inUnits c q (min q (-23)) % FP.Core.inUnits 8388608 (-23) (min q (-23))) 1 (min q (-23))
  have e4 : FP.frem x FP.fconst1 = UInt32.ofNat (s.toNat * 2147483648 + m) := by
    show UInt32.ofNat (FP.Core.encode FP.Core.b32 (FP.Core.round FP.Core.b32 (FP.Core.exactRemainder (FP.Core.decode FP.Core.b32 x.toNat) (FP.Core.decode FP.Core.b32 (FP.fconst1).toNat)))) = _
    rw [h1, dec_1, ← e]
    rfl
  have hb := hL (-1) (by omega) (by
    generalize hv : FP.Core.inUnits c q (min q (-23)) % FP.Core.inUnits 8388608 (-23) (min q (-23)) = v
    by_cases h0 : v = 0
    · exact Or.inl h0
    · refine Or.inr ?_
      obtain ⟨k, hk⟩ : ∃ k : Nat, min q (-23) = -23 - (k : Int) := ⟨(-23 - min q (-23)).toNat, by omega⟩
      rw [hk] at hv ⊢
      have hlt : v < 2 ^ (22 + k + 1) := by
        rw [← hv]
        have e5 : FP.Core.inUnits 8388608 (-23) (-23 - (k : Int)) = 2 ^ (22 + k + 1) := by
          unfold FP.Core.inUnits
          rw [show (-23 - (-23 - (k : Int))).toNat = k by omega, show 22 + k + 1 = 23 + k by omega, Nat.pow_add]
        rw [e5]
        exact Nat.mod_lt _ (Nat.two_pow_pos _)
      have := lead_one hlt h0
      omega)
  rw [e4, rs_iff, of32 _ (by omega)]
  omega
end FP4
