/-! floats: the steps -/
set_option maxRecDepth 100000
section FP9
def chk64 (n : Int) : Bool := match FP.Core.decode FP.Core.b32 (FP.i2f ((64 : Int32) / Int32.ofInt n)).toNat with
  | .fin _ d r => d != 0 && decide (d < 16777216) && decide (r ≤ -16) && decide (-149 ≤ r)
  | _ => false
theorem chk64_all : ∀ j : Fin 129, j.val = 64 ∨ chk64 ((j.val : Int) - 64) = true := by decide +kernel
theorem i2f_64 {n : Int32} (h : -64 ≤ n.toInt ∧ n.toInt ≤ 64) (h0 : n ≠ 0) : ∃ t d r, FP.Core.decode FP.Core.b32 (FP.i2f ((64 : Int32) / n)).toNat = .fin t d r ∧ d ≠ 0 ∧ d < 16777216 ∧ r ≤ -16 ∧ -149 ≤ r := by
  have e : Int32.ofInt n.toInt = n := Int32.ofInt_toInt n
  rcases chk64_all ⟨(n.toInt + 64).toNat, by omega⟩ with hj | hj
  · refine absurd (Int32.toInt_inj.mp ?_) h0
    rw [ri_0]
    have hj : (n.toInt + 64).toNat = 64 := hj
    omega
  · have hj : chk64 (((n.toInt + 64).toNat : Int) - 64) = true := hj
    rw [show (((n.toInt + 64).toNat : Int) - 64) = n.toInt by omega] at hj
    unfold chk64 at hj
    rw [e] at hj
    split at hj
    · rename_i t d r hd
      simp only [Bool.and_eq_true, bne_iff_ne, ne_eq, decide_eq_true_eq] at hj
      exact ⟨t, d, r, hd, hj.1.1.1, hj.1.1.2, hj.1.2, hj.2⟩
    · cases hj
theorem f2d_nn {y : UInt32} (hy : vf_n32 y) : FP.f2d y = UInt64.ofNat (FP.Core.encode FP.Core.b64 (FP.Core.round FP.Core.b64 (FP.Core.decode FP.Core.b32 y.toNat))) := by
  unfold FP.f2d
  have : FP.Core.fIsNaN y = false := nn_is hy
  rw [this]
  rfl
/-- the steps: both roads to the nearest whole one -/
theorem r_steps {x : UInt32} {n : Int32} (hx : r_s x) (hn : -64 ≤ n.toInt ∧ n.toInt ≤ 64) (h0 : n ≠ 0) : vf_n32 (FP.fmul x (FP.i2f ((64 : Int32) / n))) ∧ vf_n64 (FP.f2d (FP.fmul x (FP.i2f ((64 : Int32) / n)))) ∧ ∃ x6 z, fJ13_rint (FP.f2d (FP.fmul x (FP.i2f ((64 : Int32) / n)))) = some x6 ∧ FP.d2f x6 = z ∧ fX2_nearest (FP.fmul x (FP.i2f ((64 : Int32) / n))) = some z ∧ vf_n32 z ∧ vf_n32 (FP.fdiv z (FP.i2f ((64 : Int32) / n))) := by
  obtain ⟨t, d, r, hd, hd0, hd24, hr, hr'⟩ := i2f_64 hn h0
  obtain ⟨s, c, q, hxd, hc, hq, hq', _, _⟩ := rs_fin hx
  generalize FP.i2f ((64 : Int32) / n) = a at hd
  obtain ⟨mY, eY, hmY, hL⟩ := rr32 (s != t) (c * d) 1 (q + r)
  have hb := hL 11 (by omega) (by
    by_cases hz : c * d = 0
    · exact Or.inl hz
    · refine Or.inr ?_
      have : c * d < 16777216 * 16777216 := Nat.mul_lt_mul'' hc hd24
      have := lead_one (num := c * d) (k := 47) (by omega) hz
      omega)
  have ey : (FP.fmul x a).toNat = (s != t).toNat * 2147483648 + mY := by
    show (UInt32.ofNat (FP.Core.encode FP.Core.b32 (FP.Core.round FP.Core.b32 (FP.Core.exactProduct (FP.Core.decode FP.Core.b32 x.toNat) (FP.Core.decode FP.Core.b32 a.toNat))))).toNat = _
    rw [hxd, hd]
    show (UInt32.ofNat (FP.Core.encode FP.Core.b32 (FP.Core.roundRatio FP.Core.b32 (s != t) (c * d) 1 (q + r)))).toNat = _
    rw [eY, of32 _ (by omega)]
  generalize FP.fmul x a = y at ey
  generalize (s != t) = sy at ey
  have ny : vf_n32 y := by rw [n32_iff, ey]; omega
  have hdy : ∀ t : Bool, FP.Core.decode FP.Core.b32 (t.toNat * 2147483648 + mY) = .fin t (if mY < 8388608 then mY else 8388608 + mY % 8388608) (-149 + ((mY / 8388608 - 1 : Nat) : Int)) := fun t => by
    rw [dec32 t (by omega), if_neg (by omega)]
  have hcy : (if mY < 8388608 then mY else 8388608 + mY % 8388608) < 16777216 := by split <;> omega
  have h0y : mY = 0 → (if mY < 8388608 then mY else 8388608 + mY % 8388608) = 0 := fun h => by rw [h]; rfl
  generalize (if mY < 8388608 then mY else 8388608 + mY % 8388608) = cy at hdy hcy h0y
  have hqy : -149 ≤ -149 + ((mY / 8388608 - 1 : Nat) : Int) ∧ -149 + ((mY / 8388608 - 1 : Nat) : Int) ≤ -2 := by omega
  generalize -149 + ((mY / 8388608 - 1 : Nat) : Int) = qy at hdy hqy
  obtain ⟨n1, n2⟩ := r_near ey (by omega) hdy hcy hqy h0y
  obtain ⟨m, c9, q9, hm, h9, _, hc9, hq9, hq9', hnr⟩ := keep64 (c := cy) (q := qy) (by omega) (by omega)
  have ef : (FP.f2d y).toNat = sy.toNat * 9223372036854775808 + m := by
    rw [f2d_nn ny, ey, hdy sy]
    show (UInt64.ofNat (FP.Core.encode FP.Core.b64 (FP.Core.roundRatio FP.Core.b64 sy cy 1 qy))).toNat = _
    rw [(h9 sy).1, of64 _ (by omega)]
  obtain ⟨x6, e6, e7⟩ := rint64 ef hm (fun t => (h9 t).2) hc9 (by omega)
  rw [hnr] at e7
  refine ⟨ny, by rw [n64_iff, ef]; omega, x6, _, e6, e7, n1, n2, ?_⟩
  generalize fint sy (FP.Core.nearest cy (2 ^ (-qy).toNat)) = z at n2
  obtain ⟨u, hz⟩ := dec_nn n2
  show vf_n32 (UInt32.ofNat (FP.Core.encode FP.Core.b32 (FP.Core.quotient FP.Core.b32 (FP.Core.decode FP.Core.b32 z.toNat) (FP.Core.decode FP.Core.b32 a.toNat))))
  rw [hd]
  rcases hz with hz | ⟨cz, qz, hz⟩
  · rw [hz]
    show vf_n32 (UInt32.ofNat (FP.Core.encode FP.Core.b32 (.inf (u != t))))
    rw [inf32, n32_iff, of32 _ (by omega)]
    omega
  · rw [hz]
    show vf_n32 (UInt32.ofNat (FP.Core.encode FP.Core.b32 (if d = 0 then (if cz = 0 then .nan else .inf (u != t)) else FP.Core.roundRatio FP.Core.b32 (u != t) cz d (qz - r))))
    rw [if_neg hd0]
    obtain ⟨m3, e3, hm3, _⟩ := rr32 (u != t) cz d (qz - r)
    rw [e3, n32_iff, of32 _ (by omega)]
    omega
end FP9
