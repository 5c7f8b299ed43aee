/-! sample, number -/
set_option maxRecDepth 100000
section R15
variable {a0 : Nat} {M0 : MS} {ad : Nat → Nat → Nat} {M : MS} {E : RE} {g : zS} {c : Nat}
theorem r_has (h : rX a0 M0 ad M E g) (hc : c < r_nc M) (i : Int32) : fX3_has g (ad 20 c) i = some (if 0 ≤ i.toInt ∧ i.toInt < (M.A 2 c).toInt then 1 else 0, g) := by
  unfold fX3_has
  by_cases h1 : i < 0
  · rw [if_pos h1, if_neg (by rw [Int32.lt_iff_toInt_lt, ri_0] at h1; omega)]
  · rw [if_neg h1, rd_c1 h hc, zbj_v]
    rw [Int32.lt_iff_toInt_lt, ri_0] at h1
    by_cases h2 : M.A 2 c ≤ i
    · rw [if_pos h2]
      rw [Int32.le_iff_toInt_le] at h2
      rw [if_neg (by omega)]
    · rw [if_neg h2]
      rw [Int32.le_iff_toInt_le] at h2
      rw [if_pos (by omega)]
theorem rop_sample (h : rX a0 M0 ad M E g) (hI : rInv M E) (b0 b1 : Int32) : rOK a0 M0 ad g 700 70000 (fX0_sample g (ad 0 0) b0 b1) (fX2_sample M b0 b1) := by
  have hc := hI.1.1
  have h0 := rn hc.1
  unfold fX0_sample fX2_sample
  rw [rd_ob h, zbj_v]
  rcases r_isC h hc b0 with ⟨q, h1, h2⟩ | ⟨q, h1⟩
  · have hbn := rn h1
    have hcl : b0.toNatClampNeg < r_nc M := by show b0.toNatClampNeg < (M.I 0).toNatClampNeg; omega
    have v16 : vp_in b0 16 := z32_in h1 (by omega)
    obtain ⟨hlane, hlen, hw⟩ := hI.1.2.1 _ hcl
    rw [q, zbd_v, if_neg r10, r_in2y (by rw [ri_0]; exact h1) h2 (by omega), zbj_v, if_neg r10, zgd_pos v16, rd_x0 h, zbj_v, rd_a1 h v16 hcl, zbj_v, rd_obc h hcl, zbj_v, r_has h hcl, zbd_v]
    by_cases hi : 0 ≤ b1.toInt ∧ b1.toInt < (M.A 2 b0.toNatClampNeg).toInt
    · obtain ⟨v, e1, e2, hv⟩ := r_smp h hI.1 ⟨h1, h2⟩ hi
      obtain ⟨r, er⟩ := r_nan v
      rw [if_pos hi, if_neg r10, rd_x0 h, zbj_v, rd_a1 h v16 hcl, zbj_v, rd_obc h hcl, zbj_v, e1, zbd_v, zsm_lv, er, zbj_v, r_in2y (by rw [ri_0]; exact hi.1) hi.2 (by omega), zbj_v, if_neg r10, e2, zbd_v, er, zbj_v]
      exact rOK.id h hI
    · rw [if_neg hi, if_pos rfl, r_in2n (by rw [ri_0]; omega) (by omega), zbj_v, if_pos rfl]
      exact rOK.id h hI
  · rw [q, zbd_v, if_pos rfl, r_in2n (by rw [ri_0]; exact h1) (by omega), zbj_v, if_pos rfl]
    exact rOK.id h hI
theorem r_lc (x y : Int64) : (0 < (if x > y then 1 else if x == y then 0 else -1 : Int32) ↔ y < x) ∧ ((if x > y then 1 else if x == y then 0 else -1 : Int32) ≤ 0 ↔ ¬ y < x) := by
  by_cases h : x > y
  · rw [if_pos h]
    exact ⟨⟨fun _ => h, fun _ => by decide⟩, ⟨fun e => absurd e (by decide), fun e => absurd h e⟩⟩
  · rw [if_neg h]
    by_cases h2 : (x == y) = true
    · rw [if_pos h2]
      exact ⟨⟨fun e => absurd e (by decide), fun e => absurd e h⟩, ⟨fun _ => h, fun _ => by decide⟩⟩
    · rw [if_neg h2]
      exact ⟨⟨fun e => absurd e (by decide), fun e => absurd e h⟩, ⟨fun _ => h, fun _ => by decide⟩⟩
theorem r_m64 (b : Int64) : ((2139095040 : Int64) < (b &&& (2147483647 : Int64))) ↔ 2139095040 < b.toBitVec.toNat % 2 ^ 31 := by
  have hn : (b.toBitVec &&& 2147483647#64).toNat = b.toBitVec.toNat % 2 ^ 31 := by
    rw [BitVec.toNat_and]
    exact Nat.and_two_pow_sub_one_eq_mod _ 31
  have ht : (b &&& (2147483647 : Int64)).toInt = ((b.toBitVec &&& 2147483647#64).toNat : Int) := by
    show (b.toBitVec &&& 2147483647#64).toInt = _
    exact BitVec.toInt_eq_toNat_of_lt (by omega)
  rw [Int64.lt_iff_toInt_lt, ht, hn, show (2139095040 : Int64).toInt = 2139095040 by decide]
  omega
theorem r_d64 (b : Int64) : ((9218868437227405312 : Int64) < (b &&& (9223372036854775807 : Int64))) ↔ ¬ vf_n64 b.toUInt64 := by
  have hn : (b.toBitVec &&& 9223372036854775807#64).toNat = b.toBitVec.toNat % 2 ^ 63 := by
    rw [BitVec.toNat_and]
    exact Nat.and_two_pow_sub_one_eq_mod _ 63
  have ht : (b &&& (9223372036854775807 : Int64)).toInt = ((b.toBitVec &&& 9223372036854775807#64).toNat : Int) := by
    show (b.toBitVec &&& 9223372036854775807#64).toInt = _
    exact BitVec.toInt_eq_toNat_of_lt (by omega)
  have hu : (b.toUInt64 &&& 0x7fffffffffffffff).toNat = b.toBitVec.toNat % 2 ^ 63 := by
    rw [UInt64.toNat_and]
    exact Nat.and_two_pow_sub_one_eq_mod b.toUInt64.toNat 63
  unfold vf_n64
  rw [Int64.lt_iff_toInt_lt, ht, hn, UInt64.le_iff_toNat_le, hu, show (9218868437227405312 : Int64).toInt = 9218868437227405312 by decide, show (0x7ff0000000000000 : UInt64).toNat = 9218868437227405312 by decide]
  omega
theorem r_f32 (b : Int64) : vf_n32 b.toInt32.toUInt32 ↔ ¬ (2139095040 : Int64) < (b &&& (2147483647 : Int64)) := by
  rw [r_m64, n32_iff]
  have e : b.toInt32.toUInt32.toNat = b.toBitVec.toNat % 2 ^ 32 := by
    show (b.toBitVec.signExtend 32).toNat = _
    rw [BitVec.signExtend_eq_setWidth_of_le _ (by decide), BitVec.toNat_setWidth]
  rw [e]
  omega
theorem r_nofl (b : Int32) : fX0_isNoFloat b = some (if b.toUInt32.toNat % 2 ^ 31 ≤ 2139095040 then 0 else 1) := by
  unfold fX0_isNoFloat
  by_cases h : (b &&& (2147483647 : Int32)) ≤ (2139095040 : Int32)
  · rw [if_pos h, if_pos ((r_masks b).mp h)]
  · rw [if_neg h, if_neg (fun e => h ((r_masks b).mpr e))]
abbrev r_wok (lane : Int32) (w : Int64) : Prop := (lane = 3 → vf_n32 w.toInt32.toUInt32) ∧ (lane = 4 → vf_n64 w.toUInt64)
/-- whether a word is a number of its lane -/
theorem r_flag (b1 : Int32) (b3 : Int64) {R : Type} (J : Int32 → R) : ∃ fl : Int32, (∀ z1 : Option Int32, z1 = fX0_isNoFloat b3.toInt32 → True) ∧ ((fl = 0 ∧ fX2_tells b1 b3 = some 1 ∧ r_wok b1 b3) ∨ (fl = 1 ∧ fX2_tells b1 b3 = some 0)) ∧ (b1 = 3 → fX0_isNoFloat b3.toInt32 = some fl) ∧ (b1 = 4 → ((if (b3 &&& (9223372036854775807 : Int64)) > (9218868437227405312 : Int64) then 1 else if (b3 &&& (9223372036854775807 : Int64)) == (9218868437227405312 : Int64) then 0 else -1 : Int32) ≤ 0 ∧ fl = 0) ∨ (¬ (if (b3 &&& (9223372036854775807 : Int64)) > (9218868437227405312 : Int64) then 1 else if (b3 &&& (9223372036854775807 : Int64)) == (9218868437227405312 : Int64) then 0 else -1 : Int32) ≤ 0 ∧ fl = 1)) ∧ (b1 ≠ 3 → b1 ≠ 4 → fl = 0) := by
  unfold fX2_tells
  by_cases h3 : b1 = 3
  · have h4 : b1 ≠ 4 := by rw [h3]; decide
    by_cases hn : vf_n32 b3.toInt32.toUInt32
    · refine ⟨0, fun _ _ => trivial, Or.inl ⟨rfl, ?_, fun _ => hn, fun e => absurd e h4⟩, fun _ => ?_, fun e => absurd e h4, fun e => absurd h3 e⟩
      · rw [if_pos h3, if_neg (fun e => ((r_f32 b3).mp hn) ((r_lc _ _).1.mp e))]
      · rw [r_nofl, if_pos ((n32_iff _).mp hn)]
    · refine ⟨1, fun _ _ => trivial, Or.inr ⟨rfl, ?_⟩, fun _ => ?_, fun e => absurd e h4, fun e => absurd h3 e⟩
      · rw [if_pos h3, if_pos ((r_lc _ _).1.mpr (Classical.not_not.mp (fun e => hn ((r_f32 b3).mpr e))))]
      · rw [r_nofl, if_neg (fun e => hn ((n32_iff _).mpr e))]
  · by_cases h4 : b1 = 4
    · by_cases hn : vf_n64 b3.toUInt64
      · have hc : ¬ (9218868437227405312 : Int64) < (b3 &&& (9223372036854775807 : Int64)) := fun e => ((r_d64 b3).mp e) hn
        refine ⟨0, fun _ _ => trivial, Or.inl ⟨rfl, ?_, fun e => absurd e h3, fun _ => hn⟩, fun e => absurd e h3, fun _ => Or.inl ⟨(r_lc _ _).2.mpr hc, rfl⟩, fun _ e => absurd h4 e⟩
        rw [if_neg h3, if_pos h4, if_neg (fun e => hc ((r_lc _ _).1.mp e))]
      · have hc : (9218868437227405312 : Int64) < (b3 &&& (9223372036854775807 : Int64)) := (r_d64 b3).mpr hn
        refine ⟨1, fun _ _ => trivial, Or.inr ⟨rfl, ?_⟩, fun e => absurd e h3, fun _ => Or.inr ⟨fun e => ((r_lc _ _).2.mp e) hc, rfl⟩, fun _ e => absurd h4 e⟩
        rw [if_neg h3, if_pos h4, if_pos ((r_lc _ _).1.mpr hc)]
    · refine ⟨0, fun _ _ => trivial, Or.inl ⟨rfl, ?_, fun e => absurd e h3, fun e => absurd e h4⟩, fun e => absurd e h3, fun e => absurd e h4, fun _ _ => rfl⟩
      rw [if_neg h3, if_neg h4]
end R15
