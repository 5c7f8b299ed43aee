/-! clips: what they hold -/
set_option maxRecDepth 100000
section FI
theorem fp_i2d (e : Int32) : FP.i2d e = FP.l2d e.toInt64 := by
  show UInt64.ofNat (FP.Core.fromInt FP.Core.b64 e.toInt) = UInt64.ofNat (FP.Core.fromInt FP.Core.b64 e.toInt64.toInt)
  rw [Int32.toInt_toInt64]
theorem fp_clip_id {y : UInt32} (h : r_s y) : fX0_clipped y = some y := by
  have hk := (rs_key y).mp h
  have hn := rs_nn h
  have c1 := r_cl0 hn r_n8
  have n8' : vf_n32 (3238002688 : UInt32) := by rw [n32_iff]; decide
  have k8' : fk (3238002688 : UInt32) = -1090519040 := by decide +kernel
  have c2 := r_cl0 hn n8'
  unfold fX0_clipped
  rw [if_pos (c1.2.2.1.mpr (by rw [r_k8]; omega)), if_pos (c2.2.2.2.mpr (by rw [k8']; omega))]
theorem fp_clip {y : UInt32} (h : vf_n32 y) : ∃ z, fX0_clipped y = some z ∧ r_s z := by
  have c1 := r_cl0 h r_n8
  have n8' : vf_n32 (3238002688 : UInt32) := by rw [n32_iff]; decide
  have k8' : fk (3238002688 : UInt32) = -1090519040 := by decide +kernel
  have c2 := r_cl0 h n8'
  unfold fX0_clipped
  by_cases h1 : Op.cmpValue (FP.fcmp y (1090519040 : UInt32)) .l ≤ 0
  · rw [if_pos h1]
    by_cases h2 : 0 ≤ Op.cmpValue (FP.fcmp y (3238002688 : UInt32)) .g
    · rw [if_pos h2]
      rw [c1.2.2.1, r_k8] at h1
      rw [c2.2.2.2, k8'] at h2
      exact ⟨y, rfl, (rs_key y).mpr ⟨by omega, by omega⟩⟩
    · rw [if_neg h2]
      exact ⟨_, rfl, by decide⟩
  · rw [if_neg h1]
    exact ⟨_, rfl, by decide⟩
theorem fp_clip2 (y : UInt32) : fX2_clipped y = fX0_clipped y := rfl
end FI
section R14
variable {a0 : Nat} {M0 : MS} {ad : Nat → Nat → Nat} {M : MS} {E : RE} {g : zS} {c : Nat}
theorem r_row_congr {lane : Int32} {n : Nat} {f f' : Nat → Int64} (h : ∀ j, j < n → f j = f' j) : r_row lane n f = r_row lane n f' := by
  have e1 : (fun i => if i < n then (f i).toInt32 else 0) = fun i => if i < n then (f' i).toInt32 else 0 := by
    funext i
    by_cases hi : i < n
    · rw [if_pos hi, if_pos hi, h i hi]
    · rw [if_neg hi, if_neg hi]
  have e2 : (fun i => if i < n then (f i).toInt32.toUInt32 else 0) = fun i => if i < n then (f' i).toInt32.toUInt32 else 0 := by
    funext i
    by_cases hi : i < n
    · rw [if_pos hi, if_pos hi, h i hi]
    · rw [if_neg hi, if_neg hi]
  have e3 : (fun i => if i < n then (f i).toUInt64 else 0) = fun i => if i < n then (f' i).toUInt64 else 0 := by
    funext i
    by_cases hi : i < n
    · rw [if_pos hi, if_pos hi, h i hi]
    · rw [if_neg hi, if_neg hi]
  unfold r_row
  rw [e1, e2, e3]
theorem rc_row (h : rX a0 M0 ad M E g) (hc : c < r_nc M) : g.h (ad 21 c) = some (r_row (M.A 1 c) (M.A 2 c).toNatClampNeg (fun j => M.L (64 * c + j))) := h.at (k := 21) (i := c) (if_pos hc)
theorem r_len {n : Int32} (h : 0 ≤ n.toInt ∧ n.toInt ≤ 64) : n.toNatClampNeg ≤ 64 := by have := rn h.1; omega
/-- one number of a clip is set -/
theorem rX.row (h : rX a0 M0 ad M E g) (hc : c < r_nc M) (hl : ∀ c', c' < r_nc M → (M.A 2 c').toNatClampNeg ≤ 64) {i : Nat} (hi : i < 64) (w : Int64) : rX a0 M0 ad (mL M (64 * c + i) w) E (zput g (ad 21 c) (r_row (M.A 1 c) (M.A 2 c).toNatClampNeg (fun j => if j = i then w else M.L (64 * c + j)))) := by
  have eL : ∀ q, (mL M (64 * c + i) w).L q = if q = 64 * c + i then w else M.L q := fun q => rfl
  refine h.put (k := 21) (i := c) (if_pos hc) ?_ (fun k' hk' => by rcases r_split k' with rfl | rfl | rfl | rfl | rfl | rfl | rfl | rfl | rfl | rfl | rfl | rfl | rfl | rfl | rfl | rfl | rfl | rfl | rfl | hr <;> first | exact absurd rfl hk' | (funext i'; simp [r_c, r_x, r_t, r_p, mA, mF, mI, mL, MS.I, MS.A, MS.F, MS.L, va_up]; done) | (rw [hr, hr])) (fun i' hi' => ?_)
  · show (if c < r_nc M then some (r_row (M.A 1 c) (M.A 2 c).toNatClampNeg (fun j => (mL M (64 * c + i) w).L (64 * c + j))) else none) = _
    rw [if_pos hc]
    refine congrArg some (r_row_congr (fun j _ => ?_))
    rw [eL]
    by_cases e : j = i
    · rw [if_pos e, if_pos (by omega)]
    · rw [if_neg e, if_neg (by omega)]
  · show (if i' < r_nc M then some (r_row (M.A 1 i') (M.A 2 i').toNatClampNeg (fun j => (mL M (64 * c + i) w).L (64 * i' + j))) else none) = (if i' < r_nc M then some (r_row (M.A 1 i') (M.A 2 i').toNatClampNeg (fun j => M.L (64 * i' + j))) else none)
    by_cases hn : i' < r_nc M
    · rw [if_pos hn, if_pos hn]
      refine congrArg some (r_row_congr (fun j hj => ?_))
      have := hl i' hn
      rw [eL, if_neg (by omega)]
    · rw [if_neg hn, if_neg hn]
theorem r_lane5 {l : Int32} (h : 0 ≤ l.toInt ∧ l.toInt ≤ 4) : l = 0 ∨ l = 1 ∨ l = 2 ∨ l = 3 ∨ l = 4 := by
  have : l.toInt = 0 ∨ l.toInt = 1 ∨ l.toInt = 2 ∨ l.toInt = 3 ∨ l.toInt = 4 := by omega
  rcases this with e | e | e | e | e
  · exact Or.inl (Int32.toInt_inj.mp e)
  · exact Or.inr (Or.inl (Int32.toInt_inj.mp e))
  · exact Or.inr (Or.inr (Or.inl (Int32.toInt_inj.mp e)))
  · exact Or.inr (Or.inr (Or.inr (Or.inl (Int32.toInt_inj.mp e))))
  · exact Or.inr (Or.inr (Or.inr (Or.inr (Int32.toInt_inj.mp e))))
theorem r_idx (cc i : Int32) (hc : 0 ≤ cc.toInt ∧ cc.toInt ≤ 15) (hi : 0 ≤ i.toInt ∧ i.toInt ≤ 63) : ((64 : Int32) * cc + i).toNatClampNeg = 64 * cc.toNatClampNeg + i.toNatClampNeg ∧ vp_in ((64 : Int32) * cc + i) 1024 := by
  have e64 : (64 : Int32).toInt = 64 := by decide
  have e1 : ((64 : Int32) * cc).toInt = 64 * cc.toInt := by rw [z32_mul (by rw [e64]; omega) (by rw [e64]; omega), e64]
  have e2 : ((64 : Int32) * cc + i).toInt = 64 * cc.toInt + i.toInt := by rw [z32_add (by omega) (by omega), e1]
  have n1 := rn hc.1
  have n2 := rn hi.1
  have n3 := rn (x := (64 : Int32) * cc + i) (by omega)
  exact ⟨by omega, z32_in (by omega) (by omega)⟩
/-- a sample of a clip, of both -/
theorem r_smp (h : rX a0 M0 ad M E g) (hI : rI_c M) {cc i : Int32} (hc : 0 ≤ cc.toInt ∧ cc.toInt < (M.I 0).toInt) (hi : 0 ≤ i.toInt ∧ i.toInt < (M.A 2 cc.toNatClampNeg).toInt) : ∃ v, fX3_sample g (ad 20 cc.toNatClampNeg) i = some (.inl v, g) ∧ fX2_sampleAt M cc i = some (v, M) ∧ r_s v := by
  have h16 := hI.1
  have hcn := rn hc.1
  have h0 := rn h16.1
  have hcl : cc.toNatClampNeg < r_nc M := by show cc.toNatClampNeg < (M.I 0).toNatClampNeg; omega
  obtain ⟨hlane, hlen, hw⟩ := hI.2.1 _ hcl
  have hin := rn hi.1
  have hln := rn hlen.1
  have hi64 : i.toNatClampNeg < 64 := by omega
  have hwi := hw i.toNatClampNeg hi64
  obtain ⟨ei, vi⟩ := r_idx cc i ⟨hc.1, by omega⟩ ⟨hi.1, by omega⟩
  have hil : i.toNatClampNeg < (M.A 2 cc.toNatClampNeg).toNatClampNeg := by omega
  have hvi : vp_in i (M.A 2 cc.toNatClampNeg).toNatClampNeg := z32_in hi.1 (by omega)
  have v16 : vp_in cc 16 := z32_in hc.1 (by omega)
  have row := rc_row h hcl
  have hlt : (M.A 2 cc.toNatClampNeg).toNatClampNeg < 2 ^ 31 := by omega
  unfold fX3_sample fX2_sampleAt
  rw [rd_c0 h hcl, zbj_v, zgd_pos vi, zlet_v, zgd_pos v16, ei]
  rcases r_lane5 hlane with hl | hl | hl | hl | hl
  · rw [hl] at row hwi
    have row' : g.h (ad 21 cc.toNatClampNeg) = some (.inl (2, (M.A 2 cc.toNatClampNeg).toNatClampNeg, .inl (fun i => if i < (M.A 2 cc.toNatClampNeg).toNatClampNeg then (M.L (64 * cc.toNatClampNeg + i)).toInt32 else 0))) := row
    have hd := hwi.1 rfl
    have e9 : (M.L (64 * cc.toNatClampNeg + i.toNatClampNeg)).toInt32.toInt64 = M.L (64 * cc.toNatClampNeg + i.toNatClampNeg) := by
      rw [hd]
      simp
    have hb : -((128 : Nat) : Int) ≤ (M.L (64 * cc.toNatClampNeg + i.toNatClampNeg)).toInt ∧ (M.L (64 * cc.toNatClampNeg + i.toNatClampNeg)).toInt ≤ (128 : Nat) := by
      rw [hd, Int32.toInt_toInt64, Int8.toInt_toInt32]
      have q1 := (M.L (64 * cc.toNatClampNeg + i.toNatClampNeg)).toInt32.toInt8.toInt_lt
      have q2 := (M.L (64 * cc.toNatClampNeg + i.toNatClampNeg)).toInt32.toInt8.le_toInt
      omega
    have L := fp_lane (K := 4638707616191610880) (Or.inl ⟨rfl, rfl⟩) hb
    rw [if_pos hl, if_pos hl, rd_c2 h hcl, zbj_v, zgd_pos (zaty_of row' (by decide)), zaln_of row' (by decide), zbj_v, zgd_pos hlt, if_neg (show ¬ zout i _ from hvi), zaI_of row' hvi, zbj_v, if_pos hil, fp_i2d, e9, zgd_pos L.1, zgd_pos (rs_nn L.2), zgd_pos L.1, zgd_pos (rs_nn L.2), fp_clip2, fp_clip_id L.2, zbj_v]
    exact ⟨_, rfl, rfl, L.2⟩
  · have n0 : ¬ M.A 1 cc.toNatClampNeg = 0 := by rw [hl]; decide
    rw [hl] at row hwi
    have row' : g.h (ad 21 cc.toNatClampNeg) = some (.inl (3, (M.A 2 cc.toNatClampNeg).toNatClampNeg, .inl (fun i => if i < (M.A 2 cc.toNatClampNeg).toNatClampNeg then (M.L (64 * cc.toNatClampNeg + i)).toInt32 else 0))) := row
    have hd := hwi.2.1 rfl
    have e9 : (M.L (64 * cc.toNatClampNeg + i.toNatClampNeg)).toInt32.toInt64 = M.L (64 * cc.toNatClampNeg + i.toNatClampNeg) := by
      rw [hd]
      simp
    have hb : -((32768 : Nat) : Int) ≤ (M.L (64 * cc.toNatClampNeg + i.toNatClampNeg)).toInt ∧ (M.L (64 * cc.toNatClampNeg + i.toNatClampNeg)).toInt ≤ (32768 : Nat) := by
      rw [hd, Int32.toInt_toInt64, Int16.toInt_toInt32]
      have q1 := (M.L (64 * cc.toNatClampNeg + i.toNatClampNeg)).toInt32.toInt16.toInt_lt
      have q2 := (M.L (64 * cc.toNatClampNeg + i.toNatClampNeg)).toInt32.toInt16.le_toInt
      omega
    have L := fp_lane (K := 4674736413210574848) (Or.inr (Or.inl ⟨rfl, rfl⟩)) hb
    rw [if_neg n0, if_pos hl, if_neg n0, if_pos hl, rd_c2 h hcl, zbj_v, zgd_pos (zaty_of row' (by decide)), zaln_of row' (by decide), zbj_v, zgd_pos hlt, if_neg (show ¬ zout i _ from hvi), zaI_of row' hvi, zbj_v, if_pos hil, fp_i2d, e9, zgd_pos L.1, zgd_pos (rs_nn L.2), zgd_pos L.1, zgd_pos (rs_nn L.2), fp_clip2, fp_clip_id L.2, zbj_v]
    exact ⟨_, rfl, rfl, L.2⟩
  · have n0 : ¬ M.A 1 cc.toNatClampNeg = 0 := by rw [hl]; decide
    have n1 : ¬ M.A 1 cc.toNatClampNeg = 1 := by rw [hl]; decide
    rw [hl] at row hwi
    have row' : g.h (ad 21 cc.toNatClampNeg) = some (.inl (0, (M.A 2 cc.toNatClampNeg).toNatClampNeg, .inl (fun i => if i < (M.A 2 cc.toNatClampNeg).toNatClampNeg then (M.L (64 * cc.toNatClampNeg + i)).toInt32 else 0))) := row
    have e9 : (M.L (64 * cc.toNatClampNeg + i.toNatClampNeg)).toInt32.toInt64 = M.L (64 * cc.toNatClampNeg + i.toNatClampNeg) := (hwi.2.2.1 rfl).symm
    have hb : -((2147483648 : Nat) : Int) ≤ (M.L (64 * cc.toNatClampNeg + i.toNatClampNeg)).toInt ∧ (M.L (64 * cc.toNatClampNeg + i.toNatClampNeg)).toInt ≤ (2147483648 : Nat) := by
      rw [← e9, Int32.toInt_toInt64]
      have q1 := (M.L (64 * cc.toNatClampNeg + i.toNatClampNeg)).toInt32.toInt_lt
      have q2 := (M.L (64 * cc.toNatClampNeg + i.toNatClampNeg)).toInt32.le_toInt
      omega
    have L := fp_lane (K := 4746794007248502784) (Or.inr (Or.inr ⟨rfl, rfl⟩)) hb
    rw [if_neg n0, if_neg n1, if_pos hl, if_neg n0, if_neg n1, if_pos hl, rd_c2 h hcl, zbj_v, zgd_pos (zaty_of row' (by decide)), zaln_of row' (by decide), zbj_v, zgd_pos hlt, if_neg (show ¬ zout i _ from hvi), zaI_of row' hvi, zbj_v, if_pos hil, fp_i2d, e9, zgd_pos L.1, zgd_pos (rs_nn L.2), zgd_pos L.1, zgd_pos (rs_nn L.2), fp_clip2, fp_clip_id L.2, zbj_v]
    exact ⟨_, rfl, rfl, L.2⟩
  · have n0 : ¬ M.A 1 cc.toNatClampNeg = 0 := by rw [hl]; decide
    have n1 : ¬ M.A 1 cc.toNatClampNeg = 1 := by rw [hl]; decide
    have n2 : ¬ M.A 1 cc.toNatClampNeg = 2 := by rw [hl]; decide
    rw [hl] at row hwi
    have row' : g.h (ad 21 cc.toNatClampNeg) = some (.inl (1, (M.A 2 cc.toNatClampNeg).toNatClampNeg, r_fl (fun i => if i < (M.A 2 cc.toNatClampNeg).toNatClampNeg then (M.L (64 * cc.toNatClampNeg + i)).toInt32.toUInt32 else 0))) := row
    have hd := hwi.2.2.2.1 rfl
    have hsn : vn_sni2f (M.L (64 * cc.toNatClampNeg + i.toNatClampNeg)).toInt32 = false := by
      unfold vn_sni2f
      have h2 : (M.L (64 * cc.toNatClampNeg + i.toNatClampNeg)).toInt32.toUInt32 &&& 0x7fffffff ≤ 0x7f800000 := hd.2
      have : ¬ ((M.L (64 * cc.toNatClampNeg + i.toNatClampNeg)).toInt32.toUInt32 &&& 0x7fffffff > 0x7f800000) := UInt32.not_lt.mpr h2
      simp [this]
    obtain ⟨z, ez, hz⟩ := fp_clip hd.2
    rw [if_neg n0, if_neg n1, if_neg n2, if_pos hl, if_neg n0, if_neg n1, if_neg n2, if_pos hl, rd_c2 h hcl, zbj_v, zgd_pos (zaty_of row' (by decide)), zaln_of row' (by decide), zbj_v, zgd_pos hlt, if_neg (show ¬ zout i _ from hvi), zaF_of row' hvi, zbj_v, if_pos hil, ez, zbj_v, zgd_pos hsn, fp_clip2, ez, zbj_v]
    exact ⟨_, rfl, rfl, hz⟩
  · have n0 : ¬ M.A 1 cc.toNatClampNeg = 0 := by rw [hl]; decide
    have n1 : ¬ M.A 1 cc.toNatClampNeg = 1 := by rw [hl]; decide
    have n2 : ¬ M.A 1 cc.toNatClampNeg = 2 := by rw [hl]; decide
    have n3 : ¬ M.A 1 cc.toNatClampNeg = 3 := by rw [hl]; decide
    rw [hl] at row hwi
    have row' : g.h (ad 21 cc.toNatClampNeg) = some (.inl (4, (M.A 2 cc.toNatClampNeg).toNatClampNeg, .inr (.inr (.inr (.inl (fun i => if i < (M.A 2 cc.toNatClampNeg).toNatClampNeg then (M.L (64 * cc.toNatClampNeg + i)).toUInt64 else 0)))))) := row
    have hd := hwi.2.2.2.2 rfl
    have hsn : vn_snl2d (M.L (64 * cc.toNatClampNeg + i.toNatClampNeg)) = false := by
      unfold vn_snl2d
      have h2 : (M.L (64 * cc.toNatClampNeg + i.toNatClampNeg)).toUInt64 &&& 0x7fffffffffffffff ≤ 0x7ff0000000000000 := hd
      have : ¬ ((M.L (64 * cc.toNatClampNeg + i.toNatClampNeg)).toUInt64 &&& 0x7fffffffffffffff > 0x7ff0000000000000) := UInt64.not_lt.mpr h2
      simp [this]
    have hf := fp_d2f hd
    obtain ⟨z, ez, hz⟩ := fp_clip hf
    rw [if_neg n0, if_neg n1, if_neg n2, if_neg n3, if_neg n0, if_neg n1, if_neg n2, if_neg n3, rd_c2 h hcl, zbj_v, zgd_pos (zaty_of row' (by decide)), zaln_of row' (by decide), zbj_v, zgd_pos hlt, if_neg (show ¬ zout i _ from hvi), zaD_of row' hvi, zbj_v, if_pos hil, zgd_pos hf, ez, zbj_v, zgd_pos hsn, zgd_pos hf, fp_clip2, ez, zbj_v]
    exact ⟨_, rfl, rfl, hz⟩
end R14
