/-! number -/
set_option maxRecDepth 100000
section R16
variable {a0 : Nat} {M0 : MS} {ad : Nat → Nat → Nat} {M : MS} {E : RE} {g : zS}
theorem r_row0 (n : Nat) (f : Nat → Int64) : r_row 0 n f = .inl (2, n, .inl (fun i => if i < n then (f i).toInt32 else 0)) := rfl
theorem r_row1 (n : Nat) (f : Nat → Int64) : r_row 1 n f = .inl (3, n, .inl (fun i => if i < n then (f i).toInt32 else 0)) := rfl
theorem r_row2 (n : Nat) (f : Nat → Int64) : r_row 2 n f = .inl (0, n, .inl (fun i => if i < n then (f i).toInt32 else 0)) := rfl
theorem r_row3 (n : Nat) (f : Nat → Int64) : r_row 3 n f = .inl (1, n, r_fl (fun i => if i < n then (f i).toInt32.toUInt32 else 0)) := rfl
theorem r_row4 (n : Nat) (f : Nat → Int64) : r_row 4 n f = .inl (4, n, .inr (.inr (.inr (.inl (fun i => if i < n then (f i).toUInt64 else 0))))) := rfl
/-- a word as the Model keeps it -/
def r_wd (lane : Int32) (w : Int64) : Int64 := if lane = 0 then w.toInt32.toInt8.toInt32.toInt64 else if lane = 1 then w.toInt32.toInt16.toInt32.toInt64 else if (4 : Int32) ≤ lane then w else w.toInt32.toInt64
theorem r_wdok {lane : Int32} {w : Int64} (ok : r_wok lane w) : r_word lane (r_wd lane w) := by
  refine ⟨fun e => ?_, fun e => ?_, fun e => ?_, fun e => ?_, fun e => ?_⟩ <;> subst e
  · show w.toInt32.toInt8.toInt32.toInt64 = _
    simp [r_wd]
  · show w.toInt32.toInt16.toInt32.toInt64 = _
    simp [r_wd]
  · show w.toInt32.toInt64 = _
    simp [r_wd]
  · refine ⟨by simp [r_wd], ?_⟩
    have e : (r_wd 3 w).toInt32 = w.toInt32 := by simp [r_wd]
    rw [e]
    exact ok.1 rfl
  · exact ok.2 rfl
theorem upd_row {α : Type} {n i : Nat} (hi : i < n) {f f' : Nat → α} {v z : α} (h1 : f' i = v) (h2 : ∀ j, j ≠ i → f' j = f j) : (fun j => if j = i then v else if j < n then f j else z) = fun j => if j < n then f' j else z := by
  funext j
  by_cases e : j = i
  · rw [if_pos e, e, if_pos hi, h1]
  · rw [if_neg e]
    by_cases hj : j < n
    · rw [if_pos hj, if_pos hj, h2 j e]
    · rw [if_neg hj, if_neg hj]
theorem r_put (h : rX a0 M0 ad M E g) (hI : rI_c M) (hrc : 3 ≤ g.rc) (hrs : 300 ≤ g.rs) {cc b1 b2 : Int32} {b3 : Int64} (hc : 0 ≤ cc.toInt ∧ cc.toInt < (M.I 0).toInt) (hb : 0 ≤ b1.toInt ∧ b1.toInt ≤ 4) (ok : r_wok b1 b3) :
    (M.A 1 cc.toNatClampNeg ≠ b1 ∧ fX3_put g (ad 20 cc.toNatClampNeg) b1 b2 b3 = some (.inr zCCE, zxg g)) ∨ (M.A 1 cc.toNatClampNeg = b1 ∧ (b2.toInt < 0 ∨ (M.A 2 cc.toNatClampNeg).toInt ≤ b2.toInt) ∧ fX3_put g (ad 20 cc.toNatClampNeg) b1 b2 b3 = some (.inr zAIO, zxg g)) ∨ (M.A 1 cc.toNatClampNeg = b1 ∧ (0 ≤ b2.toInt ∧ b2.toInt < (M.A 2 cc.toNatClampNeg).toInt) ∧ ∃ g', fX3_put g (ad 20 cc.toNatClampNeg) b1 b2 b3 = some (.inl (), g') ∧ rX a0 M0 ad (mL M (64 * cc.toNatClampNeg + b2.toNatClampNeg) (r_wd b1 b3)) E g' ∧ g'.2 = g.2) := by
  have h16 := hI.1
  have hcn := rn hc.1
  have h0 := rn h16.1
  have hcl : cc.toNatClampNeg < r_nc M := by show cc.toNatClampNeg < (M.I 0).toNatClampNeg; omega
  obtain ⟨hlane, hlen, hw⟩ := hI.2.1 _ hcl
  have hln := rn hlen.1
  have row := rc_row h hcl
  have hlt : (M.A 2 cc.toNatClampNeg).toNatClampNeg < 2 ^ 31 := by omega
  have hl : ∀ c', c' < r_nc M → (M.A 2 c').toNatClampNeg ≤ 64 := fun c' hc' => r_len (hI.2.1 c' hc').2.1
  have hrow : (0 ≤ b2.toInt ∧ b2.toInt < (M.A 2 cc.toNatClampNeg).toInt) → b2.toNatClampNeg < (M.A 2 cc.toNatClampNeg).toNatClampNeg ∧ vp_in b2 (M.A 2 cc.toNatClampNeg).toNatClampNeg ∧ b2.toNatClampNeg < 64 := fun hi => by
    have := rn hi.1
    exact ⟨by omega, z32_in hi.1 (by omega), by omega⟩
  have hout : ¬ (0 ≤ b2.toInt ∧ b2.toInt < (M.A 2 cc.toNatClampNeg).toInt) → zout b2 (M.A 2 cc.toNatClampNeg).toNatClampNeg ∧ (b2.toInt < 0 ∨ (M.A 2 cc.toNatClampNeg).toInt ≤ b2.toInt) := fun hi => ⟨rd_zout (by omega), by omega⟩
  unfold fX3_put
  rcases r_lane5 hb with rfl | rfl | rfl | rfl | rfl
  · rw [if_pos rfl, rd_c2 h hcl, zbj_v]
    rcases r_lane5 hlane with hv | hv | hv | hv | hv
    · rw [hv, r_row0] at row
      rw [zaty_of row (by decide), zbj_v, if_pos rfl, zaln_of row (by decide), zbj_v, zgd_pos hlt]
      by_cases hi : 0 ≤ b2.toInt ∧ b2.toInt < (M.A 2 cc.toNatClampNeg).toInt
      · obtain ⟨q1, q2, q3⟩ := hrow hi
        have hX := h.row hcl hl q3 (r_wd 0 b3)
        rw [hv, r_row0] at hX
        refine Or.inr (Or.inr ⟨hv, hi, _, ?_, hX, rfl⟩)
        rw [if_neg (show ¬ zout b2 _ from q2), zsI_of row q2, zbj_v]
        refine congrArg (fun f => some (Sum.inl (), zput g (ad 21 cc.toNatClampNeg) (.inl (2, (M.A 2 cc.toNatClampNeg).toNatClampNeg, .inl f)))) ?_
        refine upd_row q1 ?_ ?_
        · simp [r_wd]
        · intro j hj
          rw [if_neg hj]
      · obtain ⟨q1, q2⟩ := hout hi
        refine Or.inr (Or.inl ⟨hv, q2, ?_⟩)
        rw [if_pos q1, zgd_pos ⟨hrc, hrs⟩]
    · rw [hv, r_row1] at row
      refine Or.inl ⟨by rw [hv]; decide, ?_⟩
      rw [zaty_of row (by decide), zbj_v, if_neg (by decide), zgd_pos ⟨hrc, hrs⟩]
    · rw [hv, r_row2] at row
      refine Or.inl ⟨by rw [hv]; decide, ?_⟩
      rw [zaty_of row (by decide), zbj_v, if_neg (by decide), zgd_pos ⟨hrc, hrs⟩]
    · rw [hv, r_row3] at row
      refine Or.inl ⟨by rw [hv]; decide, ?_⟩
      rw [zaty_of row (by decide), zbj_v, if_neg (by decide), zgd_pos ⟨hrc, hrs⟩]
    · rw [hv, r_row4] at row
      refine Or.inl ⟨by rw [hv]; decide, ?_⟩
      rw [zaty_of row (by decide), zbj_v, if_neg (by decide), zgd_pos ⟨hrc, hrs⟩]
  · rw [if_neg (by decide), if_pos rfl, rd_c2 h hcl, zbj_v]
    rcases r_lane5 hlane with hv | hv | hv | hv | hv
    · rw [hv, r_row0] at row
      refine Or.inl ⟨by rw [hv]; decide, ?_⟩
      rw [zaty_of row (by decide), zbj_v, if_neg (by decide), zgd_pos ⟨hrc, hrs⟩]
    · rw [hv, r_row1] at row
      rw [zaty_of row (by decide), zbj_v, if_pos rfl, zaln_of row (by decide), zbj_v, zgd_pos hlt]
      by_cases hi : 0 ≤ b2.toInt ∧ b2.toInt < (M.A 2 cc.toNatClampNeg).toInt
      · obtain ⟨q1, q2, q3⟩ := hrow hi
        have hX := h.row hcl hl q3 (r_wd 1 b3)
        rw [hv, r_row1] at hX
        refine Or.inr (Or.inr ⟨hv, hi, _, ?_, hX, rfl⟩)
        rw [if_neg (show ¬ zout b2 _ from q2), zsI_of row q2, zbj_v]
        refine congrArg (fun f => some (Sum.inl (), zput g (ad 21 cc.toNatClampNeg) (.inl (3, (M.A 2 cc.toNatClampNeg).toNatClampNeg, .inl f)))) ?_
        refine upd_row q1 ?_ ?_
        · simp [r_wd]
        · intro j hj
          rw [if_neg hj]
      · obtain ⟨q1, q2⟩ := hout hi
        refine Or.inr (Or.inl ⟨hv, q2, ?_⟩)
        rw [if_pos q1, zgd_pos ⟨hrc, hrs⟩]
    · rw [hv, r_row2] at row
      refine Or.inl ⟨by rw [hv]; decide, ?_⟩
      rw [zaty_of row (by decide), zbj_v, if_neg (by decide), zgd_pos ⟨hrc, hrs⟩]
    · rw [hv, r_row3] at row
      refine Or.inl ⟨by rw [hv]; decide, ?_⟩
      rw [zaty_of row (by decide), zbj_v, if_neg (by decide), zgd_pos ⟨hrc, hrs⟩]
    · rw [hv, r_row4] at row
      refine Or.inl ⟨by rw [hv]; decide, ?_⟩
      rw [zaty_of row (by decide), zbj_v, if_neg (by decide), zgd_pos ⟨hrc, hrs⟩]
  · rw [if_neg (by decide), if_neg (by decide), if_pos rfl, rd_c2 h hcl, zbj_v]
    rcases r_lane5 hlane with hv | hv | hv | hv | hv
    · rw [hv, r_row0] at row
      refine Or.inl ⟨by rw [hv]; decide, ?_⟩
      rw [zaty_of row (by decide), zbj_v, if_neg (by decide), zgd_pos ⟨hrc, hrs⟩]
    · rw [hv, r_row1] at row
      refine Or.inl ⟨by rw [hv]; decide, ?_⟩
      rw [zaty_of row (by decide), zbj_v, if_neg (by decide), zgd_pos ⟨hrc, hrs⟩]
    · rw [hv, r_row2] at row
      rw [zaty_of row (by decide), zbj_v, if_pos rfl, zaln_of row (by decide), zbj_v, zgd_pos hlt]
      by_cases hi : 0 ≤ b2.toInt ∧ b2.toInt < (M.A 2 cc.toNatClampNeg).toInt
      · obtain ⟨q1, q2, q3⟩ := hrow hi
        have hX := h.row hcl hl q3 (r_wd 2 b3)
        rw [hv, r_row2] at hX
        refine Or.inr (Or.inr ⟨hv, hi, _, ?_, hX, rfl⟩)
        rw [if_neg (show ¬ zout b2 _ from q2), zsI_of row q2, zbj_v]
        refine congrArg (fun f => some (Sum.inl (), zput g (ad 21 cc.toNatClampNeg) (.inl (0, (M.A 2 cc.toNatClampNeg).toNatClampNeg, .inl f)))) ?_
        refine upd_row q1 ?_ ?_
        · simp [r_wd]
        · intro j hj
          rw [if_neg hj]
      · obtain ⟨q1, q2⟩ := hout hi
        refine Or.inr (Or.inl ⟨hv, q2, ?_⟩)
        rw [if_pos q1, zgd_pos ⟨hrc, hrs⟩]
    · rw [hv, r_row3] at row
      refine Or.inl ⟨by rw [hv]; decide, ?_⟩
      rw [zaty_of row (by decide), zbj_v, if_neg (by decide), zgd_pos ⟨hrc, hrs⟩]
    · rw [hv, r_row4] at row
      refine Or.inl ⟨by rw [hv]; decide, ?_⟩
      rw [zaty_of row (by decide), zbj_v, if_neg (by decide), zgd_pos ⟨hrc, hrs⟩]
  · rw [if_neg (by decide), if_neg (by decide), if_neg (by decide), if_pos rfl, rd_c2 h hcl, zbj_v]
    have hsn : vn_sni2f b3.toInt32 = false := by
      unfold vn_sni2f
      have h2 : b3.toInt32.toUInt32 &&& 0x7fffffff ≤ 0x7f800000 := ok.1 rfl
      have : ¬ (b3.toInt32.toUInt32 &&& 0x7fffffff > 0x7f800000) := UInt32.not_lt.mpr h2
      simp [this]
    rcases r_lane5 hlane with hv | hv | hv | hv | hv
    · rw [hv, r_row0] at row
      refine Or.inl ⟨by rw [hv]; decide, ?_⟩
      rw [zaty_of row (by decide), zbj_v, if_neg (by decide), zgd_pos ⟨hrc, hrs⟩]
    · rw [hv, r_row1] at row
      refine Or.inl ⟨by rw [hv]; decide, ?_⟩
      rw [zaty_of row (by decide), zbj_v, if_neg (by decide), zgd_pos ⟨hrc, hrs⟩]
    · rw [hv, r_row2] at row
      refine Or.inl ⟨by rw [hv]; decide, ?_⟩
      rw [zaty_of row (by decide), zbj_v, if_neg (by decide), zgd_pos ⟨hrc, hrs⟩]
    · rw [hv, r_row3] at row
      rw [zaty_of row (by decide), zbj_v, if_pos rfl, zgd_pos hsn, zaln_of row (by decide), zbj_v, zgd_pos hlt]
      by_cases hi : 0 ≤ b2.toInt ∧ b2.toInt < (M.A 2 cc.toNatClampNeg).toInt
      · obtain ⟨q1, q2, q3⟩ := hrow hi
        have hX := h.row hcl hl q3 (r_wd 3 b3)
        rw [hv, r_row3] at hX
        refine Or.inr (Or.inr ⟨hv, hi, _, ?_, hX, rfl⟩)
        rw [if_neg (show ¬ zout b2 _ from q2), zsF_of row q2, zbj_v]
        refine congrArg (fun f => some (Sum.inl (), zput g (ad 21 cc.toNatClampNeg) (.inl (1, (M.A 2 cc.toNatClampNeg).toNatClampNeg, r_fl f)))) ?_
        refine upd_row q1 ?_ ?_
        · simp [r_wd]
        · intro j hj
          rw [if_neg hj]
      · obtain ⟨q1, q2⟩ := hout hi
        refine Or.inr (Or.inl ⟨hv, q2, ?_⟩)
        rw [if_pos q1, zgd_pos ⟨hrc, hrs⟩]
    · rw [hv, r_row4] at row
      refine Or.inl ⟨by rw [hv]; decide, ?_⟩
      rw [zaty_of row (by decide), zbj_v, if_neg (by decide), zgd_pos ⟨hrc, hrs⟩]
  · rw [if_neg (by decide), if_neg (by decide), if_neg (by decide), if_neg (by decide), rd_c2 h hcl, zbj_v]
    have hsn : vn_snl2d b3 = false := by
      unfold vn_snl2d
      have h2 : b3.toUInt64 &&& 0x7fffffffffffffff ≤ 0x7ff0000000000000 := ok.2 rfl
      have : ¬ (b3.toUInt64 &&& 0x7fffffffffffffff > 0x7ff0000000000000) := UInt64.not_lt.mpr h2
      simp [this]
    rcases r_lane5 hlane with hv | hv | hv | hv | hv
    · rw [hv, r_row0] at row
      refine Or.inl ⟨by rw [hv]; decide, ?_⟩
      rw [zaty_of row (by decide), zbj_v, if_neg (by decide), zgd_pos ⟨hrc, hrs⟩]
    · rw [hv, r_row1] at row
      refine Or.inl ⟨by rw [hv]; decide, ?_⟩
      rw [zaty_of row (by decide), zbj_v, if_neg (by decide), zgd_pos ⟨hrc, hrs⟩]
    · rw [hv, r_row2] at row
      refine Or.inl ⟨by rw [hv]; decide, ?_⟩
      rw [zaty_of row (by decide), zbj_v, if_neg (by decide), zgd_pos ⟨hrc, hrs⟩]
    · rw [hv, r_row3] at row
      refine Or.inl ⟨by rw [hv]; decide, ?_⟩
      rw [zaty_of row (by decide), zbj_v, if_neg (by decide), zgd_pos ⟨hrc, hrs⟩]
    · rw [hv, r_row4] at row
      rw [zaty_of row (by decide), zbj_v, if_pos rfl, zgd_pos hsn, zaln_of row (by decide), zbj_v, zgd_pos hlt]
      by_cases hi : 0 ≤ b2.toInt ∧ b2.toInt < (M.A 2 cc.toNatClampNeg).toInt
      · obtain ⟨q1, q2, q3⟩ := hrow hi
        have hX := h.row hcl hl q3 (r_wd 4 b3)
        rw [hv, r_row4] at hX
        refine Or.inr (Or.inr ⟨hv, hi, _, ?_, hX, rfl⟩)
        rw [if_neg (show ¬ zout b2 _ from q2), zsD_of row q2, zbj_v]
        refine congrArg (fun f => some (Sum.inl (), zput g (ad 21 cc.toNatClampNeg) (.inl (4, (M.A 2 cc.toNatClampNeg).toNatClampNeg, .inr (.inr (.inr (.inl f))))))) ?_
        refine upd_row q1 ?_ ?_
        · simp [r_wd]
        · intro j hj
          rw [if_neg hj]
      · obtain ⟨q1, q2⟩ := hout hi
        refine Or.inr (Or.inl ⟨hv, q2, ?_⟩)
        rw [if_pos q1, zgd_pos ⟨hrc, hrs⟩]
theorem rI_cL (hI : rI_c M) {c i : Nat} (hc : c < r_nc M) (hi : i < 64) {w : Int64} (hw : r_word (M.A 1 c) w) : rI_c (mL M (64 * c + i) w) := by
  have eL : ∀ q, (mL M (64 * c + i) w).L q = if q = 64 * c + i then w else M.L q := fun q => rfl
  refine ⟨hI.1, fun c' hc' => ⟨(hI.2.1 c' hc').1, (hI.2.1 c' hc').2.1, fun j hj => ?_⟩, fun j hj => ?_⟩
  · rw [eL]
    by_cases e : 64 * c' + j = 64 * c + i
    · rw [if_pos e]
      have : c' = c := by omega
      rw [this]
      exact hw
    · rw [if_neg e]
      exact (hI.2.1 c' hc').2.2 j hj
  · have hj' : 64 * r_nc M ≤ j := hj
    rw [eL, if_neg (by omega)]
    exact hI.2.2 j hj
theorem rop_number (h : rX a0 M0 ad M E g) (hI : rInv M E) (hrc : 3 ≤ g.rc) (hrs : 300 ≤ g.rs) (b0 b1 b2 : Int32) (b3 : Int64) : rOK a0 M0 ad g 700 70000 (fX0_number g (ad 0 0) b0 b1 b2 b3) (fX2_number M b0 b1 b2 b3) := by
  have hI0 := hI
  obtain ⟨hc, hp, ht, hr, hq, hf, hb⟩ := hI
  have h16 := hc.1
  have h0 := rn h16.1
  unfold fX0_number fX2_number
  rw [rd_ob h, zbj_v]
  rcases r_isC h h16 b0 with ⟨q, h1, h2⟩ | ⟨q, h1⟩
  · have hbn := rn h1
    have hcl : b0.toNatClampNeg < r_nc M := by show b0.toNatClampNeg < (M.I 0).toNatClampNeg; omega
    have v16 : vp_in b0 16 := z32_in h1 (by omega)
    obtain ⟨hlane, hlen, hw⟩ := hc.2.1 _ hcl
    obtain ⟨fl, -, hfl, f3, f4, f5⟩ := r_flag b1 b3 (fun x : Int32 => x)
    rw [q, zbd_v, if_neg r10, r_in2y (by rw [ri_0]; exact h1) h2 (by omega), zbj_v, if_neg r10, zjoin_v]
    -- the word's flag
    have hJ : ∀ J : Int32 → Option (Int32 × zS), (if b1 = (3 : Int32) then zbj (fX0_isNoFloat (b3.toInt32)) (fun r49 => J r49) else zjoin (fun (_ : zS) (_ : Nat) (_ : Int32) (_ : Int32) (_ : Int32) (_ : Int64) => J (0 : Int32)) (fun j48 => if b1 = (4 : Int32) then if (if (b3 &&& (9223372036854775807 : Int64)) > (9218868437227405312 : Int64) then 1 else if (b3 &&& (9223372036854775807 : Int64)) == (9218868437227405312 : Int64) then 0 else -1 : Int32) ≤ 0 then j48 g (ad 0 0) b0 b1 b2 b3 else J (1 : Int32) else j48 g (ad 0 0) b0 b1 b2 b3)) = J fl := by
      intro J
      by_cases e3 : b1 = 3
      · rw [if_pos e3, f3 e3, zbj_v]
      · rw [if_neg e3, zjoin_v]
        by_cases e4 : b1 = 4
        · rw [if_pos e4]
          rcases f4 e4 with ⟨k1, k2⟩ | ⟨k1, k2⟩
          · rw [if_pos k1, k2]
          · rw [if_neg k1, k2]
        · rw [if_neg e4, f5 e3 e4]
    have hgo : ∀ fm : Option (Int32 × MS), rOK a0 M0 ad g 700 70000 (zbj (fX0_isIn b1 (0 : Int32) (4 : Int32)) (fun r13 => if r13 = 0 then some ((-102 : Int32), g) else if fl = 0 then zbj (zgI g [0] (ad 0 0) 7) (fun i16 => if i16 = 0 then zbj (zgN g [0] (ad 0 0) 0) (fun a18 => zbj (zaN g 7 a18 b0) (fun a20 => zbj (zob g [3] a20) (fun ob22 => zbd (fX3_put g a20 b1 b2 b3) (fun r24 g25 => zsm r24 (fun _ => some ((0 : Int32), g25)) (fun X28 => if X28 = zAIO then zbj (zob g25 [0] (ad 0 0)) (fun ob29 => zbd (fX0_met g25 (ad 0 0) (2 : Int32)) (fun r31 g32 => some (r31, g32))) else if X28 = zCCE then zbj (zob g25 [0] (ad 0 0)) (fun ob35 => zbd (fX0_met g25 (ad 0 0) (3 : Int32)) (fun r37 g38 => some (r37, g38))) else none))))) else some ((-103 : Int32), g)) else some ((-102 : Int32), g))) fm → rOK a0 M0 ad g 700 70000 (if b1 = (3 : Int32) then zbj (fX0_isNoFloat (b3.toInt32)) (fun r49 => (zbj (fX0_isIn b1 (0 : Int32) (4 : Int32)) (fun r13 => if r13 = 0 then some ((-102 : Int32), g) else if r49 = 0 then zbj (zgI g [0] (ad 0 0) 7) (fun i16 => if i16 = 0 then zbj (zgN g [0] (ad 0 0) 0) (fun a18 => zbj (zaN g 7 a18 b0) (fun a20 => zbj (zob g [3] a20) (fun ob22 => zbd (fX3_put g a20 b1 b2 b3) (fun r24 g25 => zsm r24 (fun _ => some ((0 : Int32), g25)) (fun X28 => if X28 = zAIO then zbj (zob g25 [0] (ad 0 0)) (fun ob29 => zbd (fX0_met g25 (ad 0 0) (2 : Int32)) (fun r31 g32 => some (r31, g32))) else if X28 = zCCE then zbj (zob g25 [0] (ad 0 0)) (fun ob35 => zbd (fX0_met g25 (ad 0 0) (3 : Int32)) (fun r37 g38 => some (r37, g38))) else none))))) else some ((-103 : Int32), g)) else some ((-102 : Int32), g)))) else zjoin (fun (g42 : zS) (v43 : Nat) (v44 : Int32) (v45 : Int32) (v46 : Int32) (v47 : Int64) => (zbj (fX0_isIn v45 (0 : Int32) (4 : Int32)) (fun r13 => if r13 = 0 then some ((-102 : Int32), g42) else if (0 : Int32) = 0 then zbj (zgI g42 [0] v43 7) (fun i16 => if i16 = 0 then zbj (zgN g42 [0] v43 0) (fun a18 => zbj (zaN g42 7 a18 v44) (fun a20 => zbj (zob g42 [3] a20) (fun ob22 => zbd (fX3_put g42 a20 v45 v46 v47) (fun r24 g25 => zsm r24 (fun _ => some ((0 : Int32), g25)) (fun X28 => if X28 = zAIO then zbj (zob g25 [0] v43) (fun ob29 => zbd (fX0_met g25 v43 (2 : Int32)) (fun r31 g32 => some (r31, g32))) else if X28 = zCCE then zbj (zob g25 [0] v43) (fun ob35 => zbd (fX0_met g25 v43 (3 : Int32)) (fun r37 g38 => some (r37, g38))) else none))))) else some ((-103 : Int32), g42)) else some ((-102 : Int32), g42)))) (fun j48 => if b1 = (4 : Int32) then if (if (b3 &&& (9223372036854775807 : Int64)) > (9218868437227405312 : Int64) then 1 else if (b3 &&& (9223372036854775807 : Int64)) == (9218868437227405312 : Int64) then 0 else -1 : Int32) ≤ 0 then j48 g (ad 0 0) b0 b1 b2 b3 else (zbj (fX0_isIn b1 (0 : Int32) (4 : Int32)) (fun r13 => if r13 = 0 then some ((-102 : Int32), g) else if (1 : Int32) = 0 then zbj (zgI g [0] (ad 0 0) 7) (fun i16 => if i16 = 0 then zbj (zgN g [0] (ad 0 0) 0) (fun a18 => zbj (zaN g 7 a18 b0) (fun a20 => zbj (zob g [3] a20) (fun ob22 => zbd (fX3_put g a20 b1 b2 b3) (fun r24 g25 => zsm r24 (fun _ => some ((0 : Int32), g25)) (fun X28 => if X28 = zAIO then zbj (zob g25 [0] (ad 0 0)) (fun ob29 => zbd (fX0_met g25 (ad 0 0) (2 : Int32)) (fun r31 g32 => some (r31, g32))) else if X28 = zCCE then zbj (zob g25 [0] (ad 0 0)) (fun ob35 => zbd (fX0_met g25 (ad 0 0) (3 : Int32)) (fun r37 g38 => some (r37, g38))) else none))))) else some ((-103 : Int32), g)) else some ((-102 : Int32), g))) else j48 g (ad 0 0) b0 b1 b2 b3)) fm := by
      intro fm hh
      by_cases e3 : b1 = 3
      · rw [if_pos e3, f3 e3, zbj_v]
        exact hh
      · rw [if_neg e3, zjoin_v]
        by_cases e4 : b1 = 4
        · rw [if_pos e4]
          rcases f4 e4 with ⟨k1, k2⟩ | ⟨k1, k2⟩
          · rw [if_pos k1]
            rw [k2] at hh
            exact hh
          · rw [if_neg k1]
            rw [k2] at hh
            exact hh
        · rw [if_neg e4]
          rw [f5 e3 e4] at hh
          exact hh
    refine hgo _ ?_
    rw [rin2]
    rcases rin_cases b1 0 4 with ⟨e, h3, h4⟩ | ⟨e, _⟩
    · rw [ri_0] at h3
      rw [ri_4] at h4
      rw [e, zbj_v, zbj_v, if_neg r10, if_neg r10]
      rcases hfl with ⟨e0, et, ok⟩ | ⟨e0, et⟩
      · rw [if_pos e0, et, zbj_v, if_neg r10, rd_x7 h, zbj_v, hr.2.2.2.1]
        by_cases hz : M.I 28 = 0
        · rw [if_pos hz, if_pos hz, zgd_pos v16, rd_x0 h, zbj_v, rd_a1 h v16 hcl, zbj_v, rd_obc h hcl, zbj_v]
          have hg : rX a0 M0 ad M E (zxg g) := h.grow 3 300
          have hmet : ∀ f : Int32, vp_in f 7 → rOK a0 M0 ad g 700 70000 (zbj (zob (zxg g) [0] (ad 0 0)) (fun ob29 => zbd (fX0_met (zxg g) (ad 0 0) f) (fun r31 g32 => some (r31, g32)))) (zbd (fX2_finds M f) (fun r21 M22 => some (r21, M22))) := by
            intro f hf7
            obtain ⟨g', e1, h', e2⟩ := r_met hg hf7
            rw [rd_ob hg, zbj_v, e1, zbd_v, r_finds hf7, zbd_v]
            have c1 : g'.rc = g.rc - 3 := congrArg (fun q => q.2.1) e2
            have c2 : g'.rs = g.rs - 300 := congrArg (fun q => q.2.2) e2
            exact ⟨_, g', ad, _, E, rfl, rfl, h', rfl, rInv_fd hI0, by omega, by omega⟩
          rcases r_put h hc hrc hrs (b2 := b2) ⟨h1, h2⟩ ⟨h3, h4⟩ ok with ⟨p1, p2⟩ | ⟨p1, p2, p3⟩ | ⟨p1, p2, g', p3, p4, p5⟩
          · rw [p2, zbd_v, zsm_rv, if_neg (by decide), if_pos rfl, if_neg p1]
            exact hmet 3 (r_in7 (by decide) (by decide))
          · rw [p3, zbd_v, zsm_rv, if_pos rfl, if_pos p1, zgd_pos v16, rin2, rin_n (by rw [ri_0, r_sub1 (by omega)]; omega), zbj_v, if_pos rfl]
            exact hmet 2 (r_in7 (by decide) (by decide))
          · have hb2 := rn p2.1
            have hln := rn hlen.1
            obtain ⟨ei, vi⟩ := r_idx b0 b2 ⟨h1, by omega⟩ ⟨p2.1, by omega⟩
            rw [p3, zbd_v, zsm_lv, if_pos p1, zgd_pos v16, rin2, rin_y (by rw [ri_0]; exact p2.1) (by rw [r_sub1 (by omega)]; omega), zbj_v, if_neg r10, zgd_pos vi, zgd_pos vi, zgd_pos vi, zgd_pos vi, ei]
            have hm : (if b1 = 0 then zlet (mL M (64 * b0.toNatClampNeg + b2.toNatClampNeg) (((b3.toInt32).toInt8.toInt32).toInt64)) (fun M18 => some ((0 : Int32), M18)) else if b1 = (1 : Int32) then zlet (mL M (64 * b0.toNatClampNeg + b2.toNatClampNeg) (((b3.toInt32).toInt16.toInt32).toInt64)) (fun M16 => some ((0 : Int32), M16)) else if (4 : Int32) ≤ b1 then zlet (mL M (64 * b0.toNatClampNeg + b2.toNatClampNeg) b3) (fun M12 => some ((0 : Int32), M12)) else zlet (mL M (64 * b0.toNatClampNeg + b2.toNatClampNeg) ((b3.toInt32).toInt64)) (fun M14 => some ((0 : Int32), M14))) = some (0, mL M (64 * b0.toNatClampNeg + b2.toNatClampNeg) (r_wd b1 b3)) := by
              unfold r_wd zlet
              split
              · rfl
              · split
                · rfl
                · split <;> rfl
            rw [hm]
            refine rOK.mk1 p4 p5 ⟨rI_cL hc hcl (by omega) (by rw [p1]; exact r_wdok ok), hp, ht, hr, hq, hf, hb⟩
        · rw [if_neg hz, if_neg hz]
          exact rOK.id h hI0
      · rw [e0, if_neg r10, et, zbj_v, if_pos rfl]
        exact rOK.id h hI0
    · rw [e, zbj_v, zbj_v, if_pos rfl, if_pos rfl]
      exact rOK.id h hI0
  · rw [q, zbd_v, if_pos rfl, r_in2n (by rw [ri_0]; exact h1) (by omega), zbj_v, if_pos rfl]
    exact rOK.id h hI0
end R16
