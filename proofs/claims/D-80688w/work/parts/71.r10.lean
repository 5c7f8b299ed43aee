/-! edits: chain, line; all of them -/
set_option maxRecDepth 100000
section R10
variable {a0 : Nat} {M0 : MS} {ad ad' : Nat → Nat → Nat} {M M1 : MS} {E : RE} {g g1 : zS} {k t x y s : Int32}
theorem zstC_none {a n ty : Nat} {f : Nat → Option Nat} {i : Int32} (h : g.h a = some (.inl (ty, n, r_ro f))) (ht : ty = 8 ∨ ty = 10) (hn : n < 2 ^ 31) (hi : vp_in i n) : zstC g a i none = some (.inl (zput g a (.inl (ty, n, r_ro (va_up f i.toNatClampNeg none))))) := by
  have h' : g.1 a = some (.inl (ty, n, r_ro f)) := h
  unfold zstC
  rw [h']
  show zgd _ _ = _
  rw [zgd_pos ⟨ht, hn⟩, if_neg (show ¬ zout i n from hi)]
theorem zstC_some' {a n ty v : Nat} {f : Nat → Option Nat} {i : Int32} {ob : Nat × List Value} (h : g.h a = some (.inl (ty, n, r_ro f))) (ht : ty = 8 ∨ ty = 10) (hn : n < 2 ^ 31) (hi : vp_in i n) (hv : zob g [4, 5, 6, 7, 8, 9, 10, 11] v = some ob) : zstC g a i (some v) = if ty = 10 ∧ 7 ≤ ob.1 then some (.inr zASE) else some (.inl (zput g a (.inl (ty, n, r_ro (va_up f i.toNatClampNeg (some v)))))) := by
  have h' : g.1 a = some (.inl (ty, n, r_ro f)) := h
  unfold zstC
  rw [h']
  show zgd _ _ = _
  rw [zgd_pos ⟨ht, hn⟩, if_neg (show ¬ zout i n from hi)]
  show zbj _ _ = _
  rw [hv, zbj_v]
theorem zstC_out {a n ty : Nat} {f : Nat → Option Nat} {i : Int32} {v : Option Nat} (h : g.h a = some (.inl (ty, n, r_ro f))) (ht : ty = 8 ∨ ty = 10) (hn : n < 2 ^ 31) (hi : zout i n) : zstC g a i v = some (.inr zAIO) := by
  have h' : g.1 a = some (.inl (ty, n, r_ro f)) := h
  unfold zstC
  rw [h']
  show zgd _ _ = _
  rw [zgd_pos ⟨ht, hn⟩, if_pos hi]
theorem r_ty (v : Int32) : (if v = 0 then 8 else 10 : Nat) = 8 ∨ (if v = 0 then 8 else 10 : Nat) = 10 := by
  by_cases h : v = 0
  · exact Or.inl (if_pos h)
  · exact Or.inr (if_neg h)
/-- what is kept where a place of a chain is set -/
theorem rS_chain (hS : rS M) {u j : Nat} (hu : u < 8) (hj : j < 4) {c : Int32} (hc : -1 ≤ c.toInt ∧ c.toInt < (M.I 4).toInt) (hk : M.A 18 u = 1 → c ≠ -1 → (M.A 5 c.toNatClampNeg).toInt ≤ 2) : rS (mA M 19 (4 * u + j) c) := by
  have e19 : (mA M 19 (4 * u + j) c).A 19 = upd (M.A 19) (4 * u + j) c := by simp [mA, MS.A, va_up]
  refine ⟨by simpa [rI_c, mA, MS.A, MS.I, MS.L, va_up] using hS.1, by simpa [rI_p, r_pl, mA, MS.A, MS.I, MS.F, va_up] using hS.2.1, fun t' ht' => ?_⟩
  have old := hS.2.2 t' ht'
  have e18 : (mA M 19 (4 * u + j) c).A 18 = M.A 18 := by simp [mA, MS.A, va_up]
  have e5 : (mA M 19 (4 * u + j) c).A 5 = M.A 5 := by simp [mA, MS.A, va_up]
  have e13 : (mA M 19 (4 * u + j) c).A 13 = M.A 13 := by simp [mA, MS.A, va_up]
  have e14 : (mA M 19 (4 * u + j) c).A 14 = M.A 14 := by simp [mA, MS.A, va_up]
  have e16 : (mA M 19 (4 * u + j) c).A 16 = M.A 16 := by simp [mA, MS.A, va_up]
  rw [e13, e14, e16, e18, e5, e19]
  refine ⟨old.1, old.2.1, old.2.2.1, old.2.2.2.1, old.2.2.2.2.1, fun j' hj' => ?_⟩
  unfold upd
  by_cases e : 4 * t' + j' = 4 * u + j
  · have e1 : t' = u := by omega
    rw [if_pos e]
    subst e1
    exact ⟨hc, hk⟩
  · rw [if_neg e]
    exact old.2.2.2.2.2 j' hj'
theorem r_fr19 {i : Nat} {v : Int32} : r_fr M (mA M 19 i v) := ⟨fun _ _ => rfl, fun k _ _ _ _ _ _ _ h19 _ => by simp [mA, MS.A, va_up, h19], fun _ _ _ => rfl, rfl⟩
/-- kind 2 -/
theorem r_dn2 (h : rX a0 M0 ad M E g) (hS : rS M) (hrc : 3 ≤ g.rc) (hrs : 300 ≤ g.rs) (ht : r_tk t) (hy : -1 ≤ y.toInt ∧ y.toInt < (M.I 4).toInt) (d : Int32) : r_dn a0 M0 ad M E g (fX0_does g (ad 0 0) 2 t x y s) (fX2_does M 2 t x y d) := by
  have htn := rn ht.1
  have ht8 : t.toNatClampNeg < 8 := by have := ht.2; omega
  have hi : vp_in t 8 := z32_in ht.1 (by have := ht.2; omega)
  have ch := h.at (k := 11) (i := t.toNatClampNeg) (if_pos ht8)
  have h12 := hS.2.1.1
  have hm : fX2_does M 2 t x y d = zbj (fX2_in x (0 : Int32) (3 : Int32)) (fun r27 => if r27 = 0 then zbd (fX2_finds M (2 : Int32)) (fun r40 M41 => some (r40, M41)) else zgd (vp_in t 8) (zjoin (fun (M30 : MS) (v31 : Int32) (v32 : Int32) (v33 : Int32) => zgd (vp_in (((4 : Int32) * v31) + v32) 32) (zlet (mA M30 19 (((4 : Int32) * v31) + v32).toNatClampNeg v33) (fun M35 => zlet (mI M35 45 ((M35.I 45) + (1 : Int32))) (fun M2 => some ((1 : Int32), M2))))) (fun j36 => if (M.A 18 t.toNatClampNeg) = 0 then j36 M t x y else if y = (-1 : Int32) then j36 M t x y else zgd (vp_in y 12) (if (M.A 5 y.toNatClampNeg) ≤ (2 : Int32) then j36 M t x y else zbd (fX2_finds M (4 : Int32)) (fun r38 M39 => some (r38, M39)))))) := by
    unfold fX2_does
    rw [zjoin_v, if_neg (by decide), if_neg (by decide), if_pos rfl]
  rw [hm, rin2]
  have hf : ∀ f : Int32, zbd (fX2_finds M f) (fun r M' => some (r, M')) = fX2_finds M f := by
    intro f
    cases fX2_finds M f <;> rfl
  have hcx : ∀ o : Option Nat, (y = -1 → o = none) → (y ≠ -1 → o = some (ad 30 y.toNatClampNeg)) → fX0_change g (ad 0 0) 2 t x y s = zbj (zstC g (ad 11 t.toNatClampNeg) x o) (fun r54 => zsm r54 (fun g56 => some (.inl (), g56)) (fun X58 => zgd (3 ≤ g.rc ∧ 300 ≤ g.rs) (some (.inr X58, zxg g)))) := by
    intro o h1 h2
    unfold fX0_change
    rw [if_neg (by decide), if_neg (by decide), if_pos rfl, rd_x4 h, zbj_v, rd_a3 h hi ht8, zbj_v, rd_t6 h ht8, zbj_v]
    by_cases hz : y = -1
    · rw [if_pos hz, h1 hz]
    · have hz2 : y.toInt ≠ -1 := fun e => hz (Int32.toInt_inj.mp (by rw [ri_m1]; exact e))
      have hyn := rn (x := y) (by omega)
      have h4 := rn (x := M.I 4) (by omega)
      rw [if_neg hz, rd_x2 h, zbj_v, rd_a2 h (z32_in (by omega) (by omega)) (by show y.toNatClampNeg < (M.I 4).toNatClampNeg; omega), zbj_v, h2 hz]
  rcases rin_cases x 0 3 with ⟨e, h1, h2⟩ | ⟨e, h1⟩
  · rw [ri_0] at h1
    rw [show (3 : Int32).toInt = 3 by decide] at h2
    have hxn := rn h1
    have hxi : vp_in x 4 := z32_in h1 (by omega)
    rw [e, zbj_v, if_neg r10, zgd_pos hi, zjoin_v]
    have e4 : ((4 : Int32) * t).toInt = 4 * t.toInt := by have := ht.2; have := ht.1; rw [z32_mul (by rw [ri_4]; omega) (by rw [ri_4]; omega), ri_4]
    have e5 : ((4 : Int32) * t + x).toInt = 4 * t.toInt + x.toInt := by have := ht.2; have := ht.1; rw [z32_add (by omega) (by omega), e4]
    have n5 := rn (x := (4 : Int32) * t + x) (by have := ht.1; omega)
    have hin : vp_in ((4 : Int32) * t + x) 32 := z32_in (by have := ht.1; omega) (by have := ht.2; omega)
    have en : ((4 : Int32) * t + x).toNatClampNeg = 4 * t.toNatClampNeg + x.toNatClampNeg := by omega
    have hok : ∀ fm : Option (Int32 × MS), fm = zgd (vp_in ((4 : Int32) * t + x) 32) (zlet (mA M 19 ((4 : Int32) * t + x).toNatClampNeg y) (fun M35 => zlet (mI M35 45 ((M35.I 45) + (1 : Int32))) (fun M2 => some ((1 : Int32), M2)))) → (M.A 18 t.toNatClampNeg = 1 → y ≠ -1 → (M.A 5 y.toNatClampNeg).toInt ≤ 2) → r_dn a0 M0 ad M E g (fX0_does g (ad 0 0) 2 t x y s) fm := by
      intro fm hfm hk
      have hX := h.chain ht8 (j := x.toNatClampNeg) (by omega) y
      refine r_dn_ok (M1 := mA M 19 (4 * t.toNatClampNeg + x.toNatClampNeg) y) (c1 := 0) (c2 := 0) h ?_ hX rfl (rS_chain hS ht8 (by omega) hy hk) r_fr19 (Nat.le_add_right _ _) (Nat.le_add_right _ _) ?_
      · by_cases hz : y = -1
        · rw [hcx none (fun _ => rfl) (fun h => absurd hz h), zstC_none ch (r_ty _) (by decide) hxi, zbj_v, zsm_lv]
          rw [show r_opt ad y = none from if_pos hz]
        · have hz2 : y.toInt ≠ -1 := fun e => hz (Int32.toInt_inj.mp (by rw [ri_m1]; exact e))
          have hyn := rn (x := y) (by omega)
          have h4 := rn (x := M.I 4) (by omega)
          have hyp : y.toNatClampNeg < r_np M := by show y.toNatClampNeg < (M.I 4).toNatClampNeg; omega
          have hpl := hS.2.1.2.1 _ hyp
          have hkn := rn hpl.1.1
          have hb := (hS.2.2 _ ht8).2.2.1
          rw [hcx (some (ad 30 y.toNatClampNeg)) (fun h => absurd h hz) (fun _ => rfl), zstC_some' ch (r_ty _) (by decide) hxi (rp_ob h hyp hpl.1), if_neg, zbj_v, zsm_lv]
          · rw [show r_opt ad y = some (ad 30 y.toNatClampNeg) from if_neg hz]
          · rintro ⟨q1, q2⟩
            have q3 : ¬ M.A 18 t.toNatClampNeg = 0 := fun e => by rw [if_pos e] at q1; cases q1
            have := hk (hb.resolve_left q3) hz
            have q4 : 7 ≤ 4 + (M.A 5 y.toNatClampNeg).toNatClampNeg := q2
            omega
      · rw [hfm, zgd_pos hin, zlet_v, zlet_v, en]
    by_cases hp0 : M.A 18 t.toNatClampNeg = 0
    · rw [if_pos hp0]
      exact hok _ rfl (fun e => absurd (hp0.symm.trans e) (by decide))
    · rw [if_neg hp0]
      by_cases hz : y = -1
      · rw [if_pos hz]
        exact hok _ rfl (fun _ e => absurd hz e)
      · have hz2 : y.toInt ≠ -1 := fun e => hz (Int32.toInt_inj.mp (by rw [ri_m1]; exact e))
        have hyn := rn (x := y) (by omega)
        have h4 := rn (x := M.I 4) (by omega)
        have hyp : y.toNatClampNeg < r_np M := by show y.toNatClampNeg < (M.I 4).toNatClampNeg; omega
        have hpl := hS.2.1.2.1 _ hyp
        have hkn := rn hpl.1.1
        rw [if_neg hz, zgd_pos (z32_in (by omega) (by omega))]
        by_cases hk : M.A 5 y.toNatClampNeg ≤ 2
        · rw [if_pos hk]
          rw [Int32.le_iff_toInt_le, show (2 : Int32).toInt = 2 by decide] at hk
          exact hok _ rfl (fun _ _ => hk)
        · rw [if_neg hk, hf]
          rw [Int32.le_iff_toInt_le, show (2 : Int32).toInt = 2 by decide] at hk
          refine r_dn_no h hS hrc hrs (X := zASE) ?_ (Or.inr (Or.inl ⟨rfl, rfl⟩))
          rw [hcx (some (ad 30 y.toNatClampNeg)) (fun h => absurd h hz) (fun _ => rfl), zstC_some' ch (r_ty _) (by decide) hxi (rp_ob h hyp hpl.1), if_pos ⟨if_neg hp0, by show 7 ≤ 4 + (M.A 5 y.toNatClampNeg).toNatClampNeg; omega⟩, zbj_v, zsm_rv, zgd_pos ⟨hrc, hrs⟩]
  · rw [ri_0, show (3 : Int32).toInt = 3 by decide] at h1
    rw [e, zbj_v, if_pos rfl, hf]
    refine r_dn_no h hS hrc hrs (X := zAIO) ?_ (Or.inl ⟨rfl, rfl⟩)
    rw [hcx (if y = -1 then none else some (ad 30 y.toNatClampNeg)) (fun h => if_pos h) (fun h => if_neg h), zstC_out ch (r_ty _) (by decide) (rd_zout (by omega)), zbj_v, zsm_rv, zgd_pos ⟨hrc, hrs⟩]
end R10
