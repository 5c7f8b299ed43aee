/-! edits: line; all of them -/
set_option maxRecDepth 100000
section R11
variable {a0 : Nat} {M0 : MS} {ad ad' : Nat → Nat → Nat} {M M1 : MS} {E : RE} {g g1 : zS} {k t x y s : Int32}
theorem r_lf0 (M : MS) (p : Nat) : r_lf M p 0 = M := by
  have e : va_up M.2.2.1 11 (r_lz (M.2.2.1 11) p 0) = M.2.2.1 := by
    funext k i
    unfold va_up
    by_cases hk : k = 11
    · rw [if_pos hk, hk]
      exact if_neg (by omega)
    · rw [if_neg hk]
  show (M.1, M.2.1, va_up M.2.2.1 11 (r_lz (M.2.2.1 11) p 0), M.2.2.2) = M
  rw [e]
theorem r_lfS (M : MS) (p n : Nat) : mF (r_lf M p n) 11 (16 * p + n) FP.fconst0 = r_lf M p (n + 1) := by
  have e : va_up (r_lf M p n).2.2.1 11 (vf_upd ((r_lf M p n).2.2.1 11) (16 * p + n) FP.fconst0) = va_up M.2.2.1 11 (r_lz (M.2.2.1 11) p (n + 1)) := by
    funext k i
    show va_up (va_up M.2.2.1 11 (r_lz (M.2.2.1 11) p n)) 11 _ k i = _
    unfold va_up
    by_cases hk : k = 11
    · rw [if_pos hk, if_pos hk]
      show vf_upd (va_up M.2.2.1 11 (r_lz (M.2.2.1 11) p n) 11) (16 * p + n) FP.fconst0 i = r_lz (M.2.2.1 11) p (n + 1) i
      rw [va_up_self]
      unfold vf_upd r_lz
      by_cases h1 : i = 16 * p + n
      · rw [if_pos h1, if_pos ⟨by omega, by omega⟩]
        rfl
      · rw [if_neg h1]
        by_cases h2 : 16 * p ≤ i ∧ i < 16 * p + n
        · rw [if_pos h2, if_pos ⟨h2.1, by omega⟩]
        · rw [if_neg h2, if_neg (by omega)]
    · rw [if_neg hk, if_neg hk, if_neg hk]
  show (M.1, M.2.1, va_up (r_lf M p n).2.2.1 11 (vf_upd ((r_lf M p n).2.2.1 11) (16 * p + n) FP.fconst0), M.2.2.2) = _
  rw [e]
theorem r_L245 (M : MS) {P : Int32} (hP : 0 ≤ P.toInt ∧ P.toInt < 12) (kk : MS → Option (Int32 × MS)) : ∀ (n : Nat) (f : Nat) (y : Nat), y + n = 16 → n < f → fX2_does_L245 f (r_lf M P.toNatClampNeg y) P (Int32.ofNat y) kk = kk (r_lf M P.toNatClampNeg 16) := by
  intro n
  induction n with
  | zero =>
    intro f y hy hf
    obtain ⟨f', rfl⟩ : ∃ f', f = f' + 1 := ⟨f - 1, by omega⟩
    have hy' : y = 16 := by omega
    subst hy'
    rw [fX2_does_L245, if_pos (by decide)]
  | succ n ih =>
    intro f y hy hf
    obtain ⟨f', rfl⟩ : ∃ f', f = f' + 1 := ⟨f - 1, by omega⟩
    have e0 : (Int32.ofNat y).toInt = y := z32_nat (by omega)
    have e16 : (16 : Int32).toInt = 16 := by decide
    have em : ((16 : Int32) * P).toInt = 16 * P.toInt := by rw [z32_mul (by rw [e16]; omega) (by rw [e16]; omega), e16]
    have ea : ((16 : Int32) * P + Int32.ofNat y).toInt = 16 * P.toInt + y := by rw [z32_add (by omega) (by omega), em, e0]
    have hPn := rn hP.1
    have hn := rn (x := (16 : Int32) * P + Int32.ofNat y) (by omega)
    have e1 : Int32.ofNat y + 1 = Int32.ofNat (y + 1) := Int32.toInt_inj.mp (by rw [z32_add (by rw [ri_1]; omega) (by rw [ri_1]; omega), e0, ri_1, z32_nat (by omega)]; push_cast; rfl)
    rw [fX2_does_L245, if_neg (by rw [Int32.le_iff_toInt_le, e16, e0]; omega), zgd_pos (z32_in (by omega) (by omega)), zlet_v, show ((16 : Int32) * P + Int32.ofNat y).toNatClampNeg = 16 * P.toNatClampNeg + y by omega, r_lfS, e1]
    exact ih f' (y + 1) (by omega) (by omega)
theorem rs_0 : r_s 0 := by decide
/-- what is kept where a line is made anew -/
theorem rS_line (hS : rS M) {p : Nat} (hp : p < r_np M) (he : r_echo (M.A 5 p)) {b : Int32} (hb : -1 ≤ b.toInt ∧ b.toInt ≤ 16) : rS (r_li M p b) := by
  have e5 : (r_li M p b).A 5 = M.A 5 := by simp [mA, MS.A, va_up]
  have e7 : (r_li M p b).A 7 = M.A 7 := by simp [mA, MS.A, va_up]
  have e8 : (r_li M p b).A 8 = M.A 8 := by simp [mA, MS.A, va_up]
  have e10 : (r_li M p b).A 10 = upd (M.A 10) p b := by simp [mA, MS.A, va_up]
  have e9 : (r_li M p b).A 9 = upd (M.A 9) p 0 := by simp [mA, MS.A, va_up]
  have e11 : (r_li M p b).F 11 = r_lz (M.F 11) p 16 := by simp [MS.F, va_up]
  have e6 : (r_li M p b).F 6 = M.F 6 := by simp [MS.F, va_up]
  have hpn : p < 12 := by have h1 := hS.2.1.1; have := rn h1.1; have h3 : p < (M.I 4).toNatClampNeg := hp; omega
  refine ⟨by simpa [rI_c, mA, MS.A, MS.I, MS.L, va_up] using hS.1, ⟨hS.2.1.1, fun p' hp' => ?_, fun p' h1 h2 => ?_⟩, by simpa [rI_t, mA, MS.A, MS.I, MS.F, va_up] using hS.2.2⟩
  · have old := hS.2.1.2.1 p' hp'
    unfold r_pl
    rw [e5, e6, e7, e10, e9, e11]
    refine ⟨old.1, old.2.1, old.2.2.1, old.2.2.2.1, fun he' => ?_⟩
    have o := old.2.2.2.2 he'
    by_cases e : p' = p
    · subst e
      refine ⟨o.1, by simpa [upd] using hb, by simp [upd], fun _ => by simp [upd], fun h => by simpa [upd] using h, fun i hi => ?_⟩
      rw [show r_lz (M.F 11) p' 16 (16 * p' + i) = 0 from if_pos ⟨by omega, by omega⟩]
      exact rs_0
    · refine ⟨o.1, by simpa [upd, e] using o.2.1, by simpa [upd, e] using o.2.2.1, by simpa [upd, e] using o.2.2.2.1, by simpa [upd, e] using o.2.2.2.2.1, fun i hi => ?_⟩
      rw [show r_lz (M.F 11) p 16 (16 * p' + i) = M.F 11 (16 * p' + i) from if_neg (by omega)]
      exact o.2.2.2.2.2 i hi
  · have old := hS.2.1.2.2 p' h1 h2
    have e : p' ≠ p := by
      have h3 : (M.I 4).toNatClampNeg ≤ p' := h1
      have h4 : p < (M.I 4).toNatClampNeg := hp
      omega
    rw [e8, e9, e11]
    refine ⟨old.1, by simpa [upd, e] using old.2.1, fun i hi => ?_⟩
    rw [show r_lz (M.F 11) p 16 (16 * p' + i) = M.F 11 (16 * p' + i) from if_neg (by omega)]
    exact old.2.2 i hi
theorem r_frL {p : Nat} {b : Int32} : r_fr M (r_li M p b) := ⟨fun _ _ => rfl, fun k h9 h10 _ _ _ _ _ _ _ => by simp [mA, MS.A, va_up, h9, h10], fun k h11 _ => by simp [MS.F, va_up, h11], rfl⟩
theorem r_echo8 {kk : Int32} (h : 0 ≤ kk.toInt ∧ kk.toInt ≤ 7) : (4 + kk.toNatClampNeg = 8 ∨ 4 + kk.toNatClampNeg = 9) ↔ r_echo kk := by
  have := rn h.1
  constructor
  · rintro (e | e)
    · exact Or.inl (Int32.toInt_inj.mp (by rw [ri_4]; omega))
    · exact Or.inr (Int32.toInt_inj.mp (by rw [ri_5]; omega))
  · rintro (rfl | rfl)
    · exact Or.inl rfl
    · exact Or.inr rfl
/-- kind 5 -/
theorem r_dn5 (h : rX a0 M0 ad M E g) (hS : rS M) (hR : ∀ u, u < 8 → ((E.R 9 u = 12 ∧ E.R 10 u = 13) ∨ (E.R 9 u = 13 ∧ E.R 10 u = 12))) (hrc : 3 ≤ g.rc) (hrs : 300 ≤ g.rs) (ht : 0 ≤ t.toInt ∧ t.toInt < (M.I 4).toInt) (hx : x.toInt ≤ 16) (c d : Int32) : r_dn a0 M0 ad M E g (fX0_does g (ad 0 0) 5 t x y s) (fX2_does M 5 t x c d) := by
  have htn := rn ht.1
  have h12 := hS.2.1.1
  have h4 := rn h12.1
  have hp : t.toNatClampNeg < r_np M := by show t.toNatClampNeg < (M.I 4).toNatClampNeg; omega
  have hi : vp_in t 12 := z32_in ht.1 (by omega)
  have hpl := hS.2.1.2.1 _ hp
  have hl : ∀ i, i < r_np M → r_echo (M.A 5 i) → (M.A 10 i).toNatClampNeg ≤ 16 := by
    intro i hi' he
    have o := (hS.2.1.2.1 i hi').2.2.2.2 he
    by_cases h0 : 0 ≤ (M.A 10 i).toInt
    · have := rn h0; omega
    · have : (M.A 10 i).toNatClampNeg = 0 := by rw [← Int32.toNat_toInt]; omega
      omega
  have hcx : fX0_change g (ad 0 0) 5 t x y s = if (4 + (M.A 5 t.toNatClampNeg).toNatClampNeg = 8 ∨ 4 + (M.A 5 t.toNatClampNeg).toNatClampNeg = 9) then if x = (-1 : Int32) then zbj (zpV g [8, 9] (ad 30 t.toNatClampNeg) 4 (va_rf none)) (fun g87 => zbj (zpV g87 [8, 9] (ad 30 t.toNatClampNeg) 5 (.int (0 : Int32))) (fun g89 => some (.inl (), g89))) else if x < 0 then zgd (3 ≤ g.rc ∧ 300 ≤ g.rs) (some (.inr zNAS, (zxg g))) else zgd (1 ≤ g.rc ∧ x.toNatClampNeg ≤ g.rs ∧ x.toNatClampNeg * 8 ≤ 536870912) (zlet (znew g (.inl (1, za0 1 x.toNatClampNeg)) x.toNatClampNeg) (fun g82 => zbj (zpV g82 [8, 9] (ad 30 t.toNatClampNeg) 4 (va_rf (some g.sz))) (fun g83 => zbj (zpV g83 [8, 9] (ad 30 t.toNatClampNeg) 5 (.int (0 : Int32))) (fun g85 => some (.inl (), g85))))) else zgd (3 ≤ g.rc ∧ 300 ≤ g.rs) (some (.inr zCCE, (zxg g))) := by
    unfold fX0_change
    rw [if_neg (by decide), if_neg (by decide), if_neg (by decide), if_neg (by decide), if_neg (by decide), rd_x2 h, zbj_v, rd_a2 h hi hp, zbj_v, rp_ob h hp hpl.1, zbj_v]
  have hm : fX2_does M 5 t x c d = zbj (fX2_isEcho (M.A 5 t.toNatClampNeg)) (fun r5 => if r5 = 0 then zbd (fX2_finds M (3 : Int32)) (fun r16 M17 => some (r16, M17)) else if (-1 : Int32) ≤ x then zgd (vp_in t 12) (zlet (mA M 10 t.toNatClampNeg x) (fun M8 => zgd (vp_in t 12) (zlet (mA M8 9 t.toNatClampNeg (0 : Int32)) (fun M10 => fX2_does_L245 1000 M10 t (0 : Int32) (fun (M13 : MS) => zlet (mI M13 45 ((M13.I 45) + (1 : Int32))) (fun M2 => some ((1 : Int32), M2))))))) else zbd (fX2_finds M (5 : Int32)) (fun r14 M15 => some (r14, M15))) := by
    unfold fX2_does
    rw [zjoin_v, if_neg (by decide), if_neg (by decide), if_neg (by decide), if_neg (by decide), if_neg (by decide), zgd_pos hi]
  have hf : ∀ f : Int32, zbd (fX2_finds M f) (fun r M' => some (r, M')) = fX2_finds M f := by
    intro f
    cases fX2_finds M f <;> rfl
  rw [hm, r_echoF, zbj_v]
  by_cases he : r_echo (M.A 5 t.toNatClampNeg)
  · rw [if_pos he, if_neg r10]
    rw [if_pos ((r_echo8 hpl.1).mpr he)] at hcx
    have hmk : ∀ b : Int32, b = x → (-1 : Int32) ≤ x → (if (-1 : Int32) ≤ x then zgd (vp_in t 12) (zlet (mA M 10 t.toNatClampNeg x) (fun M8 => zgd (vp_in t 12) (zlet (mA M8 9 t.toNatClampNeg (0 : Int32)) (fun M10 => fX2_does_L245 1000 M10 t (0 : Int32) (fun (M13 : MS) => zlet (mI M13 45 ((M13.I 45) + (1 : Int32))) (fun M2 => some ((1 : Int32), M2))))))) else zbd (fX2_finds M (5 : Int32)) (fun r14 M15 => some (r14, M15))) = some (1, r_e1 (r_li M t.toNatClampNeg b)) := by
      intro b hb hx1
      subst hb
      rw [if_pos hx1, zgd_pos hi, zlet_v, zgd_pos hi, zlet_v]
      have := r_L245 (mA (mA M 10 t.toNatClampNeg b) 9 t.toNatClampNeg 0) (P := t) ⟨ht.1, by omega⟩ (fun (M13 : MS) => zlet (mI M13 45 ((M13.I 45) + (1 : Int32))) (fun M2 => some ((1 : Int32), M2))) 16 1000 0 rfl (by decide)
      rw [r_lf0] at this
      exact this
    have ob := rp_at h hp
    by_cases hz : x = -1
    · rw [if_pos hz] at hcx
      rw [hmk (-1) hz.symm (by rw [hz]; decide)]
      have hX := h.noline hp he hl
      refine r_dn_ok (M1 := r_li M t.toNatClampNeg (-1)) (c1 := 0) (c2 := 0) h (hcx.trans ?_) hX rfl (rS_line hS hp he (by decide)) r_frL (Nat.le_add_right _ _) (Nat.le_add_right _ _) rfl
      rw [zpV_of (k := 4) ob (r_ek he) (by rw [r_pe he]; exact Nat.le_of_ble_eq_true rfl), zbj_v, zpV_of (k := 5) (va_up_self _ _ _) (r_ek he) (by rw [List.length_set, r_pe he]; exact Nat.le_of_ble_eq_true rfl), zbj_v, zput_put]
      rfl
    · rw [if_neg hz] at hcx
      have hz2 : x.toInt ≠ -1 := fun e => hz (Int32.toInt_inj.mp (by rw [ri_m1]; exact e))
      by_cases hn : x < 0
      · rw [if_pos hn, zgd_pos ⟨hrc, hrs⟩] at hcx
        rw [Int32.lt_iff_toInt_lt, ri_0] at hn
        rw [if_neg (by rw [Int32.le_iff_toInt_le, ri_m1]; omega), hf]
        exact r_dn_no h hS hrc hrs hcx (Or.inr (Or.inr (Or.inr ⟨rfl, rfl⟩)))
      · rw [if_neg hn] at hcx
        rw [Int32.lt_iff_toInt_lt, ri_0] at hn
        have hxn := rn (x := x) (by omega)
        rw [zgd_pos ⟨by omega, by omega, by omega⟩, zlet_v] at hcx
        rw [hmk x rfl (by rw [Int32.le_iff_toInt_le, ri_m1]; omega)]
        have hX := h.line hp he hl (r_kR hR 31 (by decide) (by decide)) (b := x) hz (by omega)
        have hne : ad 30 t.toNatClampNeg ≠ g.sz := h.fresh (k := 30) (i := t.toNatClampNeg) (if_pos hp)
        refine r_dn_ok (M1 := r_li M t.toNatClampNeg x) (c1 := 0) (c2 := 0) h (hcx.trans ?_) hX rfl (rS_line hS hp he (by omega)) r_frL (show g.rc ≤ g.rc - 1 + 3 by omega) (show g.rs ≤ g.rs - x.toNatClampNeg + 300 by omega) rfl
        have ob2 : (znew g (.inl (1, za0 1 x.toNatClampNeg)) x.toNatClampNeg).h (ad 30 t.toNatClampNeg) = some (.inr (4 + (M.A 5 t.toNatClampNeg).toNatClampNeg, r_p ad M t.toNatClampNeg)) := by
          show va_up g.1 g.sz _ _ = _
          rw [va_up_ne _ _ hne]
          exact ob
        rw [zpV_of (k := 4) ob2 (r_ek he) (by rw [r_pe he]; exact Nat.le_of_ble_eq_true rfl), zbj_v, zpV_of (k := 5) (va_up_self _ _ _) (r_ek he) (by rw [List.length_set, r_pe he]; exact Nat.le_of_ble_eq_true rfl), zbj_v, zput_put]
        rfl
  · rw [if_neg he, if_pos rfl, hf]
    rw [if_neg (fun e => he ((r_echo8 hpl.1).mp e)), zgd_pos ⟨hrc, hrs⟩] at hcx
    exact r_dn_no h hS hrc hrs hcx (Or.inr (Or.inr (Or.inl ⟨rfl, rfl⟩)))
end R11
