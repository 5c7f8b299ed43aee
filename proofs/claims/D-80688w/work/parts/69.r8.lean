/-! an edit is done, of both -/
set_option maxRecDepth 100000
def rS (M : MS) : Prop := rI_c M ∧ rI_p M ∧ rI_t M
/-- what an edit leaves as it is -/
def r_fr (M M' : MS) : Prop := (∀ k, k ≠ 45 → M'.I k = M.I k) ∧ (∀ k, k ≠ 9 → k ≠ 10 → k ≠ 13 → k ≠ 14 → k ≠ 15 → k ≠ 16 → k ≠ 18 → k ≠ 19 → k ≠ 48 → M'.A k = M.A k) ∧ (∀ k, k ≠ 11 → k ≠ 17 → M'.F k = M.F k) ∧ M'.L = M.L
def r_dn (a0 : Nat) (M0 : MS) (ad : Nat → Nat → Nat) (M : MS) (E : RE) (g : zS) (fx : Option (Int32 × zS)) (fm : Option (Int32 × MS)) : Prop :=
  ∃ f g' ad' r M', fx = some (f, g') ∧ fm = some (r, M') ∧ rX a0 M0 ad' M' E g' ∧ ad' 0 0 = ad 0 0 ∧ ((f = 0 ∧ r = 1) ∨ (f ≠ 0 ∧ r = -10 - f)) ∧ rS M' ∧ r_fr M M' ∧ g.rc ≤ g'.rc + 3 ∧ g.rs ≤ g'.rs + 300
section R8
variable {a0 : Nat} {M0 : MS} {ad ad' : Nat → Nat → Nat} {M M1 : MS} {E : RE} {g g1 : zS} {k t x y s : Int32}
abbrev r_e1 (M : MS) : MS := mI M 45 (M.I 45 + 1)
theorem r_does_ok (h : rX a0 M0 ad M E g) (hch : fX0_change g (ad 0 0) k t x y s = some (.inl (), g1)) (h1 : rX a0 M0 ad' M1 E g1) (ha : ad' 0 0 = ad 0 0) : ∃ g', fX0_does g (ad 0 0) k t x y s = some (0, g') ∧ rX a0 M0 ad' (r_e1 M1) E g' ∧ g'.2 = g1.2 := by
  obtain ⟨g', e1, h', e2⟩ := wr_x19 h1 (M1.I 45 + 1)
  refine ⟨g', ?_, h', e2⟩
  unfold fX0_does
  rw [zjoin_v, rd_ob h, zbj_v, hch, zbd_v, zsm_lv]
  show (if (0 : Int32) = 0 then _ else _) = _
  rw [if_pos rfl, ← ha, rd_x19 h1, zbj_v, e1, zbj_v]
theorem r_does_no (h : rX a0 M0 ad M E g) {X : String} {f : Int32} (hch : fX0_change g (ad 0 0) k t x y s = some (.inr X, zxg g)) (hX : (X = zAIO ∧ f = 2) ∨ (X = zASE ∧ f = 4) ∨ (X = zCCE ∧ f = 3) ∨ (X = zNAS ∧ f = 5)) : ∃ g', fX0_does g (ad 0 0) k t x y s = some (f, g') ∧ rX a0 M0 ad (r_fd M f) E g' ∧ g'.2 = (zxg g).2 := by
  have hg : rX a0 M0 ad M E (zxg g) := h.grow 3 300
  have hf : vp_in f 7 ∧ ¬ f = 0 := by rcases hX with ⟨_, rfl⟩ | ⟨_, rfl⟩ | ⟨_, rfl⟩ | ⟨_, rfl⟩ <;> exact ⟨r_in7 (by decide) (by decide), by decide⟩
  obtain ⟨g', e1, h', e2⟩ := wr_a6 hg (M.A 48 f.toNatClampNeg + 1) hf.1
  refine ⟨g', ?_, h', e2⟩
  have key : (if f = 0 then zbj (zgI (zxg g) [0] (ad 0 0) 19) (fun i10 => zbj (zpV (zxg g) [0] (ad 0 0) 19 (.int (i10 + (1 : Int32)))) (fun g12 => some (f, g12))) else zbj (zgN (zxg g) [0] (ad 0 0) 14) (fun a4 => zbj (zaI (zxg g) 0 a4 f) (fun e6 => zbj (zsI (zxg g) 0 a4 f (e6 + (1 : Int32))) (fun g8 => some (f, g8))))) = some (f, g') := by
    rw [if_neg hf.2, rd_x14 hg, zbj_v, rd_a6 hg hf.1, zbj_v, e1, zbj_v]
  unfold fX0_does
  rw [zjoin_v, rd_ob h, zbj_v, hch, zbd_v, zsm_rv]
  rcases hX with ⟨rfl, rfl⟩ | ⟨rfl, rfl⟩ | ⟨rfl, rfl⟩ | ⟨rfl, rfl⟩
  · rw [if_pos rfl]; exact key
  · rw [if_neg (by decide), if_pos rfl]; exact key
  · rw [if_neg (by decide), if_neg (by decide), if_pos rfl]; exact key
  · rw [if_neg (by decide), if_neg (by decide), if_neg (by decide), if_pos rfl]; exact key
/-- a finding, of both -/
theorem r_dn_no (h : rX a0 M0 ad M E g) (hS : rS M) {X : String} {f : Int32} (hrc : 3 ≤ g.rc) (hrs : 300 ≤ g.rs) (hch : fX0_change g (ad 0 0) k t x y s = some (.inr X, zxg g)) (hX : (X = zAIO ∧ f = 2) ∨ (X = zASE ∧ f = 4) ∨ (X = zCCE ∧ f = 3) ∨ (X = zNAS ∧ f = 5)) : r_dn a0 M0 ad M E g (fX0_does g (ad 0 0) k t x y s) (fX2_finds M f) := by
  have hf : vp_in f 7 ∧ f ≠ 0 := by rcases hX with ⟨_, rfl⟩ | ⟨_, rfl⟩ | ⟨_, rfl⟩ | ⟨_, rfl⟩ <;> exact ⟨r_in7 (by decide) (by decide), by decide⟩
  obtain ⟨g', e1, h', e2⟩ := r_does_no h hch hX
  have c1 : g'.rc = g.rc - 3 := congrArg (fun q => q.2.1) e2
  have c2 : g'.rs = g.rs - 300 := congrArg (fun q => q.2.2) e2
  exact ⟨f, g', ad, -10 - f, _, e1, r_finds hf.1, h', rfl, Or.inr ⟨hf.2, rfl⟩, ⟨hS.1, hS.2.1, hS.2.2⟩, ⟨fun _ _ => rfl, fun k _ _ _ _ _ _ _ _ h48 => va_up_ne _ _ h48, fun _ _ _ => rfl, rfl⟩, by omega, by omega⟩
theorem r_dn_ok (h : rX a0 M0 ad M E g) {c1 c2 : Nat} (hch : fX0_change g (ad 0 0) k t x y s = some (.inl (), g1)) (h1 : rX a0 M0 ad' M1 E g1) (ha : ad' 0 0 = ad 0 0) (hS : rS M1) (hF : r_fr M M1) (hc1 : g.rc ≤ g1.rc + 3) (hc2 : g.rs ≤ g1.rs + 300) {fm : Option (Int32 × MS)} (hm : fm = some (1, r_e1 M1)) : r_dn a0 M0 ad M E g (fX0_does g (ad 0 0) k t x y s) fm := by
  obtain ⟨g', e1, h', e2⟩ := r_does_ok h hch h1 ha
  have q1 : g'.rc = g1.rc := congrArg (fun q => q.2.1) e2
  have q2 : g'.rs = g1.rs := congrArg (fun q => q.2.2) e2
  refine ⟨0, g', ad', 1, _, e1, hm, h', ha, Or.inl ⟨rfl, rfl⟩, ⟨hS.1, hS.2.1, hS.2.2⟩, ⟨fun k hk => ?_, hF.2.1, hF.2.2⟩, by omega, by omega⟩
  show va_up M1.1 45 _ k = _
  rw [va_up_ne _ _ hk]
  exact hF.1 k hk
theorem r_bit1 {v : Int32} (h : r_bit v) : v &&& 1 = v := by rcases h with rfl | rfl <;> rfl
theorem r_bz {v : Int32} (h : r_bit v) : zbl v := by rcases h with rfl | rfl <;> exact ⟨rfl, rfl⟩
theorem r_ifb {v : Int32} (h : r_bit v) {α : Type} (f : Int32 → α) : (if v = 1 then f 1 else f 0) = f v := by rcases h with rfl | rfl <;> rfl
theorem r_echoF (kk : Int32) : fX2_isEcho kk = some (if r_echo kk then 1 else 0) := by
  unfold fX2_isEcho
  by_cases h4 : kk = 4
  · rw [if_pos (Or.inl h4)]
    simp [h4]
  · by_cases h5 : kk = 5
    · rw [if_pos (Or.inr h5)]
      simp [h5]
    · rw [if_neg (fun h => Or.elim h h4 h5)]
      simp [h4, h5]
/-- kind 0 -/
theorem r_dn0 (h : rX a0 M0 ad M E g) (hS : rS M) (ht : r_tk t) (hx : -1 ≤ x.toInt ∧ x.toInt < (M.I 0).toInt) (hs : r_bit s) : r_dn a0 M0 ad M E g (fX0_does g (ad 0 0) 0 t x y s) (fX2_does M 0 t x y s) := by
  have htn := rn ht.1
  have ht8 : t.toNatClampNeg < 8 := by have := ht.2; omega
  have hi : vp_in t 8 := z32_in ht.1 (by have := ht.2; omega)
  obtain ⟨g1, e1, h1, q1⟩ := wr_t1 h ht8 x
  obtain ⟨g2, e2, h2, q2⟩ := wr_t2 h1 ht8 y
  obtain ⟨g3, e3, h3, q3⟩ := wr_t3 h2 ht8 s
  have q : g3.2 = g.2 := q3.trans (q2.trans q1)
  have c1 : g3.rc = g.rc := congrArg (fun q => q.2.1) q
  have c2 : g3.rs = g.rs := congrArg (fun q => q.2.2) q
  refine r_dn_ok (M1 := mA (mA (mA M 14 t.toNatClampNeg x) 15 t.toNatClampNeg y) 16 t.toNatClampNeg s) (c1 := 0) (c2 := 0) h ?_ h3 rfl ?_ ?_ (by omega) (by omega) ?_
  · unfold fX0_change
    rw [if_pos rfl, rd_x4 h, zbj_v, rd_a3 h hi ht8, zbj_v, e1, zbj_v, rd_x4 h1, zbj_v, rd_a3 h1 hi ht8, zbj_v, e2, zbj_v, rd_x4 h2, zbj_v, rd_a3 h2 hi ht8, zbj_v, zgd_pos (r_bz hs), e3, zbj_v]
  · refine ⟨hS.1, hS.2.1, fun t' ht' => ?_⟩
    have old := hS.2.2 t' ht'
    by_cases e : t' = t.toNatClampNeg
    · subst e
      exact ⟨old.1, by simpa [mA, MS.A, va_up, upd] using hs, old.2.2.1, by simpa [mA, MS.A, va_up, upd] using hx, old.2.2.2.2⟩
    · simpa [mA, MS.A, MS.I, MS.F, va_up, upd, e] using old
  · refine ⟨fun _ _ => rfl, fun k _ _ _ h14 h15 h16 _ _ _ => ?_, fun _ _ _ => rfl, rfl⟩
    simp [mA, MS.A, va_up, h14, h15, h16]
  · unfold fX2_does
    rw [zjoin_v, if_pos rfl, zgd_pos hi, zlet_v, zgd_pos hi, zlet_v, zjoin_v, r_ifb hs (fun v => zgd (vp_in t 8) (zlet (mA (mA (mA M 14 t.toNatClampNeg x) 15 t.toNatClampNeg y) 16 t.toNatClampNeg (v &&& 1)) (fun M61 => zlet (mI M61 45 ((M61.I 45) + (1 : Int32))) (fun M2 => some ((1 : Int32), M2))))), zgd_pos hi, zlet_v, zlet_v, r_bit1 hs]
/-- kind 3 -/
theorem r_dn3 (h : rX a0 M0 ad M E g) (hS : rS M) (ht : r_tk t) (hx : r_s x.toUInt32) (c : Int32) (d : Int32) : r_dn a0 M0 ad M E g (fX0_does g (ad 0 0) 3 t x y s) (fX2_does M 3 t x c d) := by
  have htn := rn ht.1
  have ht8 : t.toNatClampNeg < 8 := by have := ht.2; omega
  have hi : vp_in t 8 := z32_in ht.1 (by have := ht.2; omega)
  have hsn : vn_sni2f x = false := by
    unfold vn_sni2f
    have : ¬ (x.toUInt32 &&& 0x7fffffff > 0x7f800000) := by
      intro h1
      have h2 : x.toUInt32 &&& 0x7fffffff ≤ 0x41000000 := hx
      rw [UInt32.le_iff_toNat_le] at h2
      have h3 : (0x7f800000 : UInt32) < x.toUInt32 &&& 0x7fffffff := h1
      rw [UInt32.lt_iff_toNat_lt] at h3
      have e1 : (0x41000000 : UInt32).toNat = 0x41000000 := by decide
      have e2 : (0x7f800000 : UInt32).toNat = 0x7f800000 := by decide
      omega
    simp [this]
  obtain ⟨g1, e1, h1, q1⟩ := wr_t4 h ht8 x.toUInt32
  have c1 : g1.rc = g.rc := congrArg (fun q => q.2.1) q1
  have c2 : g1.rs = g.rs := congrArg (fun q => q.2.2) q1
  refine r_dn_ok (M1 := mF M 17 t.toNatClampNeg x.toUInt32) (c1 := 0) (c2 := 0) h ?_ h1 rfl ?_ ?_ (by omega) (by omega) ?_
  · unfold fX0_change
    rw [if_neg (by decide), if_neg (by decide), if_neg (by decide), if_pos rfl, rd_x4 h, zbj_v, rd_a3 h hi ht8, zbj_v, zgd_pos hsn, e1, zbj_v]
  · refine ⟨hS.1, hS.2.1, fun t' ht' => ?_⟩
    have old := hS.2.2 t' ht'
    by_cases e : t' = t.toNatClampNeg
    · subst e
      exact ⟨old.1, old.2.1, old.2.2.1, old.2.2.2.1, by simpa [mF, MS.F, va_up, vf_upd] using hx, old.2.2.2.2.2⟩
    · simpa [mF, MS.A, MS.I, MS.F, va_up, vf_upd, e] using old
  · refine ⟨fun _ _ => rfl, fun _ _ _ _ _ _ _ _ _ _ => rfl, fun k _ h17 => va_up_ne _ _ h17, rfl⟩
  · unfold fX2_does
    rw [zjoin_v, if_neg (by decide), if_neg (by decide), if_neg (by decide), if_pos rfl, zgd_pos hsn, zgd_pos hi, zlet_v]
    rfl
/-- kind 4 -/
theorem r_dn4 (h : rX a0 M0 ad M E g) (hS : rS M) (ht : r_tk t) (hs : r_bit s) (c d : Int32) : r_dn a0 M0 ad M E g (fX0_does g (ad 0 0) 4 t x y s) (fX2_does M 4 t s c d) := by
  have htn := rn ht.1
  have ht8 : t.toNatClampNeg < 8 := by have := ht.2; omega
  have hi : vp_in t 8 := z32_in ht.1 (by have := ht.2; omega)
  obtain ⟨g1, e1, h1, q1⟩ := wr_t0 h ht8 s
  have c1 : g1.rc = g.rc := congrArg (fun q => q.2.1) q1
  have c2 : g1.rs = g.rs := congrArg (fun q => q.2.2) q1
  refine r_dn_ok (M1 := mA M 13 t.toNatClampNeg s) (c1 := 0) (c2 := 0) h ?_ h1 rfl ?_ ?_ (by omega) (by omega) ?_
  · unfold fX0_change
    rw [if_neg (by decide), if_neg (by decide), if_neg (by decide), if_neg (by decide), if_pos rfl, rd_x4 h, zbj_v, rd_a3 h hi ht8, zbj_v, zgd_pos (r_bz hs), e1, zbj_v]
  · refine ⟨hS.1, hS.2.1, fun t' ht' => ?_⟩
    have old := hS.2.2 t' ht'
    by_cases e : t' = t.toNatClampNeg
    · subst e
      exact ⟨by simpa [mA, MS.A, va_up, upd] using hs, old.2⟩
    · simpa [mA, MS.A, MS.I, MS.F, va_up, upd, e] using old
  · refine ⟨fun _ _ => rfl, fun k _ _ h13 _ _ _ _ _ _ => va_up_ne _ _ h13, fun _ _ _ => rfl, rfl⟩
  · unfold fX2_does
    rw [zjoin_v, if_neg (by decide), if_neg (by decide), if_neg (by decide), if_neg (by decide), if_pos rfl, zjoin_v, r_ifb hs (fun v => zgd (vp_in t 8) (zlet (mA M 13 t.toNatClampNeg (v &&& 1)) (fun M61 => zlet (mI M61 45 ((M61.I 45) + (1 : Int32))) (fun M2 => some ((1 : Int32), M2))))), zgd_pos hi, zlet_v, zlet_v, r_bit1 hs]
end R8
