/-! plug: the call -/
set_option maxRecDepth 100000
section R23
variable {a0 : Nat} {M0 : MS} {ad ad' : Nat → Nat → Nat} {M M' : MS} {E E' : RE} {g g' : zS}
def r_ok (M : MS) (k n : Int32) : Prop := (k = 3 → -64 ≤ n.toInt ∧ n.toInt ≤ 64) ∧ (r_echo k → n.toInt ≤ 16) ∧ (k = 7 → 0 ≤ n.toInt ∧ n.toInt < (M.I 0).toInt)
theorem r_fits (h : rX a0 M0 ad M E g) (hc : 0 ≤ (M.I 0).toInt ∧ (M.I 0).toInt ≤ 16) (k n : Int32) : (r_ok M k n ∧ fX0_fitsPlug g (ad 0 0) k n = some (1, g)) ∨ (¬ r_ok M k n ∧ fX0_fitsPlug g (ad 0 0) k n = some (0, g)) := by
  have e16 : (16 : Int32).toInt = 16 := by decide
  unfold fX0_fitsPlug r_ok
  by_cases k3 : k = 3
  · subst k3
    rw [if_pos rfl]
    rcases rin_cases n (-64) 64 with ⟨e, h1, h2⟩ | ⟨e, h1⟩
    · rw [e, zbj_v, zgd_pos zbl_1]
      exact Or.inl ⟨⟨fun _ => ⟨h1, h2⟩, fun e => absurd e (by decide), fun e => absurd e (by decide)⟩, rfl⟩
    · rw [e, zbj_v, zgd_pos zbl_0]
      refine Or.inr ⟨fun e => ?_, rfl⟩
      have := e.1 rfl
      rw [show (-64 : Int32).toInt = -64 by decide, show (64 : Int32).toInt = 64 by decide] at h1
      omega
  · rw [if_neg k3, zjoin_v]
    have key : r_echo k → ((k = 3 → -64 ≤ n.toInt ∧ n.toInt ≤ 64) ∧ (r_echo k → n.toInt ≤ 16) ∧ (k = 7 → 0 ≤ n.toInt ∧ n.toInt < (M.I 0).toInt)) ∧ (if (16 : Int32) < n then some ((0 : Int32), g) else some ((1 : Int32), g)) = some (1, g) ∨ ¬ ((k = 3 → -64 ≤ n.toInt ∧ n.toInt ≤ 64) ∧ (r_echo k → n.toInt ≤ 16) ∧ (k = 7 → 0 ≤ n.toInt ∧ n.toInt < (M.I 0).toInt)) ∧ (if (16 : Int32) < n then some ((0 : Int32), g) else some ((1 : Int32), g)) = some (0, g) := by
      intro he
      by_cases hlt : (16 : Int32) < n
      · rw [if_pos hlt]
        rw [Int32.lt_iff_toInt_lt, e16] at hlt
        exact Or.inr ⟨fun e => by have := e.2.1 he; omega, rfl⟩
      · rw [if_neg hlt]
        rw [Int32.lt_iff_toInt_lt, e16] at hlt
        exact Or.inl ⟨⟨fun e => absurd e k3, fun _ => by omega, fun e => by subst e; exact absurd he (by decide)⟩, rfl⟩
    by_cases k4 : k = 4
    · rw [if_pos k4]
      exact key (Or.inl k4)
    · rw [if_neg k4]
      by_cases k5 : k = 5
      · rw [if_pos k5]
        exact key (Or.inr k5)
      · rw [if_neg k5]
        have hne : ¬ r_echo k := fun e => Or.elim e k4 k5
        by_cases k7 : k = 7
        · rw [if_pos k7, rd_ob h, zbj_v]
          rcases r_isC h hc n with ⟨q, h1, h2⟩ | ⟨q, h1⟩
          · rw [q, zbd_v, if_neg r10]
            exact Or.inl ⟨⟨fun e => absurd e k3, fun e => absurd e hne, fun _ => ⟨h1, h2⟩⟩, rfl⟩
          · rw [q, zbd_v, if_pos rfl]
            exact Or.inr ⟨fun e => by have := e.2.2 k7; omega, rfl⟩
        · rw [if_neg k7]
          exact Or.inl ⟨⟨fun e => absurd e k3, fun e => absurd e hne, fun e => absurd e k7⟩, rfl⟩
theorem r_plugM (hc : 0 ≤ (M.I 0).toInt ∧ (M.I 0).toInt ≤ 16) (hp : 0 ≤ (M.I 4).toInt ∧ (M.I 4).toInt ≤ 12) {k a n : Int32} (hk : 0 ≤ k.toInt ∧ k.toInt ≤ 7) (hw : fX2_isWithin a (3238002688 : UInt32) = some 1) (hsn : vn_sni2f a = false) :
    (¬ r_ok M k n → fX2_plug M k a n = some (-102, M)) ∧ (r_ok M k n → M.I 4 = 12 → fX2_plug M k a n = some (-104, M)) ∧ (r_ok M k n → M.I 4 ≠ 12 → r_echo k ∧ n.toInt < 0 → fX2_plug M k a n = fX2_finds M 5) ∧ (r_ok M k n → M.I 4 ≠ 12 → ¬ (r_echo k ∧ n.toInt < 0) → fX2_plug M k a n = some (M.I 4 + 1 - 1, r_plM M k a.toUInt32 n)) := by
  have e16 : (16 : Int32).toInt = 16 := by decide
  have h1 : fX2_in k 0 7 = some 1 := by rw [rin2]; exact rin_y (by rw [ri_0]; exact hk.1) (by rw [ri_7]; exact hk.2)
  -- behind the bounds
  have rest : ∀ R : Option (Int32 × MS), R = (if (M.I 4) = (12 : Int32) then some ((-104 : Int32), M) else zbj (fX2_isEcho k) (fun r19 => zjoin (fun (M21 : MS) (v22 : Int32) (v23 : Int32) (v24 : Int32) => zgd (vp_in (M21.I 4) 12) (zlet (mA M21 5 (M21.I 4).toNatClampNeg v22) (fun M26 => zgd (vn_sni2f v23 = false) (zgd (vp_in (M26.I 4) 12) (zlet (mF M26 6 (M26.I 4).toNatClampNeg (v23.toUInt32)) (fun M29 => zgd (vp_in (M29.I 4) 12) (zlet (mA M29 7 (M29.I 4).toNatClampNeg v24) (fun M31 => zbj (fX2_isEcho v22) (fun r32 => zjoin (fun (M34 : MS) (v35 : Int32) (v36 : Int32) => zgd (vp_in v36 12) (zlet (mA M34 10 v36.toNatClampNeg v35) (fun M38 => zlet (mI M38 4 ((M38.I 4) + (1 : Int32))) (fun M39 => some (((M39.I 4) - (1 : Int32)), M39))))) (fun j40 => if r32 = 0 then j40 M31 (-1 : Int32) (M31.I 4) else j40 M31 v24 (M31.I 4))))))))))) (fun j41 => if r19 = 0 then j41 M k a n else if 0 ≤ n then j41 M k a n else zbd (fX2_finds M (5 : Int32)) (fun r42 M43 => some (r42, M43))))) → (M.I 4 = 12 → R = some (-104, M)) ∧ (M.I 4 ≠ 12 → r_echo k ∧ n.toInt < 0 → R = fX2_finds M 5) ∧ (M.I 4 ≠ 12 → ¬ (r_echo k ∧ n.toInt < 0) → R = some (M.I 4 + 1 - 1, r_plM M k a.toUInt32 n)) := by
    intro R hR
    refine ⟨fun e => by rw [hR, if_pos e], fun e he => ?_, fun e he => ?_⟩
    · rw [hR, if_neg e, r_echoF, zbj_v, zjoin_v, if_pos he.1, if_neg r10, if_neg (by rw [Int32.le_iff_toInt_le, ri_0]; omega), zbd_id]
    · have d : (M.I 4).toInt ≠ 12 := fun q => e (Int32.toInt_inj.mp (by rw [show (12 : Int32).toInt = 12 by decide]; exact q))
      have hi : vp_in (M.I 4) 12 := z32_in hp.1 (by omega)
      have go : (zgd (vp_in (M.I 4) 12) (zlet (mA M 5 (M.I 4).toNatClampNeg k) (fun M26 => zgd (vn_sni2f a = false) (zgd (vp_in (M26.I 4) 12) (zlet (mF M26 6 (M26.I 4).toNatClampNeg (a.toUInt32)) (fun M29 => zgd (vp_in (M29.I 4) 12) (zlet (mA M29 7 (M29.I 4).toNatClampNeg n) (fun M31 => zbj (fX2_isEcho k) (fun r32 => zjoin (fun (M34 : MS) (v35 : Int32) (v36 : Int32) => zgd (vp_in v36 12) (zlet (mA M34 10 v36.toNatClampNeg v35) (fun M38 => zlet (mI M38 4 ((M38.I 4) + (1 : Int32))) (fun M39 => some (((M39.I 4) - (1 : Int32)), M39))))) (fun j40 => if r32 = 0 then j40 M31 (-1 : Int32) (M31.I 4) else j40 M31 n (M31.I 4))))))))))) = some (M.I 4 + 1 - 1, r_plM M k a.toUInt32 n) := by
        rw [zgd_pos hi, zlet_v, zgd_pos hsn, zgd_pos (show vp_in _ 12 from hi), zlet_v, zgd_pos (show vp_in _ 12 from hi), zlet_v, r_echoF, zbj_v, zjoin_v]
        by_cases h5 : r_echo k
        · rw [if_pos h5, if_neg r10]
          show zgd (vp_in (M.I 4) 12) _ = _
          rw [zgd_pos hi, zlet_v, zlet_v]
          unfold r_plM
          rw [if_pos h5]
          rfl
        · rw [if_neg h5, if_pos rfl]
          show zgd (vp_in (M.I 4) 12) _ = _
          rw [zgd_pos hi, zlet_v, zlet_v]
          unfold r_plM
          rw [if_neg h5]
          rfl
      rw [hR, if_neg e, r_echoF, zbj_v, zjoin_v]
      by_cases h5 : r_echo k
      · rw [if_pos h5, if_neg r10, if_pos (by rw [Int32.le_iff_toInt_le, ri_0]; have hq : ¬ n.toInt < 0 := fun q => he ⟨h5, q⟩; omega)]
        exact go
      · rw [if_neg h5, if_pos rfl]
        exact go
  unfold fX2_plug
  rw [h1, zbj_v, if_neg r10, hw, zbj_v, if_neg r10, zjoin_v]
  unfold r_ok
  by_cases k3 : k = 3
  · subst k3
    rw [if_pos rfl, rin2]
    rcases rin_cases n (-64) 64 with ⟨e, q1, q2⟩ | ⟨e, q1⟩
    · rw [e, zbj_v, if_neg r10]
      dsimp only
      rw [r_echoF, zbj_v, zjoin_v, if_neg (show ¬ r_echo 3 by decide), if_pos rfl]
      dsimp only
      rw [zjoin_v, if_neg (show ¬ (3 : Int32) = 7 by decide)]
      dsimp only
      obtain ⟨r1, r2, r3⟩ := rest _ rfl
      exact ⟨fun hn => absurd ⟨fun _ => ⟨q1, q2⟩, fun e => absurd e (by decide), fun e => absurd e (by decide)⟩ hn, fun _ => r1, fun _ => r2, fun _ => r3⟩
    · rw [e, zbj_v, if_pos rfl]
      rw [show (-64 : Int32).toInt = -64 by decide, show (64 : Int32).toInt = 64 by decide] at q1
      refine ⟨fun _ => rfl, fun hn => ?_, fun hn => ?_, fun hn => ?_⟩ <;> (have := hn.1 rfl; omega)
  · rw [if_neg k3]
    dsimp only
    rw [r_echoF, zbj_v, zjoin_v]
    by_cases h5 : r_echo k
    · have k7 : k ≠ 7 := fun e => by subst e; exact absurd h5 (by decide)
      rw [if_pos h5, if_neg r10]
      by_cases hlt : (16 : Int32) < n
      · rw [if_pos hlt]
        rw [Int32.lt_iff_toInt_lt, e16] at hlt
        refine ⟨fun _ => rfl, fun hn => ?_, fun hn => ?_, fun hn => ?_⟩ <;> (have := hn.2.1 h5; omega)
      · rw [if_neg hlt]
        dsimp only
        rw [zjoin_v, if_neg k7]
        dsimp only
        rw [Int32.lt_iff_toInt_lt, e16] at hlt
        obtain ⟨r1, r2, r3⟩ := rest _ rfl
        exact ⟨fun hn => absurd ⟨fun e => absurd e k3, fun _ => by omega, fun e => absurd e k7⟩ hn, fun _ => r1, fun _ => r2, fun _ => r3⟩
    · rw [if_neg h5, if_pos rfl]
      dsimp only
      rw [zjoin_v]
      by_cases k7 : k = 7
      · rw [if_pos k7]
        by_cases hin : 0 ≤ n.toInt ∧ n.toInt < (M.I 0).toInt
        · rw [r_in2y (by rw [ri_0]; exact hin.1) hin.2 (by omega), zbj_v, if_neg r10]
          dsimp only
          obtain ⟨r1, r2, r3⟩ := rest _ rfl
          exact ⟨fun hn => absurd ⟨fun e => absurd e k3, fun e => absurd e h5, fun _ => hin⟩ hn, fun _ => r1, fun _ => r2, fun _ => r3⟩
        · rw [r_in2n (by rw [ri_0]; omega) (by omega), zbj_v, if_pos rfl]
          exact ⟨fun _ => rfl, fun hn => absurd (hn.2.2 k7) hin, fun hn => absurd (hn.2.2 k7) hin, fun hn => absurd (hn.2.2 k7) hin⟩
      · rw [if_neg k7]
        dsimp only
        obtain ⟨r1, r2, r3⟩ := rest _ rfl
        exact ⟨fun hn => absurd ⟨fun e => absurd e k3, fun e => absurd e h5, fun e => absurd e k7⟩ hn, fun _ => r1, fun _ => r2, fun _ => r3⟩
end R23
