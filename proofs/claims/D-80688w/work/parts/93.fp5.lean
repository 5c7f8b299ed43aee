/-! floats: Math.rint by way of doubles, and the Model's nearest -/
set_option maxRecDepth 100000
section FP7
theorem r_cl1 {a b : UInt32} (ha : vf_n32 a) (hb : vf_n32 b) : (0 ≤ Op.cmpValue (FP.fcmp a b) .l ↔ fk b ≤ fk a) ∧ (Op.cmpValue (FP.fcmp a b) .l = 0 ↔ fk a = fk b) ∧ (0 < Op.cmpValue (FP.fcmp a b) .l ↔ fk b < fk a) := by
  rw [r_fcmp ha hb]
  rcases Int.lt_trichotomy (fk a) (fk b) with h | h | h
  · have e : compare (fk a) (fk b) = .lt := by rw [cmp_ite, if_pos h]
    rw [e]
    refine ⟨⟨fun q => absurd q (by decide), fun q => by omega⟩, ⟨fun q => absurd q (by decide), fun q => by omega⟩, ⟨fun q => absurd q (by decide), fun q => by omega⟩⟩
  · have e : compare (fk a) (fk b) = .eq := by rw [cmp_ite, if_neg (by omega), if_pos h]
    rw [e]
    refine ⟨⟨fun _ => by omega, fun _ => by decide⟩, ⟨fun _ => h, fun _ => by decide⟩, ⟨fun q => absurd q (by decide), fun q => by omega⟩⟩
  · have e : compare (fk a) (fk b) = .gt := by rw [cmp_ite, if_neg (by omega), if_neg (by omega)]
    rw [e]
    refine ⟨⟨fun _ => by omega, fun _ => by decide⟩, ⟨fun q => absurd q (by decide), fun q => by omega⟩, ⟨fun _ => h, fun _ => by decide⟩⟩
/-- a number that a double holds: its bits, and what they stand for -/
theorem keep64 {c : Nat} {q : Int} (h53 : c < 2 ^ 53) (hq : -1000 ≤ q ∧ q ≤ 0) : ∃ m c9 q9, m < 9218868437227405312 ∧ (∀ t : Bool, FP.Core.encode FP.Core.b64 (FP.Core.roundRatio FP.Core.b64 t c 1 q) = t.toNat * 9223372036854775808 + m ∧ FP.Core.decode FP.Core.b64 (t.toNat * 9223372036854775808 + m) = .fin t c9 q9) ∧ (∀ f t, FP.Core.roundRatio f t c9 1 q9 = FP.Core.roundRatio f t c 1 q) ∧ c9 < 9007199254740992 ∧ -1074 ≤ q9 ∧ q9 ≤ q ∧ FP.Core.nearest c9 (2 ^ (-q9).toNat) = FP.Core.nearest c (2 ^ (-q).toNat) := by
  by_cases h0 : c = 0
  · subst h0
    refine ⟨0, 0, -1074, by decide, fun t => ⟨?_, ?_⟩, fun f t => ?_, by decide, by decide, by omega, ?_⟩
    · unfold FP.Core.roundRatio
      rw [if_pos rfl, enc64, if_pos (by decide)]
    · rw [dec64 t (by decide), if_neg (by decide), if_pos (by decide)]
      rfl
    · unfold FP.Core.roundRatio
      rw [if_pos rfl, if_pos rfl]
    · have near0 : ∀ D, 0 < D → FP.Core.nearest 0 D = 0 := fun D hD => by
        unfold FP.Core.nearest
        rw [Nat.zero_mod, Nat.zero_div, if_pos (by omega)]
      rw [near0 _ (Nat.two_pow_pos _), near0 _ (Nat.two_pow_pos _)]
  · obtain ⟨k, h1, h2, h3, h4⟩ := rt64 h0 h53 ⟨hq.1, by omega⟩
    obtain ⟨m, hm, h5⟩ := de64 h2 h3 (q := q - k) (by omega)
    refine ⟨m, c * 2 ^ k, q - k, hm, fun t => ⟨?_, (h5 t).2⟩, fun f t => rr_scale f t c k q, h3, by omega, by omega, ?_⟩
    · rw [h1 t]; exact (h5 t).1
    · rw [show (-(q - (k : Int))).toNat = (-q).toNat + k by omega, Nat.pow_add, near_scale (Nat.two_pow_pos k)]
/-- the float of a whole number with a sign -/
def fint (s : Bool) (N : Nat) : UInt32 := UInt32.ofNat (FP.Core.encode FP.Core.b32 (FP.Core.roundRatio FP.Core.b32 s N 1 0))
theorem rint64 {x : UInt64} {s : Bool} {m c9 : Nat} {q9 : Int} (hx : x.toNat = s.toNat * 9223372036854775808 + m) (hm : m < 9218868437227405312) (hd : ∀ t : Bool, FP.Core.decode FP.Core.b64 (t.toNat * 9223372036854775808 + m) = .fin t c9 q9) (hc : c9 < 9007199254740992) (hq : -1074 ≤ q9 ∧ q9 ≤ -2) : ∃ x6, fJ13_rint x = some x6 ∧ FP.d2f x6 = fint s (FP.Core.nearest c9 (2 ^ (-q9).toNat)) := by
  obtain ⟨b1, b2, b3⟩ := (⟨trivial, (show FP.Core.round FP.Core.b64 (FP.Core.exactSum (.fin false 4503599627370496 0) (.fin false c9 q9)) = .fin false (FP.Core.nearest c9 (2 ^ (-q9).toNat) + 4503599627370496) 0 from (big64 hc hq).2.1), (big64 hc hq).2.2⟩ : True ∧ _ ∧ _)
  generalize hN : FP.Core.nearest c9 (2 ^ (-q9).toNat) = N at b2 b3
  have hn64 : vf_n64 x := by rw [n64_iff, hx]; omega
  have hnan : FP.dIsNaN x = false := by
    show decide (FP.Core.decode FP.Core.b64 x.toNat = .nan) = false
    rw [hx, hd s]; rfl
  -- the size
  have hsz : (x &&& 0x7fffffffffffffff).toNat = (false : Bool).toNat * 9223372036854775808 + m := by
    rw [fmask64, hx, Bool.toNat_false]; omega
  have h52 : (4841369599423283200 : UInt64).toNat = (false : Bool).toNat * 9223372036854775808 + 4841369599423283200 := by decide
  have d52 : FP.Core.decode FP.Core.b64 (4841369599423283200 : UInt64).toNat = .fin false 4503599627370496 0 := by decide +kernel
  have hcmp : ¬ 0 ≤ Op.cmpValue (FP.dcmp (x &&& 0x7fffffffffffffff) (4841369599423283200 : UInt64)) .g := by
    have : FP.dcmp (x &&& 0x7fffffffffffffff) (4841369599423283200 : UInt64) = some .lt := by
      show FP.Core.order (FP.Core.decode FP.Core.b64 (x &&& 0x7fffffffffffffff).toNat) (FP.Core.decode FP.Core.b64 (4841369599423283200 : UInt64).toNat) = _
      rw [hsz, hd false, d52]
      show some (compare (FP.Core.signed false (FP.Core.inUnits c9 q9 (min q9 0))) (FP.Core.signed false (FP.Core.inUnits 4503599627370496 0 (min q9 0)))) = _
      rw [show min q9 0 = q9 by omega]
      unfold FP.Core.inUnits
      have : (2 : Nat) ^ 2 ≤ 2 ^ (0 - q9).toNat := Nat.pow_le_pow_right (by decide) (by omega)
      rw [show (q9 - q9).toNat = 0 by omega, cmp_ite]
      show some (if ((c9 * 2 ^ 0 : Nat) : Int) < ((4503599627370496 * 2 ^ (0 - q9).toNat : Nat) : Int) then Ordering.lt else _) = _
      rw [if_pos (by omega)]
    rw [this]; decide
  -- the sum
  obtain ⟨m1, hm1, h1⟩ := de64 (c := N + 4503599627370496) (q := 0) (by omega) (by omega) (by omega)
  have es : (FP.dadd (4841369599423283200 : UInt64) (x &&& 0x7fffffffffffffff)).toNat = (false : Bool).toNat * 9223372036854775808 + m1 := by
    show (UInt64.ofNat (FP.Core.encode FP.Core.b64 (FP.Core.round FP.Core.b64 (FP.Core.exactSum (FP.Core.decode FP.Core.b64 (4841369599423283200 : UInt64).toNat) (FP.Core.decode FP.Core.b64 (x &&& 0x7fffffffffffffff).toNat))))).toNat = _
    rw [d52, hsz, hd false, b2, (h1 false).1, of64 _ (by omega)]
  have ns : vf_n64 (FP.dadd (4841369599423283200 : UInt64) (x &&& 0x7fffffffffffffff)) := by rw [n64_iff, es, Bool.toNat_false]; omega
  -- the difference
  obtain ⟨m2, c2, q2, hm2, h2, hr2, hc2, hq2, hq2', _⟩ := keep64 (c := N) (q := 0) (by omega) (by omega)
  have ed : (FP.dsub (FP.dadd (4841369599423283200 : UInt64) (x &&& 0x7fffffffffffffff)) (4841369599423283200 : UInt64)).toNat = (false : Bool).toNat * 9223372036854775808 + m2 := by
    show (UInt64.ofNat (FP.Core.encode FP.Core.b64 (FP.Core.round FP.Core.b64 (FP.Core.exactSum (FP.Core.decode FP.Core.b64 (FP.dadd (4841369599423283200 : UInt64) (x &&& 0x7fffffffffffffff)).toNat) (FP.Core.negate (FP.Core.decode FP.Core.b64 (4841369599423283200 : UInt64).toNat)))))).toNat = _
    rw [d52, es, (h1 false).2, back64, (h2 false).1, of64 _ (by omega)]
  have nd : vf_n64 (FP.dsub (FP.dadd (4841369599423283200 : UInt64) (x &&& 0x7fffffffffffffff)) (4841369599423283200 : UInt64)) := by rw [n64_iff, ed, Bool.toNat_false]; omega
  -- the sign
  have hsg : FP.Core.decode FP.Core.b64 ((FP.dconst1 &&& 0x7fffffffffffffff) ||| (if x >>> 63 == 1 then 0x8000000000000000 else 0)).toNat = .fin s 4503599627370496 (-52) := by
    have hs : (x >>> 63 == 1) = s := by
      have e : (x >>> 63).toNat = s.toNat := by
        rw [UInt64.toNat_shiftRight, hx]
        show (s.toNat * 9223372036854775808 + m) >>> 63 = _
        rw [Nat.shiftRight_eq_div_pow]
        omega
      cases s
      · have : x >>> 63 = 0 := UInt64.toNat_inj.mp e
        rw [this]; rfl
      · have : x >>> 63 = 1 := UInt64.toNat_inj.mp e
        rw [this]; rfl
    rw [hs]
    cases s <;> decide +kernel
  generalize hsE : (FP.dconst1 &&& 0x7fffffffffffffff) ||| (if x >>> 63 == 1 then 0x8000000000000000 else 0) = sg at hsg
  have em : (FP.dmul sg (FP.dsub (FP.dadd (4841369599423283200 : UInt64) (x &&& 0x7fffffffffffffff)) (4841369599423283200 : UInt64))).toNat = s.toNat * 9223372036854775808 + m2 := by
    show (UInt64.ofNat (FP.Core.encode FP.Core.b64 (FP.Core.round FP.Core.b64 (FP.Core.exactProduct (FP.Core.decode FP.Core.b64 sg.toNat) (FP.Core.decode FP.Core.b64 (FP.dsub (FP.dadd (4841369599423283200 : UInt64) (x &&& 0x7fffffffffffffff)) (4841369599423283200 : UInt64)).toNat))))).toNat = _
    rw [hsg, ed, (h2 false).2]
    have er : FP.Core.round FP.Core.b64 (FP.Core.exactProduct (.fin s 4503599627370496 (-52)) (.fin false c2 q2)) = FP.Core.roundRatio FP.Core.b64 s N 1 0 := by
      rw [← hr2 FP.Core.b64 s, ← rr_scale FP.Core.b64 s c2 52 q2]
      show FP.Core.roundRatio FP.Core.b64 (s != false) (4503599627370496 * c2) 1 (-52 + q2) = _
      rw [show (s != false) = s by cases s <;> rfl, Nat.mul_comm, show -52 + q2 = q2 - ((52 : Nat) : Int) by omega]
    rw [er, (h2 s).1, of64 _ (by omega)]
  generalize hx6 : FP.dmul sg (FP.dsub (FP.dadd (4841369599423283200 : UInt64) (x &&& 0x7fffffffffffffff)) (4841369599423283200 : UInt64)) = x6 at em
  have nm : vf_n64 x6 := by rw [n64_iff, em]; omega
  refine ⟨x6, ?_, ?_⟩
  · unfold fJ13_rint
    rw [zlet_v, zgd_pos hnan, zlet_v, zgd_pos hn64, zlet_v, if_neg hcmp, zgd_pos ns, zgd_pos nd, zlet_v, hsE, hx6, zgd_pos nm]
  · have h6 : FP.Core.dIsNaN x6 = false := by
      show decide (FP.Core.decode FP.Core.b64 x6.toNat = .nan) = false
      rw [em, (h2 s).2]; rfl
    unfold FP.d2f
    rw [h6]
    show UInt32.ofNat (FP.Core.encode FP.Core.b32 (FP.Core.round FP.Core.b32 (FP.Core.decode FP.Core.b64 x6.toNat))) = _
    rw [em, (h2 s).2]
    show UInt32.ofNat (FP.Core.encode FP.Core.b32 (FP.Core.roundRatio FP.Core.b32 s c2 1 q2)) = _
    rw [hr2]
    rfl
end FP7
