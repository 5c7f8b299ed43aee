/-! the length of a message's text, by its pieces -/
set_option maxRecDepth 100000
def zltx (s : String) (n : Nat) : Prop := (∀ c ∈ s.toList, c.toNat < 256) ∧ s.toList.length ≤ n
theorem zltx_app {a b : String} {m n : Nat} (ha : zltx a m) (hb : zltx b n) : zltx (a ++ b) (m + n) := by
  refine ⟨fun c hc => ?_, ?_⟩
  · rw [String.toList_append, List.mem_append] at hc
    rcases hc with hc | hc
    · exact ha.1 c hc
    · exact hb.1 c hc
  · rw [String.toList_append, List.length_append]
    exact Nat.add_le_add ha.2 hb.2
theorem zltx_le {a : String} {m n : Nat} (ha : zltx a m) (h : m ≤ n) : zltx a n := ⟨ha.1, Nat.le_trans ha.2 h⟩
theorem zlat_fold : ∀ (l : List Char) (acc : Array UInt16), (∀ c ∈ l, c.toNat < 256) → (acc.all (· < 256)) = true →
    ((l.foldl (init := acc) fun acc c =>
    if c.toNat < 0x10000 then acc.push c.toNat.toUInt16
    else if 0x100000 ≤ c.toNat && c.toNat ≤ 0x1007FF then acc.push (0xD800 + (c.toNat - 0x100000)).toUInt16
    else (acc.push (0xD800 + (c.toNat - 0x10000) / 0x400).toUInt16).push (0xDC00 + (c.toNat - 0x10000) % 0x400).toUInt16).all (· < 256)) = true ∧
    (l.foldl (init := acc) fun acc c =>
    if c.toNat < 0x10000 then acc.push c.toNat.toUInt16
    else if 0x100000 ≤ c.toNat && c.toNat ≤ 0x1007FF then acc.push (0xD800 + (c.toNat - 0x100000)).toUInt16
    else (acc.push (0xD800 + (c.toNat - 0x10000) / 0x400).toUInt16).push (0xDC00 + (c.toNat - 0x10000) % 0x400).toUInt16).size = acc.size + l.length
  | [], acc, _, ha => ⟨ha, rfl⟩
  | c :: r, acc, h, ha => by
    have hc : c.toNat < 256 := h c List.mem_cons_self
    have hc' : c.toNat < 0x10000 := by omega
    simp only [List.foldl_cons, if_pos hc']
    have hu : c.toNat.toUInt16 < 256 := by
      rw [UInt16.lt_iff_toNat_lt]
      show c.toNat % 65536 < 256
      omega
    have ih := zlat_fold r (acc.push c.toNat.toUInt16) (fun x hx => h x (List.mem_cons_of_mem _ hx)) (by
      rw [Array.all_push, ha]
      simp [hu])
    refine ⟨ih.1, ?_⟩
    rw [ih.2, Array.size_push, List.length_cons]
    omega
theorem zltx_bytes {s : String} {n : Nat} (h : zltx s n) : (stringBytes (stringToUtf16 s)).size ≤ n := by
  have h1 := zlat_fold s.toList #[] h.1 (by simp)
  have h2 : ((stringToUtf16 s).all (· < 256)) = true := h1.1
  have h3 : (stringToUtf16 s).size = s.toList.length := by
    have := h1.2
    unfold stringToUtf16
    rw [this]
    simp
  have h4 : (stringBytes (stringToUtf16 s)).size = (stringToUtf16 s).size := by
    unfold stringBytes
    simp [h2]
  rw [h4, h3]
  exact h.2
theorem ztx_of {s : String} {n : Nat} {c : Char} {r : List Char} (h : zltx s n) (hn : n ≤ 290) (hc : s.toList = c :: r) (h0 : c ≠ '\u0000') : ztxOK s = true := by
  have hne : s ≠ notModelled := by
    intro e
    rw [e] at hc
    have h1 : notModelled.toList = '\u0000' :: notModelled.toList.tail := by decide +kernel
    rw [h1] at hc
    exact h0 (List.cons.inj hc).1.symm
  unfold ztxOK
  have hb := zltx_bytes h
  simp only [Bool.and_eq_true, Bool.not_eq_true', beq_eq_false_iff_ne, ne_eq, decide_eq_true_eq]
  exact ⟨hne, by omega⟩
theorem zltx_home (b : Bool) : zltx (zhome b) 40 := by cases b <;> exact zltx_le (zltx_app (zltx_app (by unfold zltx; decide +kernel : zltx _ 16) (by unfold zltx; decide +kernel : zltx _ 11)) (by unfold zltx; decide +kernel : zltx _ 11)) (by decide)
theorem zcast_of {a b : String} (pa : castPackages_1.contains (packageOf a) = true) (pb : castPackages_1.contains (packageOf b) = true) (ha : zltx (dotted a) 22) (hb : zltx (dotted b) 22) : zcastOK a b = true := by
  unfold zcastOK
  rw [pa, pb]
  simp only [Bool.and_self, Bool.true_and, List.all_eq_true]
  intro x _ y _ z _
  have hh : zltx (zhomes a b x y z) 150 := by
    unfold zhomes
    cases z
    · exact zltx_le (zltx_app (zltx_app (zltx_app (zltx_app (zltx_app (zltx_app ha (by unfold zltx; decide +kernel : zltx _ 7)) (zltx_home x)) (by unfold zltx; decide +kernel : zltx _ 2)) hb) (by unfold zltx; decide +kernel : zltx _ 7)) (zltx_home y)) (by decide)
    · exact zltx_le (zltx_app (zltx_app (zltx_app (zltx_app ha (by unfold zltx; decide +kernel : zltx _ 5)) hb) (by unfold zltx; decide +kernel : zltx _ 8)) (zltx_home x)) (by decide)
  have ht : zltx (ztext a b x y z) 290 := zltx_le (zltx_app (zltx_app (zltx_app (zltx_app (zltx_app (zltx_app (by unfold zltx; decide +kernel : zltx "class " 6) ha) (by unfold zltx; decide +kernel : zltx " cannot be cast to class " 25)) hb) (by unfold zltx; decide +kernel : zltx " (" 2)) hh) (by unfold zltx; decide +kernel : zltx ")" 1)) (by decide)
  have hc : (ztext a b x y z).toList = 'c' :: (['l', 'a', 's', 's', ' '] ++ (dotted a).toList ++ " cannot be cast to class ".toList ++ (dotted b).toList ++ " (".toList ++ (zhomes a b x y z).toList ++ ")".toList) := by
    unfold ztext
    have e : "class ".toList = ['c', 'l', 'a', 's', 's', ' '] := by decide +kernel
    simp only [String.toList_append, e, List.cons_append, List.nil_append, List.append_assoc]
  exact ztx_of ht (Nat.le_refl _) hc (by decide)
