/-! stores into a chain, casts of rows and of plugs, the class of a receiver; Plug.pass and Plug.uses -/
set_option maxRecDepth 100000
theorem zob1 {g : zS} {c a : Nat} {ob : Nat × List Value} (h : zob g [c] a = some ob) : g.h a = some (.inr (c, ob.2)) := by
  obtain ⟨h1, h2⟩ := zob_some h
  obtain ⟨c', fs⟩ := ob
  have e : c' = c := by simpa using h2
  subst e
  exact h1
/-- the type of an array of numbers -/
def zaty (g : zS) (a : Nat) : Option Nat := match g.1 a with
  | some (.inl x) => if x.1 < 5 then some x.1 else none
  | _ => none
theorem zaty_some {g : zS} {a t : Nat} (h : zaty g a = some t) : ∃ x, g.h a = some (.inl (t, x)) ∧ t < 5 := by
  unfold zaty at h
  split at h
  · rename_i q hq
    split at h
    · rename_i hm
      cases h
      exact ⟨q.2, hq, hm⟩
    · cases h
  · cases h
/-- a field that holds a reference, an element that is one -/
def zgN (g : zS) (cs : List Nat) (a k : Nat) : Option Nat := zbj (zgR g cs a k) fun o => o
theorem zgN_some {g : zS} {cs : List Nat} {a k x : Nat} (h : zgN g cs a k = some x) : zgR g cs a k = some (some x) := by
  obtain ⟨o, h1, h2⟩ := zbj_some h
  rw [h1, h2]
noncomputable def zaN (g : zS) (t a : Nat) (i : Int32) : Option Nat := zbj (zaR g t a i) fun o => o
theorem zaN_some {g : zS} {t a x : Nat} {i : Int32} (h : zaN g t a i = some x) : zaR g t a i = some (some x) := by
  obtain ⟨o, h1, h2⟩ := zbj_some h
  rw [h1, h2]
/-- a store into a chain: done, or what is thrown -/
noncomputable def zstC (g : zS) (a : Nat) (i : Int32) (x : Option Nat) : Option (zS ⊕ String) := match g.1 a with
  | some (.inl (t, n, .inr (.inr (.inr (.inr f))))) =>
    zgd ((t = 8 ∨ t = 10) ∧ n < 2 ^ 31) (if zout i n then some (.inr zAIO) else match x with
      | none => some (.inl (zput g a (.inl (t, n, .inr (.inr (.inr (.inr (va_up f i.toNatClampNeg none))))))))
      | some v => zbj (zob g [4, 5, 6, 7, 8, 9, 10, 11] v) fun ob => if t = 10 ∧ 7 ≤ ob.1 then some (.inr zASE) else some (.inl (zput g a (.inl (t, n, .inr (.inr (.inr (.inr (va_up f i.toNatClampNeg (some v)))))))))) 
  | _ => none
theorem nc_0 : Cond.not (.castable "ScoreThreads$Steps" "ScoreThreads$Gain") ∈ flatC (Jvm.Cond.and given_1 narrow_1) := List.mem_of_getElem? (i := 345) (by decide +kernel)
theorem nc_1 : Cond.not (.castable "ScoreThreads$Echo" "ScoreThreads$Gain") ∈ flatC (Jvm.Cond.and given_1 narrow_1) := List.mem_of_getElem? (i := 346) (by decide +kernel)
theorem nc_2 : Cond.not (.castable "ScoreThreads$Bell" "ScoreThreads$Gain") ∈ flatC (Jvm.Cond.and given_1 narrow_1) := List.mem_of_getElem? (i := 347) (by decide +kernel)
theorem nc_3 : Cond.not (.castable "ScoreThreads$Gate" "ScoreThreads$Gain") ∈ flatC (Jvm.Cond.and given_1 narrow_1) := List.mem_of_getElem? (i := 348) (by decide +kernel)
theorem nc_4 : Cond.not (.castable "ScoreThreads$Table" "ScoreThreads$Gain") ∈ flatC (Jvm.Cond.and given_1 narrow_1) := List.mem_of_getElem? (i := 349) (by decide +kernel)
theorem nc_5 : Cond.not (.castable "ScoreThreads$Gain" "ScoreThreads$Echo") ∈ flatC (Jvm.Cond.and given_1 narrow_1) := List.mem_of_getElem? (i := 116) (by decide +kernel)
theorem nc_6 : Cond.not (.castable "ScoreThreads$Warm" "ScoreThreads$Echo") ∈ flatC (Jvm.Cond.and given_1 narrow_1) := List.mem_of_getElem? (i := 117) (by decide +kernel)
theorem nc_7 : Cond.not (.castable "ScoreThreads$Fold" "ScoreThreads$Echo") ∈ flatC (Jvm.Cond.and given_1 narrow_1) := List.mem_of_getElem? (i := 118) (by decide +kernel)
theorem nc_8 : Cond.not (.castable "ScoreThreads$Steps" "ScoreThreads$Echo") ∈ flatC (Jvm.Cond.and given_1 narrow_1) := List.mem_of_getElem? (i := 119) (by decide +kernel)
theorem nc_9 : Cond.not (.castable "ScoreThreads$Gate" "ScoreThreads$Echo") ∈ flatC (Jvm.Cond.and given_1 narrow_1) := List.mem_of_getElem? (i := 120) (by decide +kernel)
theorem nc_10 : Cond.not (.castable "ScoreThreads$Table" "ScoreThreads$Echo") ∈ flatC (Jvm.Cond.and given_1 narrow_1) := List.mem_of_getElem? (i := 121) (by decide +kernel)
theorem nc_11 : Cond.not (.castable "[F" "[I") ∈ flatC (Jvm.Cond.and given_1 narrow_1) := List.mem_of_getElem? (i := 208) (by decide +kernel)
theorem nc_12 : Cond.not (.castable "[B" "[I") ∈ flatC (Jvm.Cond.and given_1 narrow_1) := List.mem_of_getElem? (i := 209) (by decide +kernel)
theorem nc_13 : Cond.not (.castable "[S" "[I") ∈ flatC (Jvm.Cond.and given_1 narrow_1) := List.mem_of_getElem? (i := 210) (by decide +kernel)
theorem nc_14 : Cond.not (.castable "[D" "[I") ∈ flatC (Jvm.Cond.and given_1 narrow_1) := List.mem_of_getElem? (i := 211) (by decide +kernel)
theorem nc_15 : Cond.not (.castable "[I" "[F") ∈ flatC (Jvm.Cond.and given_1 narrow_1) := List.mem_of_getElem? (i := 238) (by decide +kernel)
theorem nc_16 : Cond.not (.castable "[B" "[F") ∈ flatC (Jvm.Cond.and given_1 narrow_1) := List.mem_of_getElem? (i := 239) (by decide +kernel)
theorem nc_17 : Cond.not (.castable "[S" "[F") ∈ flatC (Jvm.Cond.and given_1 narrow_1) := List.mem_of_getElem? (i := 240) (by decide +kernel)
theorem nc_18 : Cond.not (.castable "[D" "[F") ∈ flatC (Jvm.Cond.and given_1 narrow_1) := List.mem_of_getElem? (i := 241) (by decide +kernel)
theorem nc_19 : Cond.not (.castable "[I" "[B") ∈ flatC (Jvm.Cond.and given_1 narrow_1) := List.mem_of_getElem? (i := 148) (by decide +kernel)
theorem nc_20 : Cond.not (.castable "[F" "[B") ∈ flatC (Jvm.Cond.and given_1 narrow_1) := List.mem_of_getElem? (i := 149) (by decide +kernel)
theorem nc_21 : Cond.not (.castable "[S" "[B") ∈ flatC (Jvm.Cond.and given_1 narrow_1) := List.mem_of_getElem? (i := 150) (by decide +kernel)
theorem nc_22 : Cond.not (.castable "[D" "[B") ∈ flatC (Jvm.Cond.and given_1 narrow_1) := List.mem_of_getElem? (i := 151) (by decide +kernel)
theorem nc_23 : Cond.not (.castable "[I" "[S") ∈ flatC (Jvm.Cond.and given_1 narrow_1) := List.mem_of_getElem? (i := 178) (by decide +kernel)
theorem nc_24 : Cond.not (.castable "[F" "[S") ∈ flatC (Jvm.Cond.and given_1 narrow_1) := List.mem_of_getElem? (i := 179) (by decide +kernel)
theorem nc_25 : Cond.not (.castable "[B" "[S") ∈ flatC (Jvm.Cond.and given_1 narrow_1) := List.mem_of_getElem? (i := 180) (by decide +kernel)
theorem nc_26 : Cond.not (.castable "[D" "[S") ∈ flatC (Jvm.Cond.and given_1 narrow_1) := List.mem_of_getElem? (i := 181) (by decide +kernel)
theorem nc_27 : Cond.not (.castable "[I" "[D") ∈ flatC (Jvm.Cond.and given_1 narrow_1) := List.mem_of_getElem? (i := 268) (by decide +kernel)
theorem nc_28 : Cond.not (.castable "[F" "[D") ∈ flatC (Jvm.Cond.and given_1 narrow_1) := List.mem_of_getElem? (i := 269) (by decide +kernel)
theorem nc_29 : Cond.not (.castable "[B" "[D") ∈ flatC (Jvm.Cond.and given_1 narrow_1) := List.mem_of_getElem? (i := 270) (by decide +kernel)
theorem nc_30 : Cond.not (.castable "[S" "[D") ∈ flatC (Jvm.Cond.and given_1 narrow_1) := List.mem_of_getElem? (i := 271) (by decide +kernel)
theorem nc_31 : Cond.not (.castable "java/lang/ArrayIndexOutOfBoundsException" "java/lang/NegativeArraySizeException") ∈ flatC (Jvm.Cond.and given_1 narrow_1) := List.mem_of_getElem? (i := 12) (by decide +kernel)
theorem nc_32 : Cond.not (.castable "java/lang/ClassCastException" "java/lang/NegativeArraySizeException") ∈ flatC (Jvm.Cond.and given_1 narrow_1) := List.mem_of_getElem? (i := 11) (by decide +kernel)
theorem nc_33 : Cond.not (.castable "java/lang/ArrayStoreException" "java/lang/NegativeArraySizeException") ∈ flatC (Jvm.Cond.and given_1 narrow_1) := List.mem_of_getElem? (i := 22) (by decide +kernel)
theorem nc_34 : Cond.not (.castable "java/lang/NullPointerException" "java/lang/NegativeArraySizeException") ∈ flatC (Jvm.Cond.and given_1 narrow_1) := List.mem_of_getElem? (i := 21) (by decide +kernel)
theorem nc_35 : Cond.not (.castable "java/lang/ArithmeticException" "java/lang/NegativeArraySizeException") ∈ flatC (Jvm.Cond.and given_1 narrow_1) := List.mem_of_getElem? (i := 23) (by decide +kernel)
theorem nc_36 : Cond.not (.castable "java/lang/ArrayIndexOutOfBoundsException" "java/lang/ClassCastException") ∈ flatC (Jvm.Cond.and given_1 narrow_1) := List.mem_of_getElem? (i := 29) (by decide +kernel)
theorem nc_37 : Cond.not (.castable "java/lang/ClassCastException" "java/lang/ArrayIndexOutOfBoundsException") ∈ flatC (Jvm.Cond.and given_1 narrow_1) := List.mem_of_getElem? (i := 46) (by decide +kernel)
theorem nc_38 : Cond.not (.castable "java/lang/ArrayStoreException" "java/lang/ClassCastException") ∈ flatC (Jvm.Cond.and given_1 narrow_1) := List.mem_of_getElem? (i := 39) (by decide +kernel)
theorem nc_39 : Cond.not (.castable "java/lang/ArrayStoreException" "java/lang/ArrayIndexOutOfBoundsException") ∈ flatC (Jvm.Cond.and given_1 narrow_1) := List.mem_of_getElem? (i := 56) (by decide +kernel)
theorem nc_40 : Cond.not (.castable "java/lang/NullPointerException" "java/lang/ClassCastException") ∈ flatC (Jvm.Cond.and given_1 narrow_1) := List.mem_of_getElem? (i := 38) (by decide +kernel)
theorem nc_41 : Cond.not (.castable "java/lang/NullPointerException" "java/lang/ArrayIndexOutOfBoundsException") ∈ flatC (Jvm.Cond.and given_1 narrow_1) := List.mem_of_getElem? (i := 55) (by decide +kernel)
theorem nc_42 : Cond.not (.castable "java/lang/NegativeArraySizeException" "java/lang/ClassCastException") ∈ flatC (Jvm.Cond.and given_1 narrow_1) := List.mem_of_getElem? (i := 27) (by decide +kernel)
theorem nc_43 : Cond.not (.castable "java/lang/NegativeArraySizeException" "java/lang/ArrayIndexOutOfBoundsException") ∈ flatC (Jvm.Cond.and given_1 narrow_1) := List.mem_of_getElem? (i := 44) (by decide +kernel)
theorem nc_44 : Cond.not (.castable "java/lang/ArithmeticException" "java/lang/ClassCastException") ∈ flatC (Jvm.Cond.and given_1 narrow_1) := List.mem_of_getElem? (i := 40) (by decide +kernel)
theorem nc_45 : Cond.not (.castable "java/lang/ArithmeticException" "java/lang/ArrayIndexOutOfBoundsException") ∈ flatC (Jvm.Cond.and given_1 narrow_1) := List.mem_of_getElem? (i := 57) (by decide +kernel)
theorem nc_46 : Cond.not (.castable "java/lang/ArrayIndexOutOfBoundsException" "java/lang/NullPointerException") ∈ flatC (Jvm.Cond.and given_1 narrow_1) := List.mem_of_getElem? (i := 64) (by decide +kernel)
theorem nc_47 : Cond.not (.castable "java/lang/ClassCastException" "java/lang/NullPointerException") ∈ flatC (Jvm.Cond.and given_1 narrow_1) := List.mem_of_getElem? (i := 63) (by decide +kernel)
theorem nc_48 : Cond.not (.castable "java/lang/ArrayStoreException" "java/lang/NullPointerException") ∈ flatC (Jvm.Cond.and given_1 narrow_1) := List.mem_of_getElem? (i := 73) (by decide +kernel)
theorem nc_49 : Cond.not (.castable "java/lang/NegativeArraySizeException" "java/lang/NullPointerException") ∈ flatC (Jvm.Cond.and given_1 narrow_1) := List.mem_of_getElem? (i := 61) (by decide +kernel)
theorem nc_50 : Cond.not (.castable "java/lang/ArithmeticException" "java/lang/NullPointerException") ∈ flatC (Jvm.Cond.and given_1 narrow_1) := List.mem_of_getElem? (i := 74) (by decide +kernel)
theorem nc_51 : Cond.not (.castable "java/lang/ArrayIndexOutOfBoundsException" "java/lang/ArrayStoreException") ∈ flatC (Jvm.Cond.and given_1 narrow_1) := List.mem_of_getElem? (i := 81) (by decide +kernel)
theorem nc_52 : Cond.not (.castable "java/lang/ClassCastException" "java/lang/ArrayStoreException") ∈ flatC (Jvm.Cond.and given_1 narrow_1) := List.mem_of_getElem? (i := 80) (by decide +kernel)
theorem nc_53 : Cond.not (.castable "java/lang/NullPointerException" "java/lang/ArrayStoreException") ∈ flatC (Jvm.Cond.and given_1 narrow_1) := List.mem_of_getElem? (i := 90) (by decide +kernel)
theorem nc_54 : Cond.not (.castable "java/lang/NegativeArraySizeException" "java/lang/ArrayStoreException") ∈ flatC (Jvm.Cond.and given_1 narrow_1) := List.mem_of_getElem? (i := 78) (by decide +kernel)
theorem nc_55 : Cond.not (.castable "java/lang/ArithmeticException" "java/lang/ArrayStoreException") ∈ flatC (Jvm.Cond.and given_1 narrow_1) := List.mem_of_getElem? (i := 91) (by decide +kernel)
theorem nc_56 : Cond.not (.castable "java/lang/ArrayIndexOutOfBoundsException" "java/lang/ArithmeticException") ∈ flatC (Jvm.Cond.and given_1 narrow_1) := List.mem_of_getElem? (i := 98) (by decide +kernel)
theorem nc_57 : Cond.not (.castable "java/lang/ClassCastException" "java/lang/ArithmeticException") ∈ flatC (Jvm.Cond.and given_1 narrow_1) := List.mem_of_getElem? (i := 97) (by decide +kernel)
theorem nc_58 : Cond.not (.castable "java/lang/ArrayStoreException" "java/lang/ArithmeticException") ∈ flatC (Jvm.Cond.and given_1 narrow_1) := List.mem_of_getElem? (i := 108) (by decide +kernel)
theorem nc_59 : Cond.not (.castable "java/lang/NullPointerException" "java/lang/ArithmeticException") ∈ flatC (Jvm.Cond.and given_1 narrow_1) := List.mem_of_getElem? (i := 107) (by decide +kernel)
theorem nc_60 : Cond.not (.castable "java/lang/NegativeArraySizeException" "java/lang/ArithmeticException") ∈ flatC (Jvm.Cond.and given_1 narrow_1) := List.mem_of_getElem? (i := 95) (by decide +kernel)
section ZX2
variable {G : zG} {d : Nat} {K : List Nat} {Y : zM} {pc : Nat} {lo : List (Option Value)} {st : List Value} {g : zS} {Q : zO → zS → Prop} {a : Nat}
theorem zstC_some {i : Int32} {x : Option Nat} {r : zS ⊕ String} (h : zstC g a i x = some r) : ∃ t n f, g.h a = some (.inl (t, n, .inr (.inr (.inr (.inr f))))) ∧ (t = 8 ∨ t = 10) ∧ n < 2 ^ 31 ∧ ((zout i n ∧ r = .inr zAIO) ∨ (¬ zout i n ∧ x = none ∧ r = .inl (zput g a (.inl (t, n, .inr (.inr (.inr (.inr (va_up f i.toNatClampNeg none)))))))) ∨ ∃ v ob, ¬ zout i n ∧ x = some v ∧ zob g [4, 5, 6, 7, 8, 9, 10, 11] v = some ob ∧ ((t = 10 ∧ 7 ≤ ob.1 ∧ r = .inr zASE) ∨ (¬ (t = 10 ∧ 7 ≤ ob.1) ∧ r = .inl (zput g a (.inl (t, n, .inr (.inr (.inr (.inr (va_up f i.toNatClampNeg (some v))))))))))) := by
  unfold zstC at h
  split at h
  · rename_i t n f hq
    obtain ⟨⟨h1, h2⟩, h⟩ := zgd_some h
    refine ⟨t, n, f, hq, h1, h2, ?_⟩
    by_cases ho : zout i n
    · rw [if_pos ho] at h
      exact Or.inl ⟨ho, (Option.some.inj h).symm⟩
    · rw [if_neg ho] at h
      rcases x with _ | v
      · exact Or.inr (Or.inl ⟨ho, rfl, (Option.some.inj h).symm⟩)
      · obtain ⟨ob, hob, h⟩ := zbj_some h
        by_cases hc : t = 10 ∧ 7 ≤ ob.1
        · rw [if_pos hc] at h
          exact Or.inr (Or.inr ⟨v, ob, ho, rfl, hob, Or.inl ⟨hc.1, hc.2, (Option.some.inj h).symm⟩⟩)
        · rw [if_neg hc] at h
          exact Or.inr (Or.inr ⟨v, ob, ho, rfl, hob, Or.inr ⟨hc, (Option.some.inj h).symm⟩⟩)
  · cases h
theorem zsR_mk {t n : Nat} {f : Nat → Option Nat} {i : Int32} {x : Option Nat} (he : g.h a = some (.inl (t, n, .inr (.inr (.inr (.inr f)))))) (hin : vp_in i n) : zsR g t a i x = some (zput g a (.inl (t, n, .inr (.inr (.inr (.inr (va_up f i.toNatClampNeg x))))))) := by
  have he' : g.1 a = some (.inl (t, n, .inr (.inr (.inr (.inr f))))) := he
  unfold zsR
  rw [he']
  exact zgd_pos ⟨rfl, hin⟩
theorem zob_sub {cs cs' : List Nat} {v : Nat} {ob : Nat × List Value} (h : zob g cs v = some ob) (hm : ob.1 ∈ cs') : zob g cs' v = some ob := by
  obtain ⟨h1, _⟩ := zob_some h
  have h1' : g.1 v = some (.inr ob) := h1
  unfold zob
  rw [h1']
  exact if_pos hm
theorem sX_stC {i : Int32} {x : Option Nat} {g' : zS} (hd : decode Y.code pc = .ok (.aastore, 1)) (hx : zstC g a i x = some (.inl g')) (kk : zEF G d K Y (pc + 1) lo st g' Q) : zEF G d K Y pc lo (va_rf x :: .int i :: .ref a :: st) g Q := by
  obtain ⟨t, n, f, he, ht, hn, h⟩ := zstC_some hx
  rcases h with ⟨_, h⟩ | ⟨ho, hx0, h⟩ | ⟨v, ob, ho, hx0, hob, h⟩
  · cases h
  · subst hx0
    obtain rfl := Sum.inl.inj h
    rcases ht with rfl | rfl
    · exact sX_aaN8 hd (zsR_mk he ho) kk
    · exact sX_aaN10 hd (zsR_mk he ho) kk
  · subst hx0
    rcases h with ⟨_, _, h⟩ | ⟨hc, h⟩
    · cases h
    · obtain rfl := Sum.inl.inj h
      rcases ht with rfl | rfl
      · exact sX_aa8 hd hob (zsR_mk he ho) kk
      · have hm : ob.1 ∈ [4, 5, 6] := by
          have h2 := (zob_some hob).2
          simp only [List.mem_cons, List.not_mem_nil, or_false] at h2 ⊢
          omega
        exact sX_aa10 hd (zob_sub hob hm) (zsR_mk he ho) kk
theorem eX_stC {i : Int32} {x : Option Nat} {X : String} (hd : decode Y.code pc = .ok (.aastore, 1)) (hx : zstC g a i x = some (.inr X)) (hst : (st.map fun v => v.category).sum ≤ 40) (hrc : 3 ≤ g.rc) (hrs : 300 ≤ g.rs) (kk : zTH G (d + 8) K Y pc lo X (g.sz + 2) (zxg g) Q) : zEF G (d + 8) K Y pc lo (va_rf x :: .int i :: .ref a :: st) g Q := by
  obtain ⟨t, n, f, he, ht, hn, h⟩ := zstC_some hx
  have ht2 : t < 11 := by omega
  rcases h with ⟨ho, h⟩ | ⟨_, _, h⟩ | ⟨v, ob, ho, hx0, hob, h⟩
  · obtain rfl := Sum.inr.inj h
    exact ex_aasO (zrf_ref _) hd he ht2 hn ho hst hrc hrs kk
  · cases h
  · subst hx0
    rcases h with ⟨ht10, h7, h⟩ | ⟨_, h⟩
    · obtain rfl := Sum.inr.inj h
      subst ht10
      obtain ⟨hv, h2⟩ := zob_some hob
      obtain ⟨ci, fs⟩ := ob
      simp only [List.mem_cons, List.not_mem_nil, or_false] at h2 h7
      have h3 : ci = 7 ∨ ci = 8 ∨ ci = 9 ∨ ci = 10 ∨ ci = 11 := by omega
      rcases h3 with rfl | rfl | rfl | rfl | rfl
      · exact ex_aasT (CC := RX8) (nm := "ScoreThreads$Gain") (Tt := TX8) (N := 4) hd he ht2 rfl ho hv rfl nc_0 (by decide +kernel) hst hrc hrs kk
      · exact ex_aasT (CC := RX9) (nm := "ScoreThreads$Gain") (Tt := TX9) (N := 6) hd he ht2 rfl ho hv rfl nc_1 (by decide +kernel) hst hrc hrs kk
      · exact ex_aasT (CC := RX10) (nm := "ScoreThreads$Gain") (Tt := TX10) (N := 6) hd he ht2 rfl ho hv rfl nc_2 (by decide +kernel) hst hrc hrs kk
      · exact ex_aasT (CC := RX11) (nm := "ScoreThreads$Gain") (Tt := TX11) (N := 4) hd he ht2 rfl ho hv rfl nc_3 (by decide +kernel) hst hrc hrs kk
      · exact ex_aasT (CC := RX12) (nm := "ScoreThreads$Gain") (Tt := TX12) (N := 5) hd he ht2 rfl ho hv rfl nc_4 (by decide +kernel) hst hrc hrs kk
    · cases h
theorem cX_arr0 (hd : decode Y.code pc = .ok (.checkcast 28, 3)) (ho : RX3 = Y.nm.cls) (hx : zaty g a = some 0) (kk : zEF G d K Y (pc + 3) lo (.ref a :: st) g Q) : zEF G d K Y pc lo (.ref a :: st) g Q := by
  obtain ⟨x, he, _⟩ := zaty_some hx
  exact ez_castA (nm := "[I") hd ho q387 (by decide) (by decide +kernel) he kk
theorem eX_arr0 {t : Nat} (hd : decode Y.code pc = .ok (.checkcast 28, 3)) (ho : RX3 = Y.nm.cls) (hx : zaty g a = some t) (hne : ¬ t = 0) (hst : (st.map fun v => v.category).sum ≤ 38) (hrc : 3 ≤ g.rc) (hrs : 300 ≤ g.rs) (kk : zTH G (d + 8) K Y pc lo zCCE (g.sz + 2) (zxg g) Q) : zEF G (d + 8) K Y pc lo (.ref a :: st) g Q := by
  obtain ⟨x, he, h5⟩ := zaty_some hx
  have h3 : t = 1 ∨ t = 2 ∨ t = 3 ∨ t = 4 := by omega
  rcases h3 with rfl | rfl | rfl | rfl
  · exact ex_castA (CC := "[F") (nm := "[I") hd ho q387 (by decide) (by decide +kernel) nc_11 (zcast_of (by decide +kernel) (by decide +kernel) (by unfold zltx; decide +kernel) (by unfold zltx; decide +kernel)) he hst hrc hrs kk
  · exact ex_castA (CC := "[B") (nm := "[I") hd ho q387 (by decide) (by decide +kernel) nc_12 (zcast_of (by decide +kernel) (by decide +kernel) (by unfold zltx; decide +kernel) (by unfold zltx; decide +kernel)) he hst hrc hrs kk
  · exact ex_castA (CC := "[S") (nm := "[I") hd ho q387 (by decide) (by decide +kernel) nc_13 (zcast_of (by decide +kernel) (by decide +kernel) (by unfold zltx; decide +kernel) (by unfold zltx; decide +kernel)) he hst hrc hrs kk
  · exact ex_castA (CC := "[D") (nm := "[I") hd ho q387 (by decide) (by decide +kernel) nc_14 (zcast_of (by decide +kernel) (by decide +kernel) (by unfold zltx; decide +kernel) (by unfold zltx; decide +kernel)) he hst hrc hrs kk
theorem cX_arr1 (hd : decode Y.code pc = .ok (.checkcast 30, 3)) (ho : RX3 = Y.nm.cls) (hx : zaty g a = some 1) (kk : zEF G d K Y (pc + 3) lo (.ref a :: st) g Q) : zEF G d K Y pc lo (.ref a :: st) g Q := by
  obtain ⟨x, he, _⟩ := zaty_some hx
  exact ez_castA (nm := "[F") hd ho q388 (by decide) (by decide +kernel) he kk
theorem eX_arr1 {t : Nat} (hd : decode Y.code pc = .ok (.checkcast 30, 3)) (ho : RX3 = Y.nm.cls) (hx : zaty g a = some t) (hne : ¬ t = 1) (hst : (st.map fun v => v.category).sum ≤ 38) (hrc : 3 ≤ g.rc) (hrs : 300 ≤ g.rs) (kk : zTH G (d + 8) K Y pc lo zCCE (g.sz + 2) (zxg g) Q) : zEF G (d + 8) K Y pc lo (.ref a :: st) g Q := by
  obtain ⟨x, he, h5⟩ := zaty_some hx
  have h3 : t = 0 ∨ t = 2 ∨ t = 3 ∨ t = 4 := by omega
  rcases h3 with rfl | rfl | rfl | rfl
  · exact ex_castA (CC := "[I") (nm := "[F") hd ho q388 (by decide) (by decide +kernel) nc_15 (zcast_of (by decide +kernel) (by decide +kernel) (by unfold zltx; decide +kernel) (by unfold zltx; decide +kernel)) he hst hrc hrs kk
  · exact ex_castA (CC := "[B") (nm := "[F") hd ho q388 (by decide) (by decide +kernel) nc_16 (zcast_of (by decide +kernel) (by decide +kernel) (by unfold zltx; decide +kernel) (by unfold zltx; decide +kernel)) he hst hrc hrs kk
  · exact ex_castA (CC := "[S") (nm := "[F") hd ho q388 (by decide) (by decide +kernel) nc_17 (zcast_of (by decide +kernel) (by decide +kernel) (by unfold zltx; decide +kernel) (by unfold zltx; decide +kernel)) he hst hrc hrs kk
  · exact ex_castA (CC := "[D") (nm := "[F") hd ho q388 (by decide) (by decide +kernel) nc_18 (zcast_of (by decide +kernel) (by decide +kernel) (by unfold zltx; decide +kernel) (by unfold zltx; decide +kernel)) he hst hrc hrs kk
theorem cX_arr2 (hd : decode Y.code pc = .ok (.checkcast 24, 3)) (ho : RX3 = Y.nm.cls) (hx : zaty g a = some 2) (kk : zEF G d K Y (pc + 3) lo (.ref a :: st) g Q) : zEF G d K Y pc lo (.ref a :: st) g Q := by
  obtain ⟨x, he, _⟩ := zaty_some hx
  exact ez_castA (nm := "[B") hd ho q385 (by decide) (by decide +kernel) he kk
theorem eX_arr2 {t : Nat} (hd : decode Y.code pc = .ok (.checkcast 24, 3)) (ho : RX3 = Y.nm.cls) (hx : zaty g a = some t) (hne : ¬ t = 2) (hst : (st.map fun v => v.category).sum ≤ 38) (hrc : 3 ≤ g.rc) (hrs : 300 ≤ g.rs) (kk : zTH G (d + 8) K Y pc lo zCCE (g.sz + 2) (zxg g) Q) : zEF G (d + 8) K Y pc lo (.ref a :: st) g Q := by
  obtain ⟨x, he, h5⟩ := zaty_some hx
  have h3 : t = 0 ∨ t = 1 ∨ t = 3 ∨ t = 4 := by omega
  rcases h3 with rfl | rfl | rfl | rfl
  · exact ex_castA (CC := "[I") (nm := "[B") hd ho q385 (by decide) (by decide +kernel) nc_19 (zcast_of (by decide +kernel) (by decide +kernel) (by unfold zltx; decide +kernel) (by unfold zltx; decide +kernel)) he hst hrc hrs kk
  · exact ex_castA (CC := "[F") (nm := "[B") hd ho q385 (by decide) (by decide +kernel) nc_20 (zcast_of (by decide +kernel) (by decide +kernel) (by unfold zltx; decide +kernel) (by unfold zltx; decide +kernel)) he hst hrc hrs kk
  · exact ex_castA (CC := "[S") (nm := "[B") hd ho q385 (by decide) (by decide +kernel) nc_21 (zcast_of (by decide +kernel) (by decide +kernel) (by unfold zltx; decide +kernel) (by unfold zltx; decide +kernel)) he hst hrc hrs kk
  · exact ex_castA (CC := "[D") (nm := "[B") hd ho q385 (by decide) (by decide +kernel) nc_22 (zcast_of (by decide +kernel) (by decide +kernel) (by unfold zltx; decide +kernel) (by unfold zltx; decide +kernel)) he hst hrc hrs kk
theorem cX_arr3 (hd : decode Y.code pc = .ok (.checkcast 26, 3)) (ho : RX3 = Y.nm.cls) (hx : zaty g a = some 3) (kk : zEF G d K Y (pc + 3) lo (.ref a :: st) g Q) : zEF G d K Y pc lo (.ref a :: st) g Q := by
  obtain ⟨x, he, _⟩ := zaty_some hx
  exact ez_castA (nm := "[S") hd ho q386 (by decide) (by decide +kernel) he kk
theorem eX_arr3 {t : Nat} (hd : decode Y.code pc = .ok (.checkcast 26, 3)) (ho : RX3 = Y.nm.cls) (hx : zaty g a = some t) (hne : ¬ t = 3) (hst : (st.map fun v => v.category).sum ≤ 38) (hrc : 3 ≤ g.rc) (hrs : 300 ≤ g.rs) (kk : zTH G (d + 8) K Y pc lo zCCE (g.sz + 2) (zxg g) Q) : zEF G (d + 8) K Y pc lo (.ref a :: st) g Q := by
  obtain ⟨x, he, h5⟩ := zaty_some hx
  have h3 : t = 0 ∨ t = 1 ∨ t = 2 ∨ t = 4 := by omega
  rcases h3 with rfl | rfl | rfl | rfl
  · exact ex_castA (CC := "[I") (nm := "[S") hd ho q386 (by decide) (by decide +kernel) nc_23 (zcast_of (by decide +kernel) (by decide +kernel) (by unfold zltx; decide +kernel) (by unfold zltx; decide +kernel)) he hst hrc hrs kk
  · exact ex_castA (CC := "[F") (nm := "[S") hd ho q386 (by decide) (by decide +kernel) nc_24 (zcast_of (by decide +kernel) (by decide +kernel) (by unfold zltx; decide +kernel) (by unfold zltx; decide +kernel)) he hst hrc hrs kk
  · exact ex_castA (CC := "[B") (nm := "[S") hd ho q386 (by decide) (by decide +kernel) nc_25 (zcast_of (by decide +kernel) (by decide +kernel) (by unfold zltx; decide +kernel) (by unfold zltx; decide +kernel)) he hst hrc hrs kk
  · exact ex_castA (CC := "[D") (nm := "[S") hd ho q386 (by decide) (by decide +kernel) nc_26 (zcast_of (by decide +kernel) (by decide +kernel) (by unfold zltx; decide +kernel) (by unfold zltx; decide +kernel)) he hst hrc hrs kk
theorem cX_arr4 (hd : decode Y.code pc = .ok (.checkcast 38, 3)) (ho : RX3 = Y.nm.cls) (hx : zaty g a = some 4) (kk : zEF G d K Y (pc + 3) lo (.ref a :: st) g Q) : zEF G d K Y pc lo (.ref a :: st) g Q := by
  obtain ⟨x, he, _⟩ := zaty_some hx
  exact ez_castA (nm := "[D") hd ho q392 (by decide) (by decide +kernel) he kk
theorem eX_arr4 {t : Nat} (hd : decode Y.code pc = .ok (.checkcast 38, 3)) (ho : RX3 = Y.nm.cls) (hx : zaty g a = some t) (hne : ¬ t = 4) (hst : (st.map fun v => v.category).sum ≤ 38) (hrc : 3 ≤ g.rc) (hrs : 300 ≤ g.rs) (kk : zTH G (d + 8) K Y pc lo zCCE (g.sz + 2) (zxg g) Q) : zEF G (d + 8) K Y pc lo (.ref a :: st) g Q := by
  obtain ⟨x, he, h5⟩ := zaty_some hx
  have h3 : t = 0 ∨ t = 1 ∨ t = 2 ∨ t = 3 := by omega
  rcases h3 with rfl | rfl | rfl | rfl
  · exact ex_castA (CC := "[I") (nm := "[D") hd ho q392 (by decide) (by decide +kernel) nc_27 (zcast_of (by decide +kernel) (by decide +kernel) (by unfold zltx; decide +kernel) (by unfold zltx; decide +kernel)) he hst hrc hrs kk
  · exact ex_castA (CC := "[F") (nm := "[D") hd ho q392 (by decide) (by decide +kernel) nc_28 (zcast_of (by decide +kernel) (by decide +kernel) (by unfold zltx; decide +kernel) (by unfold zltx; decide +kernel)) he hst hrc hrs kk
  · exact ex_castA (CC := "[B") (nm := "[D") hd ho q392 (by decide) (by decide +kernel) nc_29 (zcast_of (by decide +kernel) (by decide +kernel) (by unfold zltx; decide +kernel) (by unfold zltx; decide +kernel)) he hst hrc hrs kk
  · exact ex_castA (CC := "[S") (nm := "[D") hd ho q392 (by decide) (by decide +kernel) nc_30 (zcast_of (by decide +kernel) (by decide +kernel) (by unfold zltx; decide +kernel) (by unfold zltx; decide +kernel)) he hst hrc hrs kk
theorem cX_echo {ob : Nat × List Value} (hd : decode Y.code pc = .ok (.checkcast 20, 3)) (ho : RX0 = Y.nm.cls) (hx : zob g [4, 5, 6, 7, 8, 9, 10, 11] a = some ob) (hc : ob.1 = 8 ∨ ob.1 = 9) (kk : zEF G d K Y (pc + 3) lo (.ref a :: st) g Q) : zEF G d K Y pc lo (.ref a :: st) g Q := by
  obtain ⟨hv, _⟩ := zob_some hx
  obtain ⟨ci, fs⟩ := ob
  rcases hc with rfl | rfl
  · exact ez_castY (C := RX9) (nm := "ScoreThreads$Echo") (Tt := TX9) (N := 6) hd rfl ho q511 (Or.inr rfl) hv kk
  · exact ez_castY (C := RX10) (nm := "ScoreThreads$Echo") (Tt := TX10) (N := 6) hd rfl ho q511 (Or.inl q1331) hv kk
theorem eX_echo {ob : Nat × List Value} (hd : decode Y.code pc = .ok (.checkcast 20, 3)) (ho : RX0 = Y.nm.cls) (hx : zob g [4, 5, 6, 7, 8, 9, 10, 11] a = some ob) (hc : ¬ (ob.1 = 8 ∨ ob.1 = 9)) (hst : (st.map fun v => v.category).sum ≤ 38) (hrc : 3 ≤ g.rc) (hrs : 300 ≤ g.rs) (kk : zTH G (d + 8) K Y pc lo zCCE (g.sz + 2) (zxg g) Q) : zEF G (d + 8) K Y pc lo (.ref a :: st) g Q := by
  obtain ⟨hv, h2⟩ := zob_some hx
  obtain ⟨ci, fs⟩ := ob
  simp only [List.mem_cons, List.not_mem_nil, or_false] at h2 hc
  have h3 : ci = 4 ∨ ci = 5 ∨ ci = 6 ∨ ci = 7 ∨ ci = 10 ∨ ci = 11 := by omega
  rcases h3 with rfl | rfl | rfl | rfl | rfl | rfl
  · exact ex_castO (C := RX5) (nm := "ScoreThreads$Echo") (Tt := TX5) (N := 4) hd rfl ho q511 nc_5 (zcast_of (by decide +kernel) (by decide +kernel) (by unfold zltx; decide +kernel) (by unfold zltx; decide +kernel)) hv hst hrc hrs kk
  · exact ex_castO (C := RX6) (nm := "ScoreThreads$Echo") (Tt := TX6) (N := 4) hd rfl ho q511 nc_6 (zcast_of (by decide +kernel) (by decide +kernel) (by unfold zltx; decide +kernel) (by unfold zltx; decide +kernel)) hv hst hrc hrs kk
  · exact ex_castO (C := RX7) (nm := "ScoreThreads$Echo") (Tt := TX7) (N := 4) hd rfl ho q511 nc_7 (zcast_of (by decide +kernel) (by decide +kernel) (by unfold zltx; decide +kernel) (by unfold zltx; decide +kernel)) hv hst hrc hrs kk
  · exact ex_castO (C := RX8) (nm := "ScoreThreads$Echo") (Tt := TX8) (N := 4) hd rfl ho q511 nc_8 (zcast_of (by decide +kernel) (by decide +kernel) (by unfold zltx; decide +kernel) (by unfold zltx; decide +kernel)) hv hst hrc hrs kk
  · exact ex_castO (C := RX11) (nm := "ScoreThreads$Echo") (Tt := TX11) (N := 4) hd rfl ho q511 nc_9 (zcast_of (by decide +kernel) (by decide +kernel) (by unfold zltx; decide +kernel) (by unfold zltx; decide +kernel)) hv hst hrc hrs kk
  · exact ex_castO (C := RX12) (nm := "ScoreThreads$Echo") (Tt := TX12) (N := 5) hd rfl ho q511 nc_10 (zcast_of (by decide +kernel) (by decide +kernel) (by unfold zltx; decide +kernel) (by unfold zltx; decide +kernel)) hv hst hrc hrs kk
theorem iX_echo {ob : Nat × List Value} (hd : decode Y.code pc = .ok (.instanceof 20, 3)) (ho : RX0 = Y.nm.cls) (hx : zob g [4, 5, 6, 7, 8, 9, 10, 11] a = some ob) (kk : zEF G d K Y (pc + 3) lo (.int (if ob.1 = 8 ∨ ob.1 = 9 then 1 else 0) :: st) g Q) : zEF G d K Y pc lo (.ref a :: st) g Q := by
  obtain ⟨hv, h2⟩ := zob_some hx
  obtain ⟨ci, fs⟩ := ob
  simp only [List.mem_cons, List.not_mem_nil, or_false] at h2
  rcases h2 with rfl | rfl | rfl | rfl | rfl | rfl | rfl | rfl
  · exact ez_instNo (C := RX5) (nm := "ScoreThreads$Echo") (Tt := TX5) (N := 4) hd rfl ho q511 nc_5 hv kk
  · exact ez_instNo (C := RX6) (nm := "ScoreThreads$Echo") (Tt := TX6) (N := 4) hd rfl ho q511 nc_6 hv kk
  · exact ez_instNo (C := RX7) (nm := "ScoreThreads$Echo") (Tt := TX7) (N := 4) hd rfl ho q511 nc_7 hv kk
  · exact ez_instNo (C := RX8) (nm := "ScoreThreads$Echo") (Tt := TX8) (N := 4) hd rfl ho q511 nc_8 hv kk
  · exact ez_instY (C := RX9) (nm := "ScoreThreads$Echo") (Tt := TX9) (N := 6) hd rfl ho q511 (Or.inr rfl) hv kk
  · exact ez_instY (C := RX10) (nm := "ScoreThreads$Echo") (Tt := TX10) (N := 6) hd rfl ho q511 (Or.inl q1331) hv kk
  · exact ez_instNo (C := RX11) (nm := "ScoreThreads$Echo") (Tt := TX11) (N := 4) hd rfl ho q511 nc_9 hv kk
  · exact ez_instNo (C := RX12) (nm := "ScoreThreads$Echo") (Tt := TX12) (N := 5) hd rfl ho q511 nc_10 hv kk
end ZX2
abbrev cX4_pass : ByteArray := prog_8_method_4_code
def yX4_pass : MethodName := ⟨RX4, "pass", "([F[F)V"⟩
abbrev cX4_uses : ByteArray := prog_8_method_5_code
def yX4_uses : MethodName := ⟨RX4, "uses", "()I"⟩
theorem dX4_pass_0 : decode cX4_pass 0 = .ok (.iconst 0, 1) := by decide +kernel
theorem dX4_pass_1 : decode cX4_pass 1 = .ok (.istore_n 3, 1) := by decide +kernel
theorem dX4_pass_2 : decode cX4_pass 2 = .ok (.iload_n 3, 1) := by decide +kernel
theorem dX4_pass_3 : decode cX4_pass 3 = .ok (.bipush 8, 2) := by decide +kernel
theorem dX4_pass_5 : decode cX4_pass 5 = .ok (.if_icmp .ge 19, 3) := by decide +kernel
theorem dX4_pass_8 : decode cX4_pass 8 = .ok (.aload_n 2, 1) := by decide +kernel
theorem dX4_pass_9 : decode cX4_pass 9 = .ok (.iload_n 3, 1) := by decide +kernel
theorem dX4_pass_10 : decode cX4_pass 10 = .ok (.aload_n 0, 1) := by decide +kernel
theorem dX4_pass_11 : decode cX4_pass 11 = .ok (.aload_n 1, 1) := by decide +kernel
theorem dX4_pass_12 : decode cX4_pass 12 = .ok (.iload_n 3, 1) := by decide +kernel
theorem dX4_pass_13 : decode cX4_pass 13 = .ok (.faload, 1) := by decide +kernel
theorem dX4_pass_14 : decode cX4_pass 14 = .ok (.invokevirtual 22, 3) := by decide +kernel
theorem dX4_pass_17 : decode cX4_pass 17 = .ok (.fastore, 1) := by decide +kernel
theorem dX4_pass_18 : decode cX4_pass 18 = .ok (.iinc 3 1, 3) := by decide +kernel
theorem dX4_pass_21 : decode cX4_pass 21 = .ok (.goto (-19), 3) := by decide +kernel
theorem dX4_pass_24 : decode cX4_pass 24 = .ok (.aload_n 0, 1) := by decide +kernel
theorem dX4_pass_25 : decode cX4_pass 25 = .ok (.dup, 1) := by decide +kernel
theorem dX4_pass_26 : decode cX4_pass 26 = .ok (.getfield 26, 3) := by decide +kernel
theorem dX4_pass_29 : decode cX4_pass 29 = .ok (.iconst 1, 1) := by decide +kernel
theorem dX4_pass_30 : decode cX4_pass 30 = .ok (.iadd, 1) := by decide +kernel
theorem dX4_pass_31 : decode cX4_pass 31 = .ok (.putfield 26, 3) := by decide +kernel
theorem dX4_pass_34 : decode cX4_pass 34 = .ok (.return_, 1) := by decide +kernel
theorem dX4_uses_0 : decode cX4_uses 0 = .ok (.aload_n 0, 1) := by decide +kernel
theorem dX4_uses_1 : decode cX4_uses 1 = .ok (.getfield 26, 3) := by decide +kernel
theorem dX4_uses_4 : decode cX4_uses 4 = .ok (.ireturn, 1) := by decide +kernel
