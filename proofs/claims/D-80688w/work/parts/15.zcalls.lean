/-! calls -/
set_option maxRecDepth 100000
theorem zWeak {tb : Tables} {e : Env} {f : Frame} {below : List Frame} {a b : State} (h : Steps tb e (f :: below) a b) : Steps tb e below a b := by
  obtain ⟨n, hn, w⟩ := h
  exact ⟨n, hn, fun k hk => Within.weaken (mid := [f]) (w k hk)⟩
theorem zsl_args : ∀ (vs : List Value) (i j : Nat) (w : Value), (zsl vs)[j]? = some (some w) → (i + j, w) ∈ lv_args i vs
  | [], i, j, w, h => by simp [zsl] at h
  | v :: vs, i, j, w, h => by
    unfold zsl at h
    unfold lv_args
    by_cases hc : v.category = 2
    · rw [if_pos hc] at h
      rw [if_pos hc]
      match j, h with
      | 0, h => simp at h; subst h; exact List.mem_cons_self
      | 1, h => simp at h
      | j + 2, h =>
        have h1 : (zsl vs)[j]? = some (some w) := by simpa using h
        have := zsl_args vs (i + 2) j w h1
        exact List.mem_cons_of_mem _ (by rw [show i + (j + 2) = i + 2 + j by omega]; exact this)
    · rw [if_neg hc] at h
      rw [if_neg hc]
      match j, h with
      | 0, h => simp at h; subst h; exact List.mem_cons_self
      | j + 1, h =>
        have h1 : (zsl vs)[j]? = some (some w) := by simpa using h
        have := zsl_args vs (i + 1) j w h1
        exact List.mem_cons_of_mem _ (by rw [show i + (j + 1) = i + 1 + j by omega]; exact this)
theorem zsl_len : ∀ vs : List Value, (zsl vs).length = (lg_sl vs).length
  | [] => rfl
  | v :: vs => by
    have ih := zsl_len vs
    unfold zsl
    have e : lg_sl (v :: vs) = (if v.category = 2 then [.val v, .second] else [.val v]) ++ lg_sl vs := rfl
    rw [e]
    split <;> simp [ih] <;> omega
/-- the locals of a method's entry -/
theorem zentry_lo (vs : List Value) (n : Nat) (h : (zsl vs).length ≤ n) : zLo ((lg_sl vs ++ List.replicate (n - (lg_sl vs).length) Slot.unset).toArray) n (zentry vs n) := by
  obtain ⟨h1, h2, h3⟩ := lv_entry vs (n := n) (by rw [← zsl_len]; exact h)
  refine ⟨h1, h2, fun i v hv => ?_⟩
  by_cases hi : i < (zsl vs).length
  · have hv2 : (zsl vs)[i]? = some (some v) := by
      unfold zentry at hv
      rw [List.getElem?_append_left hi] at hv
      exact hv
    have := h3 (0 + i, v) (zsl_args vs 0 i v hv2)
    simpa using this
  · unfold zentry at hv
    rw [List.getElem?_append_right (by omega)] at hv
    rw [List.getElem?_replicate] at hv
    split at hv <;> simp at hv
/-- a method's code, as the tables have it -/
def zCode (Y : zM) : Cond := if Y.sy = true then .codeSync Y.nm Y.code Y.mL Y.ret else match Y.hs with
  | [] => .code Y.nm Y.code Y.mL Y.ret
  | h => .codeWith Y.nm Y.code Y.mL Y.ret h
theorem zCode_spec {s : State} {args : Array Value} {Y : zM} {mk : MethodId} (hn : s.methodNamed? Y.nm = some mk) (hno : Y.sy = true → Y.hs = []) (h : (zCode Y).before args s = true) : ∃ meth c, s.vm.method? mk = some meth ∧ meth.code = some c ∧ c.code = Y.code ∧ c.maxLocals = Y.mL ∧ c.exceptionTable.toList = tableOf Y.hs ∧ meth.sig.returnType = Y.ret ∧ meth.locks = Y.sy ∧ parseMethodDescriptor Y.nm.desc = some meth.sig := by
  obtain ⟨nm, code, mL, ret, hs, sy⟩ := Y
  unfold zCode at h
  cases sy with
  | true =>
    have e : hs = [] := hno rfl
    subst e
    simp only [if_true] at h
    obtain ⟨meth, c, h1, h2, h3, h4, h5, h6, h7, h8⟩ := Cond.codeSync_spec hn h
    exact ⟨meth, c, h1, h2, h3, h4, by have := Array.isEmpty_iff.mp h7; rw [this]; rfl, h5, h6, h8⟩
  | false =>
    cases hs with
    | nil =>
      have h : (Cond.code nm code mL ret).before args s = true := h
      obtain ⟨meth, c, h1, h2, h3, h4, h5, h6, h7, h8⟩ := Cond.code_spec hn h
      exact ⟨meth, c, h1, h2, h3, h4, by have := Array.isEmpty_iff.mp h7; rw [this]; rfl, h5, h6, h8⟩
    | cons q hs =>
      have h : (Cond.codeWith nm code mL ret (q :: hs)).before args s = true := h
      obtain ⟨m', meth, c, hn', h1, h2, h3, h4, h5, h6, h7, h8⟩ := Cond.codeWith_spec h
      cases hn.symm.trans hn'
      exact ⟨meth, c, h1, h2, h3, h4, by rw [← h5, table_eq], h6, h7, h8⟩
/-- what a caller goes on with -/
def zBack (G : zG) (d : Nat) (K : List Nat) (Y : zM) (pc : Nat) (lo : List (Option Value)) (rest : List Value) (Q : zO → zS → Prop) : zO → zS → Prop := fun o g => match o with
  | .inl v => zEF G d K Y (pc + 3) lo (v.toList ++ rest) g Q
  | .inr x => zTH G d K Y pc lo x.1 x.2 g Q
section ZL
variable {G : zG} {d : Nat} {K : List Nat} {Y : zM} {pc : Nat} {lo : List (Option Value)} {st rest : List Value} {g : zS} {Q : zO → zS → Prop} {p : Program} {l : Launch} {e : Env} {R : Room} {s : State} {m : MethodId} {args : Array Value} {below : List Frame} {meth : Method} {c : Code} {T : State} {locs : List Loc} {cells slots : Nat} {ls : Array Slot} {lk : Option Addr} {mr : Nat} {s1 : State}
theorem zCtx.mr1 (C : zCtx G d K Y lo g p l e R s m args below meth c T locs cells slots ls lk mr s1) : mr ≤ 1 := by
  rcases C.hlk with ⟨-, -, h, -⟩ | ⟨_, _, _, -, -, -, -, h, -⟩ <;> omega
/-- behind a call that came back -/
theorem zCtx.back (C : zCtx G (d + 1) K Y lo g p l e R s m args below meth c T locs cells slots ls lk mr s1) {vm' : Vm} (X' : Stand p l e R s m args below meth c (T.setVm vm') locs cells slots) {ig : Instr} (hd : decode Y.code pc = .ok (ig, 3)) {mk : MethodId} {a : Array Value} {t : State} {o : zO} {g' : zS} {L : List Loc} {k n : Nat} (hQ : zBack G (d + 1) K Y pc lo rest Q o g')
    (hout : zOut G o t (.java (zF m pc ls rest lk mr) :: below)) (hW : ((T.setVm vm').calling (zF m pc ls rest lk mr) mk a).WarmedH t.vm) (hrep : zRep G K g' t) (hsame : ((T.setVm vm').calling (zF m pc ls rest lk mr) mk a).sameButNew ({ t with vm := ((T.setVm vm').calling (zF m pc ls rest lk mr) mk a).vm } : State) L k n) (hcn : k + g'.rc = g.rc ∧ n + g'.rs ≤ g.rs) (hL : ∀ q ∈ L, G.s0.heap.size ≤ q.base) :
    ∃ t2, Steps p.tables e below t t2 ∧ zEnd G K Y Q R s1 below t2 := by
  have hcn0 := C.cn
  have hdc : decode c.code (zF m pc ls rest lk mr).pc = .ok (ig, 3) := by rw [C.hb]; exact hd
  have hlc : ∀ q ∈ locs ++ L, G.s0.heap.size ≤ q.base := fun q hq => by
    rcases List.mem_append.mp hq with h | h
    · exact C.lc q h
    · exact hL q h
  cases o with
  | inl v =>
    obtain ⟨T', X2, hW', hB, ht⟩ := X'.outOf (g := zF m pc ls rest lk mr) rfl hdc hout hW hsame
    have hrep' : zRep G K g' T' := by rw [ht] at hrep; exact hrep
    obtain ⟨t2, a1, b1⟩ := hQ p l e R s m args below meth c T' (locs ++ L) (cells + k) (slots + n) ls lk mr s1 ⟨C.ok, C.2.1, C.fr, C.rm, C.hlk, X2, hrep', C.hlo, by omega, hlc⟩
    exact ⟨t2, by rw [ht]; exact a1, b1⟩
  | inr x =>
    obtain ⟨hend, hx0, cell, hcell, hfc⟩ := hout
    obtain ⟨T', X2, hW', hB, ht⟩ := X'.outOfThrown (g := zF m pc ls rest lk mr) rfl hend hW hsame
    have hrep' : zRep G K g' T' := by rw [ht] at hrep; exact hrep
    obtain ⟨t2, a1, b1⟩ := hQ p l e R s m args below meth c T' (locs ++ L) (cells + k) (slots + n) ls lk mr s1 rest ⟨C.ok, C.2.1, C.fr, C.rm, C.hlk, X2, hrep', C.hlo, by omega, hlc⟩ hx0 ⟨cell, by rw [ht] at hcell; exact hcell, hfc⟩
    exact ⟨t2, by rw [ht]; exact a1, b1⟩
/-- a call, once it is linked: into the callee, and back -/
theorem zCtx.call (C : zCtx G (d + 1) K Y lo g p l e R s m args below meth c T locs cells slots ls lk mr s1) {Y' : zM} {vs : List Value} {mk : MethodId} {vm' : Vm} (X' : Stand p l e R s m args below meth c (T.setVm vm') locs cells slots) (hn : s.methodNamed? Y'.nm = some mk) {ig : Instr} (hd : decode Y.code pc = .ok (ig, 3))
    (hsy : Y'.sy = false) (hw : zCode Y' ∈ lw_all) (hpl : (plainName Y'.nm.cls || (NativeRow.find? Jvm.natives Y'.nm.cls Y'.nm.name Y'.nm.desc).isNone) = true) (hvs : (zsl vs).length ≤ Y'.mL) (hrm : (rest.map fun v => v.category).sum + Y'.mL ≤ 27)
    (hk : zEM G d K Y' vs g (zBack G (d + 1) K Y pc lo rest Q)) :
    ∃ t, Steps p.tables e below (doInvoke e ((T.setVm vm').setTop (zF m pc ls rest lk mr)) [] mk vs.toArray).1 t ∧ zEnd G K Y Q R s1 below t := by
  obtain ⟨methk, ck, h1, h2, h3, h4, h5, h6, h7, h8⟩ := zCode_spec hn (fun h => by rw [hsy] at h; cases h) (C.w hw)
  have hmk : (T.setVm vm').vm.method? mk = some methk := by rw [X'.warmed.alike.method?]; exact h1
  have hn' : (T.setVm vm').methodNamed? Y'.nm = some mk := X'.named hn
  have hpk : (T.setVm vm').plainMethod mk := by
    intro k hk
    obtain ⟨k', hk', hnn⟩ := className_of_methodNamed hn'
    have hk0 : (T.setVm vm').vm.classes[mk.cls]? = some k := hk
    cases hk0.symm.trans hk'
    rcases Bool.or_eq_true_iff.mp hpl with h | h
    · exact plain_of_name (by rw [hnn]; exact h)
    · refine Bool.or_eq_true_iff.mpr (Or.inr ?_)
      have hmm : k.methods[mk.idx]? = some methk := by
        have h0 := hmk
        simp only [Vm.method?, hk0, Option.bind_eq_bind, Option.bind_some] at h0
        exact h0
      obtain ⟨e1, e2⟩ := name_of_methodNamed hn' hmk
      unfold rowless
      rw [hmm, hnn]
      show (NativeRow.find? Jvm.natives Y'.nm.cls methk.name methk.desc).isNone = true
      rw [e1, e2]
      exact h
  have hR := C.rm
  have hmr := C.mr1
  have hcn := C.cn
  have hdc : decode c.code (zF m pc ls rest lk mr).pc = .ok (ig, 3) := by rw [C.hb]; exact hd
  have hlk0 : methk.locks = false := h7.trans hsy
  obtain ⟨Y0, hin⟩ := X'.into (g := zF m pc ls rest lk mr) rfl (by rw [C.ml]; exact C.hlo.1) hdc vs.toArray (R' := { frames := d, cells := g.rc, slots := g.rs, locals := 40 * d + 10300 }) hmk h2 hlk0 hpk
    (by show d + 1 ≤ R.frames; omega) (by show 2 * mr + (rest.map fun v => v.category).sum + (ck.maxLocals + 11) + (40 * d + 10300) ≤ R.locals; rw [h4]; omega) (by show cells + g.rc ≤ R.cells; omega) (by show slots + g.rs ≤ R.slots; omega)
  have hrep0 : zRep G K g (T.setVm vm') := ⟨State.WarmedH.trans C.wm X'.warmed, C.hp⟩
  have hold : zOld G ((T.setVm vm').calling (zF m pc ls rest lk mr) mk vs.toArray) := ⟨hrep0.1, hrep0.2.1⟩
  have hlo := zentry_lo vs ck.maxLocals (by rw [h4]; exact hvs)
  rw [lg_entry_eq] at hin Y0
  generalize (lg_sl vs ++ List.replicate (ck.maxLocals - (lg_sl vs).length) Slot.unset).toArray = ls2 at hin Y0 hlo
  rw [h4] at hlo
  obtain ⟨t, a1, o, g', hQ, hrun, hout, hW, hrep, L, k, n, hsame, hcn', hL⟩ := hk p l e _ _ mk vs.toArray (.java (zF m pc ls rest lk mr) :: below) methk ck _ [] 0 0 ls2 none 0 ((T.setVm vm').calling (zF m pc ls rest lk mr) mk vs.toArray)
    ⟨C.ok, C.2.1, ⟨hold, hn', h3, h4, h5, h6, h7⟩, ⟨rfl, Nat.le_refl _⟩, Or.inl ⟨hsy, rfl, rfl, rfl⟩, Y0, hrep0, hlo, ⟨Nat.zero_add _, by show 0 + g.rs ≤ g.rs; omega⟩, fun q hq => by cases hq⟩
  rw [if_neg (by rw [hsy]; decide)] at hrep
  obtain ⟨t2, a2, b2⟩ := C.back X' hd hQ hout hW hrep hsame hcn' hL
  exact ⟨t2, by rw [hin []]; exact (zWeak a1).trans a2, b2⟩
end ZL
