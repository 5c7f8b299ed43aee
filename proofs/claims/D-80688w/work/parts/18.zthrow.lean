/-! the machine's own exceptions -/
set_option maxRecDepth 100000
/-- a static that holds a reference or null, at a heap whose old cells are the start's -/
abbrev zZq (G : zG) (n d : String) (U : State) (H : Heap) : Prop := va_Zq Bundle.tN n d (fun q => G.s0.heap.size ≤ q) U H
theorem zZq_val {G : zG} {n d : String} {U : State} {H : Heap} (h : zZq G n d U H) {cf fi aS : Nat} {kf : Class} {f : Field} (hf : U.fieldFound? Bundle.tN n d = some (cf, kf, fi, f)) (hs : kf.statics = some aS) : ∃ (cell : Cell) (u : RefV), H[aS]? = some cell ∧ cell.vm ≠ .unknown ∧ cell.slots[f.slot]? = some u.v := by
  rcases h with ⟨cf', kf', fi', f', a, cell, h1, h2, h3, h4, h5, h6, h7, -⟩ | ⟨t, cf', kf', fi', f', a, cell, h1, h2, h3, h4, h5, h6, h7, -⟩
  · cases hf.symm.trans h1
    cases hs.symm.trans h4
    exact ⟨cell, ⟨.null, rfl⟩, h5, (fun e => by rw [e] at h6; cases h6), h7⟩
  · cases hf.symm.trans h1
    cases hs.symm.trans h4
    exact ⟨cell, ⟨.ref t, rfl⟩, h5, (fun e => by rw [e] at h6; cases h6), h7⟩
section ZT0
variable {p : Program} {l : Launch} {e : Env} {R : Room} {s : State} {m₀ : MethodId} {args : Array Value} {below : List Frame} {meth : Method} {c : Code} {S : State} {locs : List Loc} {cells slots : Nat} {G : zG}
set_option maxHeartbeats 2000000 in
/-- an exception with a message: three new cells, and it is being thrown over the frame that stood there -/
theorem zMsg (X : Stand p l e R s m₀ args below meth c S locs cells slots) (hexec : p.tables.exec = Jvm.exec) (htr : e.platform.stackTraces = false) {cls : String} {names : List String} {text : String}
    (hcls : Bundle.fit cls = true) (hnames : ∀ n ∈ names, Bundle.fit n = true) (hsoe : (cls == "java/lang/StackOverflowError") = false) (hoom : (cls == "java/lang/OutOfMemoryError") = false)
    (h : ∀ a ∈ Bundle.messageArmAtoms cls names, (∀ t, a ≠ .isRef t) → a.before args s = true) (hU : zZq G "UNASSIGNED_STACK" Bundle.steD s S.heap) (hSen : zZq G "SUPPRESSED_SENTINEL" Bundle.listD s S.heap)
    (htext : (text == notModelled) = false) {N : Nat} (hN : (stringBytes (stringToUtf16 text)).size ≤ N) (hNs : N ≤ 4096)
    {g : JFrame} (hg : g.method = m₀) (hsize : g.locals.size = c.maxLocals)
    (hRframes : names.length + 4 < R.frames) (hRlocals : 2 * g.monitorRoom + (g.stack.map fun v => v.category).sum + 10240 ≤ R.locals) (hshort : 13 * names.length + 55 ≤ 10240)
    (hRcells : cells + 3 ≤ R.cells) (hRslots : slots + (N + 10) ≤ R.slots) :
    ∃ S5 : State, Stand p l e R s m₀ args below meth c S5 locs (cells + 3) (slots + (N + 10)) ∧ S5.heap.size = S.heap.size + 3 ∧ (∀ q : Nat, q < S.heap.size → S5.heap[q]? = S.heap[q]?) ∧
      (∀ (q : Nat) (cell : Cell), S.heap.size ≤ q → S5.heap[q]? = some cell → cell.vm = .none ∧ cell.monitor = {}) ∧ (∃ cell : Cell, S5.heap[S.heap.size + 2]? = some cell ∧ s.vm.findClass cls = some cell.cls) ∧
      ∀ target, Steps p.tables e below ((S5.setTop g).pushFrame (.throwing (S.heap.size + 2))) target → Steps p.tables e below ((S.setTop g).pushFrame (.throwNew cls (some text) none)) target := by
  have howns : e.platform.frameOwnsMonitors = true := by rw [X.admits.platform]
  have hfin : e.platform.finalization = false := by rw [X.admits.platform]
  have hpl : e.platform.magicAccessors = ({} : Platform).magicAccessors := by rw [X.admits.platform]
  have hlim : ¬ (stringBytes (stringToUtf16 text)).size > e.platform.arrayLengthLimit := by
    have : e.platform.arrayLengthLimit = ({} : Platform).arrayLengthLimit := by rw [X.admits.platform]
    rw [this]
    have h2 : 4096 ≤ ({} : Platform).arrayLengthLimit := by decide
    omega
  have hhp : ¬ (stringBytes (stringToUtf16 text)).size * componentBytes .byte > e.platform.maxHeapBytes := by
    have : e.platform.maxHeapBytes = 536870912 := by rw [X.admits.platform]
    rw [this]
    have h2 : componentBytes .byte = 1 := by decide
    rw [h2]
    omega
  have aa : ∀ x, x ∈ Bundle.messageArmAtoms cls names → (∀ t, x ≠ .isRef t) → x.holds args s none s [] = true := fun x hx hy => h x hx hy
  have nr : ∀ x ∈ Bundle.throwableAtoms ++ Bundle.throwableSAtoms ++ Bundle.stringAtoms, ∀ t, x ≠ .isRef t := by
    intro x hx t ht
    subst ht
    simp [Bundle.throwableAtoms, Bundle.throwableSAtoms, Bundle.stringAtoms] at hx
  have nc : ∀ (ns : List String) (Y : String), ∀ x ∈ Bundle.chainSAtoms Y ns, ∀ t, x ≠ .isRef t := by
    intro ns
    induction ns with
    | nil =>
      intro Y x hx t ht
      subst ht
      simp [Bundle.chainSAtoms, Bundle.passSAtoms] at hx
    | cons n ns ih =>
      intro Y x hx t ht
      rw [Bundle.chainSAtoms] at hx
      rcases List.mem_append.mp hx with hx | hx
      · subst ht
        simp [Bundle.passSAtoms] at hx
      · exact ih n x hx t ht
  obtain ⟨T, Z0, L, -, Y⟩ := ThrowableC.of_atoms (args := args) howns hfin hpl (fun x hx => h x (by simp [Bundle.messageArmAtoms, hx]) (nr x (by simp [hx])))
  obtain ⟨Z, M, LZ, LM, hnZ⟩ := Init0T.ofS_atoms (args := args) hpl L Y (fun x hx => h x (by simp [Bundle.messageArmAtoms, hx]) (nr x (by simp [hx])))
  obtain ⟨P1, Ps, hlen, L1, hL, hP1m, hlink1, hlink⟩ := Bundle.chainS (args := args) hpl hnZ names cls hcls hnames (fun x hx => h x (by simp [Bundle.messageArmAtoms, hx]) (nc names cls x hx))
  obtain ⟨Zs, LZs, hn4, hfitv, hfitc⟩ := StringT.of_atoms (args := args) (fun x hx => h x (by simp [Bundle.messageArmAtoms, hx]) (nr x (by simp [hx])))
  have rest : ∀ x, x ∈ ([.instantiable cls 6, .selects cls Bundle.tFill0 Bundle.tFill0, .selects cls Bundle.tFill Bundle.tFill, .initialized cls, .lays cls Bundle.tN "cause" "Ljava/lang/Throwable;", .lays cls Bundle.tN "stackTrace" Bundle.steD, .lays cls Bundle.tN "suppressedExceptions" Bundle.listD, .lays cls Bundle.tN "detailMessage" "Ljava/lang/String;", .fieldLink Bundle.tN 198 Bundle.tN "backtrace" "Ljava/lang/Object;", .lays Bundle.tN Bundle.tN "backtrace" "Ljava/lang/Object;", .lays cls Bundle.tN "backtrace" "Ljava/lang/Object;"] : List Cond) → x.holds args s none s [] = true := by
    intro x hx
    refine aa x ?_ ?_
    · simp only [List.mem_cons, List.not_mem_nil, or_false] at hx
      rcases hx with hx | hx | hx | hx | hx | hx | hx | hx | hx | hx | hx <;> subst hx <;> simp [Bundle.messageArmAtoms]
    · intro t ht
      subst ht
      simp at hx
  have hfound : s.vm.findClass cls = some P1.m.cls := findClass_of_methodNamed hP1m
  obtain ⟨c1, kX, hc1, hk, hord, -, -, hn6⟩ := Cond.instantiable_spec (rest (.instantiable cls 6) (by simp))
  cases Option.some.inj (hc1.symm.trans hfound)
  have hinit := Cond.initialized_spec hfound hk (rest (.initialized cls) (by simp))
  have hctor : kX.findMethod "<init>" "(Ljava/lang/String;)V" = some P1.m.idx := findMethod_of_methodNamed hP1m hk
  have hsel0 : selectMethod e.platform s.vm P1.m.cls T.fill0 = .method T.fill0 := by
    obtain ⟨c2, r2, m2, q1, q2, q3, q4, -⟩ := Cond.selects_spec (rest (.selects cls Bundle.tFill0 Bundle.tFill0) (by simp))
    cases Option.some.inj (q1.symm.trans hfound)
    cases Option.some.inj (q2.symm.trans (State.methodFound?_of_named Y.fill0 (by decide)))
    cases Option.some.inj (q3.symm.trans Y.fill0)
    rw [Launch.admits_selectMethod X.admits]; exact q4
  have hselF : selectMethod e.platform s.vm P1.m.cls T.fill = .method T.fill := by
    obtain ⟨c2, r2, m2, q1, q2, q3, q4, -⟩ := Cond.selects_spec (rest (.selects cls Bundle.tFill Bundle.tFill) (by simp))
    cases Option.some.inj (q1.symm.trans hfound)
    cases Option.some.inj (q2.symm.trans (State.methodFound?_of_named Y.fill (by decide)))
    cases Option.some.inj (q3.symm.trans Y.fill)
    rw [Launch.admits_selectMethod X.admits]; exact q4
  obtain ⟨cellS, u0, hcellS, hknownS, hvU⟩ := zZq_val hU Y.unassigned L.statics
  obtain ⟨cellS2, sen, hcellS2, -, hvSen⟩ := zZq_val hSen Y.sentinel L.statics
  cases hcellS.symm.trans hcellS2
  obtain ⟨ci198, i198, fB, hk198, hg198, ha198, hsB, -, hnB, htB, hffB⟩ := Cond.ownField (t := .object "java/lang/Object") Y.found L.cls (by decide +kernel) (rest (.fieldLink Bundle.tN 198 Bundle.tN "backtrace" "Ljava/lang/Object;") (by simp)) (rest (.lays Bundle.tN Bundle.tN "backtrace" "Ljava/lang/Object;") (by simp)) e.platform hpl
  obtain ⟨iM, hffM⟩ := Y.msg
  obtain ⟨tyC, dC, hdC, hdnC⟩ := Cond.laysAt hfound hk Y.cause (rest (.lays cls Bundle.tN "cause" "Ljava/lang/Throwable;") (by simp))
  obtain ⟨tyS, dS, hdS, hdnS⟩ := Cond.laysAt hfound hk Y.stack (rest (.lays cls Bundle.tN "stackTrace" Bundle.steD) (by simp))
  obtain ⟨tyP, dP, hdP, hdnP⟩ := Cond.laysAt hfound hk Y.supp (rest (.lays cls Bundle.tN "suppressedExceptions" Bundle.listD) (by simp))
  obtain ⟨tyM, dM, hdM, hdnM⟩ := Cond.laysAt hfound hk hffM (rest (.lays cls Bundle.tN "detailMessage" "Ljava/lang/String;") (by simp))
  obtain ⟨tyB, dB, hdB, hdnB⟩ := Cond.laysAt hfound hk hffB (rest (.lays cls Bundle.tN "backtrace" "Ljava/lang/Object;") (by simp))
  have bC := Cond.laysApart hdB hdC hdnB hdnC (by rw [hnB, Y.causeName]; decide)
  have bS := Cond.laysApart hdB hdS hdnB hdnS (by rw [hnB, Y.stackName]; decide)
  have bP := Cond.laysApart hdB hdP hdnB hdnP (by rw [hnB, Y.suppName]; decide)
  have hskip : SkipFacts T e.platform s (fun u => u) u0 ((preparedCellV T.toThrowableT (freshCell P1.m.cls kX) (S.heap.size + 2) u0 sen).withEntry S.cur) :=
    ⟨{ ci198 := ci198, i198 := i198, fBack := fB }, ⟨hk198, hg198, ha198, hsB⟩, by
      have := fresh_default (c := P1.m.cls) tyB
      rw [htB] at this
      simpa [preparedCellV, Cell.setSlot, Cell.withEntry, Array.getElem?_setIfInBounds, bC, bS, bP, bC.symm, bS.symm, bP.symm, defaultValue] using this, fun _ _ => rfl⟩
  have hAt : At S g.method c below := by rw [hg]; exact X.here
  obtain ⟨hbeyond, hfreeW⟩ := X.vmMayThrow hsize (.throwNew cls (some text) none) (fun f hf => by cases hf) rfl hRlocals
  have hfr' : S.frames.length + Ps.length + 4 < (e.platform.stackLimits S.me).1 := by have := X.framesAbove hRframes; omega
  have hwd' : (stackUse (.java g :: S.frames.tail)).2 + 13 * Ps.length + 55 ≤ (e.platform.stackLimits S.me).2 := by have := X.stackAbove hsize (K := 13 * Ps.length + 55) (by omega); omega
  have hslots : S.slotsUsed + (stringBytes (stringToUtf16 text)).size + Zs.kS.instanceTypes.size + kX.instanceTypes.size ≤ e.platform.maxSlots := by have := X.slotsAbove (n := N + 10) hRslots; omega
  obtain ⟨vm', hW', st⟩ := Steps.vmThrowsMessageColdByV p (s₀ := s) (S := S) (g := g) hAt hexec T L Z LZ M LM X.warmed (t := S.cur) rfl Zs LZs P1 L1 Ps hL hlink1 hlink hsoe hoom hfound hk hinit hord hctor
    (Launch.admits_hotImplicitExceptions X.admits) hbeyond hfreeW htext hlim hhp (X.cellsAbove hRcells) hslots (hfitv _) (hfitc _)
    (Nn := fun u => u) heapOnly_id (fun _ _ => rfl) (fun _ => rfl) (fun u x y => setCell_twice _ _ _ _) (fun _ => Nat.le_refl _) (cN := ((preparedCellV T.toThrowableT (freshCell P1.m.cls kX) (S.heap.size + 2) u0 sen).withEntry S.cur))
    hsel0 hcellS hknownS hvU (Takes.of_laid hk hord tyS (by rw [Y.stackType]; exact fits_refV_array _ u0)) (fun _ hu => hu) (fun _ hu => hu) rfl rfl rfl (by simp [preparedCellV, Cell.setSlot, Cell.withEntry]) hskip (fun _ _ hA hW _ hroom _ hrest => L.nativeOff p htr hA hW hroom hrest) hselF hvSen
    (Takes.of_laid hk hord tyC (by rw [Y.causeType]; rfl)) (Takes.of_laid hk hord tyP (by rw [Y.suppType]; exact fits_refV_object _ sen)) (Takes.of_laid hk hord tyM (by rw [Y.msgType]; rfl)) Y.objLocals rfl hfr' hwd'
  rw [plainBareV_eq T.toThrowableT (S.heap.size + 2) u0 sen (.ref (S.heap.size + 1)) S.cur rfl rfl] at st
  obtain ⟨-, -, w3, w4, w5, -, -⟩ := withThrown_facts e.platform S Zs text P1.m.cls kX
  obtain ⟨w0, w1⟩ := withThrown_two S Zs text P1.m.cls kX
  have X3 := ((X.pushed (bytesOf Zs.cB (stringToUtf16 text))).pushed (stringAt Zs.cS Zs.kS Zs.fv Zs.fc (stringToUtf16 text) S.heap.size)).pushed (freshCell P1.m.cls kX)
  rw [← withString_eq] at X3
  have X4 := X3.noted hW'
  have ha : (S.heap.size + 2) < ((withThrown S Zs text P1.m.cls kX).setVm vm').heap.size := by show _ < (withThrown S Zs text P1.m.cls kX).heap.size; rw [w3]; omega
  have hcell : ((withThrown S Zs text P1.m.cls kX).setVm vm').heap[(S.heap.size + 2)]? = some (freshCell P1.m.cls kX) := w4
  have X5 := ((((X4.stored hcell T.fCause.slot (.ref (S.heap.size + 2))).storedAgain ha T.fStack.slot u0.v).storedAgain ha T.fSupp.slot sen.v).storedAgain ha T.fStack.slot u0.v).storedAgain ha T.fMsg.slot (.ref (S.heap.size + 1))
  have hge : s.heap.size ≤ S.heap.size := X.same.2.1
  simp only [List.append_assoc, List.cons_append, List.nil_append] at X5
  have X6 := Stand.forget X5 (fun y hy => by
    simp only [List.mem_cons, List.not_mem_nil, or_false] at hy
    rcases hy with rfl | rfl | rfl | rfl | rfl <;> exact Nat.le_trans hge (Nat.le_add_right _ 2))
  have b1 : (bytesOf Zs.cB (stringToUtf16 text)).slots.size = (stringBytes (stringToUtf16 text)).size := by
    rw [(Cell.writeAll_facts _ _).2.2]; simp [bytes0]
  have b2 : (stringAt Zs.cS Zs.kS Zs.fv Zs.fc (stringToUtf16 text) S.heap.size).slots.size = 4 := by simp [string0, Cell.setSlot, hn4]
  have b3 : (freshCell P1.m.cls kX).slots.size = 6 := by simp [hn6]
  have X7 := stand_widen X6 (k := cells + 3) (n := slots + (N + 10)) (by omega) (by rw [b1, b2, b3]; omega)
  obtain ⟨g₁, hfrM⟩ := X7.frames_eq
  have hself := heapAt_setCell_self (s := (withThrown S Zs text P1.m.cls kX).setVm vm') (plainBareV T.toThrowableT (freshCell P1.m.cls kX) (S.heap.size + 2) u0 sen (.ref (S.heap.size + 1))) ha
  refine ⟨((withThrown S Zs text P1.m.cls kX).setVm vm').setCell (S.heap.size + 2) (plainBareV T.toThrowableT (freshCell P1.m.cls kX) (S.heap.size + 2) u0 sen (.ref (S.heap.size + 1))), X7, ?_, ?_, ?_, ⟨_, hself, hfound⟩, ?_⟩
  · rw [size_setCell]
    exact w3
  · intro q hq
    rw [heapAt_setCell_ne _ (show S.heap.size + 2 ≠ q by omega)]
    exact w5 q hq
  · intro q cell hq hcq
    have hq3 : q < S.heap.size + 3 := by
      have h3 := (Array.getElem?_eq_some_iff.mp hcq).1
      have h4 : (((withThrown S Zs text P1.m.cls kX).setVm vm').setCell (S.heap.size + 2) (plainBareV T.toThrowableT (freshCell P1.m.cls kX) (S.heap.size + 2) u0 sen (.ref (S.heap.size + 1)))).heap.size = S.heap.size + 3 := by rw [size_setCell]; exact w3
      omega
    rcases (by omega : q = S.heap.size ∨ q = S.heap.size + 1 ∨ q = S.heap.size + 2) with rfl | rfl | rfl
    · rw [heapAt_setCell_ne _ (show S.heap.size + 2 ≠ S.heap.size by omega)] at hcq
      cases hcq.symm.trans w0
      obtain ⟨-, z2, z3, -⟩ := bytesOf_plain Zs.cB (stringToUtf16 text)
      exact ⟨z2, z3⟩
    · rw [heapAt_setCell_ne _ (show S.heap.size + 2 ≠ S.heap.size + 1 by omega)] at hcq
      cases hcq.symm.trans w1
      exact ⟨rfl, rfl⟩
    · cases hcq.symm.trans hself
      exact ⟨rfl, rfl⟩
  · intro target ht
    refine st target ?_
    have hU2 : ((((withThrown S Zs text P1.m.cls kX).setVm vm').setCell (S.heap.size + 2) (plainBareV T.toThrowableT (freshCell P1.m.cls kX) (S.heap.size + 2) u0 sen (.ref (S.heap.size + 1)))).setTop g).pushFrame (.throwing (S.heap.size + 2)) = (((withThrown S Zs text P1.m.cls kX).setVm vm').setCell (S.heap.size + 2) (plainBareV T.toThrowableT (freshCell P1.m.cls kX) (S.heap.size + 2) u0 sen (.ref (S.heap.size + 1)))).setFrames (.throwing (S.heap.size + 2) :: .java g :: below) := by
      rw [State.pushFrame, State.frames_setTop _ hfrM, State.setTop_of_frames _ hfrM, State.setFrames_setFrames]
    rw [X.tail, ← hU2]
    exact ht
end ZT0
section ZT1
variable {p : Program} {l : Launch} {e : Env} {R : Room} {s : State} {m₀ : MethodId} {args : Array Value} {below : List Frame} {meth : Method} {c : Code} {S : State} {locs : List Loc} {cells slots : Nat} {G : zG}
set_option maxHeartbeats 2000000 in
/-- a NullPointerException: one new cell -/
theorem zNpe (X : Stand p l e R s m₀ args below meth c S locs cells slots) (hexec : p.tables.exec = Jvm.exec) (htr : e.platform.stackTraces = false)
    (h : ∀ a ∈ Bundle.npeArmAtoms 8, (∀ t, a ≠ .isRef t) → a.before args s = true) (hU : zZq G "UNASSIGNED_STACK" Bundle.steD s S.heap) (hSen : zZq G "SUPPRESSED_SENTINEL" Bundle.listD s S.heap)
    {g : JFrame} (hg : g.method = m₀) (hsize : g.locals.size = c.maxLocals)
    (hRframes : 7 < R.frames) (hRlocals : 2 * g.monitorRoom + (g.stack.map fun v => v.category).sum + 10240 ≤ R.locals)
    (hRcells : cells + 1 ≤ R.cells) (hRslots : slots + 8 ≤ R.slots) :
    ∃ S5 : State, Stand p l e R s m₀ args below meth c S5 locs (cells + 1) (slots + 8) ∧ S5.heap.size = S.heap.size + 1 ∧ (∀ q : Nat, q < S.heap.size → S5.heap[q]? = S.heap[q]?) ∧
      (∀ (q : Nat) (cell : Cell), S.heap.size ≤ q → S5.heap[q]? = some cell → cell.vm = .none ∧ cell.monitor = {}) ∧ (∃ cell : Cell, S5.heap[S.heap.size]? = some cell ∧ s.vm.findClass "java/lang/NullPointerException" = some cell.cls) ∧
      ∀ target, Steps p.tables e below ((S5.setTop g).pushFrame (.throwing S.heap.size)) target → Steps p.tables e below ((S.setTop g).pushFrame (.throwNew "java/lang/NullPointerException" none none)) target := by
  have howns : e.platform.frameOwnsMonitors = true := by rw [X.admits.platform]
  have hfin : e.platform.finalization = false := by rw [X.admits.platform]
  have hpl : e.platform.magicAccessors = ({} : Platform).magicAccessors := by rw [X.admits.platform]
  have hpl2 : e.platform.arrayCloneIsPublic = true := by rw [X.admits.platform]
  have ok : ∀ x, x ∈ Bundle.npeArmAtoms 8 → x ≠ .isRef (.static Bundle.tN "UNASSIGNED_STACK" Bundle.steD) → x ≠ .isRef (.static Bundle.tN "SUPPRESSED_SENTINEL" Bundle.listD) → x.holds args s none s [] = true := by
    intro x hx h1 h2
    refine h x hx ?_
    intro t ht
    subst ht
    simp [Bundle.npeArmAtoms, Bundle.throwableAtoms, Bundle.npeAtoms, Bundle.passAtoms] at hx
    rcases hx with rfl | rfl
    · exact h1 rfl
    · exact h2 rfl
  have sub : ∀ (Ls : List Cond), (∀ x ∈ Ls, x ∈ Bundle.npeArmAtoms 8) → (∀ t, Cond.isRef t ∉ Ls) → ∀ x ∈ Ls, x.before args s = true := fun Ls h1 h2 x hx => ok x (h1 x hx) (fun e => h2 _ (e ▸ hx)) (fun e => h2 _ (e ▸ hx))
  obtain ⟨T, Z, L, LZ, Y⟩ := ThrowableC.of_atoms (args := args) howns hfin hpl (sub _ (fun x hx => by simp [Bundle.npeArmAtoms, hx]) (fun t => by simp [Bundle.throwableAtoms]))
  obtain ⟨N, LN, hcN, hnNF, hordN, hffS⟩ := NpeC.of_atoms (args := args) hpl hpl2 L Y (sub _ (fun x hx => by simp [Bundle.npeArmAtoms, hx]) (fun t => by simp [Bundle.npeAtoms]))
  obtain ⟨P1, L1, hP1m, hP1s⟩ := PassC.of_atoms (args := args) (s := s) hpl (X := Bundle.nN) (Y := Bundle.rN) (by decide) (by decide) LibCode.NullPointerException.Init0.at_0 LibCode.NullPointerException.Init0.at_1 LibCode.NullPointerException.Init0.at_4 (sub _ (fun x hx => by simp [Bundle.npeArmAtoms, hx]) (fun t => by simp [Bundle.passAtoms]))
  obtain ⟨PR, LR, hPRm, hPRs⟩ := PassC.of_atoms (args := args) (s := s) hpl (X := Bundle.rN) (Y := Bundle.eN) (by decide) (by decide) LibCode.RuntimeException.Init0.at_0 LibCode.RuntimeException.Init0.at_1 LibCode.RuntimeException.Init0.at_4 (sub _ (fun x hx => by simp [Bundle.npeArmAtoms, hx]) (fun t => by simp [Bundle.passAtoms]))
  obtain ⟨PE, LEx, hPEm, hPEs⟩ := PassC.of_atoms (args := args) (s := s) hpl (X := Bundle.eN) (Y := Bundle.tN) (by decide) (by decide) LibCode.Exception.Init0.at_0 LibCode.Exception.Init0.at_1 LibCode.Exception.Init0.at_4 (sub _ (fun x hx => by simp [Bundle.npeArmAtoms, hx]) (fun t => by simp [Bundle.passAtoms]))
  have rest : ∀ x, x ∈ ([.initialized Bundle.nN, .instantiable Bundle.nN 8, .selects Bundle.nN Bundle.tFill0 Bundle.tFill0, .selects Bundle.nN Bundle.tFill Bundle.nFill, .lays Bundle.nN Bundle.tN "cause" "Ljava/lang/Throwable;", .lays Bundle.nN Bundle.tN "stackTrace" Bundle.steD, .lays Bundle.nN Bundle.tN "suppressedExceptions" Bundle.listD, .fieldLink Bundle.tN 198 Bundle.tN "backtrace" Bundle.objD, .lays Bundle.tN Bundle.tN "backtrace" Bundle.objD, .lays Bundle.nN Bundle.tN "backtrace" Bundle.objD, .lays Bundle.nN Bundle.nN "extendedMessageState" "I"] : List Cond) → x.holds args s none s [] = true := by
    intro x hx
    refine sub _ ?_ ?_ x hx
    · intro y hy
      simp only [List.mem_cons, List.not_mem_nil, or_false] at hy
      rcases hy with hy | hy | hy | hy | hy | hy | hy | hy | hy | hy | hy <;> subst hy <;> simp [Bundle.npeArmAtoms, Bundle.npeAtoms]
    · intro t
      simp
  have hfound : s.vm.findClass Bundle.nN = some P1.m.cls := findClass_of_methodNamed hP1m
  have ecls : N.cN = P1.m.cls := Option.some.inj (hcN.symm.trans hfound)
  have hk : s.vm.classes[P1.m.cls]? = some N.kN := by rw [← ecls]; exact LN.cls
  have hinit := Cond.initialized_spec hfound hk (rest (.initialized Bundle.nN) (by simp))
  have hctor : N.kN.findMethod "<init>" "()V" = some P1.m.idx := findMethod_of_methodNamed hP1m hk
  obtain ⟨c1, k1, hc1, hk1, -, -, -, hn⟩ := Cond.instantiable_spec (rest (.instantiable Bundle.nN 8) (by simp))
  cases Option.some.inj (hc1.symm.trans hfound)
  cases Option.some.inj (hk1.symm.trans hk)
  have hlink1 : P1.sup = PR.m := Option.some.inj (hP1s.symm.trans hPRm)
  have hlinkR : PR.sup = PE.m := Option.some.inj (hPRs.symm.trans hPEm)
  have hlinkE : PE.sup = Z.m T.toThrowableT := Option.some.inj (hPEs.symm.trans Y.init0)
  have hsel0 : selectMethod e.platform s.vm P1.m.cls T.fill0 = .method T.fill0 := by
    obtain ⟨c2, r2, m2, q1, q2, q3, q4, -⟩ := Cond.selects_spec (rest (.selects Bundle.nN Bundle.tFill0 Bundle.tFill0) (by simp))
    cases Option.some.inj (q1.symm.trans hfound)
    cases Option.some.inj (q2.symm.trans (State.methodFound?_of_named Y.fill0 (by decide)))
    cases Option.some.inj (q3.symm.trans Y.fill0)
    rw [Launch.admits_selectMethod X.admits]; exact q4
  have hselF : selectMethod e.platform s.vm P1.m.cls T.fill = .method N.fill := by
    obtain ⟨c2, r2, m2, q1, q2, q3, q4, -⟩ := Cond.selects_spec (rest (.selects Bundle.nN Bundle.tFill Bundle.nFill) (by simp))
    cases Option.some.inj (q1.symm.trans hfound)
    cases Option.some.inj (q2.symm.trans (State.methodFound?_of_named Y.fill (by decide)))
    cases Option.some.inj (q3.symm.trans hnNF)
    rw [Launch.admits_selectMethod X.admits]; exact q4
  obtain ⟨cellS, u0, hcellS, hknownS, hvU⟩ := zZq_val hU Y.unassigned L.statics
  obtain ⟨cellS2, sen, hcellS2, -, hvSen⟩ := zZq_val hSen Y.sentinel L.statics
  cases hcellS.symm.trans hcellS2
  obtain ⟨ci198, i198, fB, hk198, hg198, ha198, hsB, -, hnB, htB, hffB⟩ := Cond.ownField (t := .object "java/lang/Object") Y.found L.cls (by decide +kernel) (rest (.fieldLink Bundle.tN 198 Bundle.tN "backtrace" Bundle.objD) (by simp)) (rest (.lays Bundle.tN Bundle.tN "backtrace" Bundle.objD) (by simp)) e.platform hpl
  obtain ⟨tyC, dC, hdC, hdnC⟩ := Cond.laysAt hfound hk Y.cause (rest (.lays Bundle.nN Bundle.tN "cause" "Ljava/lang/Throwable;") (by simp))
  obtain ⟨tyS, dS, hdS, hdnS⟩ := Cond.laysAt hfound hk Y.stack (rest (.lays Bundle.nN Bundle.tN "stackTrace" Bundle.steD) (by simp))
  obtain ⟨tyP, dP, hdP, hdnP⟩ := Cond.laysAt hfound hk Y.supp (rest (.lays Bundle.nN Bundle.tN "suppressedExceptions" Bundle.listD) (by simp))
  obtain ⟨tyX, dX, hdX, hdnX⟩ := Cond.laysAt hfound hk hffS (rest (.lays Bundle.nN Bundle.nN "extendedMessageState" "I") (by simp))
  have hnX : N.fState.name = "extendedMessageState" := (State.fieldFound?_type hffS (t := .int) (by decide +kernel)).1
  obtain ⟨tyB, dB, hdB, hdnB⟩ := Cond.laysAt hfound hk hffB (rest (.lays Bundle.nN Bundle.tN "backtrace" Bundle.objD) (by simp))
  have bC := Cond.laysApart hdB hdC hdnB hdnC (by rw [hnB, Y.causeName]; decide)
  have bS := Cond.laysApart hdB hdS hdnB hdnS (by rw [hnB, Y.stackName]; decide)
  have bP := Cond.laysApart hdB hdP hdnB hdnP (by rw [hnB, Y.suppName]; decide)
  have bX := Cond.laysApart hdB hdX hdnB hdnX (by rw [hnB, hnX]; decide)
  have hskip : SkipFacts T e.platform s (fun u => u) u0 ((npeCell N.toNpeT (preparedCellV T.toThrowableT (freshCell P1.m.cls N.kN) S.heap.size u0 sen) S.cur).withEntry S.cur) :=
    ⟨{ ci198 := ci198, i198 := i198, fBack := fB }, ⟨hk198, hg198, ha198, hsB⟩, by
      have := fresh_default (c := P1.m.cls) tyB
      rw [htB] at this
      simpa [npeCell, preparedCellV, Cell.setSlot, Cell.withEntry, Array.getElem?_setIfInBounds, bC, bS, bP, bX, bC.symm, bS.symm, bP.symm, bX.symm, defaultValue] using this, fun _ _ => rfl⟩
  have hAt : At S g.method c below := by rw [hg]; exact X.here
  obtain ⟨hbeyond, hfreeW⟩ := X.vmMayThrow hsize (.throwNew "java/lang/NullPointerException" none none) (fun f hf => by cases hf) rfl hRlocals
  have hfr' : S.frames.length + [PR, PE].length + 5 < (e.platform.stackLimits S.me).1 := by have := X.framesAbove hRframes; simp only [List.length_cons, List.length_nil]; omega
  have hwd' : (stackUse (.java g :: S.frames.tail)).2 + 13 * [PR, PE].length + 68 ≤ (e.platform.stackLimits S.me).2 := by have := X.stackAbove hsize (K := 13 * 2 + 68) (by omega); simp only [List.length_cons, List.length_nil]; omega
  obtain ⟨vm', hW', st⟩ := Steps.vmThrowsNpeColdByV p (s₀ := s) (S := S) (g := g) hAt hexec T L Z LZ N LN X.warmed (t := S.cur) rfl P1 L1 [PR, PE] (fun P hP => by
      simp only [List.mem_cons, List.not_mem_nil, or_false] at hP
      rcases hP with rfl | rfl
      · exact LR
      · exact LEx) hlink1 ⟨hlinkR, hlinkE, trivial⟩ hfound hk hinit hordN hctor
    (Launch.admits_hotImplicitExceptions X.admits) hbeyond hfreeW (X.cellsAbove hRcells) (X.slotsAbove (by rw [hn]; exact hRslots))
    (Nn := fun u => u) heapOnly_id (fun _ _ => rfl) (fun _ => rfl) (fun u x y => setCell_twice _ _ _ _) (fun _ => Nat.le_refl _) (cN := ((npeCell N.toNpeT (preparedCellV T.toThrowableT (freshCell P1.m.cls N.kN) S.heap.size u0 sen) S.cur).withEntry S.cur))
    hsel0 hcellS hknownS hvU (by rw [fresh_default tyX, LN.stateInt]; rfl)
    (Cond.laysApart hdC hdX hdnC hdnX (by rw [Y.causeName, hnX]; decide)) (Cond.laysApart hdS hdX hdnS hdnX (by rw [Y.stackName, hnX]; decide)) (Cond.laysApart hdP hdX hdnP hdnX (by rw [Y.suppName, hnX]; decide))
    (Takes.of_laid hk hordN tyS (by rw [Y.stackType]; exact fits_refV_array _ u0)) (Takes.of_laid hk hordN tyX (by rw [LN.stateInt]; rfl)) (fun _ hu => hu) (fun _ hu => hu) rfl rfl rfl (by simp [npeCell, preparedCellV, Cell.setSlot, Cell.withEntry]) hskip (fun _ _ hA hW _ hroom _ hrest => L.nativeOff p htr hA hW hroom hrest) hselF hvSen
    (Takes.of_laid hk hordN tyC (by rw [Y.causeType]; rfl)) (Takes.of_laid hk hordN tyP (by rw [Y.suppType]; exact fits_refV_object _ sen)) Y.objLocals rfl hfr' hwd'
  rw [npeBareV_eq T.toThrowableT N.toNpeT S.heap.size u0 sen S.cur rfl rfl] at st
  have X2 := (X.pushed (freshCell P1.m.cls N.kN)).noted hW'
  have hsz : ((S.pushCell (freshCell P1.m.cls N.kN)).setVm vm').heap.size = S.heap.size + 1 := State.heap_size_pushCell _ _
  have ha : S.heap.size < ((S.pushCell (freshCell P1.m.cls N.kN)).setVm vm').heap.size := by rw [hsz]; omega
  have hcell : ((S.pushCell (freshCell P1.m.cls N.kN)).setVm vm').heap[S.heap.size]? = some (freshCell P1.m.cls N.kN) := State.heap_pushCell_size S (freshCell P1.m.cls N.kN)
  have X5 := ((((X2.stored hcell T.fCause.slot (.ref S.heap.size)).storedAgain ha T.fStack.slot u0.v).storedAgain ha T.fSupp.slot sen.v).storedAgain ha N.fState.slot (.int 1)).storedAgain ha T.fStack.slot u0.v
  have hge : s.heap.size ≤ S.heap.size := X.same.2.1
  simp only [List.append_assoc, List.cons_append, List.nil_append] at X5
  have X6 := Stand.forget X5 (fun y hy => by
    simp only [List.mem_cons, List.not_mem_nil, or_false] at hy
    rcases hy with rfl | rfl | rfl | rfl | rfl <;> exact hge)
  have b3 : (freshCell P1.m.cls N.kN).slots.size = 8 := by simp [hn]
  have X7 := stand_widen X6 (k := cells + 1) (n := slots + 8) (by omega) (by rw [b3]; omega)
  obtain ⟨g₁, hfrM⟩ := X7.frames_eq
  have hself := heapAt_setCell_self (s := (S.pushCell (freshCell P1.m.cls N.kN)).setVm vm') (npeBareV T.toThrowableT N.toNpeT (freshCell P1.m.cls N.kN) S.heap.size u0 sen) ha
  have hsz5 : (((S.pushCell (freshCell P1.m.cls N.kN)).setVm vm').setCell S.heap.size (npeBareV T.toThrowableT N.toNpeT (freshCell P1.m.cls N.kN) S.heap.size u0 sen)).heap.size = S.heap.size + 1 := by rw [size_setCell]; exact hsz
  refine ⟨((S.pushCell (freshCell P1.m.cls N.kN)).setVm vm').setCell S.heap.size (npeBareV T.toThrowableT N.toNpeT (freshCell P1.m.cls N.kN) S.heap.size u0 sen), X7, hsz5, ?_, ?_, ⟨_, hself, hfound⟩, ?_⟩
  · intro q hq
    rw [heapAt_setCell_ne _ (show S.heap.size ≠ q by omega)]
    exact heap_pushCell_below S _ hq
  · intro q cell hq hcq
    have h3 := (Array.getElem?_eq_some_iff.mp hcq).1
    have hqe : q = S.heap.size := by omega
    subst hqe
    cases hcq.symm.trans hself
    exact ⟨rfl, rfl⟩
  · intro target ht
    refine st target ?_
    have hU2 : ((((S.pushCell (freshCell P1.m.cls N.kN)).setVm vm').setCell S.heap.size (npeBareV T.toThrowableT N.toNpeT (freshCell P1.m.cls N.kN) S.heap.size u0 sen)).setTop g).pushFrame (.throwing S.heap.size) = (((S.pushCell (freshCell P1.m.cls N.kN)).setVm vm').setCell S.heap.size (npeBareV T.toThrowableT N.toNpeT (freshCell P1.m.cls N.kN) S.heap.size u0 sen)).setFrames (.throwing S.heap.size :: .java g :: below) := by
      rw [State.pushFrame, State.frames_setTop _ hfrM, State.setTop_of_frames _ hfrM, State.setFrames_setFrames]
    rw [X.tail, ← hU2]
    exact ht
end ZT1
