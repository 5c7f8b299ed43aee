/-! methods that the machine runs by a row of its natives instead of their bytecode -/
set_option maxRecDepth 100000
theorem zov_some {tb : Tables} {e : Env} {s : State} {f : JFrame} {k : Class} {x : Method} {row : NativeRow} (hpc : f.pc = 0) (hk : s.vm.classes[f.method.cls]? = some k) (hin : k.name ∈ overriddenIn) (hboot : k.loader = none) (hx : k.methods[f.method.idx]? = some x) (hrow : NativeRow.find? tb.natives k.name x.name x.desc = some row) : overridden tb e s f = some row := by
  unfold overridden
  simp only [hpc, hk, hboot, hx, hrow]
  have h1 : overriddenIn.contains k.name = true := List.contains_iff_mem.mpr hin
  simp [h1]
  intro h
  exact absurd hin h
section ZOV
variable {p : Program} {l : Launch} {e : Env} {R : Room} {s : State} {m : MethodId} {args : Array Value} {below : List Frame} {meth : Method} {c : Code} {T : State} {locs : List Loc} {cells slots : Nat}
theorem zOver (X : Stand p l e R s m args below meth c T locs cells slots) {g : JFrame} (hg : g.method = m) (hsize : g.locals.size = c.maxLocals) {ig : Instr} (hdg : decode c.code g.pc = .ok (ig, 3)) {mk : MethodId} {methk : Method} {ck : Code} {k : Class}
    (hk : T.vm.classes[mk.cls]? = some k) (hx : k.methods[mk.idx]? = some methk) (hboot : k.loader = none) (hin : k.name ∈ overriddenIn) {row : NativeRow} (hrow : NativeRow.find? p.tables.natives k.name methk.name methk.desc = some row) (hc : methk.code = some ck) (hl : methk.locks = false)
    {a : Array Value} {v : Value} {n : Nat} (hn : methk.sig.parameters.length + (if methk.isStatic then 0 else 1) = n) (hgiven : (((argsToLocals a ck.maxLocals).toList.filterMap fun | .val v => some v | _ => none).toArray).extract 0 n = a)
    (hrun : ∀ S : State, ∃ acts, (row.sem a).run e S = .ok (some v) S acts) (hfr : 0 < R.frames) (hlo : 2 * g.monitorRoom + (g.stack.map fun v => v.category).sum + (ck.maxLocals + 11) ≤ R.locals) :
    Steps p.tables e below (doInvoke e (T.setTop g) [] mk a).1 (T.setTop { g with pc := g.pc + 3, stack := v :: g.stack }) := by
  obtain ⟨g₀, hfr0⟩ := X.frames_eq
  have hr : T.frames = .java g₀ :: below := hfr0
  have hcur : T.cur < T.threads.size := State.cur_lt_of_frames hr
  have htop : T.setTop g = T.setFrames (.java g :: below) := State.setTop_of_frames _ hr
  have htail : T.frames.tail = below := by rw [hr]; rfl
  have hm : T.vm.method? mk = some methk := by simp [Vm.method?, hk, hx]
  have hfull : e.platform.stackFull (((T.setTop g).threads[(T.setTop g).cur]?).getD { frames := [] }) (T.setTop g).frames ck.maxLocals = false := by
    have e1 := X.framesAbove (n := 0) hfr
    have e2 := X.stackAbove hsize (K := ck.maxLocals + 11) hlo
    have e3 : (T.setTop g).frames = .java g :: below := by rw [htop]; exact State.frames_setFrames _ hcur
    rw [e3]
    rw [htail] at e2
    refine Platform.stackFull_eq_false ?_ ?_
    · show (.java g :: below : List Frame).length < (e.platform.stackLimits (T.setTop g).me).1
      rw [htop, State.stackLimits_setFrames]
      rw [hr] at e1
      simp only [List.length_cons] at e1 ⊢
      omega
    · show (stackUse (.java g :: below)).2 + ck.maxLocals + 11 ≤ (e.platform.stackLimits (T.setTop g).me).2
      rw [htop, State.stackLimits_setFrames]
      omega
  rw [(doInvoke_java (s := T.setTop g) (e := e) (acts := []) (args := a) (meth := methk) (code := ck) hm hc hl hfull).1]
  have hU : (T.setTop g).pushFrame (.java { method := mk, pc := 0, locals := argsToLocals a ck.maxLocals, stack := [], locked := none }) = T.setFrames (.java (entryFrame mk a ck.maxLocals) :: .java g :: below) := by
    rw [State.pushFrame, State.frames_setTop _ hr, htop, State.setFrames_setFrames]
    rfl
  rw [hU]
  have hf1 : (T.setFrames (.java (entryFrame mk a ck.maxLocals) :: .java g :: below)).frames = .java (entryFrame mk a ck.maxLocals) :: .java g :: below := State.frames_setFrames _ hcur
  have hov : overridden p.tables e (T.setFrames (.java (entryFrame mk a ck.maxLocals) :: .java g :: below)) (entryFrame mk a ck.maxLocals) = some row :=
    zov_some (k := k) (x := methk) rfl hk hin hboot hx hrow
  have hcnt : ∀ F : List Frame, argCount (T.setFrames F) mk = n := by
    intro F
    have hb : ((T.setFrames F).vm.classes[mk.cls]?.bind fun y => y.methods[mk.idx]?) = some methk := by
      show (T.vm.classes[mk.cls]?.bind fun y => y.methods[mk.idx]?) = some methk
      simp [hk, hx]
    unfold argCount
    rw [hb]
    exact hn
  obtain ⟨acts₂, hr2⟩ := hrun (T.setFrames (.native { method := mk, args := a } :: .java g :: below))
  have hcode : ∀ F : List Frame, (T.setFrames F).code? g.method = some c := by
    intro F
    have h0 : T.vm.method? g.method = some meth := by rw [hg, X.warmed.alike.method?]; exact X.method
    rw [State.code?_eq]
    show ((T.vm.method? g.method).bind fun x => x.code) = some c
    rw [h0]
    exact X.code
  have hfs : handOver (T.setFrames (.native { method := mk, args := a } :: .java g :: below)) (some v) (.java g :: below) = some (.java { g with pc := g.pc + 3, stack := v :: g.stack } :: below) := by
    simp [handOver, hcode, hdg, Except.toOption]
  have hstep2 : (stepThread p.tables e (T.setFrames (.java (entryFrame mk a ck.maxLocals) :: .java g :: below))).1 = T.setTop { g with pc := g.pc + 3, stack := v :: g.stack } := by
    unfold stepThread
    simp only [hf1, hov]
    have hga : ((((entryFrame mk a ck.maxLocals).locals.toList.filterMap fun | .val v => some v | _ => none).toArray).extract 0 (argCount (T.setFrames (.java (entryFrame mk a ck.maxLocals) :: .java g :: below)) (entryFrame mk a ck.maxLocals).method)) = a := by
      show (((argsToLocals a ck.maxLocals).toList.filterMap fun | .val v => some v | _ => none).toArray).extract 0 (argCount _ mk) = a
      rw [hcnt]
      exact hgiven
    have key : ∀ A : Array Value, A = a → (afterNative e { method := mk, args := A, locked := none } (.java g :: below) ((row.sem A).run e ((T.setFrames (.java (entryFrame mk a ck.maxLocals) :: .java g :: below)).setFrames (.native { method := mk, args := A, locked := none } :: .java g :: below)))).1 = T.setTop { g with pc := g.pc + 3, stack := v :: g.stack } := by
      intro A hA
      subst hA
      rw [State.setFrames_setFrames, hr2]
      simp only [afterNative]
      rw [doReturn_native (f := { method := mk, args := A }) (below := .java g :: below) (State.frames_setFrames _ hcur) rfl hfs, State.setFrames_setFrames, ← State.setTop_of_frames _ hr]
    exact key _ hga
  have hat := X.here
  refine Steps.head ⟨hat.running, by simpa using hat.runnable, by simpa using hat.alone⟩ ⟨.java (entryFrame mk a ck.maxLocals) :: [.java g], by rw [hf1]; rfl, by simp, by simp⟩ ?_
  rw [hstep2]
  exact Steps.refl _
end ZOV
