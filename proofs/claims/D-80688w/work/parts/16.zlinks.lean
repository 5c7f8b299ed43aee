/-! how calls are linked -/
set_option maxRecDepth 100000
/-- what a callee is held to: it doesn't lock; its code stands in the tables; its class is a plain one -/
def zMok (Y : zM) : Prop := Y.sy = false ∧ zCode Y ∈ lw_all ∧ (plainName Y.nm.cls || (NativeRow.find? Jvm.natives Y.nm.cls Y.nm.name Y.nm.desc).isNone) = true ∧ (Y.nm.cls ≠ "java/lang/invoke/MethodHandle" ∧ Y.nm.cls ≠ "java/lang/invoke/VarHandle")
theorem zCode_named {s : State} {args : Array Value} {Y : zM} (hsy : Y.sy = false) (h : (zCode Y).before args s = true) : ∃ mk, s.methodNamed? Y.nm = some mk := by
  obtain ⟨nm, code, mL, ret, hs, sy⟩ := Y
  have e : sy = false := hsy
  subst e
  cases hs with
  | nil =>
    have h : (Cond.code nm code mL ret).before args s = true := h
    exact Cond.code_named h
  | cons q hs =>
    have h : (Cond.codeWith nm code mL ret (q :: hs)).before args s = true := h
    obtain ⟨m', meth, c, hn', -⟩ := Cond.codeWith_spec h
    exact ⟨m', hn'⟩
section ZN
variable {G : zG} {d : Nat} {K : List Nat} {Y Y' : zM} {pc idx : Nat} {lo : List (Option Value)} {st rest vs : List Value} {g : zS} {Q : zO → zS → Prop} {own : String} {a : Nat}
theorem zBack_v {v : Value} (k : zEF G d K Y (pc + 3) lo (v :: rest) g Q) : zBack G d K Y pc lo rest Q (.inl (some v)) g := k
theorem zBack_n (k : zEF G d K Y (pc + 3) lo rest g Q) : zBack G d K Y pc lo rest Q (.inl none) g := k
theorem zBack_t {X : String} (k : zTH G d K Y pc lo X a g Q) : zBack G d K Y pc lo rest Q (.inr (X, a)) g := k
theorem zlen {meth : Method} {ds : String} (hn : (parseMethodDescriptor ds).map (fun d => d.parameters.length) = some vs.length) (hs : parseMethodDescriptor ds = some meth.sig) : vs.length = meth.sig.parameters.length := by
  rw [hs] at hn
  exact (Option.some.inj hn).symm
theorem ez_callS (hd : decode Y.code pc = .ok (.invokestatic idx, 3)) (ho : own = Y.nm.cls) (hM : zMok Y') (hl : Cond.methodLink own idx Y'.nm ∈ lw_all) (hs : Cond.static Y'.nm ∈ lw_all) (hi : Cond.initialized Y'.nm.cls ∈ lw_all) (hn : (parseMethodDescriptor Y'.nm.desc).map (fun d => d.parameters.length) = some vs.length) (hvs : (zsl vs).length ≤ Y'.mL) (hrm : (rest.map fun v => v.category).sum + Y'.mL ≤ 27) (hst : st = vs.reverse ++ rest)
    (hk : zEM G d K Y' vs g (zBack G (d + 1) K Y pc lo rest Q)) : zEF G (d + 1) K Y pc lo st g Q := by
  subst ho
  obtain ⟨hsy, hw, hpl, hy⟩ := hM
  intro p l e R s m args below meth c T locs cells slots ls lk mr s1 C0
  obtain ⟨mk, hnamed⟩ := zCode_named hsy (C0.w hw)
  obtain ⟨methM, cM, h1, h2, h3, h4, h5, h6, h7, h8⟩ := zCode_spec hnamed (fun h => by rw [hsy] at h; cases h) (C0.w hw)
  have hstatic : methM.isStatic = true := Cond.static_spec hnamed h1 (C0.w hs)
  obtain ⟨kP, hkP, -⟩ := className_of_methodNamed hnamed
  have hinitP : kP.init = .initialized := Cond.initialized_spec (findClass_of_methodNamed hnamed) hkP (C0.w hi)
  obtain ⟨vm₁, X₁, hstep⟩ := C0.X.invokestatic C0.ex C0.own (C0.w hl) hnamed h1 hstatic hkP hinitP hy (g := zF m pc ls st lk mr) rfl (argsL := vs) (rest := rest) (zlen hn h8) hst (by rw [C0.hb]; exact hd)
  obtain ⟨t, a1, b1⟩ := C0.call X₁ hnamed hd hsy hw hpl hvs hrm hk
  exact ⟨t, hstep t (fun acts => by rw [doInvoke_state]; exact a1), b1⟩
/-- a static method that is private in a nest mate -/
theorem ez_callSN {host : String} (hd : decode Y.code pc = .ok (.invokestatic idx, 3)) (ho : own = Y.nm.cls) (hM : zMok Y') (hl : Cond.methodLinkNest own idx Y'.nm host ∈ lw_tbl) (hs : Cond.static Y'.nm ∈ lw_all) (hi : Cond.initialized Y'.nm.cls ∈ lw_all) (hn : (parseMethodDescriptor Y'.nm.desc).map (fun d => d.parameters.length) = some vs.length) (hvs : (zsl vs).length ≤ Y'.mL) (hrm : (rest.map fun v => v.category).sum + Y'.mL ≤ 27) (hst : st = vs.reverse ++ rest)
    (hk : zEM G d K Y' vs g (zBack G (d + 1) K Y pc lo rest Q)) : zEF G (d + 1) K Y pc lo st g Q := by
  subst ho
  obtain ⟨hsy, hw, hpl, hy⟩ := hM
  intro p l e R s m args below meth c T locs cells slots ls lk mr s1 C0
  have hl2 : (Cond.methodLinkNest Y.nm.cls idx Y'.nm host).before args s = true := va_Nw.use rfl (va_Nw.warmM C0.wm (va_Nw.of rfl (C0.ok.1 _ hl)))
  obtain ⟨mk, hnamed⟩ := zCode_named hsy (C0.w hw)
  obtain ⟨methM, cM, h1, h2, h3, h4, h5, h6, h7, h8⟩ := zCode_spec hnamed (fun h => by rw [hsy] at h; cases h) (C0.w hw)
  have hstatic : methM.isStatic = true := Cond.static_spec hnamed h1 (C0.w hs)
  obtain ⟨kP, hkP, -⟩ := className_of_methodNamed hnamed
  have hinitP : kP.init = .initialized := Cond.initialized_spec (findClass_of_methodNamed hnamed) hkP (C0.w hi)
  obtain ⟨vm₁, X₁, hstep⟩ := C0.X.invokestaticNest C0.ex C0.own hl2 hnamed h1 hstatic hkP hinitP hy (g := zF m pc ls st lk mr) rfl (argsL := vs) (rest := rest) (zlen hn h8) hst (by rw [C0.hb]; exact hd)
  obtain ⟨t, a1, b1⟩ := C0.call X₁ hnamed hd hsy hw hpl hvs hrm hk
  exact ⟨t, hstep t (fun acts => by rw [doInvoke_state]; exact a1), b1⟩
/-- a method of the receiver's own class -/
theorem ez_callV {ci N : Nat} {C : String} {Tt : u_T} {fs : List Value} (hd : decode Y.code pc = .ok (.invokevirtual idx, 3)) (ho : own = Y.nm.cls) (hM : zMok Y') (hl : Cond.methodLink own idx Y'.nm ∈ lw_all) (hin : Cond.instanceMethod Y'.nm ∈ lw_all) (hc : zcl[ci]? = some (C, Tt, N)) (hse : Cond.selects C Y'.nm Y'.nm ∈ lw_all) (he : g.h a = some (.inr (ci, fs))) (hn : (parseMethodDescriptor Y'.nm.desc).map (fun d => d.parameters.length) = some vs.length) (hvs : (zsl (.ref a :: vs)).length ≤ Y'.mL) (hrm : (rest.map fun v => v.category).sum + Y'.mL ≤ 27) (hst : st = vs.reverse ++ .ref a :: rest)
    (hk : zEM G d K Y' (.ref a :: vs) g (zBack G (d + 1) K Y pc lo rest Q)) : zEF G (d + 1) K Y pc lo st g Q := by
  subst ho
  obtain ⟨hsy, hw, hpl, hy⟩ := hM
  intro p l e R s m args below meth c T locs cells slots ls lk mr s1 C0
  obtain ⟨cellB, hcell, hobj, hcls⟩ := C0.recv hc he
  obtain ⟨mk, methM, hnamed, hmethM, hstM, habM⟩ := Cond.instanceMethod_spec (C0.w hin)
  obtain ⟨methM', cM, h1, h2, h3, h4, h5, h6, h7, h8⟩ := zCode_spec hnamed (fun h => by rw [hsy] at h; cases h) (C0.w hw)
  cases hmethM.symm.trans h1
  obtain ⟨c2, r2, m2, q1, q2, q3, q4, kP, hkP, hkPi⟩ := Cond.selects_spec (C0.w hse)
  cases hcls.symm.trans q1
  cases (State.methodFound?_of_named hnamed hy).symm.trans q2
  cases hnamed.symm.trans q3
  have hselP : selectMethod e.platform s.vm cellB.cls mk = .method mk := by rw [Launch.admits_selectMethod C0.X.admits]; exact q4
  obtain ⟨vm₁, X₁, hstep⟩ := C0.X.invokevirtual C0.ex C0.own (C0.w hl) hnamed hmethM hstM hkP hkPi hy (a := a) (cell := cellB) hcell
    (fun z h => by rw [h] at hobj; cases hobj) hselP hmethM habM hkP hkPi (g := zF m pc ls st lk mr) rfl (argsL := vs) (rest := rest) (zlen hn h8) hst (by rw [C0.hb]; exact hd)
  obtain ⟨t, a1, b1⟩ := C0.call X₁ hnamed hd hsy hw hpl hvs hrm hk
  exact ⟨t, hstep t (fun acts => by rw [doInvoke_state]; exact a1), b1⟩
/-- a method named in a class above: inherited, overriding, or abstract there -/
theorem zUp {x : MethodName} {owner : String} {p : Program} {l : Launch} {e : Env} {R : Room} {s : State} {m : MethodId} {args : Array Value} {below : List Frame} {meth : Method} {c : Code} {T : State} {locs : List Loc} {cells slots : Nat} {ls : Array Slot} {lk : Option Addr} {mr : Nat} {s1 : State} {ci N : Nat} {C : String} {Tt : u_T} {fs : List Value} (C0 : zCtx G d K Y lo g p l e R s m args below meth c T locs cells slots ls lk mr s1) (hd : decode Y.code pc = .ok (.invokevirtual idx, 3)) (hl : Cond.methodLink Y.nm.cls idx x ∈ lw_all) (hsame : Cond.sameMethod x.cls owner x.name x.desc ∈ lw_all) (howner : owner ≠ "java/lang/invoke/MethodHandle" ∧ owner ≠ "java/lang/invoke/VarHandle") (hdecl : Cond.declares ⟨owner, x.name, x.desc⟩ ∈ lw_tbl ∨ ∃ Z : zM, Z.nm = ⟨owner, x.name, x.desc⟩ ∧ (Z.sy = true → Z.hs = []) ∧ Cond.instanceMethod Z.nm ∈ lw_all ∧ zCode Z ∈ lw_all) {y : MethodName} (hin : Cond.instanceMethod y ∈ lw_all) (hc : zcl[ci]? = some (C, Tt, N)) (hse : Cond.selects C x y ∈ lw_all) (he : g.h a = some (.inr (ci, fs))) (hn : (parseMethodDescriptor x.desc).map (fun d => d.parameters.length) = some vs.length) (hst : st = vs.reverse ++ .ref a :: rest) :
    ∃ vm' mk, s.methodNamed? y = some mk ∧ Stand p l e R s m args below meth c (T.setVm vm') locs cells slots ∧ ∀ target, (∀ acts, Steps p.tables e below (doInvoke e ((T.setVm vm').setTop (zF m pc ls rest lk mr)) acts mk (.ref a :: vs).toArray).1 target) → Steps p.tables e below (T.setTop (zF m pc ls st lk mr)) target := by
  obtain ⟨cellB, hcell, hobj, hcls⟩ := C0.recv hc he
  have hd0 : va_Decl s ⟨owner, x.name, x.desc⟩ := by
    rcases hdecl with h | ⟨Z, hz, hno, hz1, hz2⟩
    · exact va_Decl.abs (va_Nw.warmD C0.wm (va_Nw.of rfl (C0.ok.1 _ h)))
    · obtain ⟨r0, r, hn0, hrm, hstR, -⟩ := Cond.instanceMethod_spec (C0.w hz1)
      obtain ⟨r', c0, h1, -, -, -, -, -, -, h8⟩ := zCode_spec hn0 hno (C0.w hz2)
      cases hrm.symm.trans h1
      rw [hz] at hn0 h8
      exact ⟨r0, r, hn0, hrm, hstR, h8⟩
  obtain ⟨r0, r, hn0, hrm, hstR, hsigR⟩ := hd0
  obtain ⟨cn, ck, r1, hcn, hck, hni, hf, hn1⟩ := Cond.sameMethod_found (C0.w hsame)
  cases hn0.symm.trans hn1
  obtain ⟨mk, methM, hnamed, hmethM, -, habM⟩ := Cond.instanceMethod_spec (C0.w hin)
  obtain ⟨c2, r2, m2, q1, q2, q3, q4, kP, hkP, hkPi⟩ := Cond.selects_spec (C0.w hse)
  cases hcls.symm.trans q1
  cases hf.symm.trans q2
  cases hnamed.symm.trans q3
  have hselP : selectMethod e.platform s.vm cellB.cls r0 = .method mk := by rw [Launch.admits_selectMethod C0.X.admits]; exact q4
  obtain ⟨vm₁, X₁, hstep⟩ := C0.X.invokevirtualUp C0.ex C0.own (C0.w hl) (C0.w hsame) howner hn0 hrm hstR (a := a) (cell := cellB) hcell
    (fun z h => by rw [h] at hobj; cases hobj) hselP hmethM habM hkP hkPi (g := zF m pc ls st lk mr) rfl (argsL := vs) (rest := rest) (zlen hn hsigR) hst (by rw [C0.hb]; exact hd)
  exact ⟨vm₁, mk, hnamed, X₁, hstep⟩
theorem ez_callU {x : MethodName} {owner : String} {ci N : Nat} {C : String} {Tt : u_T} {fs : List Value} (hd : decode Y.code pc = .ok (.invokevirtual idx, 3)) (ho : own = Y.nm.cls) (hM : zMok Y') (hl : Cond.methodLink own idx x ∈ lw_all) (hsame : Cond.sameMethod x.cls owner x.name x.desc ∈ lw_all) (howner : owner ≠ "java/lang/invoke/MethodHandle" ∧ owner ≠ "java/lang/invoke/VarHandle") (hdecl : Cond.declares ⟨owner, x.name, x.desc⟩ ∈ lw_tbl ∨ ∃ Z : zM, Z.nm = ⟨owner, x.name, x.desc⟩ ∧ (Z.sy = true → Z.hs = []) ∧ Cond.instanceMethod Z.nm ∈ lw_all ∧ zCode Z ∈ lw_all) (hin : Cond.instanceMethod Y'.nm ∈ lw_all) (hc : zcl[ci]? = some (C, Tt, N)) (hse : Cond.selects C x Y'.nm ∈ lw_all) (he : g.h a = some (.inr (ci, fs))) (hn : (parseMethodDescriptor x.desc).map (fun d => d.parameters.length) = some vs.length) (hvs : (zsl (.ref a :: vs)).length ≤ Y'.mL) (hrm : (rest.map fun v => v.category).sum + Y'.mL ≤ 27) (hst : st = vs.reverse ++ .ref a :: rest)
    (hk : zEM G d K Y' (.ref a :: vs) g (zBack G (d + 1) K Y pc lo rest Q)) : zEF G (d + 1) K Y pc lo st g Q := by
  subst ho
  intro p l e R s m args below meth c T locs cells slots ls lk mr s1 C0
  obtain ⟨hsy, hw, hpl, hy⟩ := hM
  obtain ⟨vm₁, mk, hnamed, X₁, hstep⟩ := zUp C0 hd hl hsame howner hdecl hin hc hse he hn hst
  obtain ⟨t, a1, b1⟩ := C0.call X₁ hnamed hd hsy hw hpl hvs hrm hk
  exact ⟨t, hstep t (fun acts => by rw [doInvoke_state]; exact a1), b1⟩
/-- a constructor -/
theorem ez_callI (hd : decode Y.code pc = .ok (.invokespecial idx, 3)) (ho : own = Y.nm.cls) (hM : zMok Y') (hhs : Y'.hs = []) (hret : Y'.ret = none) (hini : Y'.nm.name = "<init>") (hl : Cond.methodLink own idx Y'.nm ∈ lw_all) (hin : Cond.instanceMethod Y'.nm ∈ lw_all) (hn : (parseMethodDescriptor Y'.nm.desc).map (fun d => d.parameters.length) = some vs.length) (hvs : (zsl (.ref a :: vs)).length ≤ Y'.mL) (hrm : (rest.map fun v => v.category).sum + Y'.mL ≤ 27) (hst : st = vs.reverse ++ .ref a :: rest)
    (hk : zEM G d K Y' (.ref a :: vs) g (zBack G (d + 1) K Y pc lo rest Q)) : zEF G (d + 1) K Y pc lo st g Q := by
  subst ho
  intro p l e R s m args below meth c T locs cells slots ls lk mr s1 C0
  obtain ⟨hsy, hw, hpl, hy⟩ := hM
  have hpl0 : e.platform.magicAccessors = ({} : Platform).magicAccessors := by rw [C0.X.admits.platform]
  have hcode : (Cond.code Y'.nm Y'.code Y'.mL none).before args s = true := by
    have h := C0.w hw
    obtain ⟨nm, code, mL, ret, hs, sy⟩ := Y'
    have e1 : sy = false := hsy
    have e2 : hs = [] := hhs
    have e3 : ret = none := hret
    subst e1; subst e2; subst e3
    exact h
  obtain ⟨mk, methM, cM, kP, vm₁, hnamed, hmethM, hcodeM, -, hlocalsM, -, hkP, -, hW₁, hstep⟩ := Steps.initColdArgs (e := e) C0.X.here C0.ex C0.X.warmed hpl0 C0.own hini hy (C0.w hl) (C0.w hin) hcode (f := zF m pc ls st lk mr) rfl (a := a) (argsL := vs) (rest := rest) (fun sig h => by rw [h] at hn; exact (Option.some.inj hn).symm) hst (by rw [C0.hb]; exact hd)
  have X₁ := C0.X.noted hW₁
  obtain ⟨t, a1, b1⟩ := C0.call X₁ hnamed hd hsy hw hpl hvs hrm hk
  exact ⟨t, hstep t (fun acts => by rw [doInvoke_state]; exact a1), b1⟩
/-- a constructor that is private in a nest mate -/
theorem ez_callIN {host : String} (hd : decode Y.code pc = .ok (.invokespecial idx, 3)) (ho : own = Y.nm.cls) (hM : zMok Y') (hhs : Y'.hs = []) (hret : Y'.ret = none) (hini : Y'.nm.name = "<init>") (hl : Cond.methodLinkNest own idx Y'.nm host ∈ lw_tbl) (hin : Cond.instanceMethod Y'.nm ∈ lw_all) (hn : (parseMethodDescriptor Y'.nm.desc).map (fun d => d.parameters.length) = some vs.length) (hvs : (zsl (.ref a :: vs)).length ≤ Y'.mL) (hrm : (rest.map fun v => v.category).sum + Y'.mL ≤ 27) (hst : st = vs.reverse ++ .ref a :: rest)
    (hk : zEM G d K Y' (.ref a :: vs) g (zBack G (d + 1) K Y pc lo rest Q)) : zEF G (d + 1) K Y pc lo st g Q := by
  subst ho
  intro p l e R s m args below meth c T locs cells slots ls lk mr s1 C0
  obtain ⟨hsy, hw, hpl, hy⟩ := hM
  have hpl0 : e.platform.magicAccessors = ({} : Platform).magicAccessors := by rw [C0.X.admits.platform]
  have hl2 : (Cond.methodLinkNest Y.nm.cls idx Y'.nm host).before args s = true := va_Nw.use rfl (va_Nw.warmM C0.wm (va_Nw.of rfl (C0.ok.1 _ hl)))
  have hcode : (Cond.code Y'.nm Y'.code Y'.mL none).before args s = true := by
    have h := C0.w hw
    obtain ⟨nm, code, mL, ret, hs, sy⟩ := Y'
    have e1 : sy = false := hsy
    have e2 : hs = [] := hhs
    have e3 : ret = none := hret
    subst e1; subst e2; subst e3
    exact h
  obtain ⟨mk, methM, cM, kP, vm₁, hnamed, hmethM, hcodeM, -, hlocalsM, -, hkP, -, hW₁, hstep⟩ := Steps.initColdArgsNest (e := e) C0.X.here C0.ex C0.X.warmed hpl0 C0.own hini hy hl2 (C0.w hin) hcode (f := zF m pc ls st lk mr) rfl (a := a) (argsL := vs) (rest := rest) (fun sig h => by rw [h] at hn; exact (Option.some.inj hn).symm) hst (by rw [C0.hb]; exact hd)
  have X₁ := C0.X.noted hW₁
  obtain ⟨t, a1, b1⟩ := C0.call X₁ hnamed hd hsy hw hpl hvs hrm hk
  exact ⟨t, hstep t (fun acts => by rw [doInvoke_state]; exact a1), b1⟩
theorem zsub_self (vm : Vm) (c : ClassId) : vm.isSubclass c c = true := by simp [Vm.isSubclass, Vm.isSubclassAux]
theorem zsub_up {vm : Vm} {c q : ClassId} {k : Class} (hk : vm.classes[c]? = some k) (hs : k.super = some q) : vm.isSubclass c q = true := by
  have hlt : c < vm.classes.size := (Array.getElem?_eq_some_iff.mp hk).1
  obtain ⟨n, hn⟩ : ∃ n, vm.classes.size = n + 1 := Nat.exists_eq_succ_of_ne_zero (fun h => by rw [h] at hlt; exact absurd hlt (Nat.not_lt_zero _))
  simp [Vm.isSubclass, Vm.isSubclassAux, hk, hs, hn]
/-- super.method(): x: as the instruction names it (a method of the class above); its code stands in owner -/
theorem ez_callSup {x : MethodName} {ci N : Nat} {C : String} {Tt : u_T} {fs : List Value} (hd : decode Y.code pc = .ok (.invokespecial idx, 3)) (ho : own = Y.nm.cls) (hM : zMok Y') (hl : Cond.methodLink own idx x ∈ lw_all) (hxy : Y'.nm.name = x.name ∧ Y'.nm.desc = x.desc) (hsame : Cond.sameMethod x.cls Y'.nm.cls x.name x.desc ∈ lw_all) (hsup : Cond.superclass own x.cls ∈ lw_all) (hup : x.cls = Y'.nm.cls ∨ Cond.superclass x.cls Y'.nm.cls ∈ lw_all) (hno : x.name ≠ "<init>") (hin : Cond.instanceMethod Y'.nm ∈ lw_all) (hc : zcl[ci]? = some (C, Tt, N)) (he : g.h a = some (.inr (ci, fs))) (hn : (parseMethodDescriptor Y'.nm.desc).map (fun d => d.parameters.length) = some vs.length) (hvs : (zsl (.ref a :: vs)).length ≤ Y'.mL) (hrm : (rest.map fun v => v.category).sum + Y'.mL ≤ 27) (hst : st = vs.reverse ++ .ref a :: rest)
    (hk : zEM G d K Y' (.ref a :: vs) g (zBack G (d + 1) K Y pc lo rest Q)) : zEF G (d + 1) K Y pc lo st g Q := by
  subst ho
  intro p l e R s m args below meth c T locs cells slots ls lk mr s1 C0
  obtain ⟨hsy, hw, hpl, hy⟩ := hM
  obtain ⟨cellB, hcell, hobj, hcls⟩ := C0.recv hc he
  obtain ⟨kB, hkB, -⟩ := Vm.findClass_spec hcls
  obtain ⟨mk, methM, hnamed, hmethM, hstM, habM⟩ := Cond.instanceMethod_spec (C0.w hin)
  obtain ⟨methM', cM, h1, h2, h3, h4, h5, h6, h7, h8⟩ := zCode_spec hnamed (fun h => by rw [hsy] at h; cases h) (C0.w hw)
  cases hmethM.symm.trans h1
  obtain ⟨ps, dk, kp, hps, hdk, hkp, hsuper, -, -, hnid⟩ := Cond.superclass_spec C0.own (C0.w hsup)
  have hn2 : s.methodNamed? ⟨Y'.nm.cls, x.name, x.desc⟩ = some mk := by rw [← hxy.1, ← hxy.2]; exact hnamed
  have hsub : s.vm.isSubclass ps mk.cls = true := by
    rcases hup with e1 | e1
    · have hpm : ps = mk.cls := Option.some.inj (hps.symm.trans (by rw [e1]; exact findClass_of_methodNamed hnamed))
      rw [hpm]; exact zsub_self _ _
    · obtain ⟨ps2, dk2, kp2, hps2, hdk2, hkp2, hsuper2, -⟩ := Cond.superclass_spec hps (C0.w e1)
      have hpm : ps2 = mk.cls := Option.some.inj (hps2.symm.trans (findClass_of_methodNamed hnamed))
      rw [← hpm]; exact zsub_up hdk2 hsuper2
  obtain ⟨vm₁, X₁, hstep⟩ := C0.X.invokespecialUp C0.ex C0.own (C0.w hl) (C0.w hsame) hn2 hmethM hstM habM hno hdk hnid hps hsuper hsub (a := a) (cell := cellB) hcell
    (fun z h => by rw [h] at hobj; cases hobj) hkB (g := zF m pc ls st lk mr) rfl (argsL := vs) (rest := rest) (zlen hn h8) hst (by rw [C0.hb]; exact hd)
  obtain ⟨t, a1, b1⟩ := C0.call X₁ hnamed hd hsy hw hpl hvs hrm hk
  exact ⟨t, hstep t a1, b1⟩
end ZN
