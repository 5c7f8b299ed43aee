/-! Math.max, abs, copySign: by their rows -/
set_option maxRecDepth 100000
theorem zrun_of {row : NativeRow} {a : Array Value} {v : Value} {e : Env} {S : State} (hw : wpRun (row.sem a) (fun r s₂ _ => r = some v ∧ s₂ = S) (fun _ _ _ => False) e S) : ∃ acts, (row.sem a).run e S = .ok (some v) S acts := by
  have hw' := (wpRun_iff_run _ _ _ _ _).mp hw
  cases hr : (row.sem a).run e S with
  | ok r s₂ acts₂ => rw [hr] at hw'; obtain ⟨rfl, rfl⟩ := hw'; exact ⟨_, rfl⟩
  | ctl x s₂ acts₂ => rw [hr] at hw'; cases x <;> exact hw'.elim
section ZMV
variable {G : zG} {d : Nat} {K : List Nat} {Y : zM} {pc : Nat} {lo : List (Option Value)} {st : List Value} {g : zS} {Q : zO → zS → Prop}
theorem ez_over {idx : Nat} {own : String} {y : MethodName} {by_ : ByteArray} {mL' : Nat} {rt : Option FieldType} {vs rest : List Value} {v : Value} {row : NativeRow} (hd : decode Y.code pc = .ok (.invokestatic idx, 3)) (ho : own = Y.nm.cls) (hw : Cond.code y by_ mL' rt ∈ lw_all) (hy : y.cls ≠ "java/lang/invoke/MethodHandle" ∧ y.cls ≠ "java/lang/invoke/VarHandle") (hov : y.cls ∈ overriddenIn) (hl : Cond.methodLink own idx y ∈ lw_all) (hs : Cond.static y ∈ lw_all) (hi : Cond.initialized y.cls ∈ lw_all) (hn : (parseMethodDescriptor y.desc).map (fun d => d.parameters.length) = some vs.length) (hst : st = vs.reverse ++ rest) (hrm : (rest.map fun v => v.category).sum + mL' ≤ 27)
    (hrow : ∀ p : Program, NativeRow.find? p.tables.natives y.cls y.name y.desc = some row) (hgiven : (((argsToLocals vs.toArray mL').toList.filterMap fun | .val v => some v | _ => none).toArray).extract 0 vs.length = vs.toArray) (hrun : ∀ (e : Env) (S : State), ∃ acts, (row.sem vs.toArray).run e S = .ok (some v) S acts)
    (k : zEF G (d + 1) K Y (pc + 3) lo (v :: rest) g Q) : zEF G (d + 1) K Y pc lo st g Q := by
  subst ho
  intro p l e R s m args below meth c T locs cells slots ls lk mr s1 C0
  obtain ⟨mk, hnamed⟩ := zCode_named (Y := (y, by_, mL', rt, [], false)) rfl (C0.w hw)
  obtain ⟨methM, cM, h1, h2, h3, h4, h5, h6, h7, h8⟩ := zCode_spec (Y := (y, by_, mL', rt, [], false)) hnamed (fun h => by cases h) (C0.w hw)
  have hstatic : methM.isStatic = true := Cond.static_spec hnamed h1 (C0.w hs)
  obtain ⟨kP, hkP, -⟩ := className_of_methodNamed hnamed
  have hinitP : kP.init = .initialized := Cond.initialized_spec (findClass_of_methodNamed hnamed) hkP (C0.w hi)
  obtain ⟨vm₁, X₁, hstep⟩ := C0.X.invokestatic C0.ex C0.own (C0.w hl) hnamed h1 hstatic hkP hinitP hy (g := zF m pc ls st lk mr) rfl (argsL := vs) (rest := rest) (zlen hn h8) hst (by rw [C0.hb]; exact hd)
  have hrm' := C0.rm
  have hmr := C0.mr1'
  have hn' : (T.setVm vm₁).methodNamed? y = some mk := X₁.named hnamed
  obtain ⟨k1, hk1, hk1n⟩ := className_of_methodNamed hn'
  obtain ⟨-, -, hboot⟩ := zfound (findClass_of_methodNamed hn') hk1
  have hmk : (T.setVm vm₁).vm.method? mk = some methM := by rw [X₁.warmed.alike.method?]; exact h1
  have hx1 : k1.methods[mk.idx]? = some methM := by
    have h0 := hmk
    simp only [Vm.method?, hk1, Option.bind_eq_bind, Option.bind_some] at h0
    exact h0
  obtain ⟨e1, e2⟩ := name_of_methodNamed hn' hmk
  have h4' : cM.maxLocals = mL' := h4
  have hst2 := zOver X₁ (g := zF m pc ls rest lk mr) rfl (by rw [C0.ml]; exact C0.hlo.1) (by rw [C0.hb]; exact hd) hk1 hx1 hboot (by rw [hk1n]; exact hov) (row := row) (by rw [hk1n, e1, e2]; exact hrow p) h2 h7 (a := vs.toArray) (v := v) (n := vs.length)
    (by rw [if_pos hstatic]; exact (zlen hn h8).symm) (by rw [h4']; exact hgiven) (fun S => hrun e S) (by omega) (by show 2 * mr + (rest.map fun v => v.category).sum + (cM.maxLocals + 11) ≤ R.locals; rw [h4']; omega)
  obtain ⟨t, a1, b1⟩ := C0.toW0 k (T.setVm vm₁) rfl X₁
  exact ⟨t, hstep t (fun acts => by rw [doInvoke_state]; exact hst2.trans a1), b1⟩
def zr_maxF : NativeRow := (NativeRow.find? Native.java_lang_Math.nans.rows "java/lang/Math" "max" "(FF)F").get (by decide +kernel)
theorem zr_maxF_row (p : Program) : NativeRow.find? p.tables.natives "java/lang/Math" "max" "(FF)F" = some zr_maxF := by cases p <;> rfl
theorem ez_maxF {idx : Nat} {own : String} {x : UInt32} {y : UInt32} (hd : decode Y.code pc = .ok (.invokestatic idx, 3)) (ho : own = Y.nm.cls) (hl : Cond.methodLink own idx ⟨"java/lang/Math", "max", "(FF)F"⟩ ∈ lw_all) (h0 : FP.fIsNaN x = false) (h1 : FP.fIsNaN y = false) (hrm : (st.map fun v => v.category).sum + 2 ≤ 27)
    (k : zEF G (d + 1) K Y (pc + 3) lo (.float (Native.java_lang_Math.nans.pick32 true x y) :: st) g Q) : zEF G (d + 1) K Y pc lo (.float y :: .float x :: st) g Q := by
  refine ez_over (vs := [.float x, .float y]) (rest := st) (y := ⟨"java/lang/Math", "max", "(FF)F"⟩) (row := zr_maxF) hd ho q780 (by decide +kernel) (by decide +kernel) hl q779 q78 (show (parseMethodDescriptor "(FF)F").map (fun d => d.parameters.length) = some 2 by decide +kernel) rfl hrm zr_maxF_row rfl (fun e S => zrun_of ?_) k
  have hsem : zr_maxF.sem #[.float x, .float y] = (do
      let r ← if FP.fIsNaN x then anyNaN32 x else if FP.fIsNaN y then anyNaN32 y else Pure.pure (Native.java_lang_Math.nans.pick32 true x y)
      mark "nat.java_lang_Math.max/float"
      Pure.pure (some (.float r))) := rfl
  show wpRun (zr_maxF.sem #[.float x, .float y]) _ _ _ _
  rw [hsem]
  simp [jvm, wpRun, h0, h1]
def zr_absF : NativeRow := (NativeRow.find? Native.java_lang_Math.nans.rows "java/lang/Math" "abs" "(F)F").get (by decide +kernel)
theorem zr_absF_row (p : Program) : NativeRow.find? p.tables.natives "java/lang/Math" "abs" "(F)F" = some zr_absF := by cases p <;> rfl
theorem ez_absF {idx : Nat} {own : String} {x : UInt32} (hd : decode Y.code pc = .ok (.invokestatic idx, 3)) (ho : own = Y.nm.cls) (hl : Cond.methodLink own idx ⟨"java/lang/Math", "abs", "(F)F"⟩ ∈ lw_all) (h0 : vf_n32 x) (hrm : (st.map fun v => v.category).sum + 1 ≤ 27)
    (k : zEF G (d + 1) K Y (pc + 3) lo (.float (x &&& 0x7fffffff) :: st) g Q) : zEF G (d + 1) K Y pc lo (.float x :: st) g Q := by
  refine ez_over (vs := [.float x]) (rest := st) (y := ⟨"java/lang/Math", "abs", "(F)F"⟩) (row := zr_absF) hd ho q800 (by decide +kernel) (by decide +kernel) hl q799 q78 (show (parseMethodDescriptor "(F)F").map (fun d => d.parameters.length) = some 1 by decide +kernel) rfl hrm zr_absF_row rfl (fun e S => zrun_of ?_) k
  have hsem : zr_absF.sem #[.float x] = (do
      let r ← anyNaN32 (x &&& 0x7fffffff)
      mark "nat.java_lang_Math.abs/float"
      Pure.pure (some (.float r))) := rfl
  have hn : (x &&& 0x7fffffff) &&& 0x7fffffff ≤ 0x7f800000 := by rw [UInt32.and_assoc, UInt32.and_self]; exact h0
  show wpRun (zr_absF.sem #[.float x]) _ _ _ _
  rw [hsem]
  simp [jvm, wpRun, anyNaN32, hn]
def zr_absD : NativeRow := (NativeRow.find? Native.java_lang_Math.nans.rows "java/lang/Math" "abs" "(D)D").get (by decide +kernel)
theorem zr_absD_row (p : Program) : NativeRow.find? p.tables.natives "java/lang/Math" "abs" "(D)D" = some zr_absD := by cases p <;> rfl
theorem ez_absD {idx : Nat} {own : String} {x : UInt64} (hd : decode Y.code pc = .ok (.invokestatic idx, 3)) (ho : own = Y.nm.cls) (hl : Cond.methodLink own idx ⟨"java/lang/Math", "abs", "(D)D"⟩ ∈ lw_all) (h0 : vf_n64 x) (hrm : (st.map fun v => v.category).sum + 2 ≤ 27)
    (k : zEF G (d + 1) K Y (pc + 3) lo (.double (x &&& 0x7fffffffffffffff) :: st) g Q) : zEF G (d + 1) K Y pc lo (.double x :: st) g Q := by
  refine ez_over (vs := [.double x]) (rest := st) (y := ⟨"java/lang/Math", "abs", "(D)D"⟩) (row := zr_absD) hd ho q828 (by decide +kernel) (by decide +kernel) hl q827 q78 (show (parseMethodDescriptor "(D)D").map (fun d => d.parameters.length) = some 1 by decide +kernel) rfl hrm zr_absD_row rfl (fun e S => zrun_of ?_) k
  have hsem : zr_absD.sem #[.double x] = (do
      let r ← anyNaN64 (x &&& 0x7fffffffffffffff)
      mark "nat.java_lang_Math.abs"
      Pure.pure (some (.double r))) := rfl
  have hn : (x &&& 0x7fffffffffffffff) &&& 0x7fffffffffffffff ≤ 0x7ff0000000000000 := by rw [UInt64.and_assoc, UInt64.and_self]; exact h0
  show wpRun (zr_absD.sem #[.double x]) _ _ _ _
  rw [hsem]
  simp [jvm, wpRun, anyNaN64, hn]
def zr_copyF : NativeRow := (NativeRow.find? Native.java_lang_Math.nans.rows "java/lang/Math" "copySign" "(FF)F").get (by decide +kernel)
theorem zr_copyF_row (p : Program) : NativeRow.find? p.tables.natives "java/lang/Math" "copySign" "(FF)F" = some zr_copyF := by cases p <;> rfl
theorem ez_copyF {idx : Nat} {own : String} {x : UInt32} {y : UInt32} (hd : decode Y.code pc = .ok (.invokestatic idx, 3)) (ho : own = Y.nm.cls) (hl : Cond.methodLink own idx ⟨"java/lang/Math", "copySign", "(FF)F"⟩ ∈ lw_all) (h0 : FP.fIsNaN y = false) (hrm : (st.map fun v => v.category).sum + 2 ≤ 27)
    (k : zEF G (d + 1) K Y (pc + 3) lo (.float ((x &&& 0x7fffffff) ||| (if y >>> 31 == 1 then 0x80000000 else 0)) :: st) g Q) : zEF G (d + 1) K Y pc lo (.float y :: .float x :: st) g Q := by
  refine ez_over (vs := [.float x, .float y]) (rest := st) (y := ⟨"java/lang/Math", "copySign", "(FF)F"⟩) (row := zr_copyF) hd ho q805 (by decide +kernel) (by decide +kernel) hl q804 q78 (show (parseMethodDescriptor "(FF)F").map (fun d => d.parameters.length) = some 2 by decide +kernel) rfl hrm zr_copyF_row rfl (fun e S => zrun_of ?_) k
  have hsem : zr_copyF.sem #[.float x, .float y] = (do
      let negative ← Native.java_lang_Math.nans.signOf (FP.fIsNaN y) (y >>> 31 == 1)
      mark "nat.java_lang_Math.copySign/float"
      Pure.pure (some (.float ((x &&& 0x7fffffff) ||| (if negative then 0x80000000 else 0))))) := rfl
  show wpRun (zr_copyF.sem #[.float x, .float y]) _ _ _ _
  rw [hsem]
  simp [jvm, wpRun, Native.java_lang_Math.nans.signOf, h0]
def zr_copyD : NativeRow := (NativeRow.find? Native.java_lang_Math.nans.rows "java/lang/Math" "copySign" "(DD)D").get (by decide +kernel)
theorem zr_copyD_row (p : Program) : NativeRow.find? p.tables.natives "java/lang/Math" "copySign" "(DD)D" = some zr_copyD := by cases p <;> rfl
theorem ez_copyD {idx : Nat} {own : String} {x : UInt64} {y : UInt64} (hd : decode Y.code pc = .ok (.invokestatic idx, 3)) (ho : own = Y.nm.cls) (hl : Cond.methodLink own idx ⟨"java/lang/Math", "copySign", "(DD)D"⟩ ∈ lw_all) (h0 : FP.dIsNaN y = false) (hrm : (st.map fun v => v.category).sum + 4 ≤ 27)
    (k : zEF G (d + 1) K Y (pc + 3) lo (.double ((x &&& 0x7fffffffffffffff) ||| (if y >>> 63 == 1 then 0x8000000000000000 else 0)) :: st) g Q) : zEF G (d + 1) K Y pc lo (.double y :: .double x :: st) g Q := by
  refine ez_over (vs := [.double x, .double y]) (rest := st) (y := ⟨"java/lang/Math", "copySign", "(DD)D"⟩) (row := zr_copyD) hd ho q819 (by decide +kernel) (by decide +kernel) hl q818 q78 (show (parseMethodDescriptor "(DD)D").map (fun d => d.parameters.length) = some 2 by decide +kernel) rfl hrm zr_copyD_row rfl (fun e S => zrun_of ?_) k
  have hsem : zr_copyD.sem #[.double x, .double y] = (do
      let negative ← Native.java_lang_Math.nans.signOf (FP.dIsNaN y) (y >>> 63 == 1)
      mark "nat.java_lang_Math.copySign"
      Pure.pure (some (.double ((x &&& 0x7fffffffffffffff) ||| (if negative then 0x8000000000000000 else 0))))) := rfl
  show wpRun (zr_copyD.sem #[.double x, .double y]) _ _ _ _
  rw [hsem]
  simp [jvm, wpRun, Native.java_lang_Math.nans.signOf, h0]
end ZMV
