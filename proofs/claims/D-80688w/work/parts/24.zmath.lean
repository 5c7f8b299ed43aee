/-! Math's methods that the machine runs by entries of its own -/
set_option maxRecDepth 100000
section ZMT
variable {G : zG} {d : Nat} {K : List Nat} {Y : zM} {pc : Nat} {lo : List (Option Value)} {st : List Value} {g : zS} {Q : zO → zS → Prop}
theorem ez_back {idx : Nat} {own : String} {y : MethodName} {by_ : ByteArray} {mL' : Nat} {rt : Option FieldType} {vs rest : List Value} {v : Value} (hd : decode Y.code pc = .ok (.invokestatic idx, 3)) (ho : own = Y.nm.cls) (hw : Cond.code y by_ mL' rt ∈ lw_all) (hy : y.cls ≠ "java/lang/invoke/MethodHandle" ∧ y.cls ≠ "java/lang/invoke/VarHandle") (hl : Cond.methodLink own idx y ∈ lw_all) (hs : Cond.static y ∈ lw_all) (hi : Cond.initialized y.cls ∈ lw_all) (hn : (parseMethodDescriptor y.desc).map (fun d => d.parameters.length) = some vs.length) (hst : st = vs.reverse ++ rest) (hrm : (rest.map fun v => v.category).sum + mL' ≤ 27)
    (hB : ∀ (l : Launch) (R : Room) (p : Program) (e : Env) (below : List Frame) (s : State) (sargs : Array Value), (Cond.code y by_ mL' rt).before sargs s = true → (Cond.static y).before sargs s = true → 1 ≤ R.frames → 29 + (mL' + 11) ≤ R.locals →
      ∃ (Pre : Jvm.Free.Pt → Array Value → Prop) (Post : Jvm.Free.Pt → Array Value → Option Value → Jvm.Free.Pt → Prop), Jvm.Free.Back l R p e below s sargs y 3 29 Pre Post ∧ (∀ A, Pre A vs.toArray) ∧ ∀ A r B, Post A vs.toArray r B → B = A ∧ r = some v)
    (k : zEF G (d + 1) K Y (pc + 3) lo (v :: rest) g Q) : zEF G (d + 1) K Y pc lo st g Q := by
  subst ho
  intro p l e R s m args below meth c T locs cells slots ls lk mr s1 C0
  obtain ⟨mk, hnamed⟩ := zCode_named (Y := (y, by_, mL', rt, [], false)) rfl (C0.w hw)
  obtain ⟨methM, cM, h1, h2, h3, h4, h5, h6, h7, h8⟩ := zCode_spec (Y := (y, by_, mL', rt, [], false)) hnamed (fun h => by cases h) (C0.w hw)
  have hstatic : methM.isStatic = true := Cond.static_spec hnamed h1 (C0.w hs)
  obtain ⟨kP, hkP, -⟩ := className_of_methodNamed hnamed
  have hinitP : kP.init = .initialized := Cond.initialized_spec (findClass_of_methodNamed hnamed) hkP (C0.w hi)
  obtain ⟨vm₁, X₁, hstep⟩ := C0.X.invokestatic C0.ex C0.own (C0.w hl) hnamed h1 hstatic hkP hinitP hy (g := zF m pc ls st lk mr) rfl (argsL := vs) (rest := rest) (zlen hn h8) hst (by rw [C0.hb]; exact hd)
  have hrm' := C0.rm
  have hmr := C0.mr1'
  obtain ⟨Pre, Post, hBk, hPre, hPost⟩ := hB l R p e below s args (C0.w hw) (C0.w hs) (by omega) (by omega)
  obtain ⟨r, B, XB, hpost, hst2⟩ := hBk m meth c ⟨T.setVm vm₁, locs, cells, slots⟩ (zF m pc ls rest lk mr) (.invokestatic idx) mk vs.toArray X₁ rfl (by rw [C0.ml]; exact C0.hlo.1) (by rw [C0.hb]; exact hd) (by show 2 * mr + (rest.map fun v => v.category).sum ≤ 29; omega) (X₁.named hnamed) (hPre _)
  obtain ⟨rfl, rfl⟩ := hPost _ _ _ hpost
  obtain ⟨t, a1, b1⟩ := C0.toW0 k (T.setVm vm₁) rfl X₁
  exact ⟨t, hstep t (fun acts => by rw [doInvoke_state]; exact hst2.trans a1), b1⟩
end ZMT
