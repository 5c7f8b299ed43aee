/-! stores of a wrong type, calls on null, getstatic, lcmp -/
set_option maxRecDepth 100000
section ZM1
variable {G : zG} {d : Nat} {K : List Nat} {Y : zM} {pc : Nat} {lo : List (Option Value)} {st : List Value} {g : zS} {Q : zO → zS → Prop} {a : Nat}
/-- a store of an object of a class that isn't the array's -/
theorem ex_aasT {t n ci N v : Nat} {CC nm : String} {Tt : u_T} {vs : List Value} {f : Nat → Option Nat} {i : Int32} (hd : decode Y.code pc = .ok (.aastore, 1)) (he : g.h a = some (.inl (t, n, .inr (.inr (.inr (.inr f)))))) (ht : t < 11) (hnm : zty t = .object nm) (hin : vp_in i n) (hv : g.h v = some (.inr (ci, vs))) (hc : zcl[ci]? = some (CC, Tt, N)) (hw : Cond.not (.castable CC nm) ∈ flatC (Jvm.Cond.and given_1 narrow_1)) (htx : ztxOK (dotted CC) = true) (hst : (st.map fun v => v.category).sum ≤ 40) (hrc : 3 ≤ g.rc) (hrs : 300 ≤ g.rs)
    (k : zTH G (d + 8) K Y pc lo zASE (g.sz + 2) (zxg g) Q) : zEF G (d + 8) K Y pc lo (.ref v :: .int i :: .ref a :: st) g Q := by
  intro p l e R s m args below meth c T locs cells slots ls lk mr s1 C
  obtain ⟨hbase, hat⟩ := C.hp.2.2.2 a _ he
  obtain ⟨cellV, g1, g2, g3⟩ := C.recv hc hv
  have hra := (C.arr t ht).2
  rw [hnm] at hra
  obtain ⟨kA, comp, k1, k2, k3, -⟩ := hra
  obtain ⟨c0, t0, f1, f2, f3⟩ := C.nc hw
  cases g3.symm.trans f1
  cases k3.symm.trans f2
  have hal := C.X.warmed.alike
  obtain ⟨kA', hkA', hA'⟩ := hal.2.2 _ _ k1
  obtain ⟨kcomp, hkcomp, -⟩ := Vm.findClass_spec (vm := T.vm) (by rw [hal.findClass]; exact k3)
  have g3' : T.vm.findClass CC = some cellV.cls := by rw [hal.findClass]; exact g3
  obtain ⟨kv, hkv, -⟩ := Vm.findClass_spec g3'
  obtain ⟨n1, n2, -⟩ := zfound g3' hkv
  have hsh : kv.shown = dotted CC := by unfold Class.shown; rw [n2, n1]
  simp only [ztxOK, Bool.and_eq_true, Bool.not_eq_true', decide_eq_true_eq] at htx
  obtain ⟨t1, a1, b1⟩ := C.msg (x := ("java/lang/ArrayStoreException", ["java/lang/RuntimeException", "java/lang/Exception"])) (by decide) htx.1 htx.2 hrc hrs hst k
  rw [← hsh] at a1
  exact ⟨t1, zastFail C.X C.ex hat (fun q h => by rw [zvp_vm] at h; cases h) (by rw [zvp_cls]; exact hkA') (by rw [hA']; exact k2) (by rw [zvp_size]; exact hin) g1 (fun q h => by rw [h] at g2; cases g2) hkv hkcomp (by rw [hal.assignable]; exact f3) (g := zF m pc ls (.ref v :: .int i :: .ref a :: st) lk mr) rfl rfl (by rw [C.hb]; exact hd) t1 a1, b1⟩
/-- a call on null -/
theorem ex_callN {own C : String} {idx : Nat} {Y' : zM} {vs rest : List Value} (hd : decode Y.code pc = .ok (.invokevirtual idx, 3)) (ho : own = Y.nm.cls) (hM : zMok Y') (hl : Cond.methodLink own idx Y'.nm ∈ lw_all) (hin : Cond.instanceMethod Y'.nm ∈ lw_all) (hse : Cond.selects C Y'.nm Y'.nm ∈ lw_all) (hn : (parseMethodDescriptor Y'.nm.desc).map (fun d => d.parameters.length) = some vs.length) (hst : st = vs.reverse ++ .null :: rest) (hcat : (rest.map fun v => v.category).sum ≤ 40) (hrc : 1 ≤ g.rc) (hrs : 8 ≤ g.rs)
    (k : zTH G (d + 8) K Y pc lo zNPE g.sz (zng g) Q) : zEF G (d + 8) K Y pc lo st g Q := by
  subst ho
  obtain ⟨hsy, hw, hpl, hy⟩ := hM
  intro p l e R s m args below meth c T locs cells slots ls lk mr s1 C0
  obtain ⟨mk, methM, hnamed, hmethM, hstM, habM⟩ := Cond.instanceMethod_spec (C0.w hin)
  obtain ⟨methM', cM, h1, h2, h3, h4, h5, h6, h7, h8⟩ := zCode_spec hnamed (fun h => by rw [hsy] at h; cases h) (C0.w hw)
  cases hmethM.symm.trans h1
  obtain ⟨c2, r2, m2, q1, q2, q3, q4, kP, hkP, hkPi⟩ := Cond.selects_spec (C0.w hse)
  cases (State.methodFound?_of_named hnamed hy).symm.trans q2
  cases hnamed.symm.trans q3
  obtain ⟨vm', X', stp⟩ := C0.X.invokevirtualNull C0.ex C0.own (C0.w hl) hnamed hmethM hstM hkP hkPi hy (g := zF m pc ls st lk mr) rfl (argsL := vs) (rest := rest) (zlen hn h8) hst (by rw [C0.hb]; exact hd)
  have C1 : zCtx G (d + 8) K Y lo g p l e R s m args below meth c (T.setVm vm') locs cells slots ls lk mr s1 :=
    ⟨C0.ok, C0.2.1, C0.fr, C0.rm, C0.hlk, X', ⟨State.WarmedH.trans C0.wm X'.warmed, C0.hp⟩, C0.hlo, C0.cn, C0.lc⟩
  obtain ⟨t1, a1, b1⟩ := C1.npe hrc hrs (pc := pc) (st := rest) hcat k
  exact ⟨t1, stp t1 a1, b1⟩
theorem ez_lcmp {x y : Int64} {v : Int32} (hd : decode Y.code pc = .ok (.lcmp, 1)) (hv : v = if x > y then 1 else if x == y then 0 else -1)
    (k : zEF G d K Y (pc + 1) lo (.int v :: st) g Q) : zEF G d K Y pc lo (.long y :: .long x :: st) g Q := by
  subst hv
  intro p l e R s m args below meth c T locs cells slots ls lk mr s1 C
  obtain ⟨t, a1, b1⟩ := k p l e R s m args below meth c T locs cells slots ls lk mr s1 C
  refine ⟨t, ?_, b1⟩
  have X := C.X
  have hexec := C.ex
  have hb := C.hb
  by_cases h1 : x > y
  · rw [if_pos h1] at a1
    jvm_step X.here [X.here.top, hexec, hb, hd, h1]
    exact a1
  · rw [if_neg h1] at a1
    by_cases h2 : x = y
    · rw [if_pos (by simpa using h2)] at a1
      jvm_step X.here [X.here.top, hexec, hb, hd, h1]
      rw [if_pos h2]
      exact a1
    · rw [if_neg (by simpa using h2)] at a1
      jvm_step X.here [X.here.top, hexec, hb, hd, h1]
      rw [if_neg h2]
      exact a1
/-- Math.negativeZeroFloatBits -/
theorem ez_negz {idx : Nat} (hd : decode Y.code pc = .ok (.getstatic idx, 3)) (hl : Cond.fieldLink Y.nm.cls idx "java/lang/Math" "negativeZeroFloatBits" "J" ∈ lw_all)
    (k : zEF G d K Y (pc + 3) lo (.long (-2147483648) :: st) g Q) : zEF G d K Y pc lo st g Q := by
  intro p l e R s m args below meth c T locs cells slots ls lk mr s1 C
  have hz0 : va_Z "java/lang/Math" "negativeZeroFloatBits" "J" (.long (-2147483648)) (fun q => G.s0.heap.size ≤ q) G.s0 G.s0.heap := by
    refine va_Zof (C.ok.1 (.laysStatic "java/lang/Math" "negativeZeroFloatBits" "J") (by decide +kernel)) (C.ok.1 (.initialized "java/lang/Math") (by decide +kernel)) ?_ (fun a h => by omega)
    have h1 := flat_of_before _ C.ok.2.1 (.eq (.static "java/lang/Math" "negativeZeroFloatBits" "J") (.long (-2147483648))) (by decide +kernel)
    simp only [Cond.before, Cond.holds, Cond.value] at h1
    cases hv : (Term.static "java/lang/Math" "negativeZeroFloatBits" "J").eval #[Value.ref G.b] G.s0 none [] G.s0 with
    | none => rw [hv] at h1; simp at h1
    | some w =>
      rw [hv, show (Term.long (-2147483648)).eval #[Value.ref G.b] G.s0 none [] G.s0 = some (.long (-2147483648)) from rfl] at h1
      cases w <;> simp at h1
      rw [h1]
  obtain ⟨cf, kf, fi, f, aS, cell, z1, z2, z3, z4, z5, z6, z7, z8⟩ := (va_Z.moved C.wm.alike hz0)
  have hH : T.heap[aS]? = some cell := (C.hp.1.2.1 aS (Nat.not_le.mp z8)).trans z5
  obtain ⟨vm', X', stp⟩ := C.X.getstatic C.ex C.own (C.w hl) z1 z2 z3 z4 hH (fun q => by rw [q] at z6; cases z6) z7 (g := zF m pc ls st lk mr) rfl (by rw [C.hb]; exact hd)
  obtain ⟨t, a1, b1⟩ := C.toW0 k (T.setVm vm') rfl X'
  exact ⟨t, stp t a1, b1⟩
end ZM1
