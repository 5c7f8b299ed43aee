/-! throws at the level of the frame judgement -/
set_option maxRecDepth 100000
def zaOK (a : Cond) : Bool := goodWord a || match a with
  | .castable _ _ => true
  | .declares _ => true
  | .laysStatic _ _ _ => true
  | _ => false
def zisRef (a : Cond) : Bool := match a with
  | .isRef _ => true
  | _ => false
theorem zw2 {G : zG} {s : State} {w : Cond} (hG : zOK G) (hW : zOld G s) (h : w ∈ lw_tbl) (hk : zaOK w = true) (as : Array Value) : w.before as s = true := by
  unfold zaOK at hk
  rcases Bool.or_eq_true_iff.mp hk with h1 | h1
  · exact zw hG hW.1 (lw_g h h1) as
  · have h0 := hG.1 w h
    cases w with
    | castable C T => exact va_tabs (A := #[]) rfl rfl (va_Nw.warmC hW.1 (va_tabs (A := #[Value.ref G.b]) rfl rfl h0))
    | declares x => exact va_tabs (A := #[]) rfl rfl (va_Nw.warmD hW.1 (va_tabs (A := #[Value.ref G.b]) rfl rfl h0))
    | laysStatic C n dd =>
      obtain ⟨c, k, i, f, a, cell, hc, hi, hst, ha, hcell, hs, hcls, hlt, hty⟩ := Cond.laysStatic_spec (Cond.laysStatic_setVm hW.1.alike h0)
      have hlt0 : a < G.s0.heap.size := (Array.getElem?_eq_some_iff.mp hcell).1
      exact Cond.laysStatic_of (s := s) hc hi hst ha ((hW.2.2.1 a hlt0).trans hcell) hs hcls hlt hty
    | _ => cases h1
/-- a list of words, all of them of the tables -/
def zin (ws : List Cond) : Bool := ws.all fun a => zisRef a || (decide (a ∈ lw_tbl) && zaOK a)
theorem zin_at {G : zG} {s : State} {ws : List Cond} (hz : zin ws = true) (hG : zOK G) (hW : zOld G s) (as : Array Value) : ∀ a ∈ ws, (∀ t, a ≠ .isRef t) → a.before as s = true := by
  intro a ha hr
  have h1 := List.all_eq_true.mp hz a ha
  rcases Bool.or_eq_true_iff.mp h1 with h2 | h2
  · cases a with
    | isRef t => exact absurd rfl (hr t)
    | _ => cases h2
  · obtain ⟨h3, h4⟩ := Bool.and_eq_true_iff.mp h2
    exact zw2 hG hW (of_decide_eq_true h3) h4 as
/-- the exceptions with a message that the code can meet -/
def zxc : List (String × List String) := [("java/lang/NegativeArraySizeException", ["java/lang/RuntimeException", "java/lang/Exception"]), ("java/lang/ClassCastException", ["java/lang/RuntimeException", "java/lang/Exception"]), ("java/lang/ArrayStoreException", ["java/lang/RuntimeException", "java/lang/Exception"]), ("java/lang/ArithmeticException", ["java/lang/RuntimeException", "java/lang/Exception"]), ("java/lang/ArrayIndexOutOfBoundsException", ["java/lang/IndexOutOfBoundsException", "java/lang/RuntimeException", "java/lang/Exception"])]
def zxOK (x : String × List String) : Bool := zin (Bundle.messageArmAtoms x.1 x.2) && Bundle.fit x.1 && x.2.all Bundle.fit && !(x.1 == "java/lang/StackOverflowError") && !(x.1 == "java/lang/OutOfMemoryError") && decide (x.2.length ≤ 3)
theorem zxc_ok : zxc.all zxOK = true := by decide +kernel
theorem zin_npe : zin (Bundle.npeArmAtoms 8) = true := by decide +kernel
theorem zZs {G : zG} (hG : zOK G) {n dd : String} (hl : Cond.laysStatic Bundle.tN n dd ∈ lw_tbl) (hr : Cond.isRef (.static Bundle.tN n dd) ∈ flatC (Jvm.Cond.and given_1 narrow_1)) {U : State} {H : Heap} (hU : G.s0.WarmedH U.vm) (hH : zOldH G H) : zZq G n dd U H := by
  have h1 : va_Zq Bundle.tN n dd (fun q => G.s0.heap.size ≤ q) G.s0 G.s0.heap := va_Zqof (hG.1 _ hl) (hG.1 (Cond.initialized Bundle.tN) (by decide +kernel)) (flat_of_before _ hG.2.1 _ hr) (fun a h => by omega)
  exact (va_Zq.moved hU.alike h1).kept (fun a h _ => hH.2.1 a h)
theorem zZu {G : zG} (hG : zOK G) {U : State} {H : Heap} (hU : G.s0.WarmedH U.vm) (hH : zOldH G H) : zZq G "UNASSIGNED_STACK" Bundle.steD U H := zZs hG (by decide +kernel) (by decide +kernel) hU hH
theorem zZp {G : zG} (hG : zOK G) {U : State} {H : Heap} (hU : G.s0.WarmedH U.vm) (hH : zOldH G H) : zZq G "SUPPRESSED_SENTINEL" Bundle.listD U H := zZs hG (by decide +kernel) (by decide +kernel) hU hH
/-- the picture with n more cells of no picture, m slots -/
abbrev zgrow (g : zS) (n m : Nat) : zS := (g.h, g.sz + n, g.rc - n, g.rs - m)
theorem zHp.grow {G : zG} {K : List Nat} {g : zS} {H H' : Heap} (h : zHp G K g H) {n : Nat} (m : Nat) (hz : H'.size = H.size + n) (ho : ∀ q : Nat, q < H.size → H'[q]? = H[q]?) (hn : ∀ (q : Nat) (cell : Cell), H.size ≤ q → H'[q]? = some cell → cell.vm = .none ∧ cell.monitor = {}) : zHp G K (zgrow g n m) H' := by
  obtain ⟨⟨o1, o2, o3⟩, h2, h3, h4⟩ := h
  refine ⟨⟨by omega, fun q hq => ?_, fun q c1 hq hc1 => ?_⟩, by show H'.size = g.sz + n; omega, fun q c1 hq hc1 hK => ?_, fun q y hy => ?_⟩
  · rw [ho q (by omega)]; exact o2 q hq
  · by_cases e : q < H.size
    · rw [ho q e] at hc1; exact o3 q c1 hq hc1
    · exact (hn q c1 (by omega) hc1).1
  · by_cases e : q < H.size
    · rw [ho q e] at hc1; exact h3 q c1 hq hc1 hK
    · exact (hn q c1 (by omega) hc1).2
  · exact ⟨(h4 q y hy).1, (h4 q y hy).2.kept (ho q (h4 q y hy).2.lt)⟩
/-- how much an exception with a message takes -/
abbrev zxg (g : zS) : zS := zgrow g 3 300
abbrev zng (g : zS) : zS := zgrow g 1 8
section ZX
variable {G : zG} {d : Nat} {K : List Nat} {Y : zM} {lo : List (Option Value)} {g : zS} {p : Program} {l : Launch} {e : Env} {R : Room} {s : State} {m : MethodId} {args : Array Value} {below : List Frame} {meth : Method} {c : Code} {T : State} {locs : List Loc} {cells slots : Nat} {ls : Array Slot} {lk : Option Addr} {mr : Nat} {s1 : State} {Q : zO → zS → Prop}
theorem zCtx.mr1' (C : zCtx G d K Y lo g p l e R s m args below meth c T locs cells slots ls lk mr s1) : mr ≤ 1 := by
  rcases C.hlk with ⟨-, -, h, -⟩ | ⟨a, cell, K0, -, -, -, -, h, -⟩ <;> omega
/-- an exception with a message is made and thrown over the frame -/
theorem zCtx.msg (C : zCtx G (d + 8) K Y lo g p l e R s m args below meth c T locs cells slots ls lk mr s1) {x : String × List String} (hx : x ∈ zxc) {text : String} (htext : (text == notModelled) = false) (hN : (stringBytes (stringToUtf16 text)).size ≤ 290) (hrc : 3 ≤ g.rc) (hrs : 300 ≤ g.rs) {pc : Nat} {st : List Value} (hst : (st.map fun v => v.category).sum ≤ 40)
    (k : zTH G (d + 8) K Y pc lo x.1 (g.sz + 2) (zxg g) Q) : ∃ t, Steps p.tables e below ((T.setTop (zF m pc ls st lk mr)).pushFrame (.throwNew x.1 (some text) none)) t ∧ zEnd G K Y Q R s1 below t := by
  have hok := List.all_eq_true.mp zxc_ok x hx
  simp only [zxOK, Bool.and_eq_true, decide_eq_true_eq, Bool.not_eq_true'] at hok
  obtain ⟨⟨⟨⟨⟨h1, h2⟩, h3⟩, h4⟩, h5⟩, h6⟩ := hok
  have hmr := C.mr1'
  have hrm := C.rm
  have hcn := C.cn
  obtain ⟨S5, X5, z1, z2, z3, ⟨cell, z4, z5⟩, z6⟩ := zMsg (G := G) C.X C.ex C.tr (cls := x.1) (names := x.2) (text := text) h2 (fun n hn => List.all_eq_true.mp h3 n hn) h4 h5 (zin_at h1 C.ok C.fr.1 args) (zZu C.ok C.wm C.hp.1) (zZp C.ok C.wm C.hp.1) htext hN (by omega) (g := zF m pc ls st lk mr) rfl (by rw [C.ml]; exact C.hlo.1) (by omega) (by show 2 * mr + (st.map fun v => v.category).sum + 10240 ≤ R.locals; omega) (by omega) (by omega) (by omega)
  have hsz : T.heap.size = g.sz := C.hp.2.1
  have h0 : G.s0.heap.size ≤ T.heap.size := C.hp.1.1
  rw [hsz] at z4 z6
  obtain ⟨t, a1, b1⟩ := k p l e R s m args below meth c S5 locs (cells + 3) (slots + (290 + 10)) ls lk mr s1 st ⟨C.ok, C.2.1, C.fr, C.rm, C.hlk, X5, ⟨State.WarmedH.trans C.wm X5.warmed, C.hp.grow 300 z1 z2 z3⟩, C.hlo, ⟨by show cells + 3 + (g.rc - 3) = _; omega, by show slots + (290 + 10) + (g.rs - 300) ≤ _; omega⟩, C.lc⟩ (by omega) ⟨cell, z4, by rw [← C.wm.alike.findClass]; exact z5⟩
  exact ⟨t, z6 t a1, b1⟩
theorem zCtx.npe (C : zCtx G (d + 8) K Y lo g p l e R s m args below meth c T locs cells slots ls lk mr s1) (hrc : 1 ≤ g.rc) (hrs : 8 ≤ g.rs) {pc : Nat} {st : List Value} (hst : (st.map fun v => v.category).sum ≤ 40)
    (k : zTH G (d + 8) K Y pc lo "java/lang/NullPointerException" g.sz (zng g) Q) : ∃ t, Steps p.tables e below ((T.setTop (zF m pc ls st lk mr)).pushFrame (.throwNew "java/lang/NullPointerException" none none)) t ∧ zEnd G K Y Q R s1 below t := by
  have hmr := C.mr1'
  have hrm := C.rm
  have hcn := C.cn
  obtain ⟨S5, X5, z1, z2, z3, ⟨cell, z4, z5⟩, z6⟩ := zNpe (G := G) C.X C.ex C.tr (zin_at zin_npe C.ok C.fr.1 args) (zZu C.ok C.wm C.hp.1) (zZp C.ok C.wm C.hp.1) (g := zF m pc ls st lk mr) rfl (by rw [C.ml]; exact C.hlo.1) (by omega) (by show 2 * mr + (st.map fun v => v.category).sum + 10240 ≤ R.locals; omega) (by omega) (by omega)
  have hsz : T.heap.size = g.sz := C.hp.2.1
  have h0 : G.s0.heap.size ≤ T.heap.size := C.hp.1.1
  rw [hsz] at z4 z6
  obtain ⟨t, a1, b1⟩ := k p l e R s m args below meth c S5 locs (cells + 1) (slots + 8) ls lk mr s1 st ⟨C.ok, C.2.1, C.fr, C.rm, C.hlk, X5, ⟨State.WarmedH.trans C.wm X5.warmed, C.hp.grow 8 z1 z2 z3⟩, C.hlo, ⟨by show cells + 1 + (g.rc - 1) = _; omega, by show slots + 8 + (g.rs - 8) ≤ _; omega⟩, C.lc⟩ (by omega) ⟨cell, z4, by rw [← C.wm.alike.findClass]; exact z5⟩
  exact ⟨t, z6 t a1, b1⟩
end ZX
section ZXR
variable {G : zG} {d : Nat} {K : List Nat} {Y : zM} {pc : Nat} {lo : List (Option Value)} {st : List Value} {g : zS} {Q : zO → zS → Prop} {a : Nat}
theorem ex_newa {n : Int32} {at_ : ArrayType} (hd : decode Y.code pc = .ok (.newarray at_, 2)) (hn : n < 0) (hst : (st.map fun v => v.category).sum ≤ 40) (hrc : 3 ≤ g.rc) (hrs : 300 ≤ g.rs)
    (k : zTH G (d + 8) K Y pc lo "java/lang/NegativeArraySizeException" (g.sz + 2) (zxg g) Q) : zEF G (d + 8) K Y pc lo (.int n :: st) g Q := by
  intro p l e R s m args below meth c T locs cells slots ls lk mr s1 C
  obtain ⟨t, a1, b1⟩ := C.msg (x := ("java/lang/NegativeArraySizeException", ["java/lang/RuntimeException", "java/lang/Exception"])) (by decide) (negative_text_modelled hn) (Nat.le_trans (negative_text_bytes n) (by decide)) hrc hrs hst k
  exact ⟨t, C.X.newarrayNegative C.ex (g := zF m pc ls (.int n :: st) lk mr) rfl hn rfl (by rw [C.hb]; exact hd) t a1, b1⟩
theorem ex_idiv {x : Int32} (hd : decode Y.code pc = .ok (.idiv, 1)) (hst : (st.map fun v => v.category).sum ≤ 40) (hrc : 3 ≤ g.rc) (hrs : 300 ≤ g.rs)
    (k : zTH G (d + 8) K Y pc lo "java/lang/ArithmeticException" (g.sz + 2) (zxg g) Q) : zEF G (d + 8) K Y pc lo (.int 0 :: .int x :: st) g Q := by
  intro p l e R s m args below meth c T locs cells slots ls lk mr s1 C
  obtain ⟨t, a1, b1⟩ := C.msg (x := ("java/lang/ArithmeticException", ["java/lang/RuntimeException", "java/lang/Exception"])) (text := "/ by zero") (by decide) (by decide +kernel) (by decide +kernel) hrc hrs hst k
  exact ⟨t, C.X.idivZero C.ex (g := zF m pc ls (.int 0 :: .int x :: st) lk mr) rfl rfl (by rw [C.hb]; exact hd) t a1, b1⟩
theorem ex_falN {i : Int32} (hd : decode Y.code pc = .ok (.faload, 1)) (hst : (st.map fun v => v.category).sum ≤ 40) (hrc : 1 ≤ g.rc) (hrs : 8 ≤ g.rs)
    (k : zTH G (d + 8) K Y pc lo "java/lang/NullPointerException" g.sz (zng g) Q) : zEF G (d + 8) K Y pc lo (.int i :: .null :: st) g Q := by
  intro p l e R s m args below meth c T locs cells slots ls lk mr s1 C
  obtain ⟨t, a1, b1⟩ := C.npe hrc hrs hst k
  exact ⟨t, C.X.faloadNull C.ex (g := zF m pc ls (.int i :: .null :: st) lk mr) rfl rfl (by rw [C.hb]; exact hd) t a1, b1⟩
theorem ex_alenN (hd : decode Y.code pc = .ok (.arraylength, 1)) (hst : (st.map fun v => v.category).sum ≤ 40) (hrc : 1 ≤ g.rc) (hrs : 8 ≤ g.rs)
    (k : zTH G (d + 8) K Y pc lo "java/lang/NullPointerException" g.sz (zng g) Q) : zEF G (d + 8) K Y pc lo (.null :: st) g Q := by
  intro p l e R s m args below meth c T locs cells slots ls lk mr s1 C
  obtain ⟨t, a1, b1⟩ := C.npe hrc hrs hst k
  exact ⟨t, C.X.arraylengthNull C.ex (g := zF m pc ls (.null :: st) lk mr) rfl rfl (by rw [C.hb]; exact hd) t a1, b1⟩
end ZXR
