/-! Math.rint: its row calls StrictMath.rint -/
set_option maxRecDepth 100000
section ZRI
variable {G : zG} {d : Nat} {K : List Nat} {Y : zM} {pc : Nat} {lo : List (Option Value)} {st : List Value} {g : zS} {Q : zO → zS → Prop}
theorem ez_rint {idx : Nat} {own : String} {x v : UInt64} (hd : decode Y.code pc = .ok (.invokestatic idx, 3)) (ho : own = Y.nm.cls) (hl : Cond.methodLink own idx ⟨"java/lang/Math", "rint", "(D)D"⟩ ∈ lw_all) (hx : fJ13_rint x = some v) (hrm : (st.map fun v => v.category).sum + 2 ≤ 27)
    (k : zEF G (d + 4) K Y (pc + 3) lo (.double v :: st) g Q) : zEF G (d + 4) K Y pc lo (.double x :: st) g Q := by
  sorry
end ZRI
