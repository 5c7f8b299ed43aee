/-! the law's frame: its loop, case by case, over a relation RL that the operations keep -/
set_option maxRecDepth 100000
def YLw : zM := (⟨"ScoreThreadsLaw", "law", "([I)Z"⟩, code, 4, ret, [], false)
def zOp_clip (x a0 : Nat) (RL : Nat → zS → MS → Prop) : Prop := ∀ (n : Nat) (g : zS) (M : MS) (b0 : Int32) (b1 : Int32), RL (n + 1) g M → ∃ r g' M', fX0_clip (zm a0 g M) x b0 b1 = some (r, zm a0 g' M) ∧ fX2_clip M b0 b1 = some (r, M') ∧ RL n g' M'
def zOp_number (x a0 : Nat) (RL : Nat → zS → MS → Prop) : Prop := ∀ (n : Nat) (g : zS) (M : MS) (b0 : Int32) (b1 : Int32) (b2 : Int32) (b3 : Int64), RL (n + 1) g M → ∃ r g' M', fX0_number (zm a0 g M) x b0 b1 b2 b3 = some (r, zm a0 g' M) ∧ fX2_number M b0 b1 b2 b3 = some (r, M') ∧ RL n g' M'
def zOp_sample (x a0 : Nat) (RL : Nat → zS → MS → Prop) : Prop := ∀ (n : Nat) (g : zS) (M : MS) (b0 : Int32) (b1 : Int32), RL (n + 1) g M → ∃ r g' M', fX0_sample (zm a0 g M) x b0 b1 = some (r, zm a0 g' M) ∧ fX2_sample M b0 b1 = some (r, M') ∧ RL n g' M'
def zOp_plug (x a0 : Nat) (RL : Nat → zS → MS → Prop) : Prop := ∀ (n : Nat) (g : zS) (M : MS) (b0 : Int32) (b1 : Int32) (b2 : Int32), RL (n + 1) g M → ∃ r g' M', fX0_plug (zm a0 g M) x b0 b1 b2 = some (r, zm a0 g' M) ∧ fX2_plug M b0 b1 b2 = some (r, M') ∧ RL n g' M'
def zOp_plugged (x a0 : Nat) (RL : Nat → zS → MS → Prop) : Prop := ∀ (n : Nat) (g : zS) (M : MS) (b0 : Int32) (b1 : Int32), RL (n + 1) g M → ∃ r g' M', fX0_plugged (zm a0 g M) x b0 b1 = some (r, zm a0 g' M) ∧ fX2_plugged M b0 b1 = some (r, M') ∧ RL n g' M'
def zOp_track (x a0 : Nat) (RL : Nat → zS → MS → Prop) : Prop := ∀ (n : Nat) (g : zS) (M : MS) (b0 : Int32) (b1 : Int32) (b2 : Int32) (b3 : Int32), RL (n + 1) g M → (b3 = 0 ∨ b3 = 1) → ∃ r g' M', fX0_track (zm a0 g M) x b0 b1 b2 b3 = some (r, zm a0 g' M) ∧ fX2_track M b0 b1 b2 b3 = some (r, M') ∧ RL n g' M'
def zOp_pure (x a0 : Nat) (RL : Nat → zS → MS → Prop) : Prop := ∀ (n : Nat) (g : zS) (M : MS) (b0 : Int32) (b1 : Int32), RL (n + 1) g M → (b1 = 0 ∨ b1 = 1) → ∃ r g' M', fX0_pure (zm a0 g M) x b0 b1 = some (r, zm a0 g' M) ∧ fX2_pure M b0 b1 = some (r, M') ∧ RL n g' M'
def zOp_chain (x a0 : Nat) (RL : Nat → zS → MS → Prop) : Prop := ∀ (n : Nat) (g : zS) (M : MS) (b0 : Int32) (b1 : Int32) (b2 : Int32), RL (n + 1) g M → ∃ r g' M', fX0_chain (zm a0 g M) x b0 b1 b2 = some (r, zm a0 g' M) ∧ fX2_chain M b0 b1 b2 = some (r, M') ∧ RL n g' M'
def zOp_level (x a0 : Nat) (RL : Nat → zS → MS → Prop) : Prop := ∀ (n : Nat) (g : zS) (M : MS) (b0 : Int32) (b1 : Int32), RL (n + 1) g M → ∃ r g' M', fX0_level (zm a0 g M) x b0 b1 = some (r, zm a0 g' M) ∧ fX2_level M b0 b1 = some (r, M') ∧ RL n g' M'
def zOp_on (x a0 : Nat) (RL : Nat → zS → MS → Prop) : Prop := ∀ (n : Nat) (g : zS) (M : MS) (b0 : Int32) (b1 : Int32), RL (n + 1) g M → (b1 = 0 ∨ b1 = 1) → ∃ r g' M', fX0_on (zm a0 g M) x b0 b1 = some (r, zm a0 g' M) ∧ fX2_on M b0 b1 = some (r, M') ∧ RL n g' M'
def zOp_line (x a0 : Nat) (RL : Nat → zS → MS → Prop) : Prop := ∀ (n : Nat) (g : zS) (M : MS) (b0 : Int32) (b1 : Int32), RL (n + 1) g M → ∃ r g' M', fX0_line (zm a0 g M) x b0 b1 = some (r, zm a0 g' M) ∧ fX2_line M b0 b1 = some (r, M') ∧ RL n g' M'
def zOp_hire (x a0 : Nat) (RL : Nat → zS → MS → Prop) : Prop := ∀ (n : Nat) (g : zS) (M : MS) (b0 : Int32), RL (n + 1) g M → ∃ r g' M', fX0_hire (zm a0 g M) x b0 = some (r, zm a0 g' M) ∧ fX2_hire M b0 = some (r, M') ∧ RL n g' M'
def zOp_render (x a0 : Nat) (RL : Nat → zS → MS → Prop) : Prop := ∀ (n : Nat) (g : zS) (M : MS) (b0 : Int32), RL (n + 1) g M → ∃ r g' M', fX0_render (zm a0 g M) x b0 = some (r, zm a0 g' M) ∧ fX2_render M b0 = some (r, M') ∧ RL n g' M'
def zOp_turn (x a0 : Nat) (RL : Nat → zS → MS → Prop) : Prop := ∀ (n : Nat) (g : zS) (M : MS) (b0 : Int32), RL (n + 1) g M → ∃ r g' M', fX0_turn (zm a0 g M) x b0 = some (r, zm a0 g' M) ∧ fX2_turn M b0 = some (r, M') ∧ RL n g' M'
def zOp_rounds (x a0 : Nat) (RL : Nat → zS → MS → Prop) : Prop := ∀ (n : Nat) (g : zS) (M : MS) (b0 : Int32) (b1 : Int32), RL (n + 1) g M → ∃ r g' M', fX0_rounds (zm a0 g M) x b0 b1 = some (r, zm a0 g' M) ∧ fX2_rounds M b0 b1 = some (r, M') ∧ RL n g' M'
def zOp_stop (x a0 : Nat) (RL : Nat → zS → MS → Prop) : Prop := ∀ (n : Nat) (g : zS) (M : MS), RL (n + 1) g M → ∃ r g' M', fX0_stop (zm a0 g M) x = some (r, zm a0 g' M) ∧ fX2_stop M = some (r, M') ∧ RL n g' M'
def zOp_out (x a0 : Nat) (RL : Nat → zS → MS → Prop) : Prop := ∀ (n : Nat) (g : zS) (M : MS) (b0 : Int32), RL (n + 1) g M → ∃ r g' M', fX0_out (zm a0 g M) x b0 = some (r, zm a0 g' M) ∧ fX2_out M b0 = some (r, M') ∧ RL n g' M'
def zOp_told (x a0 : Nat) (RL : Nat → zS → MS → Prop) : Prop := ∀ (n : Nat) (g : zS) (M : MS) (b0 : Int32) (b1 : Int32), RL (n + 1) g M → ∃ r g' M', fX0_told (zm a0 g M) x b0 b1 = some (r, zm a0 g' M) ∧ fX2_told M b0 b1 = some (r, M') ∧ RL n g' M'
def zOp_worker (x a0 : Nat) (RL : Nat → zS → MS → Prop) : Prop := ∀ (n : Nat) (g : zS) (M : MS) (b0 : Int32), RL (n + 1) g M → ∃ r g' M', fX0_worker (zm a0 g M) x b0 = some (r, zm a0 g' M) ∧ fX2_worker M b0 = some (r, M') ∧ RL n g' M'
def zOp_fault (x a0 : Nat) (RL : Nat → zS → MS → Prop) : Prop := ∀ (n : Nat) (g : zS) (M : MS) (b0 : Int32) (b1 : Int32), RL (n + 1) g M → ∃ r g' M', fX0_fault (zm a0 g M) x b0 b1 = some (r, zm a0 g' M) ∧ fX2_fault M b0 b1 = some (r, M') ∧ RL n g' M'
def zOp_found (x a0 : Nat) (RL : Nat → zS → MS → Prop) : Prop := ∀ (n : Nat) (g : zS) (M : MS) (b0 : Int32), RL (n + 1) g M → ∃ r g' M', fX0_found (zm a0 g M) x b0 = some (r, zm a0 g' M) ∧ fX2_found M b0 = some (r, M') ∧ RL n g' M'
def zOp_about (x a0 : Nat) (RL : Nat → zS → MS → Prop) : Prop := ∀ (n : Nat) (g : zS) (M : MS) (b0 : Int32), RL (n + 1) g M → ∃ r g' M', fX0_about (zm a0 g M) x b0 = some (r, zm a0 g' M) ∧ fX2_about M b0 = some (r, M') ∧ RL n g' M'
def zOp_digest (x a0 : Nat) (RL : Nat → zS → MS → Prop) : Prop := ∀ (n : Nat) (g : zS) (M : MS), RL (n + 1) g M → ∃ r g' M', fX0_digest (zm a0 g M) x = some (r, zm a0 g' M) ∧ fX2_digest M = some (r, M') ∧ RL n g' M'
section ZLW
variable {G : zG} {d x a0 : Nat} {RL : Nat → zS → MS → Prop} {Q : zO → zS → Prop} {n : Nat} {g : zS} {M : MS} {i : Int32}
theorem zcase_clip (H : zOp_clip x a0 RL) (hx : ∀ n g M, RL n g M → ∃ fs, (zm a0 g M).h x = some (.inr (0, fs))) (hRL : RL (n + 1) g M) (hin : ∀ k : Int32, (k = 1 ∨ k = 2 ∨ k = 3 ∨ k = 4 ∨ k = 5) → vp_in (i + k) G.L) (kk : ∀ g' M', RL n g' M' → zEF G (d + 15) [] YLw 928 [some (.ref G.b), some (.ref x), some (.ref a0), some (.int i)] [] (zm a0 g' M') Q) : zEF G (d + 15) [] YLw 140 [some (.ref G.b), some (.ref x), some (.ref a0), some (.int i)] [] (zm a0 g M) Q := by
  obtain ⟨fs, hfs⟩ := hx _ _ _ hRL
  refine ez_aload_n (i := 1) (v := .ref x) dL_law_140 rfl rfl rfl ?_
  refine ez_aload_n (i := 0) (v := .ref G.b) dL_law_141 rfl rfl rfl ?_
  refine ez_iload_n (i := 3) (x := i) dL_law_142 rfl rfl ?_
  refine ez_iconst (v := 1) dL_law_143 (by decide) ?_
  refine ez_iadd dL_law_144 ?_
  refine ez_sld dL_law_145 (hin 1 (by decide)) ?_
  refine ez_aload_n (i := 0) (v := .ref G.b) dL_law_146 rfl rfl rfl ?_
  refine ez_iload_n (i := 3) (x := i) dL_law_147 rfl rfl ?_
  refine ez_iconst (v := 2) dL_law_148 (by decide) ?_
  refine ez_iadd dL_law_149 ?_
  refine ez_sld dL_law_150 (hin 2 (by decide)) ?_
  obtain ⟨r, g', M', e1, e2, h3⟩ := H n g M (G.xs (i + (1 : Int32)).toNatClampNeg) (G.xs (i + (2 : Int32)).toNatClampNeg) hRL
  refine ez_callV (C := RX0) (Tt := TX0) (N := 20) (Y' := YX0_clip) (a := x) (vs := [.int (G.xs (i + (1 : Int32)).toNatClampNeg), .int (G.xs (i + (2 : Int32)).toNatClampNeg)]) (rest := []) dL_law_151 rfl zkX0_clip q215 q216 rfl q217 hfs znX0_clip (Nat.le_of_ble_eq_true rfl) (Nat.le_of_ble_eq_true rfl) rfl (wX0_clip (d := d + 4) e1 (zBack_v ?_))
  show zEF G (d + 15) [] YLw 154 [some (.ref G.b), some (.ref x), some (.ref a0), some (.int i)] [.int r] (zm a0 g' M) Q
  refine ez_aload_n (i := 2) (v := .ref a0) dL_law_154 rfl rfl rfl ?_
  refine ez_aload_n (i := 0) (v := .ref G.b) dL_law_155 rfl rfl rfl ?_
  refine ez_iload_n (i := 3) (x := i) dL_law_156 rfl rfl ?_
  refine ez_iconst (v := 1) dL_law_157 (by decide) ?_
  refine ez_iadd dL_law_158 ?_
  refine ez_sld dL_law_159 (hin 1 (by decide)) ?_
  refine ez_aload_n (i := 0) (v := .ref G.b) dL_law_160 rfl rfl rfl ?_
  refine ez_iload_n (i := 3) (x := i) dL_law_161 rfl rfl ?_
  refine ez_iconst (v := 2) dL_law_162 (by decide) ?_
  refine ez_iadd dL_law_163 ?_
  refine ez_sld dL_law_164 (hin 2 (by decide)) ?_
  refine ez_callV (C := RX2) (Tt := TX2) (N := 53) (Y' := YX2_clip) (a := a0) (vs := [.int (G.xs (i + (1 : Int32)).toNatClampNeg), .int (G.xs (i + (2 : Int32)).toNatClampNeg)]) (rest := [.int r]) dL_law_165 rfl zkX2_clip q1094 q1095 rfl q1096 (zm0 _ _ _) znX2_clip (Nat.le_of_ble_eq_true rfl) (Nat.le_of_ble_eq_true rfl) rfl (wX2_clip (d := d + 13) e2 (zBack_v ?_))
  show zEF G (d + 15) [] YLw 168 [some (.ref G.b), some (.ref x), some (.ref a0), some (.int i)] [.int r, .int r] (zm a0 g' M') Q
  exact ez_icmp_eq (tgt := 928) dL_law_168 (by decide) (fun _ => kk g' M' h3) (fun hc => absurd rfl hc)
theorem zcase_number (H : zOp_number x a0 RL) (hx : ∀ n g M, RL n g M → ∃ fs, (zm a0 g M).h x = some (.inr (0, fs))) (hRL : RL (n + 1) g M) (hin : ∀ k : Int32, (k = 1 ∨ k = 2 ∨ k = 3 ∨ k = 4 ∨ k = 5) → vp_in (i + k) G.L) (kk : ∀ g' M', RL n g' M' → zEF G (d + 15) [] YLw 928 [some (.ref G.b), some (.ref x), some (.ref a0), some (.int i)] [] (zm a0 g' M') Q) : zEF G (d + 15) [] YLw 173 [some (.ref G.b), some (.ref x), some (.ref a0), some (.int i)] [] (zm a0 g M) Q := by
  obtain ⟨fs, hfs⟩ := hx _ _ _ hRL
  refine ez_aload_n (i := 1) (v := .ref x) dL_law_173 rfl rfl rfl ?_
  refine ez_aload_n (i := 0) (v := .ref G.b) dL_law_174 rfl rfl rfl ?_
  refine ez_iload_n (i := 3) (x := i) dL_law_175 rfl rfl ?_
  refine ez_iconst (v := 1) dL_law_176 (by decide) ?_
  refine ez_iadd dL_law_177 ?_
  refine ez_sld dL_law_178 (hin 1 (by decide)) ?_
  refine ez_aload_n (i := 0) (v := .ref G.b) dL_law_179 rfl rfl rfl ?_
  refine ez_iload_n (i := 3) (x := i) dL_law_180 rfl rfl ?_
  refine ez_iconst (v := 2) dL_law_181 (by decide) ?_
  refine ez_iadd dL_law_182 ?_
  refine ez_sld dL_law_183 (hin 2 (by decide)) ?_
  refine ez_aload_n (i := 0) (v := .ref G.b) dL_law_184 rfl rfl rfl ?_
  refine ez_iload_n (i := 3) (x := i) dL_law_185 rfl rfl ?_
  refine ez_iconst (v := 3) dL_law_186 (by decide) ?_
  refine ez_iadd dL_law_187 ?_
  refine ez_sld dL_law_188 (hin 3 (by decide)) ?_
  refine ez_aload_n (i := 0) (v := .ref G.b) dL_law_189 rfl rfl rfl ?_
  refine ez_iload_n (i := 3) (x := i) dL_law_190 rfl rfl ?_
  refine ez_iconst (v := 4) dL_law_191 (by decide) ?_
  refine ez_iadd dL_law_192 ?_
  refine ez_sld dL_law_193 (hin 4 (by decide)) ?_
  refine ez_i2l dL_law_194 ?_
  refine ez_bipush (v := 32) dL_law_195 (by decide) ?_
  refine ez_lshl dL_law_197 ?_
  refine ez_aload_n (i := 0) (v := .ref G.b) dL_law_198 rfl rfl rfl ?_
  refine ez_iload_n (i := 3) (x := i) dL_law_199 rfl rfl ?_
  refine ez_iconst (v := 5) dL_law_200 (by decide) ?_
  refine ez_iadd dL_law_201 ?_
  refine ez_sld dL_law_202 (hin 5 (by decide)) ?_
  refine ez_i2l dL_law_203 ?_
  refine ez_ldc2l dL_law_204 rfl q1326 ?_
  refine ez_land dL_law_207 ?_
  refine ez_lor dL_law_208 ?_
  obtain ⟨r, g', M', e1, e2, h3⟩ := H n g M (G.xs (i + (1 : Int32)).toNatClampNeg) (G.xs (i + (2 : Int32)).toNatClampNeg) (G.xs (i + (3 : Int32)).toNatClampNeg) ((((G.xs (i + (4 : Int32)).toNatClampNeg).toInt64) <<< ((32 : Int32).toInt64 &&& 63)) ||| (((G.xs (i + (5 : Int32)).toNatClampNeg).toInt64) &&& (4294967295 : Int64))) hRL
  refine ez_callV (C := RX0) (Tt := TX0) (N := 20) (Y' := YX0_number) (a := x) (vs := [.int (G.xs (i + (1 : Int32)).toNatClampNeg), .int (G.xs (i + (2 : Int32)).toNatClampNeg), .int (G.xs (i + (3 : Int32)).toNatClampNeg), .long ((((G.xs (i + (4 : Int32)).toNatClampNeg).toInt64) <<< ((32 : Int32).toInt64 &&& 63)) ||| (((G.xs (i + (5 : Int32)).toNatClampNeg).toInt64) &&& (4294967295 : Int64)))]) (rest := []) dL_law_209 rfl zkX0_number q333 q334 rfl q335 hfs znX0_number (Nat.le_of_ble_eq_true rfl) (Nat.le_of_ble_eq_true rfl) rfl (wX0_number (d := d + 5) e1 (zBack_v ?_))
  show zEF G (d + 15) [] YLw 212 [some (.ref G.b), some (.ref x), some (.ref a0), some (.int i)] [.int r] (zm a0 g' M) Q
  refine ez_aload_n (i := 2) (v := .ref a0) dL_law_212 rfl rfl rfl ?_
  refine ez_aload_n (i := 0) (v := .ref G.b) dL_law_213 rfl rfl rfl ?_
  refine ez_iload_n (i := 3) (x := i) dL_law_214 rfl rfl ?_
  refine ez_iconst (v := 1) dL_law_215 (by decide) ?_
  refine ez_iadd dL_law_216 ?_
  refine ez_sld dL_law_217 (hin 1 (by decide)) ?_
  refine ez_aload_n (i := 0) (v := .ref G.b) dL_law_218 rfl rfl rfl ?_
  refine ez_iload_n (i := 3) (x := i) dL_law_219 rfl rfl ?_
  refine ez_iconst (v := 2) dL_law_220 (by decide) ?_
  refine ez_iadd dL_law_221 ?_
  refine ez_sld dL_law_222 (hin 2 (by decide)) ?_
  refine ez_aload_n (i := 0) (v := .ref G.b) dL_law_223 rfl rfl rfl ?_
  refine ez_iload_n (i := 3) (x := i) dL_law_224 rfl rfl ?_
  refine ez_iconst (v := 3) dL_law_225 (by decide) ?_
  refine ez_iadd dL_law_226 ?_
  refine ez_sld dL_law_227 (hin 3 (by decide)) ?_
  refine ez_aload_n (i := 0) (v := .ref G.b) dL_law_228 rfl rfl rfl ?_
  refine ez_iload_n (i := 3) (x := i) dL_law_229 rfl rfl ?_
  refine ez_iconst (v := 4) dL_law_230 (by decide) ?_
  refine ez_iadd dL_law_231 ?_
  refine ez_sld dL_law_232 (hin 4 (by decide)) ?_
  refine ez_i2l dL_law_233 ?_
  refine ez_bipush (v := 32) dL_law_234 (by decide) ?_
  refine ez_lshl dL_law_236 ?_
  refine ez_aload_n (i := 0) (v := .ref G.b) dL_law_237 rfl rfl rfl ?_
  refine ez_iload_n (i := 3) (x := i) dL_law_238 rfl rfl ?_
  refine ez_iconst (v := 5) dL_law_239 (by decide) ?_
  refine ez_iadd dL_law_240 ?_
  refine ez_sld dL_law_241 (hin 5 (by decide)) ?_
  refine ez_i2l dL_law_242 ?_
  refine ez_ldc2l dL_law_243 rfl q1326 ?_
  refine ez_land dL_law_246 ?_
  refine ez_lor dL_law_247 ?_
  refine ez_callV (C := RX2) (Tt := TX2) (N := 53) (Y' := YX2_number) (a := a0) (vs := [.int (G.xs (i + (1 : Int32)).toNatClampNeg), .int (G.xs (i + (2 : Int32)).toNatClampNeg), .int (G.xs (i + (3 : Int32)).toNatClampNeg), .long ((((G.xs (i + (4 : Int32)).toNatClampNeg).toInt64) <<< ((32 : Int32).toInt64 &&& 63)) ||| (((G.xs (i + (5 : Int32)).toNatClampNeg).toInt64) &&& (4294967295 : Int64)))]) (rest := [.int r]) dL_law_248 rfl zkX2_number q1105 q1106 rfl q1107 (zm0 _ _ _) znX2_number (Nat.le_of_ble_eq_true rfl) (Nat.le_of_ble_eq_true rfl) rfl (wX2_number (d := d + 13) e2 (zBack_v ?_))
  show zEF G (d + 15) [] YLw 251 [some (.ref G.b), some (.ref x), some (.ref a0), some (.int i)] [.int r, .int r] (zm a0 g' M') Q
  exact ez_icmp_eq (tgt := 928) dL_law_251 (by decide) (fun _ => kk g' M' h3) (fun hc => absurd rfl hc)
theorem zcase_sample (H : zOp_sample x a0 RL) (hx : ∀ n g M, RL n g M → ∃ fs, (zm a0 g M).h x = some (.inr (0, fs))) (hRL : RL (n + 1) g M) (hin : ∀ k : Int32, (k = 1 ∨ k = 2 ∨ k = 3 ∨ k = 4 ∨ k = 5) → vp_in (i + k) G.L) (kk : ∀ g' M', RL n g' M' → zEF G (d + 15) [] YLw 928 [some (.ref G.b), some (.ref x), some (.ref a0), some (.int i)] [] (zm a0 g' M') Q) : zEF G (d + 15) [] YLw 256 [some (.ref G.b), some (.ref x), some (.ref a0), some (.int i)] [] (zm a0 g M) Q := by
  obtain ⟨fs, hfs⟩ := hx _ _ _ hRL
  refine ez_aload_n (i := 1) (v := .ref x) dL_law_256 rfl rfl rfl ?_
  refine ez_aload_n (i := 0) (v := .ref G.b) dL_law_257 rfl rfl rfl ?_
  refine ez_iload_n (i := 3) (x := i) dL_law_258 rfl rfl ?_
  refine ez_iconst (v := 1) dL_law_259 (by decide) ?_
  refine ez_iadd dL_law_260 ?_
  refine ez_sld dL_law_261 (hin 1 (by decide)) ?_
  refine ez_aload_n (i := 0) (v := .ref G.b) dL_law_262 rfl rfl rfl ?_
  refine ez_iload_n (i := 3) (x := i) dL_law_263 rfl rfl ?_
  refine ez_iconst (v := 2) dL_law_264 (by decide) ?_
  refine ez_iadd dL_law_265 ?_
  refine ez_sld dL_law_266 (hin 2 (by decide)) ?_
  obtain ⟨r, g', M', e1, e2, h3⟩ := H n g M (G.xs (i + (1 : Int32)).toNatClampNeg) (G.xs (i + (2 : Int32)).toNatClampNeg) hRL
  refine ez_callV (C := RX0) (Tt := TX0) (N := 20) (Y' := YX0_sample) (a := x) (vs := [.int (G.xs (i + (1 : Int32)).toNatClampNeg), .int (G.xs (i + (2 : Int32)).toNatClampNeg)]) (rest := []) dL_law_267 rfl zkX0_sample q396 q397 rfl q398 hfs znX0_sample (Nat.le_of_ble_eq_true rfl) (Nat.le_of_ble_eq_true rfl) rfl (wX0_sample (d := d + 5) e1 (zBack_v ?_))
  show zEF G (d + 15) [] YLw 270 [some (.ref G.b), some (.ref x), some (.ref a0), some (.int i)] [.int r] (zm a0 g' M) Q
  refine ez_aload_n (i := 2) (v := .ref a0) dL_law_270 rfl rfl rfl ?_
  refine ez_aload_n (i := 0) (v := .ref G.b) dL_law_271 rfl rfl rfl ?_
  refine ez_iload_n (i := 3) (x := i) dL_law_272 rfl rfl ?_
  refine ez_iconst (v := 1) dL_law_273 (by decide) ?_
  refine ez_iadd dL_law_274 ?_
  refine ez_sld dL_law_275 (hin 1 (by decide)) ?_
  refine ez_aload_n (i := 0) (v := .ref G.b) dL_law_276 rfl rfl rfl ?_
  refine ez_iload_n (i := 3) (x := i) dL_law_277 rfl rfl ?_
  refine ez_iconst (v := 2) dL_law_278 (by decide) ?_
  refine ez_iadd dL_law_279 ?_
  refine ez_sld dL_law_280 (hin 2 (by decide)) ?_
  refine ez_callV (C := RX2) (Tt := TX2) (N := 53) (Y' := YX2_sample) (a := a0) (vs := [.int (G.xs (i + (1 : Int32)).toNatClampNeg), .int (G.xs (i + (2 : Int32)).toNatClampNeg)]) (rest := [.int r]) dL_law_281 rfl zkX2_sample q1116 q1117 rfl q1118 (zm0 _ _ _) znX2_sample (Nat.le_of_ble_eq_true rfl) (Nat.le_of_ble_eq_true rfl) rfl (wX2_sample (d := d + 12) e2 (zBack_v ?_))
  show zEF G (d + 15) [] YLw 284 [some (.ref G.b), some (.ref x), some (.ref a0), some (.int i)] [.int r, .int r] (zm a0 g' M') Q
  exact ez_icmp_eq (tgt := 928) dL_law_284 (by decide) (fun _ => kk g' M' h3) (fun hc => absurd rfl hc)
theorem zcase_plug (H : zOp_plug x a0 RL) (hx : ∀ n g M, RL n g M → ∃ fs, (zm a0 g M).h x = some (.inr (0, fs))) (hRL : RL (n + 1) g M) (hin : ∀ k : Int32, (k = 1 ∨ k = 2 ∨ k = 3 ∨ k = 4 ∨ k = 5) → vp_in (i + k) G.L) (kk : ∀ g' M', RL n g' M' → zEF G (d + 15) [] YLw 928 [some (.ref G.b), some (.ref x), some (.ref a0), some (.int i)] [] (zm a0 g' M') Q) : zEF G (d + 15) [] YLw 289 [some (.ref G.b), some (.ref x), some (.ref a0), some (.int i)] [] (zm a0 g M) Q := by
  obtain ⟨fs, hfs⟩ := hx _ _ _ hRL
  refine ez_aload_n (i := 1) (v := .ref x) dL_law_289 rfl rfl rfl ?_
  refine ez_aload_n (i := 0) (v := .ref G.b) dL_law_290 rfl rfl rfl ?_
  refine ez_iload_n (i := 3) (x := i) dL_law_291 rfl rfl ?_
  refine ez_iconst (v := 1) dL_law_292 (by decide) ?_
  refine ez_iadd dL_law_293 ?_
  refine ez_sld dL_law_294 (hin 1 (by decide)) ?_
  refine ez_aload_n (i := 0) (v := .ref G.b) dL_law_295 rfl rfl rfl ?_
  refine ez_iload_n (i := 3) (x := i) dL_law_296 rfl rfl ?_
  refine ez_iconst (v := 2) dL_law_297 (by decide) ?_
  refine ez_iadd dL_law_298 ?_
  refine ez_sld dL_law_299 (hin 2 (by decide)) ?_
  refine ez_aload_n (i := 0) (v := .ref G.b) dL_law_300 rfl rfl rfl ?_
  refine ez_iload_n (i := 3) (x := i) dL_law_301 rfl rfl ?_
  refine ez_iconst (v := 3) dL_law_302 (by decide) ?_
  refine ez_iadd dL_law_303 ?_
  refine ez_sld dL_law_304 (hin 3 (by decide)) ?_
  obtain ⟨r, g', M', e1, e2, h3⟩ := H n g M (G.xs (i + (1 : Int32)).toNatClampNeg) (G.xs (i + (2 : Int32)).toNatClampNeg) (G.xs (i + (3 : Int32)).toNatClampNeg) hRL
  refine ez_callV (C := RX0) (Tt := TX0) (N := 20) (Y' := YX0_plug) (a := x) (vs := [.int (G.xs (i + (1 : Int32)).toNatClampNeg), .int (G.xs (i + (2 : Int32)).toNatClampNeg), .int (G.xs (i + (3 : Int32)).toNatClampNeg)]) (rest := []) dL_law_305 rfl zkX0_plug q426 q427 rfl q428 hfs znX0_plug (Nat.le_of_ble_eq_true rfl) (Nat.le_of_ble_eq_true rfl) rfl (wX0_plug (d := d + 3) e1 (zBack_v ?_))
  show zEF G (d + 15) [] YLw 308 [some (.ref G.b), some (.ref x), some (.ref a0), some (.int i)] [.int r] (zm a0 g' M) Q
  refine ez_aload_n (i := 2) (v := .ref a0) dL_law_308 rfl rfl rfl ?_
  refine ez_aload_n (i := 0) (v := .ref G.b) dL_law_309 rfl rfl rfl ?_
  refine ez_iload_n (i := 3) (x := i) dL_law_310 rfl rfl ?_
  refine ez_iconst (v := 1) dL_law_311 (by decide) ?_
  refine ez_iadd dL_law_312 ?_
  refine ez_sld dL_law_313 (hin 1 (by decide)) ?_
  refine ez_aload_n (i := 0) (v := .ref G.b) dL_law_314 rfl rfl rfl ?_
  refine ez_iload_n (i := 3) (x := i) dL_law_315 rfl rfl ?_
  refine ez_iconst (v := 2) dL_law_316 (by decide) ?_
  refine ez_iadd dL_law_317 ?_
  refine ez_sld dL_law_318 (hin 2 (by decide)) ?_
  refine ez_aload_n (i := 0) (v := .ref G.b) dL_law_319 rfl rfl rfl ?_
  refine ez_iload_n (i := 3) (x := i) dL_law_320 rfl rfl ?_
  refine ez_iconst (v := 3) dL_law_321 (by decide) ?_
  refine ez_iadd dL_law_322 ?_
  refine ez_sld dL_law_323 (hin 3 (by decide)) ?_
  refine ez_callV (C := RX2) (Tt := TX2) (N := 53) (Y' := YX2_plug) (a := a0) (vs := [.int (G.xs (i + (1 : Int32)).toNatClampNeg), .int (G.xs (i + (2 : Int32)).toNatClampNeg), .int (G.xs (i + (3 : Int32)).toNatClampNeg)]) (rest := [.int r]) dL_law_324 rfl zkX2_plug q1135 q1136 rfl q1137 (zm0 _ _ _) znX2_plug (Nat.le_of_ble_eq_true rfl) (Nat.le_of_ble_eq_true rfl) rfl (wX2_plug (d := d + 12) e2 (zBack_v ?_))
  show zEF G (d + 15) [] YLw 327 [some (.ref G.b), some (.ref x), some (.ref a0), some (.int i)] [.int r, .int r] (zm a0 g' M') Q
  exact ez_icmp_eq (tgt := 928) dL_law_327 (by decide) (fun _ => kk g' M' h3) (fun hc => absurd rfl hc)
theorem zcase_plugged (H : zOp_plugged x a0 RL) (hx : ∀ n g M, RL n g M → ∃ fs, (zm a0 g M).h x = some (.inr (0, fs))) (hRL : RL (n + 1) g M) (hin : ∀ k : Int32, (k = 1 ∨ k = 2 ∨ k = 3 ∨ k = 4 ∨ k = 5) → vp_in (i + k) G.L) (kk : ∀ g' M', RL n g' M' → zEF G (d + 15) [] YLw 928 [some (.ref G.b), some (.ref x), some (.ref a0), some (.int i)] [] (zm a0 g' M') Q) : zEF G (d + 15) [] YLw 332 [some (.ref G.b), some (.ref x), some (.ref a0), some (.int i)] [] (zm a0 g M) Q := by
  obtain ⟨fs, hfs⟩ := hx _ _ _ hRL
  refine ez_aload_n (i := 1) (v := .ref x) dL_law_332 rfl rfl rfl ?_
  refine ez_aload_n (i := 0) (v := .ref G.b) dL_law_333 rfl rfl rfl ?_
  refine ez_iload_n (i := 3) (x := i) dL_law_334 rfl rfl ?_
  refine ez_iconst (v := 1) dL_law_335 (by decide) ?_
  refine ez_iadd dL_law_336 ?_
  refine ez_sld dL_law_337 (hin 1 (by decide)) ?_
  refine ez_aload_n (i := 0) (v := .ref G.b) dL_law_338 rfl rfl rfl ?_
  refine ez_iload_n (i := 3) (x := i) dL_law_339 rfl rfl ?_
  refine ez_iconst (v := 2) dL_law_340 (by decide) ?_
  refine ez_iadd dL_law_341 ?_
  refine ez_sld dL_law_342 (hin 2 (by decide)) ?_
  obtain ⟨r, g', M', e1, e2, h3⟩ := H n g M (G.xs (i + (1 : Int32)).toNatClampNeg) (G.xs (i + (2 : Int32)).toNatClampNeg) hRL
  refine ez_callV (C := RX0) (Tt := TX0) (N := 20) (Y' := YX0_plugged) (a := x) (vs := [.int (G.xs (i + (1 : Int32)).toNatClampNeg), .int (G.xs (i + (2 : Int32)).toNatClampNeg)]) (rest := []) dL_law_343 rfl zkX0_plugged q568 q569 rfl q570 hfs znX0_plugged (Nat.le_of_ble_eq_true rfl) (Nat.le_of_ble_eq_true rfl) rfl (wX0_plugged (d := d + 5) e1 (zBack_v ?_))
  show zEF G (d + 15) [] YLw 346 [some (.ref G.b), some (.ref x), some (.ref a0), some (.int i)] [.int r] (zm a0 g' M) Q
  refine ez_aload_n (i := 2) (v := .ref a0) dL_law_346 rfl rfl rfl ?_
  refine ez_aload_n (i := 0) (v := .ref G.b) dL_law_347 rfl rfl rfl ?_
  refine ez_iload_n (i := 3) (x := i) dL_law_348 rfl rfl ?_
  refine ez_iconst (v := 1) dL_law_349 (by decide) ?_
  refine ez_iadd dL_law_350 ?_
  refine ez_sld dL_law_351 (hin 1 (by decide)) ?_
  refine ez_aload_n (i := 0) (v := .ref G.b) dL_law_352 rfl rfl rfl ?_
  refine ez_iload_n (i := 3) (x := i) dL_law_353 rfl rfl ?_
  refine ez_iconst (v := 2) dL_law_354 (by decide) ?_
  refine ez_iadd dL_law_355 ?_
  refine ez_sld dL_law_356 (hin 2 (by decide)) ?_
  refine ez_callV (C := RX2) (Tt := TX2) (N := 53) (Y' := YX2_plugged) (a := a0) (vs := [.int (G.xs (i + (1 : Int32)).toNatClampNeg), .int (G.xs (i + (2 : Int32)).toNatClampNeg)]) (rest := [.int r]) dL_law_357 rfl zkX2_plugged q1147 q1148 rfl q1149 (zm0 _ _ _) znX2_plugged (Nat.le_of_ble_eq_true rfl) (Nat.le_of_ble_eq_true rfl) rfl (wX2_plugged (d := d + 12) e2 (zBack_v ?_))
  show zEF G (d + 15) [] YLw 360 [some (.ref G.b), some (.ref x), some (.ref a0), some (.int i)] [.int r, .int r] (zm a0 g' M') Q
  exact ez_icmp_eq (tgt := 928) dL_law_360 (by decide) (fun _ => kk g' M' h3) (fun hc => absurd rfl hc)
theorem zcase_track (H : zOp_track x a0 RL) (hx : ∀ n g M, RL n g M → ∃ fs, (zm a0 g M).h x = some (.inr (0, fs))) (hRL : RL (n + 1) g M) (hin : ∀ k : Int32, (k = 1 ∨ k = 2 ∨ k = 3 ∨ k = 4 ∨ k = 5) → vp_in (i + k) G.L) (kk : ∀ g' M', RL n g' M' → zEF G (d + 15) [] YLw 928 [some (.ref G.b), some (.ref x), some (.ref a0), some (.int i)] [] (zm a0 g' M') Q) : zEF G (d + 15) [] YLw 365 [some (.ref G.b), some (.ref x), some (.ref a0), some (.int i)] [] (zm a0 g M) Q := by
  obtain ⟨fs, hfs⟩ := hx _ _ _ hRL
  by_cases hz : (G.xs (i + (4 : Int32)).toNatClampNeg) = 0
  · refine ez_aload_n (i := 1) (v := .ref x) dL_law_365 rfl rfl rfl ?_
    refine ez_aload_n (i := 0) (v := .ref G.b) dL_law_366 rfl rfl rfl ?_
    refine ez_iload_n (i := 3) (x := i) dL_law_367 rfl rfl ?_
    refine ez_iconst (v := 1) dL_law_368 (by decide) ?_
    refine ez_iadd dL_law_369 ?_
    refine ez_sld dL_law_370 (hin 1 (by decide)) ?_
    refine ez_aload_n (i := 0) (v := .ref G.b) dL_law_371 rfl rfl rfl ?_
    refine ez_iload_n (i := 3) (x := i) dL_law_372 rfl rfl ?_
    refine ez_iconst (v := 2) dL_law_373 (by decide) ?_
    refine ez_iadd dL_law_374 ?_
    refine ez_sld dL_law_375 (hin 2 (by decide)) ?_
    refine ez_aload_n (i := 0) (v := .ref G.b) dL_law_376 rfl rfl rfl ?_
    refine ez_iload_n (i := 3) (x := i) dL_law_377 rfl rfl ?_
    refine ez_iconst (v := 3) dL_law_378 (by decide) ?_
    refine ez_iadd dL_law_379 ?_
    refine ez_sld dL_law_380 (hin 3 (by decide)) ?_
    refine ez_aload_n (i := 0) (v := .ref G.b) dL_law_381 rfl rfl rfl ?_
    refine ez_iload_n (i := 3) (x := i) dL_law_382 rfl rfl ?_
    refine ez_iconst (v := 4) dL_law_383 (by decide) ?_
    refine ez_iadd dL_law_384 ?_
    refine ez_sld dL_law_385 (hin 4 (by decide)) ?_
    refine ez_if_eq (tgt := 393) dL_law_386 (by decide) (fun hc => ?_) (fun hc => absurd hz hc)
    refine ez_iconst (v := 0) dL_law_393 (by decide) ?_
    obtain ⟨r, g', M', e1, e2, h3⟩ := H n g M (G.xs (i + (1 : Int32)).toNatClampNeg) (G.xs (i + (2 : Int32)).toNatClampNeg) (G.xs (i + (3 : Int32)).toNatClampNeg) (0 : Int32) hRL (by decide)
    refine ez_callV (C := RX0) (Tt := TX0) (N := 20) (Y' := YX0_track) (a := x) (vs := [.int (G.xs (i + (1 : Int32)).toNatClampNeg), .int (G.xs (i + (2 : Int32)).toNatClampNeg), .int (G.xs (i + (3 : Int32)).toNatClampNeg), .int (0 : Int32)]) (rest := []) dL_law_394 rfl zkX0_track q641 q642 rfl q643 hfs znX0_track (Nat.le_of_ble_eq_true rfl) (Nat.le_of_ble_eq_true rfl) rfl (wX0_track (d := d + 3) e1 (zBack_v ?_))
    show zEF G (d + 15) [] YLw 397 [some (.ref G.b), some (.ref x), some (.ref a0), some (.int i)] [.int r] (zm a0 g' M) Q
    refine ez_aload_n (i := 2) (v := .ref a0) dL_law_397 rfl rfl rfl ?_
    refine ez_aload_n (i := 0) (v := .ref G.b) dL_law_398 rfl rfl rfl ?_
    refine ez_iload_n (i := 3) (x := i) dL_law_399 rfl rfl ?_
    refine ez_iconst (v := 1) dL_law_400 (by decide) ?_
    refine ez_iadd dL_law_401 ?_
    refine ez_sld dL_law_402 (hin 1 (by decide)) ?_
    refine ez_aload_n (i := 0) (v := .ref G.b) dL_law_403 rfl rfl rfl ?_
    refine ez_iload_n (i := 3) (x := i) dL_law_404 rfl rfl ?_
    refine ez_iconst (v := 2) dL_law_405 (by decide) ?_
    refine ez_iadd dL_law_406 ?_
    refine ez_sld dL_law_407 (hin 2 (by decide)) ?_
    refine ez_aload_n (i := 0) (v := .ref G.b) dL_law_408 rfl rfl rfl ?_
    refine ez_iload_n (i := 3) (x := i) dL_law_409 rfl rfl ?_
    refine ez_iconst (v := 3) dL_law_410 (by decide) ?_
    refine ez_iadd dL_law_411 ?_
    refine ez_sld dL_law_412 (hin 3 (by decide)) ?_
    refine ez_aload_n (i := 0) (v := .ref G.b) dL_law_413 rfl rfl rfl ?_
    refine ez_iload_n (i := 3) (x := i) dL_law_414 rfl rfl ?_
    refine ez_iconst (v := 4) dL_law_415 (by decide) ?_
    refine ez_iadd dL_law_416 ?_
    refine ez_sld dL_law_417 (hin 4 (by decide)) ?_
    refine ez_if_eq (tgt := 425) dL_law_418 (by decide) (fun hc => ?_) (fun hc => absurd hz hc)
    refine ez_iconst (v := 0) dL_law_425 (by decide) ?_
    refine ez_callV (C := RX2) (Tt := TX2) (N := 53) (Y' := YX2_track) (a := a0) (vs := [.int (G.xs (i + (1 : Int32)).toNatClampNeg), .int (G.xs (i + (2 : Int32)).toNatClampNeg), .int (G.xs (i + (3 : Int32)).toNatClampNeg), .int (0 : Int32)]) (rest := [.int r]) dL_law_426 rfl zkX2_track q1155 q1156 rfl q1157 (zm0 _ _ _) znX2_track (Nat.le_of_ble_eq_true rfl) (Nat.le_of_ble_eq_true rfl) rfl (wX2_track (d := d + 11) e2 (zBack_v ?_))
    show zEF G (d + 15) [] YLw 429 [some (.ref G.b), some (.ref x), some (.ref a0), some (.int i)] [.int r, .int r] (zm a0 g' M') Q
    exact ez_icmp_eq (tgt := 928) dL_law_429 (by decide) (fun _ => kk g' M' h3) (fun hc => absurd rfl hc)
  · refine ez_aload_n (i := 1) (v := .ref x) dL_law_365 rfl rfl rfl ?_
    refine ez_aload_n (i := 0) (v := .ref G.b) dL_law_366 rfl rfl rfl ?_
    refine ez_iload_n (i := 3) (x := i) dL_law_367 rfl rfl ?_
    refine ez_iconst (v := 1) dL_law_368 (by decide) ?_
    refine ez_iadd dL_law_369 ?_
    refine ez_sld dL_law_370 (hin 1 (by decide)) ?_
    refine ez_aload_n (i := 0) (v := .ref G.b) dL_law_371 rfl rfl rfl ?_
    refine ez_iload_n (i := 3) (x := i) dL_law_372 rfl rfl ?_
    refine ez_iconst (v := 2) dL_law_373 (by decide) ?_
    refine ez_iadd dL_law_374 ?_
    refine ez_sld dL_law_375 (hin 2 (by decide)) ?_
    refine ez_aload_n (i := 0) (v := .ref G.b) dL_law_376 rfl rfl rfl ?_
    refine ez_iload_n (i := 3) (x := i) dL_law_377 rfl rfl ?_
    refine ez_iconst (v := 3) dL_law_378 (by decide) ?_
    refine ez_iadd dL_law_379 ?_
    refine ez_sld dL_law_380 (hin 3 (by decide)) ?_
    refine ez_aload_n (i := 0) (v := .ref G.b) dL_law_381 rfl rfl rfl ?_
    refine ez_iload_n (i := 3) (x := i) dL_law_382 rfl rfl ?_
    refine ez_iconst (v := 4) dL_law_383 (by decide) ?_
    refine ez_iadd dL_law_384 ?_
    refine ez_sld dL_law_385 (hin 4 (by decide)) ?_
    refine ez_if_eq (tgt := 393) dL_law_386 (by decide) (fun hc => absurd hc hz) (fun hc => ?_)
    refine ez_iconst (v := 1) dL_law_389 (by decide) ?_
    refine ez_goto (tgt := 394) dL_law_390 (by decide) ?_
    obtain ⟨r, g', M', e1, e2, h3⟩ := H n g M (G.xs (i + (1 : Int32)).toNatClampNeg) (G.xs (i + (2 : Int32)).toNatClampNeg) (G.xs (i + (3 : Int32)).toNatClampNeg) (1 : Int32) hRL (by decide)
    refine ez_callV (C := RX0) (Tt := TX0) (N := 20) (Y' := YX0_track) (a := x) (vs := [.int (G.xs (i + (1 : Int32)).toNatClampNeg), .int (G.xs (i + (2 : Int32)).toNatClampNeg), .int (G.xs (i + (3 : Int32)).toNatClampNeg), .int (1 : Int32)]) (rest := []) dL_law_394 rfl zkX0_track q641 q642 rfl q643 hfs znX0_track (Nat.le_of_ble_eq_true rfl) (Nat.le_of_ble_eq_true rfl) rfl (wX0_track (d := d + 3) e1 (zBack_v ?_))
    show zEF G (d + 15) [] YLw 397 [some (.ref G.b), some (.ref x), some (.ref a0), some (.int i)] [.int r] (zm a0 g' M) Q
    refine ez_aload_n (i := 2) (v := .ref a0) dL_law_397 rfl rfl rfl ?_
    refine ez_aload_n (i := 0) (v := .ref G.b) dL_law_398 rfl rfl rfl ?_
    refine ez_iload_n (i := 3) (x := i) dL_law_399 rfl rfl ?_
    refine ez_iconst (v := 1) dL_law_400 (by decide) ?_
    refine ez_iadd dL_law_401 ?_
    refine ez_sld dL_law_402 (hin 1 (by decide)) ?_
    refine ez_aload_n (i := 0) (v := .ref G.b) dL_law_403 rfl rfl rfl ?_
    refine ez_iload_n (i := 3) (x := i) dL_law_404 rfl rfl ?_
    refine ez_iconst (v := 2) dL_law_405 (by decide) ?_
    refine ez_iadd dL_law_406 ?_
    refine ez_sld dL_law_407 (hin 2 (by decide)) ?_
    refine ez_aload_n (i := 0) (v := .ref G.b) dL_law_408 rfl rfl rfl ?_
    refine ez_iload_n (i := 3) (x := i) dL_law_409 rfl rfl ?_
    refine ez_iconst (v := 3) dL_law_410 (by decide) ?_
    refine ez_iadd dL_law_411 ?_
    refine ez_sld dL_law_412 (hin 3 (by decide)) ?_
    refine ez_aload_n (i := 0) (v := .ref G.b) dL_law_413 rfl rfl rfl ?_
    refine ez_iload_n (i := 3) (x := i) dL_law_414 rfl rfl ?_
    refine ez_iconst (v := 4) dL_law_415 (by decide) ?_
    refine ez_iadd dL_law_416 ?_
    refine ez_sld dL_law_417 (hin 4 (by decide)) ?_
    refine ez_if_eq (tgt := 425) dL_law_418 (by decide) (fun hc => absurd hc hz) (fun hc => ?_)
    refine ez_iconst (v := 1) dL_law_421 (by decide) ?_
    refine ez_goto (tgt := 426) dL_law_422 (by decide) ?_
    refine ez_callV (C := RX2) (Tt := TX2) (N := 53) (Y' := YX2_track) (a := a0) (vs := [.int (G.xs (i + (1 : Int32)).toNatClampNeg), .int (G.xs (i + (2 : Int32)).toNatClampNeg), .int (G.xs (i + (3 : Int32)).toNatClampNeg), .int (1 : Int32)]) (rest := [.int r]) dL_law_426 rfl zkX2_track q1155 q1156 rfl q1157 (zm0 _ _ _) znX2_track (Nat.le_of_ble_eq_true rfl) (Nat.le_of_ble_eq_true rfl) rfl (wX2_track (d := d + 11) e2 (zBack_v ?_))
    show zEF G (d + 15) [] YLw 429 [some (.ref G.b), some (.ref x), some (.ref a0), some (.int i)] [.int r, .int r] (zm a0 g' M') Q
    exact ez_icmp_eq (tgt := 928) dL_law_429 (by decide) (fun _ => kk g' M' h3) (fun hc => absurd rfl hc)
theorem zcase_pure (H : zOp_pure x a0 RL) (hx : ∀ n g M, RL n g M → ∃ fs, (zm a0 g M).h x = some (.inr (0, fs))) (hRL : RL (n + 1) g M) (hin : ∀ k : Int32, (k = 1 ∨ k = 2 ∨ k = 3 ∨ k = 4 ∨ k = 5) → vp_in (i + k) G.L) (kk : ∀ g' M', RL n g' M' → zEF G (d + 15) [] YLw 928 [some (.ref G.b), some (.ref x), some (.ref a0), some (.int i)] [] (zm a0 g' M') Q) : zEF G (d + 15) [] YLw 434 [some (.ref G.b), some (.ref x), some (.ref a0), some (.int i)] [] (zm a0 g M) Q := by
  obtain ⟨fs, hfs⟩ := hx _ _ _ hRL
  by_cases hz : (G.xs (i + (2 : Int32)).toNatClampNeg) = 0
  · refine ez_aload_n (i := 1) (v := .ref x) dL_law_434 rfl rfl rfl ?_
    refine ez_aload_n (i := 0) (v := .ref G.b) dL_law_435 rfl rfl rfl ?_
    refine ez_iload_n (i := 3) (x := i) dL_law_436 rfl rfl ?_
    refine ez_iconst (v := 1) dL_law_437 (by decide) ?_
    refine ez_iadd dL_law_438 ?_
    refine ez_sld dL_law_439 (hin 1 (by decide)) ?_
    refine ez_aload_n (i := 0) (v := .ref G.b) dL_law_440 rfl rfl rfl ?_
    refine ez_iload_n (i := 3) (x := i) dL_law_441 rfl rfl ?_
    refine ez_iconst (v := 2) dL_law_442 (by decide) ?_
    refine ez_iadd dL_law_443 ?_
    refine ez_sld dL_law_444 (hin 2 (by decide)) ?_
    refine ez_if_eq (tgt := 452) dL_law_445 (by decide) (fun hc => ?_) (fun hc => absurd hz hc)
    refine ez_iconst (v := 0) dL_law_452 (by decide) ?_
    obtain ⟨r, g', M', e1, e2, h3⟩ := H n g M (G.xs (i + (1 : Int32)).toNatClampNeg) (0 : Int32) hRL (by decide)
    refine ez_callV (C := RX0) (Tt := TX0) (N := 20) (Y' := YX0_pure) (a := x) (vs := [.int (G.xs (i + (1 : Int32)).toNatClampNeg), .int (0 : Int32)]) (rest := []) dL_law_453 rfl zkX0_pure q675 q676 rfl q677 hfs znX0_pure (Nat.le_of_ble_eq_true rfl) (Nat.le_of_ble_eq_true rfl) rfl (wX0_pure (d := d + 3) e1 (zBack_v ?_))
    show zEF G (d + 15) [] YLw 456 [some (.ref G.b), some (.ref x), some (.ref a0), some (.int i)] [.int r] (zm a0 g' M) Q
    refine ez_aload_n (i := 2) (v := .ref a0) dL_law_456 rfl rfl rfl ?_
    refine ez_aload_n (i := 0) (v := .ref G.b) dL_law_457 rfl rfl rfl ?_
    refine ez_iload_n (i := 3) (x := i) dL_law_458 rfl rfl ?_
    refine ez_iconst (v := 1) dL_law_459 (by decide) ?_
    refine ez_iadd dL_law_460 ?_
    refine ez_sld dL_law_461 (hin 1 (by decide)) ?_
    refine ez_aload_n (i := 0) (v := .ref G.b) dL_law_462 rfl rfl rfl ?_
    refine ez_iload_n (i := 3) (x := i) dL_law_463 rfl rfl ?_
    refine ez_iconst (v := 2) dL_law_464 (by decide) ?_
    refine ez_iadd dL_law_465 ?_
    refine ez_sld dL_law_466 (hin 2 (by decide)) ?_
    refine ez_if_eq (tgt := 474) dL_law_467 (by decide) (fun hc => ?_) (fun hc => absurd hz hc)
    refine ez_iconst (v := 0) dL_law_474 (by decide) ?_
    refine ez_callV (C := RX2) (Tt := TX2) (N := 53) (Y' := YX2_pure) (a := a0) (vs := [.int (G.xs (i + (1 : Int32)).toNatClampNeg), .int (0 : Int32)]) (rest := [.int r]) dL_law_475 rfl zkX2_pure q1170 q1171 rfl q1172 (zm0 _ _ _) znX2_pure (Nat.le_of_ble_eq_true rfl) (Nat.le_of_ble_eq_true rfl) rfl (wX2_pure (d := d + 11) e2 (zBack_v ?_))
    show zEF G (d + 15) [] YLw 478 [some (.ref G.b), some (.ref x), some (.ref a0), some (.int i)] [.int r, .int r] (zm a0 g' M') Q
    exact ez_icmp_eq (tgt := 928) dL_law_478 (by decide) (fun _ => kk g' M' h3) (fun hc => absurd rfl hc)
  · refine ez_aload_n (i := 1) (v := .ref x) dL_law_434 rfl rfl rfl ?_
    refine ez_aload_n (i := 0) (v := .ref G.b) dL_law_435 rfl rfl rfl ?_
    refine ez_iload_n (i := 3) (x := i) dL_law_436 rfl rfl ?_
    refine ez_iconst (v := 1) dL_law_437 (by decide) ?_
    refine ez_iadd dL_law_438 ?_
    refine ez_sld dL_law_439 (hin 1 (by decide)) ?_
    refine ez_aload_n (i := 0) (v := .ref G.b) dL_law_440 rfl rfl rfl ?_
    refine ez_iload_n (i := 3) (x := i) dL_law_441 rfl rfl ?_
    refine ez_iconst (v := 2) dL_law_442 (by decide) ?_
    refine ez_iadd dL_law_443 ?_
    refine ez_sld dL_law_444 (hin 2 (by decide)) ?_
    refine ez_if_eq (tgt := 452) dL_law_445 (by decide) (fun hc => absurd hc hz) (fun hc => ?_)
    refine ez_iconst (v := 1) dL_law_448 (by decide) ?_
    refine ez_goto (tgt := 453) dL_law_449 (by decide) ?_
    obtain ⟨r, g', M', e1, e2, h3⟩ := H n g M (G.xs (i + (1 : Int32)).toNatClampNeg) (1 : Int32) hRL (by decide)
    refine ez_callV (C := RX0) (Tt := TX0) (N := 20) (Y' := YX0_pure) (a := x) (vs := [.int (G.xs (i + (1 : Int32)).toNatClampNeg), .int (1 : Int32)]) (rest := []) dL_law_453 rfl zkX0_pure q675 q676 rfl q677 hfs znX0_pure (Nat.le_of_ble_eq_true rfl) (Nat.le_of_ble_eq_true rfl) rfl (wX0_pure (d := d + 3) e1 (zBack_v ?_))
    show zEF G (d + 15) [] YLw 456 [some (.ref G.b), some (.ref x), some (.ref a0), some (.int i)] [.int r] (zm a0 g' M) Q
    refine ez_aload_n (i := 2) (v := .ref a0) dL_law_456 rfl rfl rfl ?_
    refine ez_aload_n (i := 0) (v := .ref G.b) dL_law_457 rfl rfl rfl ?_
    refine ez_iload_n (i := 3) (x := i) dL_law_458 rfl rfl ?_
    refine ez_iconst (v := 1) dL_law_459 (by decide) ?_
    refine ez_iadd dL_law_460 ?_
    refine ez_sld dL_law_461 (hin 1 (by decide)) ?_
    refine ez_aload_n (i := 0) (v := .ref G.b) dL_law_462 rfl rfl rfl ?_
    refine ez_iload_n (i := 3) (x := i) dL_law_463 rfl rfl ?_
    refine ez_iconst (v := 2) dL_law_464 (by decide) ?_
    refine ez_iadd dL_law_465 ?_
    refine ez_sld dL_law_466 (hin 2 (by decide)) ?_
    refine ez_if_eq (tgt := 474) dL_law_467 (by decide) (fun hc => absurd hc hz) (fun hc => ?_)
    refine ez_iconst (v := 1) dL_law_470 (by decide) ?_
    refine ez_goto (tgt := 475) dL_law_471 (by decide) ?_
    refine ez_callV (C := RX2) (Tt := TX2) (N := 53) (Y' := YX2_pure) (a := a0) (vs := [.int (G.xs (i + (1 : Int32)).toNatClampNeg), .int (1 : Int32)]) (rest := [.int r]) dL_law_475 rfl zkX2_pure q1170 q1171 rfl q1172 (zm0 _ _ _) znX2_pure (Nat.le_of_ble_eq_true rfl) (Nat.le_of_ble_eq_true rfl) rfl (wX2_pure (d := d + 11) e2 (zBack_v ?_))
    show zEF G (d + 15) [] YLw 478 [some (.ref G.b), some (.ref x), some (.ref a0), some (.int i)] [.int r, .int r] (zm a0 g' M') Q
    exact ez_icmp_eq (tgt := 928) dL_law_478 (by decide) (fun _ => kk g' M' h3) (fun hc => absurd rfl hc)
theorem zcase_chain (H : zOp_chain x a0 RL) (hx : ∀ n g M, RL n g M → ∃ fs, (zm a0 g M).h x = some (.inr (0, fs))) (hRL : RL (n + 1) g M) (hin : ∀ k : Int32, (k = 1 ∨ k = 2 ∨ k = 3 ∨ k = 4 ∨ k = 5) → vp_in (i + k) G.L) (kk : ∀ g' M', RL n g' M' → zEF G (d + 15) [] YLw 928 [some (.ref G.b), some (.ref x), some (.ref a0), some (.int i)] [] (zm a0 g' M') Q) : zEF G (d + 15) [] YLw 483 [some (.ref G.b), some (.ref x), some (.ref a0), some (.int i)] [] (zm a0 g M) Q := by
  obtain ⟨fs, hfs⟩ := hx _ _ _ hRL
  refine ez_aload_n (i := 1) (v := .ref x) dL_law_483 rfl rfl rfl ?_
  refine ez_aload_n (i := 0) (v := .ref G.b) dL_law_484 rfl rfl rfl ?_
  refine ez_iload_n (i := 3) (x := i) dL_law_485 rfl rfl ?_
  refine ez_iconst (v := 1) dL_law_486 (by decide) ?_
  refine ez_iadd dL_law_487 ?_
  refine ez_sld dL_law_488 (hin 1 (by decide)) ?_
  refine ez_aload_n (i := 0) (v := .ref G.b) dL_law_489 rfl rfl rfl ?_
  refine ez_iload_n (i := 3) (x := i) dL_law_490 rfl rfl ?_
  refine ez_iconst (v := 2) dL_law_491 (by decide) ?_
  refine ez_iadd dL_law_492 ?_
  refine ez_sld dL_law_493 (hin 2 (by decide)) ?_
  refine ez_aload_n (i := 0) (v := .ref G.b) dL_law_494 rfl rfl rfl ?_
  refine ez_iload_n (i := 3) (x := i) dL_law_495 rfl rfl ?_
  refine ez_iconst (v := 3) dL_law_496 (by decide) ?_
  refine ez_iadd dL_law_497 ?_
  refine ez_sld dL_law_498 (hin 3 (by decide)) ?_
  obtain ⟨r, g', M', e1, e2, h3⟩ := H n g M (G.xs (i + (1 : Int32)).toNatClampNeg) (G.xs (i + (2 : Int32)).toNatClampNeg) (G.xs (i + (3 : Int32)).toNatClampNeg) hRL
  refine ez_callV (C := RX0) (Tt := TX0) (N := 20) (Y' := YX0_chain) (a := x) (vs := [.int (G.xs (i + (1 : Int32)).toNatClampNeg), .int (G.xs (i + (2 : Int32)).toNatClampNeg), .int (G.xs (i + (3 : Int32)).toNatClampNeg)]) (rest := []) dL_law_499 rfl zkX0_chain q679 q680 rfl q681 hfs znX0_chain (Nat.le_of_ble_eq_true rfl) (Nat.le_of_ble_eq_true rfl) rfl (wX0_chain (d := d + 3) e1 (zBack_v ?_))
  show zEF G (d + 15) [] YLw 502 [some (.ref G.b), some (.ref x), some (.ref a0), some (.int i)] [.int r] (zm a0 g' M) Q
  refine ez_aload_n (i := 2) (v := .ref a0) dL_law_502 rfl rfl rfl ?_
  refine ez_aload_n (i := 0) (v := .ref G.b) dL_law_503 rfl rfl rfl ?_
  refine ez_iload_n (i := 3) (x := i) dL_law_504 rfl rfl ?_
  refine ez_iconst (v := 1) dL_law_505 (by decide) ?_
  refine ez_iadd dL_law_506 ?_
  refine ez_sld dL_law_507 (hin 1 (by decide)) ?_
  refine ez_aload_n (i := 0) (v := .ref G.b) dL_law_508 rfl rfl rfl ?_
  refine ez_iload_n (i := 3) (x := i) dL_law_509 rfl rfl ?_
  refine ez_iconst (v := 2) dL_law_510 (by decide) ?_
  refine ez_iadd dL_law_511 ?_
  refine ez_sld dL_law_512 (hin 2 (by decide)) ?_
  refine ez_aload_n (i := 0) (v := .ref G.b) dL_law_513 rfl rfl rfl ?_
  refine ez_iload_n (i := 3) (x := i) dL_law_514 rfl rfl ?_
  refine ez_iconst (v := 3) dL_law_515 (by decide) ?_
  refine ez_iadd dL_law_516 ?_
  refine ez_sld dL_law_517 (hin 3 (by decide)) ?_
  refine ez_callV (C := RX2) (Tt := TX2) (N := 53) (Y' := YX2_chain) (a := a0) (vs := [.int (G.xs (i + (1 : Int32)).toNatClampNeg), .int (G.xs (i + (2 : Int32)).toNatClampNeg), .int (G.xs (i + (3 : Int32)).toNatClampNeg)]) (rest := [.int r]) dL_law_518 rfl zkX2_chain q1174 q1175 rfl q1176 (zm0 _ _ _) znX2_chain (Nat.le_of_ble_eq_true rfl) (Nat.le_of_ble_eq_true rfl) rfl (wX2_chain (d := d + 11) e2 (zBack_v ?_))
  show zEF G (d + 15) [] YLw 521 [some (.ref G.b), some (.ref x), some (.ref a0), some (.int i)] [.int r, .int r] (zm a0 g' M') Q
  exact ez_icmp_eq (tgt := 928) dL_law_521 (by decide) (fun _ => kk g' M' h3) (fun hc => absurd rfl hc)
theorem zcase_level (H : zOp_level x a0 RL) (hx : ∀ n g M, RL n g M → ∃ fs, (zm a0 g M).h x = some (.inr (0, fs))) (hRL : RL (n + 1) g M) (hin : ∀ k : Int32, (k = 1 ∨ k = 2 ∨ k = 3 ∨ k = 4 ∨ k = 5) → vp_in (i + k) G.L) (kk : ∀ g' M', RL n g' M' → zEF G (d + 15) [] YLw 928 [some (.ref G.b), some (.ref x), some (.ref a0), some (.int i)] [] (zm a0 g' M') Q) : zEF G (d + 15) [] YLw 526 [some (.ref G.b), some (.ref x), some (.ref a0), some (.int i)] [] (zm a0 g M) Q := by
  obtain ⟨fs, hfs⟩ := hx _ _ _ hRL
  refine ez_aload_n (i := 1) (v := .ref x) dL_law_526 rfl rfl rfl ?_
  refine ez_aload_n (i := 0) (v := .ref G.b) dL_law_527 rfl rfl rfl ?_
  refine ez_iload_n (i := 3) (x := i) dL_law_528 rfl rfl ?_
  refine ez_iconst (v := 1) dL_law_529 (by decide) ?_
  refine ez_iadd dL_law_530 ?_
  refine ez_sld dL_law_531 (hin 1 (by decide)) ?_
  refine ez_aload_n (i := 0) (v := .ref G.b) dL_law_532 rfl rfl rfl ?_
  refine ez_iload_n (i := 3) (x := i) dL_law_533 rfl rfl ?_
  refine ez_iconst (v := 2) dL_law_534 (by decide) ?_
  refine ez_iadd dL_law_535 ?_
  refine ez_sld dL_law_536 (hin 2 (by decide)) ?_
  obtain ⟨r, g', M', e1, e2, h3⟩ := H n g M (G.xs (i + (1 : Int32)).toNatClampNeg) (G.xs (i + (2 : Int32)).toNatClampNeg) hRL
  refine ez_callV (C := RX0) (Tt := TX0) (N := 20) (Y' := YX0_level) (a := x) (vs := [.int (G.xs (i + (1 : Int32)).toNatClampNeg), .int (G.xs (i + (2 : Int32)).toNatClampNeg)]) (rest := []) dL_law_537 rfl zkX0_level q683 q684 rfl q685 hfs znX0_level (Nat.le_of_ble_eq_true rfl) (Nat.le_of_ble_eq_true rfl) rfl (wX0_level (d := d + 3) e1 (zBack_v ?_))
  show zEF G (d + 15) [] YLw 540 [some (.ref G.b), some (.ref x), some (.ref a0), some (.int i)] [.int r] (zm a0 g' M) Q
  refine ez_aload_n (i := 2) (v := .ref a0) dL_law_540 rfl rfl rfl ?_
  refine ez_aload_n (i := 0) (v := .ref G.b) dL_law_541 rfl rfl rfl ?_
  refine ez_iload_n (i := 3) (x := i) dL_law_542 rfl rfl ?_
  refine ez_iconst (v := 1) dL_law_543 (by decide) ?_
  refine ez_iadd dL_law_544 ?_
  refine ez_sld dL_law_545 (hin 1 (by decide)) ?_
  refine ez_aload_n (i := 0) (v := .ref G.b) dL_law_546 rfl rfl rfl ?_
  refine ez_iload_n (i := 3) (x := i) dL_law_547 rfl rfl ?_
  refine ez_iconst (v := 2) dL_law_548 (by decide) ?_
  refine ez_iadd dL_law_549 ?_
  refine ez_sld dL_law_550 (hin 2 (by decide)) ?_
  refine ez_callV (C := RX2) (Tt := TX2) (N := 53) (Y' := YX2_level) (a := a0) (vs := [.int (G.xs (i + (1 : Int32)).toNatClampNeg), .int (G.xs (i + (2 : Int32)).toNatClampNeg)]) (rest := [.int r]) dL_law_551 rfl zkX2_level q1178 q1179 rfl q1180 (zm0 _ _ _) znX2_level (Nat.le_of_ble_eq_true rfl) (Nat.le_of_ble_eq_true rfl) rfl (wX2_level (d := d + 11) e2 (zBack_v ?_))
  show zEF G (d + 15) [] YLw 554 [some (.ref G.b), some (.ref x), some (.ref a0), some (.int i)] [.int r, .int r] (zm a0 g' M') Q
  exact ez_icmp_eq (tgt := 928) dL_law_554 (by decide) (fun _ => kk g' M' h3) (fun hc => absurd rfl hc)
theorem zcase_on (H : zOp_on x a0 RL) (hx : ∀ n g M, RL n g M → ∃ fs, (zm a0 g M).h x = some (.inr (0, fs))) (hRL : RL (n + 1) g M) (hin : ∀ k : Int32, (k = 1 ∨ k = 2 ∨ k = 3 ∨ k = 4 ∨ k = 5) → vp_in (i + k) G.L) (kk : ∀ g' M', RL n g' M' → zEF G (d + 15) [] YLw 928 [some (.ref G.b), some (.ref x), some (.ref a0), some (.int i)] [] (zm a0 g' M') Q) : zEF G (d + 15) [] YLw 559 [some (.ref G.b), some (.ref x), some (.ref a0), some (.int i)] [] (zm a0 g M) Q := by
  obtain ⟨fs, hfs⟩ := hx _ _ _ hRL
  by_cases hz : (G.xs (i + (2 : Int32)).toNatClampNeg) = 0
  · refine ez_aload_n (i := 1) (v := .ref x) dL_law_559 rfl rfl rfl ?_
    refine ez_aload_n (i := 0) (v := .ref G.b) dL_law_560 rfl rfl rfl ?_
    refine ez_iload_n (i := 3) (x := i) dL_law_561 rfl rfl ?_
    refine ez_iconst (v := 1) dL_law_562 (by decide) ?_
    refine ez_iadd dL_law_563 ?_
    refine ez_sld dL_law_564 (hin 1 (by decide)) ?_
    refine ez_aload_n (i := 0) (v := .ref G.b) dL_law_565 rfl rfl rfl ?_
    refine ez_iload_n (i := 3) (x := i) dL_law_566 rfl rfl ?_
    refine ez_iconst (v := 2) dL_law_567 (by decide) ?_
    refine ez_iadd dL_law_568 ?_
    refine ez_sld dL_law_569 (hin 2 (by decide)) ?_
    refine ez_if_eq (tgt := 577) dL_law_570 (by decide) (fun hc => ?_) (fun hc => absurd hz hc)
    refine ez_iconst (v := 0) dL_law_577 (by decide) ?_
    obtain ⟨r, g', M', e1, e2, h3⟩ := H n g M (G.xs (i + (1 : Int32)).toNatClampNeg) (0 : Int32) hRL (by decide)
    refine ez_callV (C := RX0) (Tt := TX0) (N := 20) (Y' := YX0_on) (a := x) (vs := [.int (G.xs (i + (1 : Int32)).toNatClampNeg), .int (0 : Int32)]) (rest := []) dL_law_578 rfl zkX0_on q687 q688 rfl q689 hfs znX0_on (Nat.le_of_ble_eq_true rfl) (Nat.le_of_ble_eq_true rfl) rfl (wX0_on (d := d + 3) e1 (zBack_v ?_))
    show zEF G (d + 15) [] YLw 581 [some (.ref G.b), some (.ref x), some (.ref a0), some (.int i)] [.int r] (zm a0 g' M) Q
    refine ez_aload_n (i := 2) (v := .ref a0) dL_law_581 rfl rfl rfl ?_
    refine ez_aload_n (i := 0) (v := .ref G.b) dL_law_582 rfl rfl rfl ?_
    refine ez_iload_n (i := 3) (x := i) dL_law_583 rfl rfl ?_
    refine ez_iconst (v := 1) dL_law_584 (by decide) ?_
    refine ez_iadd dL_law_585 ?_
    refine ez_sld dL_law_586 (hin 1 (by decide)) ?_
    refine ez_aload_n (i := 0) (v := .ref G.b) dL_law_587 rfl rfl rfl ?_
    refine ez_iload_n (i := 3) (x := i) dL_law_588 rfl rfl ?_
    refine ez_iconst (v := 2) dL_law_589 (by decide) ?_
    refine ez_iadd dL_law_590 ?_
    refine ez_sld dL_law_591 (hin 2 (by decide)) ?_
    refine ez_if_eq (tgt := 599) dL_law_592 (by decide) (fun hc => ?_) (fun hc => absurd hz hc)
    refine ez_iconst (v := 0) dL_law_599 (by decide) ?_
    refine ez_callV (C := RX2) (Tt := TX2) (N := 53) (Y' := YX2_on) (a := a0) (vs := [.int (G.xs (i + (1 : Int32)).toNatClampNeg), .int (0 : Int32)]) (rest := [.int r]) dL_law_600 rfl zkX2_on q1182 q1183 rfl q1184 (zm0 _ _ _) znX2_on (Nat.le_of_ble_eq_true rfl) (Nat.le_of_ble_eq_true rfl) rfl (wX2_on (d := d + 11) e2 (zBack_v ?_))
    show zEF G (d + 15) [] YLw 603 [some (.ref G.b), some (.ref x), some (.ref a0), some (.int i)] [.int r, .int r] (zm a0 g' M') Q
    exact ez_icmp_eq (tgt := 928) dL_law_603 (by decide) (fun _ => kk g' M' h3) (fun hc => absurd rfl hc)
  · refine ez_aload_n (i := 1) (v := .ref x) dL_law_559 rfl rfl rfl ?_
    refine ez_aload_n (i := 0) (v := .ref G.b) dL_law_560 rfl rfl rfl ?_
    refine ez_iload_n (i := 3) (x := i) dL_law_561 rfl rfl ?_
    refine ez_iconst (v := 1) dL_law_562 (by decide) ?_
    refine ez_iadd dL_law_563 ?_
    refine ez_sld dL_law_564 (hin 1 (by decide)) ?_
    refine ez_aload_n (i := 0) (v := .ref G.b) dL_law_565 rfl rfl rfl ?_
    refine ez_iload_n (i := 3) (x := i) dL_law_566 rfl rfl ?_
    refine ez_iconst (v := 2) dL_law_567 (by decide) ?_
    refine ez_iadd dL_law_568 ?_
    refine ez_sld dL_law_569 (hin 2 (by decide)) ?_
    refine ez_if_eq (tgt := 577) dL_law_570 (by decide) (fun hc => absurd hc hz) (fun hc => ?_)
    refine ez_iconst (v := 1) dL_law_573 (by decide) ?_
    refine ez_goto (tgt := 578) dL_law_574 (by decide) ?_
    obtain ⟨r, g', M', e1, e2, h3⟩ := H n g M (G.xs (i + (1 : Int32)).toNatClampNeg) (1 : Int32) hRL (by decide)
    refine ez_callV (C := RX0) (Tt := TX0) (N := 20) (Y' := YX0_on) (a := x) (vs := [.int (G.xs (i + (1 : Int32)).toNatClampNeg), .int (1 : Int32)]) (rest := []) dL_law_578 rfl zkX0_on q687 q688 rfl q689 hfs znX0_on (Nat.le_of_ble_eq_true rfl) (Nat.le_of_ble_eq_true rfl) rfl (wX0_on (d := d + 3) e1 (zBack_v ?_))
    show zEF G (d + 15) [] YLw 581 [some (.ref G.b), some (.ref x), some (.ref a0), some (.int i)] [.int r] (zm a0 g' M) Q
    refine ez_aload_n (i := 2) (v := .ref a0) dL_law_581 rfl rfl rfl ?_
    refine ez_aload_n (i := 0) (v := .ref G.b) dL_law_582 rfl rfl rfl ?_
    refine ez_iload_n (i := 3) (x := i) dL_law_583 rfl rfl ?_
    refine ez_iconst (v := 1) dL_law_584 (by decide) ?_
    refine ez_iadd dL_law_585 ?_
    refine ez_sld dL_law_586 (hin 1 (by decide)) ?_
    refine ez_aload_n (i := 0) (v := .ref G.b) dL_law_587 rfl rfl rfl ?_
    refine ez_iload_n (i := 3) (x := i) dL_law_588 rfl rfl ?_
    refine ez_iconst (v := 2) dL_law_589 (by decide) ?_
    refine ez_iadd dL_law_590 ?_
    refine ez_sld dL_law_591 (hin 2 (by decide)) ?_
    refine ez_if_eq (tgt := 599) dL_law_592 (by decide) (fun hc => absurd hc hz) (fun hc => ?_)
    refine ez_iconst (v := 1) dL_law_595 (by decide) ?_
    refine ez_goto (tgt := 600) dL_law_596 (by decide) ?_
    refine ez_callV (C := RX2) (Tt := TX2) (N := 53) (Y' := YX2_on) (a := a0) (vs := [.int (G.xs (i + (1 : Int32)).toNatClampNeg), .int (1 : Int32)]) (rest := [.int r]) dL_law_600 rfl zkX2_on q1182 q1183 rfl q1184 (zm0 _ _ _) znX2_on (Nat.le_of_ble_eq_true rfl) (Nat.le_of_ble_eq_true rfl) rfl (wX2_on (d := d + 11) e2 (zBack_v ?_))
    show zEF G (d + 15) [] YLw 603 [some (.ref G.b), some (.ref x), some (.ref a0), some (.int i)] [.int r, .int r] (zm a0 g' M') Q
    exact ez_icmp_eq (tgt := 928) dL_law_603 (by decide) (fun _ => kk g' M' h3) (fun hc => absurd rfl hc)
theorem zcase_line (H : zOp_line x a0 RL) (hx : ∀ n g M, RL n g M → ∃ fs, (zm a0 g M).h x = some (.inr (0, fs))) (hRL : RL (n + 1) g M) (hin : ∀ k : Int32, (k = 1 ∨ k = 2 ∨ k = 3 ∨ k = 4 ∨ k = 5) → vp_in (i + k) G.L) (kk : ∀ g' M', RL n g' M' → zEF G (d + 15) [] YLw 928 [some (.ref G.b), some (.ref x), some (.ref a0), some (.int i)] [] (zm a0 g' M') Q) : zEF G (d + 15) [] YLw 608 [some (.ref G.b), some (.ref x), some (.ref a0), some (.int i)] [] (zm a0 g M) Q := by
  obtain ⟨fs, hfs⟩ := hx _ _ _ hRL
  refine ez_aload_n (i := 1) (v := .ref x) dL_law_608 rfl rfl rfl ?_
  refine ez_aload_n (i := 0) (v := .ref G.b) dL_law_609 rfl rfl rfl ?_
  refine ez_iload_n (i := 3) (x := i) dL_law_610 rfl rfl ?_
  refine ez_iconst (v := 1) dL_law_611 (by decide) ?_
  refine ez_iadd dL_law_612 ?_
  refine ez_sld dL_law_613 (hin 1 (by decide)) ?_
  refine ez_aload_n (i := 0) (v := .ref G.b) dL_law_614 rfl rfl rfl ?_
  refine ez_iload_n (i := 3) (x := i) dL_law_615 rfl rfl ?_
  refine ez_iconst (v := 2) dL_law_616 (by decide) ?_
  refine ez_iadd dL_law_617 ?_
  refine ez_sld dL_law_618 (hin 2 (by decide)) ?_
  obtain ⟨r, g', M', e1, e2, h3⟩ := H n g M (G.xs (i + (1 : Int32)).toNatClampNeg) (G.xs (i + (2 : Int32)).toNatClampNeg) hRL
  refine ez_callV (C := RX0) (Tt := TX0) (N := 20) (Y' := YX0_line) (a := x) (vs := [.int (G.xs (i + (1 : Int32)).toNatClampNeg), .int (G.xs (i + (2 : Int32)).toNatClampNeg)]) (rest := []) dL_law_619 rfl zkX0_line q691 q692 rfl q693 hfs znX0_line (Nat.le_of_ble_eq_true rfl) (Nat.le_of_ble_eq_true rfl) rfl (wX0_line (d := d + 3) e1 (zBack_v ?_))
  show zEF G (d + 15) [] YLw 622 [some (.ref G.b), some (.ref x), some (.ref a0), some (.int i)] [.int r] (zm a0 g' M) Q
  refine ez_aload_n (i := 2) (v := .ref a0) dL_law_622 rfl rfl rfl ?_
  refine ez_aload_n (i := 0) (v := .ref G.b) dL_law_623 rfl rfl rfl ?_
  refine ez_iload_n (i := 3) (x := i) dL_law_624 rfl rfl ?_
  refine ez_iconst (v := 1) dL_law_625 (by decide) ?_
  refine ez_iadd dL_law_626 ?_
  refine ez_sld dL_law_627 (hin 1 (by decide)) ?_
  refine ez_aload_n (i := 0) (v := .ref G.b) dL_law_628 rfl rfl rfl ?_
  refine ez_iload_n (i := 3) (x := i) dL_law_629 rfl rfl ?_
  refine ez_iconst (v := 2) dL_law_630 (by decide) ?_
  refine ez_iadd dL_law_631 ?_
  refine ez_sld dL_law_632 (hin 2 (by decide)) ?_
  refine ez_callV (C := RX2) (Tt := TX2) (N := 53) (Y' := YX2_line) (a := a0) (vs := [.int (G.xs (i + (1 : Int32)).toNatClampNeg), .int (G.xs (i + (2 : Int32)).toNatClampNeg)]) (rest := [.int r]) dL_law_633 rfl zkX2_line q1186 q1187 rfl q1188 (zm0 _ _ _) znX2_line (Nat.le_of_ble_eq_true rfl) (Nat.le_of_ble_eq_true rfl) rfl (wX2_line (d := d + 11) e2 (zBack_v ?_))
  show zEF G (d + 15) [] YLw 636 [some (.ref G.b), some (.ref x), some (.ref a0), some (.int i)] [.int r, .int r] (zm a0 g' M') Q
  exact ez_icmp_eq (tgt := 928) dL_law_636 (by decide) (fun _ => kk g' M' h3) (fun hc => absurd rfl hc)
theorem zcase_hire (H : zOp_hire x a0 RL) (hx : ∀ n g M, RL n g M → ∃ fs, (zm a0 g M).h x = some (.inr (0, fs))) (hRL : RL (n + 1) g M) (hin : ∀ k : Int32, (k = 1 ∨ k = 2 ∨ k = 3 ∨ k = 4 ∨ k = 5) → vp_in (i + k) G.L) (kk : ∀ g' M', RL n g' M' → zEF G (d + 15) [] YLw 928 [some (.ref G.b), some (.ref x), some (.ref a0), some (.int i)] [] (zm a0 g' M') Q) : zEF G (d + 15) [] YLw 641 [some (.ref G.b), some (.ref x), some (.ref a0), some (.int i)] [] (zm a0 g M) Q := by
  obtain ⟨fs, hfs⟩ := hx _ _ _ hRL
  refine ez_aload_n (i := 1) (v := .ref x) dL_law_641 rfl rfl rfl ?_
  refine ez_aload_n (i := 0) (v := .ref G.b) dL_law_642 rfl rfl rfl ?_
  refine ez_iload_n (i := 3) (x := i) dL_law_643 rfl rfl ?_
  refine ez_iconst (v := 1) dL_law_644 (by decide) ?_
  refine ez_iadd dL_law_645 ?_
  refine ez_sld dL_law_646 (hin 1 (by decide)) ?_
  obtain ⟨r, g', M', e1, e2, h3⟩ := H n g M (G.xs (i + (1 : Int32)).toNatClampNeg) hRL
  refine ez_callV (C := RX0) (Tt := TX0) (N := 20) (Y' := YX0_hire) (a := x) (vs := [.int (G.xs (i + (1 : Int32)).toNatClampNeg)]) (rest := []) dL_law_647 rfl zkX0_hire q695 q696 rfl q697 hfs znX0_hire (Nat.le_of_ble_eq_true rfl) (Nat.le_of_ble_eq_true rfl) rfl (wX0_hire (d := d + 13) e1 (zBack_v ?_))
  show zEF G (d + 15) [] YLw 650 [some (.ref G.b), some (.ref x), some (.ref a0), some (.int i)] [.int r] (zm a0 g' M) Q
  refine ez_aload_n (i := 2) (v := .ref a0) dL_law_650 rfl rfl rfl ?_
  refine ez_aload_n (i := 0) (v := .ref G.b) dL_law_651 rfl rfl rfl ?_
  refine ez_iload_n (i := 3) (x := i) dL_law_652 rfl rfl ?_
  refine ez_iconst (v := 1) dL_law_653 (by decide) ?_
  refine ez_iadd dL_law_654 ?_
  refine ez_sld dL_law_655 (hin 1 (by decide)) ?_
  refine ez_callV (C := RX2) (Tt := TX2) (N := 53) (Y' := YX2_hire) (a := a0) (vs := [.int (G.xs (i + (1 : Int32)).toNatClampNeg)]) (rest := [.int r]) dL_law_656 rfl zkX2_hire q1190 q1191 rfl q1192 (zm0 _ _ _) znX2_hire (Nat.le_of_ble_eq_true rfl) (Nat.le_of_ble_eq_true rfl) rfl (wX2_hire (d := d + 13) e2 (zBack_v ?_))
  show zEF G (d + 15) [] YLw 659 [some (.ref G.b), some (.ref x), some (.ref a0), some (.int i)] [.int r, .int r] (zm a0 g' M') Q
  exact ez_icmp_eq (tgt := 928) dL_law_659 (by decide) (fun _ => kk g' M' h3) (fun hc => absurd rfl hc)
theorem zcase_render (H : zOp_render x a0 RL) (hx : ∀ n g M, RL n g M → ∃ fs, (zm a0 g M).h x = some (.inr (0, fs))) (hRL : RL (n + 1) g M) (hin : ∀ k : Int32, (k = 1 ∨ k = 2 ∨ k = 3 ∨ k = 4 ∨ k = 5) → vp_in (i + k) G.L) (kk : ∀ g' M', RL n g' M' → zEF G (d + 15) [] YLw 928 [some (.ref G.b), some (.ref x), some (.ref a0), some (.int i)] [] (zm a0 g' M') Q) : zEF G (d + 15) [] YLw 664 [some (.ref G.b), some (.ref x), some (.ref a0), some (.int i)] [] (zm a0 g M) Q := by
  obtain ⟨fs, hfs⟩ := hx _ _ _ hRL
  refine ez_aload_n (i := 1) (v := .ref x) dL_law_664 rfl rfl rfl ?_
  refine ez_aload_n (i := 0) (v := .ref G.b) dL_law_665 rfl rfl rfl ?_
  refine ez_iload_n (i := 3) (x := i) dL_law_666 rfl rfl ?_
  refine ez_iconst (v := 1) dL_law_667 (by decide) ?_
  refine ez_iadd dL_law_668 ?_
  refine ez_sld dL_law_669 (hin 1 (by decide)) ?_
  obtain ⟨r, g', M', e1, e2, h3⟩ := H n g M (G.xs (i + (1 : Int32)).toNatClampNeg) hRL
  refine ez_callV (C := RX0) (Tt := TX0) (N := 20) (Y' := YX0_render) (a := x) (vs := [.int (G.xs (i + (1 : Int32)).toNatClampNeg)]) (rest := []) dL_law_670 rfl zkX0_render q699 q700 rfl q701 hfs znX0_render (Nat.le_of_ble_eq_true rfl) (Nat.le_of_ble_eq_true rfl) rfl (wX0_render (d := d + 13) e1 (zBack_v ?_))
  show zEF G (d + 15) [] YLw 673 [some (.ref G.b), some (.ref x), some (.ref a0), some (.int i)] [.int r] (zm a0 g' M) Q
  refine ez_aload_n (i := 2) (v := .ref a0) dL_law_673 rfl rfl rfl ?_
  refine ez_aload_n (i := 0) (v := .ref G.b) dL_law_674 rfl rfl rfl ?_
  refine ez_iload_n (i := 3) (x := i) dL_law_675 rfl rfl ?_
  refine ez_iconst (v := 1) dL_law_676 (by decide) ?_
  refine ez_iadd dL_law_677 ?_
  refine ez_sld dL_law_678 (hin 1 (by decide)) ?_
  refine ez_callV (C := RX2) (Tt := TX2) (N := 53) (Y' := YX2_render) (a := a0) (vs := [.int (G.xs (i + (1 : Int32)).toNatClampNeg)]) (rest := [.int r]) dL_law_679 rfl zkX2_render q1194 q1195 rfl q1196 (zm0 _ _ _) znX2_render (Nat.le_of_ble_eq_true rfl) (Nat.le_of_ble_eq_true rfl) rfl (wX2_render (d := d + 13) e2 (zBack_v ?_))
  show zEF G (d + 15) [] YLw 682 [some (.ref G.b), some (.ref x), some (.ref a0), some (.int i)] [.int r, .int r] (zm a0 g' M') Q
  exact ez_icmp_eq (tgt := 928) dL_law_682 (by decide) (fun _ => kk g' M' h3) (fun hc => absurd rfl hc)
theorem zcase_turn (H : zOp_turn x a0 RL) (hx : ∀ n g M, RL n g M → ∃ fs, (zm a0 g M).h x = some (.inr (0, fs))) (hRL : RL (n + 1) g M) (hin : ∀ k : Int32, (k = 1 ∨ k = 2 ∨ k = 3 ∨ k = 4 ∨ k = 5) → vp_in (i + k) G.L) (kk : ∀ g' M', RL n g' M' → zEF G (d + 15) [] YLw 928 [some (.ref G.b), some (.ref x), some (.ref a0), some (.int i)] [] (zm a0 g' M') Q) : zEF G (d + 15) [] YLw 687 [some (.ref G.b), some (.ref x), some (.ref a0), some (.int i)] [] (zm a0 g M) Q := by
  obtain ⟨fs, hfs⟩ := hx _ _ _ hRL
  refine ez_aload_n (i := 1) (v := .ref x) dL_law_687 rfl rfl rfl ?_
  refine ez_aload_n (i := 0) (v := .ref G.b) dL_law_688 rfl rfl rfl ?_
  refine ez_iload_n (i := 3) (x := i) dL_law_689 rfl rfl ?_
  refine ez_iconst (v := 1) dL_law_690 (by decide) ?_
  refine ez_iadd dL_law_691 ?_
  refine ez_sld dL_law_692 (hin 1 (by decide)) ?_
  obtain ⟨r, g', M', e1, e2, h3⟩ := H n g M (G.xs (i + (1 : Int32)).toNatClampNeg) hRL
  refine ez_callV (C := RX0) (Tt := TX0) (N := 20) (Y' := YX0_turn) (a := x) (vs := [.int (G.xs (i + (1 : Int32)).toNatClampNeg)]) (rest := []) dL_law_693 rfl zkX0_turn q707 q708 rfl q709 hfs znX0_turn (Nat.le_of_ble_eq_true rfl) (Nat.le_of_ble_eq_true rfl) rfl (wX0_turn (d := d + 0) e1 (zBack_v ?_))
  show zEF G (d + 15) [] YLw 696 [some (.ref G.b), some (.ref x), some (.ref a0), some (.int i)] [.int r] (zm a0 g' M) Q
  refine ez_aload_n (i := 2) (v := .ref a0) dL_law_696 rfl rfl rfl ?_
  refine ez_aload_n (i := 0) (v := .ref G.b) dL_law_697 rfl rfl rfl ?_
  refine ez_iload_n (i := 3) (x := i) dL_law_698 rfl rfl ?_
  refine ez_iconst (v := 1) dL_law_699 (by decide) ?_
  refine ez_iadd dL_law_700 ?_
  refine ez_sld dL_law_701 (hin 1 (by decide)) ?_
  refine ez_callV (C := RX2) (Tt := TX2) (N := 53) (Y' := YX2_turn) (a := a0) (vs := [.int (G.xs (i + (1 : Int32)).toNatClampNeg)]) (rest := [.int r]) dL_law_702 rfl zkX2_turn q1202 q1203 rfl q1204 (zm0 _ _ _) znX2_turn (Nat.le_of_ble_eq_true rfl) (Nat.le_of_ble_eq_true rfl) rfl (wX2_turn (d := d + 9) e2 (zBack_v ?_))
  show zEF G (d + 15) [] YLw 705 [some (.ref G.b), some (.ref x), some (.ref a0), some (.int i)] [.int r, .int r] (zm a0 g' M') Q
  exact ez_icmp_eq (tgt := 928) dL_law_705 (by decide) (fun _ => kk g' M' h3) (fun hc => absurd rfl hc)
theorem zcase_rounds (H : zOp_rounds x a0 RL) (hx : ∀ n g M, RL n g M → ∃ fs, (zm a0 g M).h x = some (.inr (0, fs))) (hRL : RL (n + 1) g M) (hin : ∀ k : Int32, (k = 1 ∨ k = 2 ∨ k = 3 ∨ k = 4 ∨ k = 5) → vp_in (i + k) G.L) (kk : ∀ g' M', RL n g' M' → zEF G (d + 15) [] YLw 928 [some (.ref G.b), some (.ref x), some (.ref a0), some (.int i)] [] (zm a0 g' M') Q) : zEF G (d + 15) [] YLw 710 [some (.ref G.b), some (.ref x), some (.ref a0), some (.int i)] [] (zm a0 g M) Q := by
  obtain ⟨fs, hfs⟩ := hx _ _ _ hRL
  refine ez_aload_n (i := 1) (v := .ref x) dL_law_710 rfl rfl rfl ?_
  refine ez_aload_n (i := 0) (v := .ref G.b) dL_law_711 rfl rfl rfl ?_
  refine ez_iload_n (i := 3) (x := i) dL_law_712 rfl rfl ?_
  refine ez_iconst (v := 1) dL_law_713 (by decide) ?_
  refine ez_iadd dL_law_714 ?_
  refine ez_sld dL_law_715 (hin 1 (by decide)) ?_
  refine ez_aload_n (i := 0) (v := .ref G.b) dL_law_716 rfl rfl rfl ?_
  refine ez_iload_n (i := 3) (x := i) dL_law_717 rfl rfl ?_
  refine ez_iconst (v := 2) dL_law_718 (by decide) ?_
  refine ez_iadd dL_law_719 ?_
  refine ez_sld dL_law_720 (hin 2 (by decide)) ?_
  obtain ⟨r, g', M', e1, e2, h3⟩ := H n g M (G.xs (i + (1 : Int32)).toNatClampNeg) (G.xs (i + (2 : Int32)).toNatClampNeg) hRL
  refine ez_callV (C := RX0) (Tt := TX0) (N := 20) (Y' := YX0_rounds) (a := x) (vs := [.int (G.xs (i + (1 : Int32)).toNatClampNeg), .int (G.xs (i + (2 : Int32)).toNatClampNeg)]) (rest := []) dL_law_721 rfl zkX0_rounds q870 q871 rfl q872 hfs znX0_rounds (Nat.le_of_ble_eq_true rfl) (Nat.le_of_ble_eq_true rfl) rfl (wX0_rounds (d := d + 0) e1 (zBack_v ?_))
  show zEF G (d + 15) [] YLw 724 [some (.ref G.b), some (.ref x), some (.ref a0), some (.int i)] [.int r] (zm a0 g' M) Q
  refine ez_aload_n (i := 2) (v := .ref a0) dL_law_724 rfl rfl rfl ?_
  refine ez_aload_n (i := 0) (v := .ref G.b) dL_law_725 rfl rfl rfl ?_
  refine ez_iload_n (i := 3) (x := i) dL_law_726 rfl rfl ?_
  refine ez_iconst (v := 1) dL_law_727 (by decide) ?_
  refine ez_iadd dL_law_728 ?_
  refine ez_sld dL_law_729 (hin 1 (by decide)) ?_
  refine ez_aload_n (i := 0) (v := .ref G.b) dL_law_730 rfl rfl rfl ?_
  refine ez_iload_n (i := 3) (x := i) dL_law_731 rfl rfl ?_
  refine ez_iconst (v := 2) dL_law_732 (by decide) ?_
  refine ez_iadd dL_law_733 ?_
  refine ez_sld dL_law_734 (hin 2 (by decide)) ?_
  refine ez_callV (C := RX2) (Tt := TX2) (N := 53) (Y' := YX2_rounds) (a := a0) (vs := [.int (G.xs (i + (1 : Int32)).toNatClampNeg), .int (G.xs (i + (2 : Int32)).toNatClampNeg)]) (rest := [.int r]) dL_law_735 rfl zkX2_rounds q1272 q1273 rfl q1274 (zm0 _ _ _) znX2_rounds (Nat.le_of_ble_eq_true rfl) (Nat.le_of_ble_eq_true rfl) rfl (wX2_rounds (d := d + 9) e2 (zBack_v ?_))
  show zEF G (d + 15) [] YLw 738 [some (.ref G.b), some (.ref x), some (.ref a0), some (.int i)] [.int r, .int r] (zm a0 g' M') Q
  exact ez_icmp_eq (tgt := 928) dL_law_738 (by decide) (fun _ => kk g' M' h3) (fun hc => absurd rfl hc)
theorem zcase_stop (H : zOp_stop x a0 RL) (hx : ∀ n g M, RL n g M → ∃ fs, (zm a0 g M).h x = some (.inr (0, fs))) (hRL : RL (n + 1) g M) (hin : ∀ k : Int32, (k = 1 ∨ k = 2 ∨ k = 3 ∨ k = 4 ∨ k = 5) → vp_in (i + k) G.L) (kk : ∀ g' M', RL n g' M' → zEF G (d + 15) [] YLw 928 [some (.ref G.b), some (.ref x), some (.ref a0), some (.int i)] [] (zm a0 g' M') Q) : zEF G (d + 15) [] YLw 743 [some (.ref G.b), some (.ref x), some (.ref a0), some (.int i)] [] (zm a0 g M) Q := by
  obtain ⟨fs, hfs⟩ := hx _ _ _ hRL
  refine ez_aload_n (i := 1) (v := .ref x) dL_law_743 rfl rfl rfl ?_
  obtain ⟨r, g', M', e1, e2, h3⟩ := H n g M hRL
  refine ez_callV (C := RX0) (Tt := TX0) (N := 20) (Y' := YX0_stop) (a := x) (vs := []) (rest := []) dL_law_744 rfl zkX0_stop q874 q875 rfl q876 hfs znX0_stop (Nat.le_of_ble_eq_true rfl) (Nat.le_of_ble_eq_true rfl) rfl (wX0_stop (d := d + 14) e1 (zBack_v ?_))
  show zEF G (d + 15) [] YLw 747 [some (.ref G.b), some (.ref x), some (.ref a0), some (.int i)] [.int r] (zm a0 g' M) Q
  refine ez_aload_n (i := 2) (v := .ref a0) dL_law_747 rfl rfl rfl ?_
  refine ez_callV (C := RX2) (Tt := TX2) (N := 53) (Y' := YX2_stop) (a := a0) (vs := []) (rest := [.int r]) dL_law_748 rfl zkX2_stop q1276 q1277 rfl q1278 (zm0 _ _ _) znX2_stop (Nat.le_of_ble_eq_true rfl) (Nat.le_of_ble_eq_true rfl) rfl (wX2_stop (d := d + 14) e2 (zBack_v ?_))
  show zEF G (d + 15) [] YLw 751 [some (.ref G.b), some (.ref x), some (.ref a0), some (.int i)] [.int r, .int r] (zm a0 g' M') Q
  exact ez_icmp_eq (tgt := 928) dL_law_751 (by decide) (fun _ => kk g' M' h3) (fun hc => absurd rfl hc)
theorem zcase_out (H : zOp_out x a0 RL) (hx : ∀ n g M, RL n g M → ∃ fs, (zm a0 g M).h x = some (.inr (0, fs))) (hRL : RL (n + 1) g M) (hin : ∀ k : Int32, (k = 1 ∨ k = 2 ∨ k = 3 ∨ k = 4 ∨ k = 5) → vp_in (i + k) G.L) (kk : ∀ g' M', RL n g' M' → zEF G (d + 15) [] YLw 928 [some (.ref G.b), some (.ref x), some (.ref a0), some (.int i)] [] (zm a0 g' M') Q) : zEF G (d + 15) [] YLw 756 [some (.ref G.b), some (.ref x), some (.ref a0), some (.int i)] [] (zm a0 g M) Q := by
  obtain ⟨fs, hfs⟩ := hx _ _ _ hRL
  refine ez_aload_n (i := 1) (v := .ref x) dL_law_756 rfl rfl rfl ?_
  refine ez_aload_n (i := 0) (v := .ref G.b) dL_law_757 rfl rfl rfl ?_
  refine ez_iload_n (i := 3) (x := i) dL_law_758 rfl rfl ?_
  refine ez_iconst (v := 1) dL_law_759 (by decide) ?_
  refine ez_iadd dL_law_760 ?_
  refine ez_sld dL_law_761 (hin 1 (by decide)) ?_
  obtain ⟨r, g', M', e1, e2, h3⟩ := H n g M (G.xs (i + (1 : Int32)).toNatClampNeg) hRL
  refine ez_callV (C := RX0) (Tt := TX0) (N := 20) (Y' := YX0_out) (a := x) (vs := [.int (G.xs (i + (1 : Int32)).toNatClampNeg)]) (rest := []) dL_law_762 rfl zkX0_out q878 q879 rfl q880 hfs znX0_out (Nat.le_of_ble_eq_true rfl) (Nat.le_of_ble_eq_true rfl) rfl (wX0_out (d := d + 12) e1 (zBack_v ?_))
  show zEF G (d + 15) [] YLw 765 [some (.ref G.b), some (.ref x), some (.ref a0), some (.int i)] [.int r] (zm a0 g' M) Q
  refine ez_aload_n (i := 2) (v := .ref a0) dL_law_765 rfl rfl rfl ?_
  refine ez_aload_n (i := 0) (v := .ref G.b) dL_law_766 rfl rfl rfl ?_
  refine ez_iload_n (i := 3) (x := i) dL_law_767 rfl rfl ?_
  refine ez_iconst (v := 1) dL_law_768 (by decide) ?_
  refine ez_iadd dL_law_769 ?_
  refine ez_sld dL_law_770 (hin 1 (by decide)) ?_
  refine ez_callV (C := RX2) (Tt := TX2) (N := 53) (Y' := YX2_out) (a := a0) (vs := [.int (G.xs (i + (1 : Int32)).toNatClampNeg)]) (rest := [.int r]) dL_law_771 rfl zkX2_out q1280 q1281 rfl q1282 (zm0 _ _ _) znX2_out (Nat.le_of_ble_eq_true rfl) (Nat.le_of_ble_eq_true rfl) rfl (wX2_out (d := d + 12) e2 (zBack_v ?_))
  show zEF G (d + 15) [] YLw 774 [some (.ref G.b), some (.ref x), some (.ref a0), some (.int i)] [.int r, .int r] (zm a0 g' M') Q
  exact ez_icmp_eq (tgt := 928) dL_law_774 (by decide) (fun _ => kk g' M' h3) (fun hc => absurd rfl hc)
theorem zcase_told (H : zOp_told x a0 RL) (hx : ∀ n g M, RL n g M → ∃ fs, (zm a0 g M).h x = some (.inr (0, fs))) (hRL : RL (n + 1) g M) (hin : ∀ k : Int32, (k = 1 ∨ k = 2 ∨ k = 3 ∨ k = 4 ∨ k = 5) → vp_in (i + k) G.L) (kk : ∀ g' M', RL n g' M' → zEF G (d + 15) [] YLw 928 [some (.ref G.b), some (.ref x), some (.ref a0), some (.int i)] [] (zm a0 g' M') Q) : zEF G (d + 15) [] YLw 779 [some (.ref G.b), some (.ref x), some (.ref a0), some (.int i)] [] (zm a0 g M) Q := by
  obtain ⟨fs, hfs⟩ := hx _ _ _ hRL
  refine ez_aload_n (i := 1) (v := .ref x) dL_law_779 rfl rfl rfl ?_
  refine ez_aload_n (i := 0) (v := .ref G.b) dL_law_780 rfl rfl rfl ?_
  refine ez_iload_n (i := 3) (x := i) dL_law_781 rfl rfl ?_
  refine ez_iconst (v := 1) dL_law_782 (by decide) ?_
  refine ez_iadd dL_law_783 ?_
  refine ez_sld dL_law_784 (hin 1 (by decide)) ?_
  refine ez_aload_n (i := 0) (v := .ref G.b) dL_law_785 rfl rfl rfl ?_
  refine ez_iload_n (i := 3) (x := i) dL_law_786 rfl rfl ?_
  refine ez_iconst (v := 2) dL_law_787 (by decide) ?_
  refine ez_iadd dL_law_788 ?_
  refine ez_sld dL_law_789 (hin 2 (by decide)) ?_
  obtain ⟨r, g', M', e1, e2, h3⟩ := H n g M (G.xs (i + (1 : Int32)).toNatClampNeg) (G.xs (i + (2 : Int32)).toNatClampNeg) hRL
  refine ez_callV (C := RX0) (Tt := TX0) (N := 20) (Y' := YX0_told) (a := x) (vs := [.int (G.xs (i + (1 : Int32)).toNatClampNeg), .int (G.xs (i + (2 : Int32)).toNatClampNeg)]) (rest := []) dL_law_790 rfl zkX0_told q882 q883 rfl q884 hfs znX0_told (Nat.le_of_ble_eq_true rfl) (Nat.le_of_ble_eq_true rfl) rfl (wX0_told (d := d + 5) e1 (zBack_v ?_))
  show zEF G (d + 15) [] YLw 793 [some (.ref G.b), some (.ref x), some (.ref a0), some (.int i)] [.int r] (zm a0 g' M) Q
  refine ez_aload_n (i := 2) (v := .ref a0) dL_law_793 rfl rfl rfl ?_
  refine ez_aload_n (i := 0) (v := .ref G.b) dL_law_794 rfl rfl rfl ?_
  refine ez_iload_n (i := 3) (x := i) dL_law_795 rfl rfl ?_
  refine ez_iconst (v := 1) dL_law_796 (by decide) ?_
  refine ez_iadd dL_law_797 ?_
  refine ez_sld dL_law_798 (hin 1 (by decide)) ?_
  refine ez_aload_n (i := 0) (v := .ref G.b) dL_law_799 rfl rfl rfl ?_
  refine ez_iload_n (i := 3) (x := i) dL_law_800 rfl rfl ?_
  refine ez_iconst (v := 2) dL_law_801 (by decide) ?_
  refine ez_iadd dL_law_802 ?_
  refine ez_sld dL_law_803 (hin 2 (by decide)) ?_
  refine ez_callV (C := RX2) (Tt := TX2) (N := 53) (Y' := YX2_told) (a := a0) (vs := [.int (G.xs (i + (1 : Int32)).toNatClampNeg), .int (G.xs (i + (2 : Int32)).toNatClampNeg)]) (rest := [.int r]) dL_law_804 rfl zkX2_told q1284 q1285 rfl q1286 (zm0 _ _ _) znX2_told (Nat.le_of_ble_eq_true rfl) (Nat.le_of_ble_eq_true rfl) rfl (wX2_told (d := d + 11) e2 (zBack_v ?_))
  show zEF G (d + 15) [] YLw 807 [some (.ref G.b), some (.ref x), some (.ref a0), some (.int i)] [.int r, .int r] (zm a0 g' M') Q
  exact ez_icmp_eq (tgt := 928) dL_law_807 (by decide) (fun _ => kk g' M' h3) (fun hc => absurd rfl hc)
theorem zcase_worker (H : zOp_worker x a0 RL) (hx : ∀ n g M, RL n g M → ∃ fs, (zm a0 g M).h x = some (.inr (0, fs))) (hRL : RL (n + 1) g M) (hin : ∀ k : Int32, (k = 1 ∨ k = 2 ∨ k = 3 ∨ k = 4 ∨ k = 5) → vp_in (i + k) G.L) (kk : ∀ g' M', RL n g' M' → zEF G (d + 15) [] YLw 928 [some (.ref G.b), some (.ref x), some (.ref a0), some (.int i)] [] (zm a0 g' M') Q) : zEF G (d + 15) [] YLw 812 [some (.ref G.b), some (.ref x), some (.ref a0), some (.int i)] [] (zm a0 g M) Q := by
  obtain ⟨fs, hfs⟩ := hx _ _ _ hRL
  refine ez_aload_n (i := 1) (v := .ref x) dL_law_812 rfl rfl rfl ?_
  refine ez_aload_n (i := 0) (v := .ref G.b) dL_law_813 rfl rfl rfl ?_
  refine ez_iload_n (i := 3) (x := i) dL_law_814 rfl rfl ?_
  refine ez_iconst (v := 1) dL_law_815 (by decide) ?_
  refine ez_iadd dL_law_816 ?_
  refine ez_sld dL_law_817 (hin 1 (by decide)) ?_
  obtain ⟨r, g', M', e1, e2, h3⟩ := H n g M (G.xs (i + (1 : Int32)).toNatClampNeg) hRL
  refine ez_callV (C := RX0) (Tt := TX0) (N := 20) (Y' := YX0_worker) (a := x) (vs := [.int (G.xs (i + (1 : Int32)).toNatClampNeg)]) (rest := []) dL_law_818 rfl zkX0_worker q898 q899 rfl q900 hfs znX0_worker (Nat.le_of_ble_eq_true rfl) (Nat.le_of_ble_eq_true rfl) rfl (wX0_worker (d := d + 12) e1 (zBack_v ?_))
  show zEF G (d + 15) [] YLw 821 [some (.ref G.b), some (.ref x), some (.ref a0), some (.int i)] [.int r] (zm a0 g' M) Q
  refine ez_aload_n (i := 2) (v := .ref a0) dL_law_821 rfl rfl rfl ?_
  refine ez_aload_n (i := 0) (v := .ref G.b) dL_law_822 rfl rfl rfl ?_
  refine ez_iload_n (i := 3) (x := i) dL_law_823 rfl rfl ?_
  refine ez_iconst (v := 1) dL_law_824 (by decide) ?_
  refine ez_iadd dL_law_825 ?_
  refine ez_sld dL_law_826 (hin 1 (by decide)) ?_
  refine ez_callV (C := RX2) (Tt := TX2) (N := 53) (Y' := YX2_worker) (a := a0) (vs := [.int (G.xs (i + (1 : Int32)).toNatClampNeg)]) (rest := [.int r]) dL_law_827 rfl zkX2_worker q1292 q1293 rfl q1294 (zm0 _ _ _) znX2_worker (Nat.le_of_ble_eq_true rfl) (Nat.le_of_ble_eq_true rfl) rfl (wX2_worker (d := d + 12) e2 (zBack_v ?_))
  show zEF G (d + 15) [] YLw 830 [some (.ref G.b), some (.ref x), some (.ref a0), some (.int i)] [.int r, .int r] (zm a0 g' M') Q
  exact ez_icmp_eq (tgt := 928) dL_law_830 (by decide) (fun _ => kk g' M' h3) (fun hc => absurd rfl hc)
theorem zcase_fault (H : zOp_fault x a0 RL) (hx : ∀ n g M, RL n g M → ∃ fs, (zm a0 g M).h x = some (.inr (0, fs))) (hRL : RL (n + 1) g M) (hin : ∀ k : Int32, (k = 1 ∨ k = 2 ∨ k = 3 ∨ k = 4 ∨ k = 5) → vp_in (i + k) G.L) (kk : ∀ g' M', RL n g' M' → zEF G (d + 15) [] YLw 928 [some (.ref G.b), some (.ref x), some (.ref a0), some (.int i)] [] (zm a0 g' M') Q) : zEF G (d + 15) [] YLw 835 [some (.ref G.b), some (.ref x), some (.ref a0), some (.int i)] [] (zm a0 g M) Q := by
  obtain ⟨fs, hfs⟩ := hx _ _ _ hRL
  refine ez_aload_n (i := 1) (v := .ref x) dL_law_835 rfl rfl rfl ?_
  refine ez_aload_n (i := 0) (v := .ref G.b) dL_law_836 rfl rfl rfl ?_
  refine ez_iload_n (i := 3) (x := i) dL_law_837 rfl rfl ?_
  refine ez_iconst (v := 1) dL_law_838 (by decide) ?_
  refine ez_iadd dL_law_839 ?_
  refine ez_sld dL_law_840 (hin 1 (by decide)) ?_
  refine ez_aload_n (i := 0) (v := .ref G.b) dL_law_841 rfl rfl rfl ?_
  refine ez_iload_n (i := 3) (x := i) dL_law_842 rfl rfl ?_
  refine ez_iconst (v := 2) dL_law_843 (by decide) ?_
  refine ez_iadd dL_law_844 ?_
  refine ez_sld dL_law_845 (hin 2 (by decide)) ?_
  obtain ⟨r, g', M', e1, e2, h3⟩ := H n g M (G.xs (i + (1 : Int32)).toNatClampNeg) (G.xs (i + (2 : Int32)).toNatClampNeg) hRL
  refine ez_callV (C := RX0) (Tt := TX0) (N := 20) (Y' := YX0_fault) (a := x) (vs := [.int (G.xs (i + (1 : Int32)).toNatClampNeg), .int (G.xs (i + (2 : Int32)).toNatClampNeg)]) (rest := []) dL_law_846 rfl zkX0_fault q902 q903 rfl q904 hfs znX0_fault (Nat.le_of_ble_eq_true rfl) (Nat.le_of_ble_eq_true rfl) rfl (wX0_fault (d := d + 13) e1 (zBack_v ?_))
  show zEF G (d + 15) [] YLw 849 [some (.ref G.b), some (.ref x), some (.ref a0), some (.int i)] [.int r] (zm a0 g' M) Q
  refine ez_aload_n (i := 2) (v := .ref a0) dL_law_849 rfl rfl rfl ?_
  refine ez_aload_n (i := 0) (v := .ref G.b) dL_law_850 rfl rfl rfl ?_
  refine ez_iload_n (i := 3) (x := i) dL_law_851 rfl rfl ?_
  refine ez_iconst (v := 1) dL_law_852 (by decide) ?_
  refine ez_iadd dL_law_853 ?_
  refine ez_sld dL_law_854 (hin 1 (by decide)) ?_
  refine ez_aload_n (i := 0) (v := .ref G.b) dL_law_855 rfl rfl rfl ?_
  refine ez_iload_n (i := 3) (x := i) dL_law_856 rfl rfl ?_
  refine ez_iconst (v := 2) dL_law_857 (by decide) ?_
  refine ez_iadd dL_law_858 ?_
  refine ez_sld dL_law_859 (hin 2 (by decide)) ?_
  refine ez_callV (C := RX2) (Tt := TX2) (N := 53) (Y' := YX2_fault) (a := a0) (vs := [.int (G.xs (i + (1 : Int32)).toNatClampNeg), .int (G.xs (i + (2 : Int32)).toNatClampNeg)]) (rest := [.int r]) dL_law_860 rfl zkX2_fault q1296 q1297 rfl q1298 (zm0 _ _ _) znX2_fault (Nat.le_of_ble_eq_true rfl) (Nat.le_of_ble_eq_true rfl) rfl (wX2_fault (d := d + 13) e2 (zBack_v ?_))
  show zEF G (d + 15) [] YLw 863 [some (.ref G.b), some (.ref x), some (.ref a0), some (.int i)] [.int r, .int r] (zm a0 g' M') Q
  exact ez_icmp_eq (tgt := 928) dL_law_863 (by decide) (fun _ => kk g' M' h3) (fun hc => absurd rfl hc)
theorem zcase_found (H : zOp_found x a0 RL) (hx : ∀ n g M, RL n g M → ∃ fs, (zm a0 g M).h x = some (.inr (0, fs))) (hRL : RL (n + 1) g M) (hin : ∀ k : Int32, (k = 1 ∨ k = 2 ∨ k = 3 ∨ k = 4 ∨ k = 5) → vp_in (i + k) G.L) (kk : ∀ g' M', RL n g' M' → zEF G (d + 15) [] YLw 928 [some (.ref G.b), some (.ref x), some (.ref a0), some (.int i)] [] (zm a0 g' M') Q) : zEF G (d + 15) [] YLw 868 [some (.ref G.b), some (.ref x), some (.ref a0), some (.int i)] [] (zm a0 g M) Q := by
  obtain ⟨fs, hfs⟩ := hx _ _ _ hRL
  refine ez_aload_n (i := 1) (v := .ref x) dL_law_868 rfl rfl rfl ?_
  refine ez_aload_n (i := 0) (v := .ref G.b) dL_law_869 rfl rfl rfl ?_
  refine ez_iload_n (i := 3) (x := i) dL_law_870 rfl rfl ?_
  refine ez_iconst (v := 1) dL_law_871 (by decide) ?_
  refine ez_iadd dL_law_872 ?_
  refine ez_sld dL_law_873 (hin 1 (by decide)) ?_
  obtain ⟨r, g', M', e1, e2, h3⟩ := H n g M (G.xs (i + (1 : Int32)).toNatClampNeg) hRL
  refine ez_callV (C := RX0) (Tt := TX0) (N := 20) (Y' := YX0_found) (a := x) (vs := [.int (G.xs (i + (1 : Int32)).toNatClampNeg)]) (rest := []) dL_law_874 rfl zkX0_found q909 q910 rfl q911 hfs znX0_found (Nat.le_of_ble_eq_true rfl) (Nat.le_of_ble_eq_true rfl) rfl (wX0_found (d := d + 13) e1 (zBack_v ?_))
  show zEF G (d + 15) [] YLw 877 [some (.ref G.b), some (.ref x), some (.ref a0), some (.int i)] [.int r] (zm a0 g' M) Q
  refine ez_aload_n (i := 2) (v := .ref a0) dL_law_877 rfl rfl rfl ?_
  refine ez_aload_n (i := 0) (v := .ref G.b) dL_law_878 rfl rfl rfl ?_
  refine ez_iload_n (i := 3) (x := i) dL_law_879 rfl rfl ?_
  refine ez_iconst (v := 1) dL_law_880 (by decide) ?_
  refine ez_iadd dL_law_881 ?_
  refine ez_sld dL_law_882 (hin 1 (by decide)) ?_
  refine ez_callV (C := RX2) (Tt := TX2) (N := 53) (Y' := YX2_found) (a := a0) (vs := [.int (G.xs (i + (1 : Int32)).toNatClampNeg)]) (rest := [.int r]) dL_law_883 rfl zkX2_found q1308 q1309 rfl q1310 (zm0 _ _ _) znX2_found (Nat.le_of_ble_eq_true rfl) (Nat.le_of_ble_eq_true rfl) rfl (wX2_found (d := d + 13) e2 (zBack_v ?_))
  show zEF G (d + 15) [] YLw 886 [some (.ref G.b), some (.ref x), some (.ref a0), some (.int i)] [.int r, .int r] (zm a0 g' M') Q
  exact ez_icmp_eq (tgt := 928) dL_law_886 (by decide) (fun _ => kk g' M' h3) (fun hc => absurd rfl hc)
theorem zcase_about (H : zOp_about x a0 RL) (hx : ∀ n g M, RL n g M → ∃ fs, (zm a0 g M).h x = some (.inr (0, fs))) (hRL : RL (n + 1) g M) (hin : ∀ k : Int32, (k = 1 ∨ k = 2 ∨ k = 3 ∨ k = 4 ∨ k = 5) → vp_in (i + k) G.L) (kk : ∀ g' M', RL n g' M' → zEF G (d + 15) [] YLw 928 [some (.ref G.b), some (.ref x), some (.ref a0), some (.int i)] [] (zm a0 g' M') Q) : zEF G (d + 15) [] YLw 891 [some (.ref G.b), some (.ref x), some (.ref a0), some (.int i)] [] (zm a0 g M) Q := by
  obtain ⟨fs, hfs⟩ := hx _ _ _ hRL
  refine ez_aload_n (i := 1) (v := .ref x) dL_law_891 rfl rfl rfl ?_
  refine ez_aload_n (i := 0) (v := .ref G.b) dL_law_892 rfl rfl rfl ?_
  refine ez_iload_n (i := 3) (x := i) dL_law_893 rfl rfl ?_
  refine ez_iconst (v := 1) dL_law_894 (by decide) ?_
  refine ez_iadd dL_law_895 ?_
  refine ez_sld dL_law_896 (hin 1 (by decide)) ?_
  obtain ⟨r, g', M', e1, e2, h3⟩ := H n g M (G.xs (i + (1 : Int32)).toNatClampNeg) hRL
  refine ez_callV (C := RX0) (Tt := TX0) (N := 20) (Y' := YX0_about) (a := x) (vs := [.int (G.xs (i + (1 : Int32)).toNatClampNeg)]) (rest := []) dL_law_897 rfl zkX0_about q913 q914 rfl q915 hfs znX0_about (Nat.le_of_ble_eq_true rfl) (Nat.le_of_ble_eq_true rfl) rfl (wX0_about (d := d + 14) e1 (zBack_v ?_))
  show zEF G (d + 15) [] YLw 900 [some (.ref G.b), some (.ref x), some (.ref a0), some (.int i)] [.int r] (zm a0 g' M) Q
  refine ez_aload_n (i := 2) (v := .ref a0) dL_law_900 rfl rfl rfl ?_
  refine ez_aload_n (i := 0) (v := .ref G.b) dL_law_901 rfl rfl rfl ?_
  refine ez_iload_n (i := 3) (x := i) dL_law_902 rfl rfl ?_
  refine ez_iconst (v := 1) dL_law_903 (by decide) ?_
  refine ez_iadd dL_law_904 ?_
  refine ez_sld dL_law_905 (hin 1 (by decide)) ?_
  refine ez_callV (C := RX2) (Tt := TX2) (N := 53) (Y' := YX2_about) (a := a0) (vs := [.int (G.xs (i + (1 : Int32)).toNatClampNeg)]) (rest := [.int r]) dL_law_906 rfl zkX2_about q1312 q1313 rfl q1314 (zm0 _ _ _) znX2_about (Nat.le_of_ble_eq_true rfl) (Nat.le_of_ble_eq_true rfl) rfl (wX2_about (d := d + 14) e2 (zBack_v ?_))
  show zEF G (d + 15) [] YLw 909 [some (.ref G.b), some (.ref x), some (.ref a0), some (.int i)] [.int r, .int r] (zm a0 g' M') Q
  exact ez_icmp_eq (tgt := 928) dL_law_909 (by decide) (fun _ => kk g' M' h3) (fun hc => absurd rfl hc)
theorem zcase_digest (H : zOp_digest x a0 RL) (hx : ∀ n g M, RL n g M → ∃ fs, (zm a0 g M).h x = some (.inr (0, fs))) (hRL : RL (n + 1) g M) (hin : ∀ k : Int32, (k = 1 ∨ k = 2 ∨ k = 3 ∨ k = 4 ∨ k = 5) → vp_in (i + k) G.L) (kk : ∀ g' M', RL n g' M' → zEF G (d + 15) [] YLw 928 [some (.ref G.b), some (.ref x), some (.ref a0), some (.int i)] [] (zm a0 g' M') Q) : zEF G (d + 15) [] YLw 914 [some (.ref G.b), some (.ref x), some (.ref a0), some (.int i)] [] (zm a0 g M) Q := by
  obtain ⟨fs, hfs⟩ := hx _ _ _ hRL
  refine ez_aload_n (i := 1) (v := .ref x) dL_law_914 rfl rfl rfl ?_
  obtain ⟨r, g', M', e1, e2, h3⟩ := H n g M hRL
  refine ez_callV (C := RX0) (Tt := TX0) (N := 20) (Y' := YX0_digest) (a := x) (vs := []) (rest := []) dL_law_915 rfl zkX0_digest q917 q918 rfl q919 hfs znX0_digest (Nat.le_of_ble_eq_true rfl) (Nat.le_of_ble_eq_true rfl) rfl (wX0_digest (d := d + 5) e1 (zBack_v ?_))
  show zEF G (d + 15) [] YLw 918 [some (.ref G.b), some (.ref x), some (.ref a0), some (.int i)] [.long r] (zm a0 g' M) Q
  refine ez_aload_n (i := 2) (v := .ref a0) dL_law_918 rfl rfl rfl ?_
  refine ez_callV (C := RX2) (Tt := TX2) (N := 53) (Y' := YX2_digest) (a := a0) (vs := []) (rest := [.long r]) dL_law_919 rfl zkX2_digest q1316 q1317 rfl q1318 (zm0 _ _ _) znX2_digest (Nat.le_of_ble_eq_true rfl) (Nat.le_of_ble_eq_true rfl) rfl (wX2_digest (d := d + 11) e2 (zBack_v ?_))
  show zEF G (d + 15) [] YLw 922 [some (.ref G.b), some (.ref x), some (.ref a0), some (.int i)] [.long r, .long r] (zm a0 g' M') Q
  refine ez_lcmp (v := 0) dL_law_922 (by simp) ?_
  exact ez_if_eq (tgt := 928) dL_law_923 (by decide) (fun _ => kk g' M' h3) (fun hc => absurd rfl hc)
end ZLW
theorem z32_add {a b : Int32} (h1 : -2 ^ 31 ≤ a.toInt + b.toInt) (h2 : a.toInt + b.toInt < 2 ^ 31) : (a + b).toInt = a.toInt + b.toInt := by
  rw [Int32.toInt_add]; exact Int.bmod_eq_of_le (by omega) (by omega)
theorem z32_sub {a b : Int32} (h1 : -2 ^ 31 ≤ a.toInt - b.toInt) (h2 : a.toInt - b.toInt < 2 ^ 31) : (a - b).toInt = a.toInt - b.toInt := by
  rw [Int32.toInt_sub]; exact Int.bmod_eq_of_le (by omega) (by omega)
theorem z32_mul {a b : Int32} (h1 : -2 ^ 31 ≤ a.toInt * b.toInt) (h2 : a.toInt * b.toInt < 2 ^ 31) : (a * b).toInt = a.toInt * b.toInt := by
  rw [Int32.toInt_mul]; exact Int.bmod_eq_of_le (by omega) (by omega)
theorem z32_nat {n : Nat} (h : n < 2 ^ 31) : (Int32.ofNat n).toInt = (n : Int) := Int32.toInt_ofNat_small h
theorem z32_in {j : Int32} {L : Nat} (h0 : 0 ≤ j.toInt) (h1 : j.toInt < (L : Int)) : vp_in j L := by
  unfold vp_in
  rw [Int32.lt_iff_toInt_lt]
  have h2 : (j.toNatClampNeg : Int) = j.toInt := by
    rw [← Int32.toNat_toInt]
    exact Int.toNat_of_nonneg h0
  show ¬ (j.toInt < 0 ∨ _)
  omega
def zOps (x a0 : Nat) (RL : Nat → zS → MS → Prop) : Prop := zOp_clip x a0 RL ∧ zOp_number x a0 RL ∧ zOp_sample x a0 RL ∧ zOp_plug x a0 RL ∧ zOp_plugged x a0 RL ∧ zOp_track x a0 RL ∧ zOp_pure x a0 RL ∧ zOp_chain x a0 RL ∧ zOp_level x a0 RL ∧ zOp_on x a0 RL ∧ zOp_line x a0 RL ∧ zOp_hire x a0 RL ∧ zOp_render x a0 RL ∧ zOp_turn x a0 RL ∧ zOp_rounds x a0 RL ∧ zOp_stop x a0 RL ∧ zOp_out x a0 RL ∧ zOp_told x a0 RL ∧ zOp_worker x a0 RL ∧ zOp_fault x a0 RL ∧ zOp_found x a0 RL ∧ zOp_about x a0 RL ∧ zOp_digest x a0 RL
theorem zlaw_loop {G : zG} {d x a0 : Nat} {RL : Nat → zS → MS → Prop} {Q : zO → zS → Prop} (HO : zOps x a0 RL) (hx : ∀ n g M, RL n g M → ∃ fs, (zm a0 g M).h x = some (.inr (0, fs))) (hm : ∀ n g M, RL (n + 1) g M → RL n g M) (hL : G.L ≤ 384) (hQ : ∀ n g M, RL n g M → Q (.inl (some (.int 1))) (zm a0 g M)) :
    ∀ (n : Nat) (g : zS) (M : MS) (i : Int32), RL n g M → 0 ≤ i.toInt → i.toInt ≤ 390 → (G.L : Int) ≤ i.toInt + 6 * n + 5 → zEF G (d + 15) [] YLw 18 [some (.ref G.b), some (.ref x), some (.ref a0), some (.int i)] [] (zm a0 g M) Q := by
  intro n
  induction n with
  | zero =>
    intro g M i hRL h0 h1 h2
    refine ez_iload_n (i := 3) (x := i) dL_law_18 rfl rfl ?_
    refine ez_aload_n (i := 0) (v := .ref G.b) dL_law_19 rfl rfl rfl ?_
    refine ez_slen dL_law_20 ?_
    refine ez_bipush (v := 6) dL_law_21 (by decide) ?_
    refine ez_isub dL_law_23 ?_
    have hs : (Int32.ofNat G.L - (6 : Int32)).toInt = (G.L : Int) - 6 := by
      have e1 : (Int32.ofNat G.L).toInt = (G.L : Int) := z32_nat (by omega)
      have e2 : (6 : Int32).toInt = 6 := by decide
      rw [z32_sub (by omega) (by omega), e1, e2]
    refine ez_icmp_gt (tgt := 934) dL_law_24 (by decide) (fun hc => ?_) (fun hc => ?_)
    · refine ez_iconst (v := 1) dL_law_934 (by decide) ?_
      exact ez_iret dL_law_935 rfl rfl (hQ _ _ _ hRL)
    · exfalso
      rw [Int32.lt_iff_toInt_lt, hs] at hc
      omega
  | succ n ih =>
    intro g M i hRL h0 h1 h2
    refine ez_iload_n (i := 3) (x := i) dL_law_18 rfl rfl ?_
    refine ez_aload_n (i := 0) (v := .ref G.b) dL_law_19 rfl rfl rfl ?_
    refine ez_slen dL_law_20 ?_
    refine ez_bipush (v := 6) dL_law_21 (by decide) ?_
    refine ez_isub dL_law_23 ?_
    have hs : (Int32.ofNat G.L - (6 : Int32)).toInt = (G.L : Int) - 6 := by
      have e1 : (Int32.ofNat G.L).toInt = (G.L : Int) := z32_nat (by omega)
      have e2 : (6 : Int32).toInt = 6 := by decide
      rw [z32_sub (by omega) (by omega), e1, e2]
    refine ez_icmp_gt (tgt := 934) dL_law_24 (by decide) (fun hc => ?_) (fun hc => ?_)
    · refine ez_iconst (v := 1) dL_law_934 (by decide) ?_
      exact ez_iret dL_law_935 rfl rfl (hQ _ _ _ hRL)
    · rw [Int32.lt_iff_toInt_lt, hs] at hc
      have hi0 : vp_in i G.L := z32_in h0 (by omega)
      have hin : ∀ k : Int32, (k = 1 ∨ k = 2 ∨ k = 3 ∨ k = 4 ∨ k = 5) → vp_in (i + k) G.L := by
        intro k hk
        have hk2 : 1 ≤ k.toInt ∧ k.toInt ≤ 5 := by rcases hk with rfl | rfl | rfl | rfl | rfl <;> decide
        have e := z32_add (a := i) (b := k) (by omega) (by omega)
        exact z32_in (by omega) (by omega)
      have kk : ∀ g' M', RL n g' M' → zEF G (d + 15) [] YLw 928 [some (.ref G.b), some (.ref x), some (.ref a0), some (.int i)] [] (zm a0 g' M') Q := by
        intro g' M' h'
        refine ez_iinc (x := i) (v := (i + (6 : Int32))) dL_law_928 rfl rfl (show 3 < 4 by decide) ?_
        show zEF G (d + 15) [] YLw 931 [some (.ref G.b), some (.ref x), some (.ref a0), some (.int (i + (6 : Int32)))] [] (zm a0 g' M') Q
        refine ez_goto (tgt := 18) dL_law_931 (by decide) ?_
        have e6 : (6 : Int32).toInt = 6 := by decide
        have e := z32_add (a := i) (b := 6) (by omega) (by omega)
        exact ih g' M' (i + 6) h' (by omega) (by omega) (by push_cast at h2; omega)
      refine ez_aload_n (i := 0) (v := .ref G.b) dL_law_27 rfl rfl rfl ?_
      refine ez_iload_n (i := 3) (x := i) dL_law_28 rfl rfl ?_
      refine ez_sld dL_law_29 hi0 ?_
      refine ez_bipush (v := 31) dL_law_30 (by decide) ?_
      refine ez_iand dL_law_32 ?_
      generalize hsw : G.xs i.toNatClampNeg &&& (31 : Int32) = sv
      by_cases hs0 : sv = (0 : Int32)
      · refine ez_tableIn (tgt := 140) (off := 107) dL_law_33 (by rw [hs0]; decide) (by rw [hs0]; decide) (by rw [hs0]; rfl) (by decide) ?_
        exact zcase_clip (HO.1) hx hRL hin kk
      by_cases hs1 : sv = (1 : Int32)
      · refine ez_tableIn (tgt := 173) (off := 140) dL_law_33 (by rw [hs1]; decide) (by rw [hs1]; decide) (by rw [hs1]; rfl) (by decide) ?_
        exact zcase_number (HO.2.1) hx hRL hin kk
      by_cases hs2 : sv = (2 : Int32)
      · refine ez_tableIn (tgt := 256) (off := 223) dL_law_33 (by rw [hs2]; decide) (by rw [hs2]; decide) (by rw [hs2]; rfl) (by decide) ?_
        exact zcase_sample (HO.2.2.1) hx hRL hin kk
      by_cases hs3 : sv = (3 : Int32)
      · refine ez_tableIn (tgt := 289) (off := 256) dL_law_33 (by rw [hs3]; decide) (by rw [hs3]; decide) (by rw [hs3]; rfl) (by decide) ?_
        exact zcase_plug (HO.2.2.2.1) hx hRL hin kk
      by_cases hs4 : sv = (4 : Int32)
      · refine ez_tableIn (tgt := 332) (off := 299) dL_law_33 (by rw [hs4]; decide) (by rw [hs4]; decide) (by rw [hs4]; rfl) (by decide) ?_
        exact zcase_plugged (HO.2.2.2.2.1) hx hRL hin kk
      by_cases hs5 : sv = (5 : Int32)
      · refine ez_tableIn (tgt := 365) (off := 332) dL_law_33 (by rw [hs5]; decide) (by rw [hs5]; decide) (by rw [hs5]; rfl) (by decide) ?_
        exact zcase_track (HO.2.2.2.2.2.1) hx hRL hin kk
      by_cases hs6 : sv = (6 : Int32)
      · refine ez_tableIn (tgt := 434) (off := 401) dL_law_33 (by rw [hs6]; decide) (by rw [hs6]; decide) (by rw [hs6]; rfl) (by decide) ?_
        exact zcase_pure (HO.2.2.2.2.2.2.1) hx hRL hin kk
      by_cases hs7 : sv = (7 : Int32)
      · refine ez_tableIn (tgt := 483) (off := 450) dL_law_33 (by rw [hs7]; decide) (by rw [hs7]; decide) (by rw [hs7]; rfl) (by decide) ?_
        exact zcase_chain (HO.2.2.2.2.2.2.2.1) hx hRL hin kk
      by_cases hs8 : sv = (8 : Int32)
      · refine ez_tableIn (tgt := 526) (off := 493) dL_law_33 (by rw [hs8]; decide) (by rw [hs8]; decide) (by rw [hs8]; rfl) (by decide) ?_
        exact zcase_level (HO.2.2.2.2.2.2.2.2.1) hx hRL hin kk
      by_cases hs9 : sv = (9 : Int32)
      · refine ez_tableIn (tgt := 559) (off := 526) dL_law_33 (by rw [hs9]; decide) (by rw [hs9]; decide) (by rw [hs9]; rfl) (by decide) ?_
        exact zcase_on (HO.2.2.2.2.2.2.2.2.2.1) hx hRL hin kk
      by_cases hs10 : sv = (10 : Int32)
      · refine ez_tableIn (tgt := 608) (off := 575) dL_law_33 (by rw [hs10]; decide) (by rw [hs10]; decide) (by rw [hs10]; rfl) (by decide) ?_
        exact zcase_line (HO.2.2.2.2.2.2.2.2.2.2.1) hx hRL hin kk
      by_cases hs11 : sv = (11 : Int32)
      · refine ez_tableIn (tgt := 641) (off := 608) dL_law_33 (by rw [hs11]; decide) (by rw [hs11]; decide) (by rw [hs11]; rfl) (by decide) ?_
        exact zcase_hire (HO.2.2.2.2.2.2.2.2.2.2.2.1) hx hRL hin kk
      by_cases hs12 : sv = (12 : Int32)
      · refine ez_tableIn (tgt := 664) (off := 631) dL_law_33 (by rw [hs12]; decide) (by rw [hs12]; decide) (by rw [hs12]; rfl) (by decide) ?_
        exact zcase_render (HO.2.2.2.2.2.2.2.2.2.2.2.2.1) hx hRL hin kk
      by_cases hs13 : sv = (13 : Int32)
      · refine ez_tableIn (tgt := 687) (off := 654) dL_law_33 (by rw [hs13]; decide) (by rw [hs13]; decide) (by rw [hs13]; rfl) (by decide) ?_
        exact zcase_turn (HO.2.2.2.2.2.2.2.2.2.2.2.2.2.1) hx hRL hin kk
      by_cases hs14 : sv = (14 : Int32)
      · refine ez_tableIn (tgt := 710) (off := 677) dL_law_33 (by rw [hs14]; decide) (by rw [hs14]; decide) (by rw [hs14]; rfl) (by decide) ?_
        exact zcase_rounds (HO.2.2.2.2.2.2.2.2.2.2.2.2.2.2.1) hx hRL hin kk
      by_cases hs15 : sv = (15 : Int32)
      · refine ez_tableIn (tgt := 743) (off := 710) dL_law_33 (by rw [hs15]; decide) (by rw [hs15]; decide) (by rw [hs15]; rfl) (by decide) ?_
        exact zcase_stop (HO.2.2.2.2.2.2.2.2.2.2.2.2.2.2.2.1) hx hRL hin kk
      by_cases hs16 : sv = (16 : Int32)
      · refine ez_tableIn (tgt := 756) (off := 723) dL_law_33 (by rw [hs16]; decide) (by rw [hs16]; decide) (by rw [hs16]; rfl) (by decide) ?_
        exact zcase_out (HO.2.2.2.2.2.2.2.2.2.2.2.2.2.2.2.2.1) hx hRL hin kk
      by_cases hs17 : sv = (17 : Int32)
      · refine ez_tableIn (tgt := 779) (off := 746) dL_law_33 (by rw [hs17]; decide) (by rw [hs17]; decide) (by rw [hs17]; rfl) (by decide) ?_
        exact zcase_told (HO.2.2.2.2.2.2.2.2.2.2.2.2.2.2.2.2.2.1) hx hRL hin kk
      by_cases hs18 : sv = (18 : Int32)
      · refine ez_tableIn (tgt := 812) (off := 779) dL_law_33 (by rw [hs18]; decide) (by rw [hs18]; decide) (by rw [hs18]; rfl) (by decide) ?_
        exact zcase_worker (HO.2.2.2.2.2.2.2.2.2.2.2.2.2.2.2.2.2.2.1) hx hRL hin kk
      by_cases hs19 : sv = (19 : Int32)
      · refine ez_tableIn (tgt := 835) (off := 802) dL_law_33 (by rw [hs19]; decide) (by rw [hs19]; decide) (by rw [hs19]; rfl) (by decide) ?_
        exact zcase_fault (HO.2.2.2.2.2.2.2.2.2.2.2.2.2.2.2.2.2.2.2.1) hx hRL hin kk
      by_cases hs20 : sv = (20 : Int32)
      · refine ez_tableIn (tgt := 868) (off := 835) dL_law_33 (by rw [hs20]; decide) (by rw [hs20]; decide) (by rw [hs20]; rfl) (by decide) ?_
        exact zcase_found (HO.2.2.2.2.2.2.2.2.2.2.2.2.2.2.2.2.2.2.2.2.1) hx hRL hin kk
      by_cases hs21 : sv = (21 : Int32)
      · refine ez_tableIn (tgt := 891) (off := 858) dL_law_33 (by rw [hs21]; decide) (by rw [hs21]; decide) (by rw [hs21]; rfl) (by decide) ?_
        exact zcase_about (HO.2.2.2.2.2.2.2.2.2.2.2.2.2.2.2.2.2.2.2.2.2.1) hx hRL hin kk
      by_cases hs22 : sv = (22 : Int32)
      · refine ez_tableIn (tgt := 914) (off := 881) dL_law_33 (by rw [hs22]; decide) (by rw [hs22]; decide) (by rw [hs22]; rfl) (by decide) ?_
        exact zcase_digest (HO.2.2.2.2.2.2.2.2.2.2.2.2.2.2.2.2.2.2.2.2.2.2) hx hRL hin kk
      have he0 : sv.toInt ≠ 0 := zsw_ne hs0
      have he1 : sv.toInt ≠ 1 := zsw_ne hs1
      have he2 : sv.toInt ≠ 2 := zsw_ne hs2
      have he3 : sv.toInt ≠ 3 := zsw_ne hs3
      have he4 : sv.toInt ≠ 4 := zsw_ne hs4
      have he5 : sv.toInt ≠ 5 := zsw_ne hs5
      have he6 : sv.toInt ≠ 6 := zsw_ne hs6
      have he7 : sv.toInt ≠ 7 := zsw_ne hs7
      have he8 : sv.toInt ≠ 8 := zsw_ne hs8
      have he9 : sv.toInt ≠ 9 := zsw_ne hs9
      have he10 : sv.toInt ≠ 10 := zsw_ne hs10
      have he11 : sv.toInt ≠ 11 := zsw_ne hs11
      have he12 : sv.toInt ≠ 12 := zsw_ne hs12
      have he13 : sv.toInt ≠ 13 := zsw_ne hs13
      have he14 : sv.toInt ≠ 14 := zsw_ne hs14
      have he15 : sv.toInt ≠ 15 := zsw_ne hs15
      have he16 : sv.toInt ≠ 16 := zsw_ne hs16
      have he17 : sv.toInt ≠ 17 := zsw_ne hs17
      have he18 : sv.toInt ≠ 18 := zsw_ne hs18
      have he19 : sv.toInt ≠ 19 := zsw_ne hs19
      have he20 : sv.toInt ≠ 20 := zsw_ne hs20
      have he21 : sv.toInt ≠ 21 := zsw_ne hs21
      have he22 : sv.toInt ≠ 22 := zsw_ne hs22
      refine ez_tableOut (tgt := 928) dL_law_33 (by omega) (by decide) ?_
      exact kk g M (hm _ _ _ hRL)
