/-! outcomes that may be an exception; small combinators -/
set_option maxRecDepth 100000
def zoI (x : Int32 ⊕ String) (g : zS) : zO := match x with
  | .inl r => .inl (some (.int r))
  | .inr X => .inr (X, g.sz - 1)
def zoF (x : UInt32 ⊕ String) (g : zS) : zO := match x with
  | .inl r => .inl (some (.float r))
  | .inr X => .inr (X, g.sz - 1)
def zoR (x : Nat ⊕ String) (g : zS) : zO := match x with
  | .inl r => .inl (some (.ref r))
  | .inr X => .inr (X, g.sz - 1)
def zoV (x : Unit ⊕ String) (g : zS) : zO := match x with
  | .inl _ => .inl none
  | .inr X => .inr (X, g.sz - 1)
/-- what a call gave: an answer or an exception -/
def zsm {α γ : Type} (r : α ⊕ String) (f : α → Option γ) (h : String → Option γ) : Option γ := match r with
  | .inl v => f v
  | .inr X => h X
theorem zsm_l {α γ : Type} {v : α} {f : α → Option γ} {h : String → Option γ} {p : γ} (e : zsm (.inl v) f h = some p) : f v = some p := e
theorem zsm_r {α γ : Type} {X : String} {f : α → Option γ} {h : String → Option γ} {p : γ} (e : zsm (.inr X) f h = some p) : h X = some p := e
/-- null or not -/
def zcs {γ : Type} (o : Option Nat) (t : Option γ) (f : Nat → Option γ) : Option γ := match o with
  | none => t
  | some a => f a
theorem zcs_n {γ : Type} {t : Option γ} {f : Nat → Option γ} {p : γ} (e : zcs none t f = some p) : t = some p := e
theorem zcs_s {γ : Type} {a : Nat} {t : Option γ} {f : Nat → Option γ} {p : γ} (e : zcs (some a) t f = some p) : f a = some p := e
theorem zrf_ref (o : Option Nat) : (va_rf o).isRef = true := by cases o <;> rfl
theorem zrf_cat (o : Option Nat) : (va_rf o).category = 1 := by cases o <;> rfl
/-- an element of a chain: the array is of plugs or of gains -/
noncomputable def zaC (g : zS) (a : Nat) (i : Int32) : Option (Option Nat) := match zaR g 8 a i with
  | some x => some x
  | none => zaR g 10 a i
section ZX1
variable {G : zG} {d : Nat} {K : List Nat} {Y : zM} {pc : Nat} {lo : List (Option Value)} {st : List Value} {g : zS} {Q : zO → zS → Prop} {a : Nat}
theorem lX_aac {i : Int32} {x : Option Nat} (hd : decode Y.code pc = .ok (.aaload, 1)) (hx : zaC g a i = some x) (kk : zEF G d K Y (pc + 1) lo (va_rf x :: st) g Q) : zEF G d K Y pc lo (.int i :: .ref a :: st) g Q := by
  unfold zaC at hx
  split at hx
  · rename_i q hq
    cases hx
    exact lX_aa8 hd hq kk
  · exact lX_aa10 hd hx kk
end ZX1
def nwX0 : List Value := [.null, .int 0, .null, .int 0, .null, .null, .int 0, .int 0, .int 0, .int 0, .int 0, .null, .int 0, .int 0, .null, .null, .int 0, .null, .int 0, .int 0]
theorem nwX0_ok : ∀ j, j < 20 → defaultValue (tyX0 j) = vp_V nwX0 j := by decide +kernel
def nwX1 : List Value := [.int 0, .int 0, .int 0, .int 0, .float 0, .int 0, .null, .int 0, .int 0, .null, .null, .int 0, .null, .null]
theorem nwX1_ok : ∀ j, j < 14 → defaultValue (tyX1 j) = vp_V nwX1 j := by decide +kernel
def nwX3 : List Value := [.int 0, .int 0, .null]
theorem nwX3_ok : ∀ j, j < 3 → defaultValue (tyX3 j) = vp_V nwX3 j := by decide +kernel
def nwX5 : List Value := [.int 0, .float 0, .int 0, .int 0]
theorem nwX5_ok : ∀ j, j < 4 → defaultValue (tyX5 j) = vp_V nwX5 j := by decide +kernel
def nwX6 : List Value := [.int 0, .float 0, .int 0, .int 0]
theorem nwX6_ok : ∀ j, j < 4 → defaultValue (tyX6 j) = vp_V nwX6 j := by decide +kernel
def nwX7 : List Value := [.int 0, .float 0, .int 0, .int 0]
theorem nwX7_ok : ∀ j, j < 4 → defaultValue (tyX7 j) = vp_V nwX7 j := by decide +kernel
def nwX8 : List Value := [.int 0, .float 0, .int 0, .int 0]
theorem nwX8_ok : ∀ j, j < 4 → defaultValue (tyX8 j) = vp_V nwX8 j := by decide +kernel
def nwX9 : List Value := [.int 0, .float 0, .int 0, .int 0, .null, .int 0]
theorem nwX9_ok : ∀ j, j < 6 → defaultValue (tyX9 j) = vp_V nwX9 j := by decide +kernel
def nwX10 : List Value := [.int 0, .float 0, .int 0, .int 0, .null, .int 0]
theorem nwX10_ok : ∀ j, j < 6 → defaultValue (tyX10 j) = vp_V nwX10 j := by decide +kernel
def nwX11 : List Value := [.int 0, .float 0, .int 0, .int 0]
theorem nwX11_ok : ∀ j, j < 4 → defaultValue (tyX11 j) = vp_V nwX11 j := by decide +kernel
def nwX12 : List Value := [.int 0, .float 0, .int 0, .int 0, .null]
theorem nwX12_ok : ∀ j, j < 5 → defaultValue (tyX12 j) = vp_V nwX12 j := by decide +kernel
