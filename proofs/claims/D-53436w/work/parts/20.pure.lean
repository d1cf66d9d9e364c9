/-! numbers, rows: what the contracts are said in -/
set_option maxRecDepth 100000
theorem nI_def (n : Nat) : nI n = Int32.ofNat n := rfl
theorem l2n (n : Nat) [h : OfNat Int32 n] (e : h = Int32.instOfNat) : (@OfNat.ofNat Int32 n h) = nI n := by subst e; rfl
theorem nI_inj {a b : Nat} (h : nI a = nI b) (ha : a < 2 ^ 31) (hb : b < 2 ^ 31) : a = b := (nI_eq ha hb).mp h
theorem vpN {i n : Nat} (h : i < n) (hn : n < 2 ^ 31) : vp_in (nI i) n := vp_in_nI h hn
/-- an index of a plate's part, of an order's part -/
theorem ixP {P Q : Int32} {p k : Nat} (hP : P = nI p) (hQ : Q = nI k) : (10 + 7 * P) + Q = nI (10 + 7 * p + k) := by
  subst hP hQ
  rw [← nI_add, ← nI_add, ← pk_mul]; rfl
theorem ixO {P Q : Int32} {p k : Nat} (hP : P = nI p) (hQ : Q = nI k) : (153 + 19 * P) + Q = nI (153 + 19 * p + k) := by
  subst hP hQ
  rw [← nI_add, ← nI_add, ← pk_mul]; rfl
/-- a part of a plate, of an order -/
def pl (f : Nat → Int32) (p k : Nat) : Int32 := f (10 + 7 * p + k)
def od (f : Nat → Int32) (o k : Nat) : Int32 := f (153 + 19 * o + k)
def upl (f : Nat → Int32) (p k : Nat) (v : Int32) : Nat → Int32 := upd f (10 + 7 * p + k) v
theorem sAI_eq {σ : Sg} {a i : Nat} {v : Int32} : sAI σ a i v = sAIs σ a (upd (AI σ a) i v) := by
  unfold sAI sAIs
  have : (fun b j => if b = a ∧ j = i then v else AI σ b j) = (fun b => if b = a then upd (AI σ a) i v else AI σ b) := by
    funext b j
    by_cases h : b = a
    · subst h
      simp only [true_and, if_true]
      by_cases h2 : j = i
      · subst h2; rw [if_pos rfl, pk_us]
      · rw [if_neg h2, pk_un h2]
    · simp only [h, false_and, if_false]
  rw [this]
theorem sAIs_sAIs {σ : Sg} {a : Nat} {f g : Nat → Int32} : sAIs (sAIs σ a f) a g = sAIs σ a g := by
  have : (fun b => if b = a then g else (if b = a then f else AI σ b)) = (fun b => if b = a then g else AI σ b) := by
    funext b
    split <;> rfl
  show (kd σ, ln σ, FI σ, FR σ, (fun b => if b = a then g else (if b = a then f else AI σ b)), AR σ, nx σ) = _
  rw [this]; rfl
theorem AI_self {σ : Sg} {a : Nat} {f : Nat → Int32} : AI (sAIs σ a f) a = f := by rw [AI_sAIs, if_pos rfl]
theorem AI_ne {σ : Sg} {a b : Nat} {f : Nat → Int32} (h : ¬ b = a) : AI (sAIs σ a f) b = AI σ b := by rw [AI_sAIs, if_neg h]
theorem sAIs_rfl {σ : Sg} {a : Nat} : sAIs σ a (AI σ a) = σ := by
  unfold sAIs
  have : (fun b => if b = a then AI σ a else AI σ b) = AI σ := by
    funext b; by_cases h : b = a
    · subst h; rw [if_pos rfl]
    · rw [if_neg h]
  rw [this]; rfl
def b2i (b : Bool) : Int32 := if b then 1 else 0
