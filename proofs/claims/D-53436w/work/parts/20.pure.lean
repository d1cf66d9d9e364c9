/-! numbers, rows: what the contracts are said in -/
set_option maxRecDepth 100000
theorem nI_def (n : Nat) : nI n = Int32.ofNat n := rfl
theorem l2n (n : Nat) [h : OfNat Int32 n] (e : h = Int32.instOfNat) : (@OfNat.ofNat Int32 n h) = nI n := by subst e; rfl
theorem nI_inj {a b : Nat} (h : nI a = nI b) (ha : a < 2 ^ 31) (hb : b < 2 ^ 31) : a = b := (nI_eq ha hb).mp h
theorem vpN {i n : Nat} (h : i < n) (hn : n < 2 ^ 31) : vp_in (nI i) n := vp_in_nI h hn
/-- an index of a plate's part, of an order's part -/
theorem ixP {P Q : Int32} {p k : Nat} (hP : P = nI p) (hQ : Q = nI k) : (10 + 7 * P) + Q = nI (10 + 7 * p + k) := by
  subst hP hQ
  rw [← nI_add, ← nI_add, ← pk_mul]; rfl
theorem ixO {P Q : Int32} {p k : Nat} (hP : P = nI p) (hQ : Q = nI k) : (153 + 19 * P) + Q = nI (153 + 19 * p + k) := by
  subst hP hQ
  rw [← nI_add, ← nI_add, ← pk_mul]; rfl
/-- a part of a plate, of an order -/
def pl (f : Nat → Int32) (p k : Nat) : Int32 := f (10 + 7 * p + k)
def od (f : Nat → Int32) (o k : Nat) : Int32 := f (153 + 19 * o + k)
def upl (f : Nat → Int32) (p k : Nat) (v : Int32) : Nat → Int32 := upd f (10 + 7 * p + k) v
theorem sAI_eq {σ : Sg} {a i : Nat} {v : Int32} : sAI σ a i v = sAIs σ a (upd (AI σ a) i v) := by
  unfold sAI sAIs
  have : (fun b j => if b = a ∧ j = i then v else AI σ b j) = (fun b => if b = a then upd (AI σ a) i v else AI σ b) := by
    funext b j
    by_cases h : b = a
    · subst h
      simp only [true_and, if_true]
      by_cases h2 : j = i
      · subst h2; rw [if_pos rfl, pk_us]
      · rw [if_neg h2, pk_un h2]
    · simp only [h, false_and, if_false]
  rw [this]
theorem sAIs_sAIs {σ : Sg} {a : Nat} {f g : Nat → Int32} : sAIs (sAIs σ a f) a g = sAIs σ a g := by
  have : (fun b => if b = a then g else (if b = a then f else AI σ b)) = (fun b => if b = a then g else AI σ b) := by
    funext b
    split <;> rfl
  show (kd σ, ln σ, FI σ, FR σ, (fun b => if b = a then g else (if b = a then f else AI σ b)), AR σ, nx σ) = _
  rw [this]; rfl
theorem AI_self {σ : Sg} {a : Nat} {f : Nat → Int32} : AI (sAIs σ a f) a = f := by rw [AI_sAIs, if_pos rfl]
theorem AI_ne {σ : Sg} {a b : Nat} {f : Nat → Int32} (h : ¬ b = a) : AI (sAIs σ a f) b = AI σ b := by rw [AI_sAIs, if_neg h]
theorem sAIs_rfl {σ : Sg} {a : Nat} : sAIs σ a (AI σ a) = σ := by
  unfold sAIs
  have : (fun b => if b = a then AI σ a else AI σ b) = AI σ := by
    funext b; by_cases h : b = a
    · subst h; rw [if_pos rfl]
    · rw [if_neg h]
  rw [this]; rfl
def b2i (b : Bool) : Int32 := if b then 1 else 0
/-- a loop that counts up: what holds at the end, and is handed back by each pass, holds at the start -/
theorem upL {P : Nat → Prop} {N : Nat} (hz : P N) (hs : ∀ i, i < N → P (i + 1) → P i) : P 0 := by
  have : ∀ d i, i + d = N → P i := by
    intro d
    induction d with
    | zero => intro i hi; obtain rfl : i = N := by omega
              exact hz
    | succ d ih => intro i hi; exact hs i (by omega) (ih (i + 1) (by omega))
  exact this N 0 (by omega)
/-- one that counts down -/
theorem dnL {P : Nat → Prop} {N : Nat} (hz : P 0) (hs : ∀ i, i < N → P i → P (i + 1)) : P N := by
  have : ∀ i, i ≤ N → P i := by
    intro i
    induction i with
    | zero => intro _; exact hz
    | succ i ih => intro hi; exact hs i (by omega) (ih (by omega))
  exact this N (Nat.le_refl N)
theorem ifc {α : Sort _} {c d : Prop} [Decidable c] [Decidable d] {a b : α} (h : c ↔ d) : (if c then a else b) = (if d then a else b) := by
  by_cases e : c
  · rw [if_pos e, if_pos (h.mp e)]
  · rw [if_neg e, if_neg (fun q => e (h.mpr q))]
noncomputable def iteP {α : Type} (c : Prop) (a b : α) : α := @ite α c (Classical.propDecidable c) a b
theorem iteP_t {α : Type} {c : Prop} {a b : α} (h : c) : iteP c a b = a := by unfold iteP; exact if_pos h
theorem iteP_f {α : Type} {c : Prop} {a b : α} (h : ¬ c) : iteP c a b = b := by unfold iteP; exact if_neg h
theorem one0 : ((1 : Int32) = 0) = False := eq_false (by decide)
theorem or01 : ((1 : Int32) = 0 ∨ (1 : Int32) = 1) = True := eq_true (by decide)
theorem or00 : ((0 : Int32) = 0 ∨ (0 : Int32) = 1) = True := eq_true (by decide)
theorem m9n {n : Nat} (h : n < 2 ^ 31) : ¬ nI n = -9 := by
  intro e
  have := congrArg Int32.toInt e
  rw [nI_toInt h] at this
  have h2 : (-9 : Int32).toInt = -9 := by decide
  rw [h2] at this
  omega
def oI : Option Nat → Int32
  | none => -9
  | some p => nI p
/-- all the fields of a model's object -/
def sFs (σ : Sg) (m : Nat) (φ : Nat → Int32) : Sg := (kd σ, ln σ, (fun g b => if b = m then φ g else FI σ g b), FR σ, AI σ, AR σ, nx σ)
def Fm (σ : Sg) (m : Nat) : Nat → Int32 := fun g => FI σ g m
theorem kd_sFs {σ : Sg} {m : Nat} {φ : Nat → Int32} : kd (sFs σ m φ) = kd σ := rfl
theorem ln_sFs {σ : Sg} {m : Nat} {φ : Nat → Int32} : ln (sFs σ m φ) = ln σ := rfl
theorem FR_sFs {σ : Sg} {m : Nat} {φ : Nat → Int32} : FR (sFs σ m φ) = FR σ := rfl
theorem AI_sFs {σ : Sg} {m : Nat} {φ : Nat → Int32} : AI (sFs σ m φ) = AI σ := rfl
theorem AR_sFs {σ : Sg} {m : Nat} {φ : Nat → Int32} : AR (sFs σ m φ) = AR σ := rfl
theorem nx_sFs {σ : Sg} {m : Nat} {φ : Nat → Int32} : nx (sFs σ m φ) = nx σ := rfl
theorem FI_sFs {σ : Sg} {m g b : Nat} {φ : Nat → Int32} : FI (sFs σ m φ) g b = if b = m then φ g else FI σ g b := rfl
theorem FI_sFs_self {σ : Sg} {m g : Nat} {φ : Nat → Int32} : FI (sFs σ m φ) g m = φ g := by rw [FI_sFs, if_pos rfl]
theorem Fm_sFs {σ : Sg} {m : Nat} {φ : Nat → Int32} : Fm (sFs σ m φ) m = φ := by funext g; exact FI_sFs_self
theorem Fm_sAIs {σ : Sg} {m a : Nat} {f : Nat → Int32} : Fm (sAIs σ a f) m = Fm σ m := rfl
theorem sFI_eq {σ : Sg} {m g : Nat} {v : Int32} : sFI σ g m v = sFs σ m (upd (Fm σ m) g v) := by
  unfold sFI sFs
  have : (fun h b => if h = g ∧ b = m then v else FI σ h b) = (fun h b => if b = m then upd (Fm σ m) g v h else FI σ h b) := by
    funext h b
    by_cases e : b = m
    · subst e
      by_cases e2 : h = g
      · subst e2; simp only [true_and, and_true, if_true, pk_us]
      · simp only [e2, false_and, if_false, if_true, pk_un e2]; rfl
    · simp only [e, and_false, if_false]
  rw [this]
theorem sFs_sFs {σ : Sg} {m : Nat} {φ ψ : Nat → Int32} : sFs (sFs σ m φ) m ψ = sFs σ m ψ := by
  have : (fun g b => if b = m then ψ g else (if b = m then φ g else FI σ g b)) = (fun g b => if b = m then ψ g else FI σ g b) := by
    funext g b; split <;> rfl
  show (kd σ, ln σ, (fun g b => if b = m then ψ g else (if b = m then φ g else FI σ g b)), FR σ, AI σ, AR σ, nx σ) = _
  rw [this]; rfl
theorem sFs_rfl {σ : Sg} {m : Nat} : sFs σ m (Fm σ m) = σ := by
  have : (fun g b => if b = m then Fm σ m g else FI σ g b) = FI σ := by
    funext g b
    split
    · rename_i h; subst h; rfl
    · rfl
  unfold sFs; rw [this]; rfl
theorem sAIs_sFs {σ : Sg} {m a : Nat} {φ f : Nat → Int32} : sAIs (sFs σ m φ) a f = sFs (sAIs σ a f) m φ := rfl
/-- a row of n numbers at a -/
def Rw (σ : Sg) (a n : Nat) : Prop := kd σ a = 1 ∧ ln σ a = n
theorem Rw_sAIs {σ : Sg} {a b n : Nat} {f : Nat → Int32} : Rw (sAIs σ b f) a n = Rw σ a n := rfl
theorem Rw_sFs {σ : Sg} {a m n : Nat} {φ : Nat → Int32} : Rw (sFs σ m φ) a n = Rw σ a n := rfl
theorem Rw_sFI {σ : Sg} {a g m n : Nat} {v : Int32} : Rw (sFI σ g m v) a n = Rw σ a n := rfl
theorem one_s {s : Nat} {S : Int32} (hS : S = nI s) (h : s ≤ 1) : 1 - S = nI (1 - s) := by subst hS; exact pk_sub h
theorem thr_s {s : Nat} {S : Int32} (hS : S = nI s) : 3 + S = nI (3 + s) := by subst hS; exact nI_add 3 s
theorem six_s {s : Nat} {S : Int32} (hS : S = nI s) : 6 + S = nI (6 + s) := by subst hS; exact nI_add 6 s
-- ===== what the rows say =====
/-- how many plates are of a state -/
def cntS (f : Nat → Int32) (s : Int32) : Nat → Int32
  | 0 => 0
  | n + 1 => cntS f s n + if pl f n 2 = s then 1 else 0
abbrev onS (f : Nat → Int32) (sh : Int32) (p : Nat) : Prop := pl f p 2 = 2 ∧ pl f p 5 = sh
def cntO (f : Nat → Int32) (sh : Int32) : Nat → Int32
  | 0 => 0
  | n + 1 => cntO f sh n + if onS f sh n then 1 else 0
def pOn (f : Nat → Int32) (sh y : Int32) : Nat → Option Nat
  | 0 => none
  | n + 1 => if onS f sh n ∧ pl f n 6 = y then some n else pOn f sh y n
def yOn (f : Nat → Int32) (sh g : Int32) : Nat → Int32
  | 0 => -9
  | n + 1 => if onS f sh n ∧ (yOn f sh g n = -9 ∨ ¬ g * yOn f sh g n ≤ g * pl f n 6) then pl f n 6 else yOn f sh g n
def rsh (f : Nat → Int32) : Nat → Int32
  | 0 => 0
  | n + 1 => rsh f n + od f n 4
def isO (f : Nat → Int32) (sh y : Int32) (n : Nat) : Prop := ∃ k, k < n ∧ od f k 0 = sh ∧ od f k 1 = y
def wid (c : Int32) : Int32 := if c = 102 ∨ c = 105 ∨ c = 106 ∨ c = 108 ∨ c = 114 ∨ c = 116 then 2 else if c = 109 ∨ c = 119 then 5 else 4
def wsum (g : Nat → Int32) (z : Int32) : Nat → Int32
  | 0 => z
  | n + 1 => wsum g z n + wid (g n)
def lo (f : Nat → Int32) (p s : Nat) (d t : Int32) : Int32 := pl f p 1 - t - d - pl f p (3 + (1 - s))
def sOk (f : Nat → Int32) (p s : Nat) (d : Int32) : Prop := pl f p (3 + s) = 0 ∧ ¬ lo f p s d 0 < 2
def gOk (f : Nat → Int32) (p s : Nat) (d : Int32) : Prop := ¬ pl f p (3 + s) ≤ 0 ∧ ¬ lo f p s d (pl f p (3 + s) + 1) < 2
def mTk (f : Nat → Int32) (p s : Nat) (d : Int32) (g : Bool) : Prop := if g then gOk f p s d else sOk f p s d
def btr (f : Nat → Int32) (p q : Nat) : Prop := pl f p 0 - pl f q 0 < 0 ∨ (pl f p 0 - pl f q 0 = 0 ∧ ¬ pl f q 1 ≤ pl f p 1)
def elg (f : Nat → Int32) (len d : Int32) (g : Bool) (p : Nat) : Prop := pl f p 2 = 0 ∧ ¬ pl f p 0 < len ∧ (mTk f p 0 d g ∨ mTk f p 1 d g)
noncomputable def fnd (f : Nat → Int32) (len d : Int32) (g : Bool) : Nat → Option Nat
  | 0 => none
  | n + 1 => iteP (elg f len d g n ∧ (∀ q, fnd f len d g n = some q → btr f n q)) (some n) (fnd f len d g n)
noncomputable def fsd (f : Nat → Int32) (d : Int32) (g : Bool) (p : Nat) : Nat := iteP (mTk f p 0 d g) 0 1
def eff (f : Nat → Int32) (o : Nat) : Int32 := od f o 5 * (od f o 2 + od f o 3)
def grd (f : Nat → Int32) (p s : Nat) : Nat → Int32 :=
  let g := upl (upl f p 1 (pl f p 1 - pl f p (3 + s) - 1)) p (3 + s) 0
  upd g 9 (g 9 + 1)
def nml (f : Nat → Int32) (o L : Nat) : Int32 := od f o 2 * wsum (fun k => od f o (6 + k)) (nI L - 1) L
def rst (f : Nat → Int32) : Nat → Int32 := upd (upd (upd (upd f 3 (-9)) 4 0) 5 (-9)) 6 0
/-- a plate is put on a shield -/
def fx1 (f : Nat → Int32) (p : Nat) (sh y : Int32) : Nat → Int32 := upl (upl (upl f p 2 2) p 5 sh) p 6 y
/-- an order is out of the row -/
def tko (f : Nat → Int32) (o N : Nat) : Nat → Int32 := fun j =>
  if j = 3 then (if f 3 ≤ nI o then f 3 - 0 else f 3 - 1)
  else if 153 + 19 * o ≤ j ∧ j < 153 + 19 * (N - 1) then f (j + 19)
  else if j = 2 then nI (N - 1) else f j
/-- an order is in the row -/
def pti (f g : Nat → Int32) (o N : Nat) : Nat → Int32 := fun j =>
  if j = 3 then (if f 3 < nI o then f 3 + 0 else f 3 + 1)
  else if j = 2 then nI (N + 1)
  else if 153 + 19 * o ≤ j ∧ j < 153 + 19 * (o + 1) then g (j - (153 + 19 * o))
  else if 153 + 19 * (o + 1) ≤ j ∧ j < 153 + 19 * (N + 1) then f (j - 19) else f j
/-- a row copied into another one -/
def cpl (f g : Nat → Int32) (n : Nat) : Nat → Int32 := fun k => if k < n then f k else g k
theorem pOn_lt {f : Nat → Int32} {sh y : Int32} : ∀ {n q : Nat}, pOn f sh y n = some q → q < n
  | 0, q, h => by cases h
  | n + 1, q, h => by
    unfold pOn at h
    split at h
    · cases h; omega
    · have := pOn_lt h; omega
theorem fnd_lt {f : Nat → Int32} {len d : Int32} {g : Bool} : ∀ {n q : Nat}, fnd f len d g n = some q → q < n
  | 0, q, h => by cases h
  | n + 1, q, h => by
    unfold fnd at h
    by_cases c : elg f len d g n ∧ (∀ q, fnd f len d g n = some q → btr f n q)
    · rw [iteP_t c] at h; cases h; omega
    · rw [iteP_f c] at h; have := fnd_lt h; omega
theorem cntO_0 {f : Nat → Int32} {sh : Int32} : ∀ {n : Nat}, (∀ p, p < n → ¬ onS f sh p) → cntO f sh n = 0
  | 0, _ => rfl
  | n + 1, h => by rw [cntO, if_neg (h n (by omega)), cntO_0 (fun p hp => h p (by omega))]; rfl
theorem yOn_0 {f : Nat → Int32} {sh g : Int32} : ∀ {n : Nat}, (∀ p, p < n → ¬ onS f sh p) → yOn f sh g n = -9
  | 0, _ => rfl
  | n + 1, h => by rw [yOn, if_neg (fun q => h n (by omega) q.1)]; exact yOn_0 (fun p hp => h p (by omega))
theorem yOn_at {f : Nat → Int32} {sh g : Int32} : ∀ {n : Nat}, (∃ p, p < n ∧ onS f sh p) → ∃ p, p < n ∧ onS f sh p ∧ yOn f sh g n = pl f p 6
  | 0, ⟨p, h, _⟩ => absurd h (by omega)
  | n + 1, h => by
    by_cases c : onS f sh n ∧ (yOn f sh g n = -9 ∨ ¬ g * yOn f sh g n ≤ g * pl f n 6)
    · exact ⟨n, by omega, c.1, by rw [yOn, if_pos c]⟩
    · have h2 : ∃ p, p < n ∧ onS f sh p := by
        apply Classical.byContradiction
        intro e
        have e2 : ∀ p, p < n → ¬ onS f sh p := fun p hp q => e ⟨p, hp, q⟩
        obtain ⟨p, hp, q⟩ := h
        have : p = n := by
          apply Classical.byContradiction
          intro z; exact e2 p (by omega) q
        subst this
        exact c ⟨q, Or.inl (yOn_0 e2)⟩
      obtain ⟨p, h3, h4, h5⟩ := yOn_at (g := g) h2
      exact ⟨p, by omega, h4, by rw [yOn, if_neg c]; exact h5⟩
theorem pOn_some {f : Nat → Int32} {sh y : Int32} : ∀ {n p : Nat}, p < n → onS f sh p → pl f p 6 = y → ∃ q, pOn f sh y n = some q
  | 0, p, h, _, _ => absurd h (by omega)
  | n + 1, p, h, h1, h2 => by
    rw [pOn]
    by_cases c : onS f sh n ∧ pl f n 6 = y
    · exact ⟨n, by rw [if_pos c]⟩
    · rw [if_neg c]
      have : ¬ p = n := fun e => c (by subst e; exact ⟨h1, h2⟩)
      exact pOn_some (by omega) h1 h2
/-- what `fix` makes of a row -/
def fxr (f : Nat → Int32) (p : Nat) (sh y : Int32) (N : Nat) : Nat → Int32 :=
  if cntO (fx1 f p sh y) sh N ≤ f (150 + sh.toNatClampNeg) then fx1 f p sh y
  else upl (fx1 f p sh y) ((pOn (fx1 f p sh y) sh (yOn (fx1 f p sh y) sh 1 N) N).getD 0) 2 0
def nmL (f : Nat → Int32) (o : Nat) : Int32 := nml f o (od f o 5).toNatClampNeg
noncomputable def fpl (f : Nat → Int32) (N : Nat) (len d : Int32) : Option (Bool × Nat) :=
  match fnd f len d false N with
  | some p => some (false, p)
  | none => match fnd f len d true N with
    | some p => some (true, p)
    | none => none
noncomputable def fpo (f : Nat → Int32) (N o : Nat) : Option (Bool × Nat) := fpl f N (nmL f o) (od f o 3)
/-- an order is at work -/
def gon (f : Nat → Int32) (o : Nat) (g : Bool) (p s : Nat) : Nat → Int32 :=
  let h := upl (upd (upd (upd (upd f 3 (nI o)) 5 (nI p)) 6 (nI s)) 4 (eff f o + if g then 10 else 0)) p 2 1
  if g then grd h p s else h
/-- the order at work is done -/
def fin1 (f : Nat → Int32) (o p s N : Nat) : Nat → Int32 := rst (fxr (upl f p (3 + s) (od f o 3)) p (od f o 0) (od f o 1) N)
def fin (f : Nat → Int32) (o p s N No : Nat) : Nat → Int32 :=
  let g := tko (fin1 f o p s N) o No
  upd g 7 (g 7 + 1)
def hur (f A : Nat → Int32) (o R N : Nat) : Nat → Int32 :=
  let g := pti (tko f o N) (upd (cpl (fun k => od f o k) A 19) 4 1) R (N - 1)
  upd g 3 (if f 3 = nI o then nI R else g 3)
theorem fpl_lt {f : Nat → Int32} {N p : Nat} {len d : Int32} {g : Bool} (h : fpl f N len d = some (g, p)) : p < N := by
  unfold fpl at h
  cases q : fnd f len d false N with
  | some x => rw [q] at h; cases h; exact fnd_lt q
  | none =>
    rw [q] at h
    cases q2 : fnd f len d true N with
    | some x => rw [q2] at h; cases h; exact fnd_lt q2
    | none => rw [q2] at h; cases h
theorem fsd_le {f : Nat → Int32} {d : Int32} {g : Bool} {p : Nat} : fsd f d g p ≤ 1 := by
  unfold fsd
  by_cases c : mTk f p 0 d g
  · rw [iteP_t c]; omega
  · rw [iteP_f c]; omega
theorem od_upl {f : Nat → Int32} {p k o j : Nat} {v : Int32} (hp : p < 20) (hk : k ≤ 6) : od (upl f p k v) o j = od f o j := by
  unfold od upl; exact pk_un (by omega)
theorem od_upd {f : Nat → Int32} {i o j : Nat} {v : Int32} (hi : i < 153) : od (upd f i v) o j = od f o j := by
  unfold od; exact pk_un (by omega)
theorem upl_lo {f : Nat → Int32} {p k i : Nat} {v : Int32} (hi : i < 10) : upl f p k v i = f i := by
  unfold upl; exact pk_un (by omega)
theorem pl_upd {f : Nat → Int32} {i p k : Nat} {v : Int32} (hi : i < 10) : pl (upd f i v) p k = pl f p k := by
  unfold pl; exact pk_un (by omega)
theorem pl_upl {f : Nat → Int32} {p q k j : Nat} {v : Int32} (hk : k ≤ 6) (hj : j ≤ 6) : pl (upl f p k v) q j = if q = p ∧ j = k then v else pl f q j := by
  unfold pl upl
  by_cases c : q = p ∧ j = k
  · rw [if_pos c, c.1, c.2, pk_us]
  · rw [if_neg c]; exact pk_un (by omega)
theorem fx1_lo {f : Nat → Int32} {p i : Nat} {sh y : Int32} (hi : i < 10) : fx1 f p sh y i = f i := by
  unfold fx1; rw [upl_lo hi, upl_lo hi, upl_lo hi]
theorem fxr_lo {f : Nat → Int32} {p N i : Nat} {sh y : Int32} (hi : i < 10) : fxr f p sh y N i = f i := by
  unfold fxr
  split
  · exact fx1_lo hi
  · rw [upl_lo hi]; exact fx1_lo hi
theorem fin1_lo {f : Nat → Int32} {o p s N i : Nat} (hi : i < 10) (h : i < 3 ∨ 6 < i) : fin1 f o p s N i = f i := by
  unfold fin1 rst
  rw [pk_un (by omega), pk_un (by omega), pk_un (by omega), pk_un (by omega), fxr_lo hi, upl_lo hi]
/-- the states that can be taken back -/
def svS (sv : Nat → Int32) : Nat → Int32 := fun j => if j < 1372 then sv (j + 343) else sv j
def svA (f sv : Nat → Int32) (n : Nat) : Nat → Int32 := fun j => if 343 * n ≤ j ∧ j < 343 * n + 343 then f (j - 343 * n) else sv j
def svN (f sv : Nat → Int32) (n : Nat) : Nat → Int32 := if n = 5 then svA f (svS sv) 4 else svA f sv n
def nxN (n : Nat) : Nat := if n = 5 then 5 else n + 1
def tagd (f : Nat → Int32) : Nat → Nat → Int32
  | 0 => f
  | n + 1 => upd (tagd f n) (153 + 19 * n + 18) (nI n)
theorem inN {x : Int32} {N : Nat} (hN : N < 2 ^ 31) : (0 ≤ x ∧ x ≤ nI N - 1) ↔ ∃ p, p < N ∧ x = nI p := by
  constructor
  · rintro ⟨h1, h2⟩
    obtain ⟨j, hj, rfl⟩ := nI_of (Int32.not_lt.mpr h1)
    refine ⟨j, ?_, rfl⟩
    cases N with
    | zero =>
      exfalso
      have := Int32.le_iff_toInt_le.mp h2
      rw [nI_toInt hj, show (nI 0 - 1).toInt = -1 by decide] at this
      omega
    | succ N =>
      rw [nI_pred] at h2
      have := (nI_leI hj (by omega)).mp h2
      omega
  · rintro ⟨p, h1, rfl⟩
    refine ⟨nI_pos' (by omega), ?_⟩
    cases N with
    | zero => omega
    | succ N => rw [nI_pred]; exact nI_le (by omega) (by omega)
-- ===== the model's object =====
def mfs : List Nat := [19, 20, 21, 23, 28, 29, 30]
def mln (f : Nat) : Nat := if f = 19 ∨ f = 20 then 343 else if f = 21 then 1715 else if f = 23 then 12 else if f = 30 then 19 else 10
def Msh (σ : Sg) (m : Nat) (A : Nat → Nat) : Prop := kd σ m = 13 ∧ (∀ f ∈ mfs, FR σ f m = some (A f)) ∧ (∀ f ∈ mfs, Rw σ (A f) (mln f)) ∧ (∀ f ∈ mfs, ∀ g ∈ mfs, f ≠ g → ¬ A f = A g)
theorem Msh.sAIs {σ : Sg} {m a : Nat} {A : Nat → Nat} {f : Nat → Int32} (h : Msh σ m A) : Msh (sAIs σ a f) m A := h
theorem Msh.sFs {σ : Sg} {m b : Nat} {A : Nat → Nat} {φ : Nat → Int32} (h : Msh σ m A) : Msh (sFs σ b φ) m A := h
theorem Msh.sFI {σ : Sg} {m g b : Nat} {v : Int32} {A : Nat → Nat} (h : Msh σ m A) : Msh (sFI σ g b v) m A := h
theorem Msh.kd {σ : Sg} {m : Nat} {A : Nat → Nat} (h : Msh σ m A) : kd σ m = 13 := h.1
theorem Msh.fr {σ : Sg} {m : Nat} {A : Nat → Nat} (h : Msh σ m A) (f : Nat) (hf : f ∈ mfs := by decide) : FR σ f m = some (A f) := h.2.1 f hf
theorem Msh.rw {σ : Sg} {m : Nat} {A : Nat → Nat} (h : Msh σ m A) (f : Nat) (n : Nat) (hf : f ∈ mfs := by decide) (hn : mln f = n := by decide) : Rw σ (A f) n := by rw [← hn]; exact h.2.2.1 f hf
theorem Msh.ne {σ : Sg} {m : Nat} {A : Nat → Nat} (h : Msh σ m A) (f g : Nat) (hf : f ∈ mfs := by decide) (hg : g ∈ mfs := by decide) (hn : f ≠ g := by decide) : ¬ A f = A g := h.2.2.2 f hf g hg hn
/-- the model: the row, what is saved, the text; how many states, letters -/
def Mdl (σ : Sg) (m : Nat) (A : Nat → Nat) (f sv tx : Nat → Int32) (n L : Nat) : Prop := Msh σ m A ∧ AI σ (A 19) = f ∧ AI σ (A 21) = sv ∧ AI σ (A 23) = tx ∧ FI σ 22 m = nI n ∧ FI σ 24 m = nI L
/-- what the model's methods leave alone -/
def MF (m : Nat) (A : Nat → Nat) (σ σ' : Sg) : Prop := kd σ' = kd σ ∧ ln σ' = ln σ ∧ FR σ' = FR σ ∧ AR σ' = AR σ ∧ nx σ' = nx σ ∧ (∀ g b, ¬ b = m → FI σ' g b = FI σ g b) ∧ ∀ b, (∀ f ∈ mfs, ¬ b = A f) → AI σ' b = AI σ b
theorem MF.rf {m : Nat} {A : Nat → Nat} {σ : Sg} : MF m A σ σ := ⟨rfl, rfl, rfl, rfl, rfl, fun _ _ _ => rfl, fun _ _ => rfl⟩
theorem MF.trans {m : Nat} {A : Nat → Nat} {σ τ υ : Sg} (h : MF m A σ τ) (g : MF m A τ υ) : MF m A σ υ :=
  ⟨g.1.trans h.1, g.2.1.trans h.2.1, g.2.2.1.trans h.2.2.1, g.2.2.2.1.trans h.2.2.2.1, g.2.2.2.2.1.trans h.2.2.2.2.1, fun x b hb => (g.2.2.2.2.2.1 x b hb).trans (h.2.2.2.2.2.1 x b hb), fun b hb => (g.2.2.2.2.2.2 b hb).trans (h.2.2.2.2.2.2 b hb)⟩
theorem MF.row {m : Nat} {A : Nat → Nat} {σ τ : Sg} (h : MF m A σ τ) (f : Nat) {v : Nat → Int32} (hf : f ∈ mfs := by decide) : MF m A σ (sAIs τ (A f) v) :=
  h.trans ⟨rfl, rfl, rfl, rfl, rfl, fun _ _ _ => rfl, fun b hb => AI_ne (hb f hf)⟩
theorem MF.fld {m : Nat} {A : Nat → Nat} {σ τ : Sg} (h : MF m A σ τ) {φ : Nat → Int32} : MF m A σ (sFs τ m φ) :=
  h.trans ⟨rfl, rfl, rfl, rfl, rfl, fun g b hb => by rw [FI_sFs, if_neg hb], fun _ _ => rfl⟩
section mdl
variable {σ : Sg} {m n L : Nat} {A : Nat → Nat} {f sv tx : Nat → Int32}
theorem Mdl.sh (h : Mdl σ m A f sv tx n L) : Msh σ m A := h.1
theorem Mdl.eF (h : Mdl σ m A f sv tx n L) : AI σ (A 19) = f := h.2.1
theorem Mdl.eS (h : Mdl σ m A f sv tx n L) : AI σ (A 21) = sv := h.2.2.1
theorem Mdl.eT (h : Mdl σ m A f sv tx n L) : AI σ (A 23) = tx := h.2.2.2.1
theorem Mdl.eN (h : Mdl σ m A f sv tx n L) : FI σ 22 m = nI n := h.2.2.2.2.1
theorem Mdl.eL (h : Mdl σ m A f sv tx n L) : FI σ 24 m = nI L := h.2.2.2.2.2
theorem Mdl.row (h : Mdl σ m A f sv tx n L) (g : Nat → Int32) : Mdl (sAIs σ (A 19) g) m A g sv tx n L :=
  ⟨h.1, AI_self, by rw [AI_ne (h.1.ne 21 19)]; exact h.eS, by rw [AI_ne (h.1.ne 23 19)]; exact h.eT, h.eN, h.eL⟩
theorem Mdl.oth (h : Mdl σ m A f sv tx n L) (k : Nat) (g : Nat → Int32) (hk : k ∈ [20, 28, 29, 30] := by decide) : Mdl (sAIs σ (A k) g) m A f sv tx n L := by
  have h1 : k ∈ mfs := by
    simp only [List.mem_cons, List.not_mem_nil, or_false] at hk
    rcases hk with hk | hk | hk | hk <;> (subst hk; decide)
  have h2 : ∀ j, j ∈ [19, 21, 23] → j ∈ mfs ∧ j ≠ k := by
    intro j hj
    simp only [List.mem_cons, List.not_mem_nil, or_false] at hk hj
    rcases hk with hk | hk | hk | hk <;> rcases hj with hj | hj | hj <;> (subst hk hj; decide)
  have h3 : ∀ j, j ∈ [19, 21, 23] → AI (sAIs σ (A k) g) (A j) = AI σ (A j) := fun j hj => AI_ne (h.1.2.2.2 j (h2 j hj).1 k h1 (h2 j hj).2)
  exact ⟨h.1, by rw [h3 19 (by decide)]; exact h.eF, by rw [h3 21 (by decide)]; exact h.eS, by rw [h3 23 (by decide)]; exact h.eT, h.eN, h.eL⟩
theorem Mdl.txt (h : Mdl σ m A f sv tx n L) (g : Nat → Int32) : Mdl (sAIs σ (A 23) g) m A f sv g n L :=
  ⟨h.1, by rw [AI_ne (h.1.ne 19 23)]; exact h.eF, by rw [AI_ne (h.1.ne 21 23)]; exact h.eS, AI_self, h.eN, h.eL⟩
theorem Mdl.svd (h : Mdl σ m A f sv tx n L) (g : Nat → Int32) : Mdl (sAIs σ (A 21) g) m A f g tx n L :=
  ⟨h.1, by rw [AI_ne (h.1.ne 19 21)]; exact h.eF, AI_self, by rw [AI_ne (h.1.ne 23 21)]; exact h.eT, h.eN, h.eL⟩
theorem Mdl.fld (h : Mdl σ m A f sv tx n L) {φ : Nat → Int32} {n' L' : Nat} (h1 : φ 22 = nI n') (h2 : φ 24 = nI L') : Mdl (sFs σ m φ) m A f sv tx n' L' :=
  ⟨h.1, h.eF, h.eS, h.eT, by rw [FI_sFs_self]; exact h1, by rw [FI_sFs_self]; exact h2⟩
theorem Mdl.fI (h : Mdl σ m A f sv tx n L) {g : Nat} {v : Int32} (h1 : g ≠ 22) (h2 : g ≠ 24) : Mdl (sFI σ g m v) m A f sv tx n L := by
  rw [sFI_eq]
  exact h.fld (by rw [pk_un (Ne.symm h1)]; exact h.eN) (by rw [pk_un (Ne.symm h2)]; exact h.eL)
theorem MF.fI {τ : Sg} (h : MF m A σ τ) {g : Nat} {v : Int32} : MF m A σ (sFI τ g m v) := by rw [sFI_eq]; exact h.fld
end mdl
-- ===== what is well formed in a row: how many plates, orders, shields; an order's letters =====
def WfN (f : Nat → Int32) (np no ns : Nat) : Prop := f 1 = nI np ∧ np ≤ 20 ∧ f 2 = nI no ∧ no ≤ 10 ∧ f 0 = nI ns ∧ ns ≤ 3
/-- what a call does to the row, and what it answers -/
abbrev Rs : Type := Option (Nat → Int32) × Int32
def rSv (r : Rs) (f sv : Nat → Int32) (n : Nat) : Nat → Int32 := match r.1 with | none => sv | some _ => svN f sv n
def rNx (r : Rs) (n : Nat) : Nat := match r.1 with | none => n | some _ => nxN n
def rRw (r : Rs) (f : Nat → Int32) : Nat → Int32 := r.1.getD f
def cutR (f : Nat → Int32) (np : Nat) (x y : Int32) : Nat → Int32 :=
  upl (upl (upl (upl (upl (upl (upl (upl (upl (upd f 1 (nI (np + 1))) np 0 0) np 1 0) np 2 0) np 3 0) np 4 0) np 5 0) np 6 0) np 0 x) np 1 y
def rCut (f : Nat → Int32) (np : Nat) (x y : Int32) : Rs :=
  if ¬ ((10 ≤ x ∧ x ≤ 200) ∧ (5 ≤ y ∧ y ≤ 30)) then (none, -1) else if np = 20 then (none, -3) else (some (cutR f np x y), nI np)
def inR (x : Int32) (N : Nat) : Prop := ∃ p, p < N ∧ x = nI p
noncomputable def rSpoil (f : Nat → Int32) (np : Nat) (x : Int32) : Rs :=
  iteP (inR x np) (if pl f x.toNatClampNeg 2 = 0 then (some (upl f x.toNatClampNeg 2 3), cntS (upl f x.toNatClampNeg 2 3) 3 np) else (none, -2)) (none, -1)
noncomputable def rGrind (f : Nat → Int32) (np : Nat) (x y : Int32) : Rs :=
  iteP (inR x np ∧ inR y 2) (if pl f x.toNatClampNeg 2 = 0 ∧ ¬ pl f x.toNatClampNeg (3 + y.toNatClampNeg) = 0 ∧ 2 ≤ lo f x.toNatClampNeg y.toNatClampNeg 0 (pl f x.toNatClampNeg (3 + y.toNatClampNeg) + 1) then (some (grd f x.toNatClampNeg y.toNatClampNeg), pl (grd f x.toNatClampNeg y.toNatClampNeg) x.toNatClampNeg 1) else (none, -2)) (none, -1)
def rAddS (f : Nat → Int32) (ns : Nat) (x : Int32) : Rs :=
  if ¬ (2 ≤ x ∧ x ≤ 6) then (none, -1) else if ns = 3 then (none, -3) else (some (upd (upd f (150 + ns) x) 0 (nI (ns + 1))), nI (ns + 1) - 1)
noncomputable def rTake (f : Nat → Int32) (np ns : Nat) (x y : Int32) : Rs :=
  iteP (inR x ns ∧ 1 ≤ y ∧ y ≤ 999) (match pOn f x y np with | none => (none, -2) | some p => (some (upl f p 2 0), nI p)) (none, -1)
noncomputable def rPlate (f : Nat → Int32) (np : Nat) (x y : Int32) : Int32 :=
  iteP (inR x np ∧ inR y 7) (if ¬ y ≤ 4 ∧ ¬ pl f x.toNatClampNeg 2 = 2 then -9 else pl f x.toNatClampNeg y.toNatClampNeg) (-1)
noncomputable def rShield (f : Nat → Int32) (np ns : Nat) (x y : Int32) : Int32 :=
  iteP (inR x ns ∧ inR y 5) (if y = 0 then f (150 + x.toNatClampNeg) else if y = 1 then cntO f x np else if y = 2 then yOn f x 1 np else if y = 3 then yOn f x (-1) np else if cntO f x np = 0 then 0 else yOn f x (-1) np - yOn f x 1 np + 1 - cntO f x np) (-1)
noncomputable def rPFor (f : Nat → Int32) (np ns : Nat) (x y : Int32) : Int32 := iteP (inR x ns ∧ 1 ≤ y ∧ y ≤ 999) (oI (pOn f x y np)) (-1)
noncomputable def rOrdOf (f : Nat → Int32) (no : Nat) (x y : Int32) : Int32 :=
  iteP (inR x no ∧ inR y 8) (if ¬ 6 ≤ y then od f x.toNatClampNeg y.toNatClampNeg else if y = 6 then nmL f x.toNatClampNeg else eff f x.toNatClampNeg) (-1)
noncomputable def rLett (f : Nat → Int32) (no : Nat) (x y : Int32) : Int32 :=
  iteP (inR x no ∧ 0 ≤ y) (if od f x.toNatClampNeg 5 ≤ y then -9 else od f x.toNatClampNeg (6 + y.toNatClampNeg)) (-1)
def txL (tx : Nat → Int32) (L : Nat) (s : Int32) : Int32 := s * wsum tx (if L = 0 then 0 else nI L - 1) L
def rLen (tx : Nat → Int32) (L : Nat) (x : Int32) : Int32 := if 1 ≤ x ∧ x ≤ 4 then txL tx L x else -1
noncomputable def rFound (f tx : Nat → Int32) (np L : Nat) (x y z : Int32) : Int32 :=
  if ¬ ((1 ≤ x ∧ x ≤ 4) ∧ (1 ≤ y ∧ y ≤ 5) ∧ (0 ≤ z ∧ z ≤ 2)) then -1 else if L = 0 then -2 else
  match fpl f np (txL tx L x) y with
  | none => -9
  | some (g, p) => if z = 0 then nI p else if z = 1 then nI (fsd f y g p) else b2i g
/-- the widest size that fits, from n down -/
def lsz (f tx : Nat → Int32) (L p : Nat) : Nat → Int32
  | 0 => -9
  | n + 1 => if txL tx L (nI (n + 1)) ≤ pl f p 0 then nI (n + 1) else lsz f tx L p n
noncomputable def rLarge (f tx : Nat → Int32) (np L : Nat) (x : Int32) : Int32 :=
  iteP (inR x np) (if L = 0 then -2 else lsz f tx L x.toNatClampNeg 4) (-1)
def rCount (f : Nat → Int32) (np no n L : Nat) (x : Int32) : Int32 :=
  if x = 0 ∨ x = 1 ∨ x = 2 ∨ x = 3 then cntS f x np else if x = 4 then f 1 else if x = 5 then f 0 else if x = 6 then f 2 else if x = 7 then rsh f no
  else if x = 8 then f 3 else if x = 9 then (if f 3 = -9 then -9 else f 4) else if x = 10 then f 5 else if x = 11 then f 7 else if x = 12 then f 8 else if x = 13 then f 9
  else if x = 14 then nI n else if x = 15 then nI L else -1
/-- every order's letters are counted -/
def WfL (f : Nat → Int32) (no : Nat) : Prop := ∀ o, o < no → ∃ L, od f o 5 = nI L ∧ L ≤ 12
/-- the row that was kept last -/
def svR (f sv : Nat → Int32) (n : Nat) : Nat → Int32 := fun k => if k < 343 then sv (343 * (n - 1) + k) else f k
theorem pti_c {f g g' : Nat → Int32} {o N : Nat} (h : ∀ k, k < 19 → g k = g' k) : pti f g o N = pti f g' o N := by
  funext j
  unfold pti
  by_cases c : 153 + 19 * o ≤ j ∧ j < 153 + 19 * (o + 1)
  · rw [if_pos c, if_pos c, h _ (by omega)]
  · rw [if_neg c, if_neg c]
theorem hur_c {f A B : Nat → Int32} {o R N : Nat} : hur f A o R N = hur f B o R N := by
  have : pti (tko f o N) (upd (cpl (fun k => od f o k) A 19) 4 1) R (N - 1) = pti (tko f o N) (upd (cpl (fun k => od f o k) B 19) 4 1) R (N - 1) := by
    apply pti_c
    intro k hk
    by_cases e : k = 4
    · subst e; rw [pk_us, pk_us]
    · rw [pk_un e, pk_un e]
      unfold cpl; rw [if_pos hk, if_pos hk]
  unfold hur; rw [this]
def hurR (f : Nat → Int32) (o no : Nat) : Nat → Int32 := hur f (fun _ => 0) o (rsh f no).toNatClampNeg no
noncomputable def rHurry (f : Nat → Int32) (no : Nat) (x : Int32) : Rs :=
  iteP (inR x no) (if od f x.toNatClampNeg 4 = 1 then (none, -2) else (some (hurR f x.toNatClampNeg no), rsh f no)) (none, -1)
def canR (f : Nat → Int32) (o no : Nat) : Nat → Int32 :=
  tko (if f 3 = nI o then rst (upl f (f 5).toNatClampNeg 2 0) else f) o no
noncomputable def rCancel (f : Nat → Int32) (no : Nat) (x : Int32) : Rs :=
  iteP (inR x no) (some (canR f x.toNatClampNeg no), nI (no - 1)) (none, -1)
/-- slip: o at work on the side s of the plate p -/
noncomputable def slpR (f : Nat → Int32) (o p s : Nat) : (Nat → Int32) × Int32 :=
  let g := upd (upl f p (3 + s) (od f o 3)) 8 (f 8 + 1)
  iteP (sOk g p (1 - s) (od f o 3)) (upd (upd g 6 (nI (1 - s))) 4 (eff f o), 1)
    (iteP (gOk g p s (od f o 3)) (upd (grd g p s) 4 (eff f o + 10), 2) (rst (upl g p 2 3), 3))
noncomputable def rSlip (f : Nat → Int32) : Rs :=
  if f 3 = -9 then (none, -2) else let r := slpR f (f 3).toNatClampNeg (f 5).toNatClampNeg (f 6).toNatClampNeg
    (some r.1, r.2)
/-- what is at work -/
def WfA (f : Nat → Int32) (np no : Nat) : Prop := f 3 = -9 ∨ ∃ o p s, f 3 = nI o ∧ o < no ∧ f 5 = nI p ∧ p < np ∧ f 6 = nI s ∧ s ≤ 1
/-- a new order's numbers -/
def ordN (tx : Nat → Int32) (L : Nat) (x y s d r : Int32) : Nat → Int32 := fun k =>
  if k = 0 then x else if k = 1 then y else if k = 2 then s else if k = 3 then d else if k = 4 then r else if k = 5 then nI L
  else if k < 18 then (if k < 6 + L then tx (k - 6) else 0) else 0
def ordR (f tx : Nat → Int32) (no L : Nat) (x y s d r : Int32) : Nat → Int32 := pti f (ordN tx L x y s d r) (if r = 1 then (rsh f no).toNatClampNeg else no) no
noncomputable def rOrder (f tx : Nat → Int32) (np no ns L : Nat) (x y s d r : Int32) : Rs :=
  iteP (inR x ns ∧ (1 ≤ y ∧ y ≤ 999) ∧ (1 ≤ s ∧ s ≤ 4) ∧ (1 ≤ d ∧ d ≤ 5) ∧ inR r 2)
    (iteP (L = 0 ∨ ¬ pOn f x y np = none ∨ isO f x y no) (none, -2)
      (if no = 10 then (none, -3) else (some (ordR f tx no L x y s d r), if r = 1 then rsh f no else nI no))) (none, -1)
