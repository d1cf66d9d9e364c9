/-! the model's small methods -/
set_option maxRecDepth 100000
section model1
variable {w : Wt} {σ : Sg}
/-- a row of n numbers at a -/
def Rw (σ : Sg) (a n : Nat) : Prop := kd σ a = 1 ∧ ln σ a = n
theorem c_in {x l h : Int32} {K : Sg → Int32 → Prop} (hK : K σ (b2i (decide (l ≤ x) && decide (x ≤ h)))) : CalI w mX3_in σ [.int x, .int l, .int h] K := by
  refine eX3_in _ _ _ (bX3_in_0 _ _ _ ?_)
  simp only [b2i, Bool.and_eq_true, decide_eq_true_eq] at hK
  simp only [Int32.not_lt] at *
  refine ⟨fun h1 => ?_, fun h1 => ⟨fun h2 => ?_, fun h2 => ?_⟩⟩
  · rw [if_neg (fun h => absurd h1 (Int32.not_lt.mpr h.1))] at hK; exact hK
  · rw [if_neg (fun h => absurd h2 (Int32.not_lt.mpr h.2))] at hK; exact hK
  · rw [if_pos ⟨h1, h2⟩] at hK; exact hK
theorem c_ofPlate {a : Nat} {P Q : Int32} {p k : Nat} {K : Sg → Int32 → Prop} (hr : Rw σ a 343) (hP : P = nI p) (hQ : Q = nI k) (hb : 10 + 7 * p + k < 343) (hK : K σ (pl (AI σ a) p k)) : CalI w mX3_ofPlate σ [va_rf (some a), .int P, .int Q] K := by
  refine eX3_ofPlate _ _ _ (bX3_ofPlate_0 _ _ _ ?_)
  simp only [Option.some.injEq, exists_eq_left', exists_eq_left, forall_eq, forall_eq', List.mem_cons, List.not_mem_nil, or_false, or_true, true_or, true_and, and_true, eq_self, Nat.reduceEqDiff, reduceCtorEq, forall_const, true_implies, false_implies, implies_true, not_true_eq_false, not_false_eq_true, kd_sFI, ln_sFI, FI_sFI, FR_sFI, AI_sFI, AR_sFI, nx_sFI, kd_sFR, ln_sFR, FI_sFR, FR_sFR, AI_sFR, AR_sFR, nx_sFR, kd_sAI, ln_sAI, FI_sAI, FR_sAI, AI_sAI, AR_sAI, nx_sAI, kd_sAR, ln_sAR, FI_sAR, FR_sAR, AI_sAR, AR_sAR, nx_sAR, kd_sAIs, ln_sAIs, FI_sAIs, FR_sAIs, AI_sAIs, AR_sAIs, nx_sAIs, kd_sARs, ln_sARs, FI_sARs, FR_sARs, AI_sARs, AR_sARs, nx_sARs, kd_nO, ln_nO, FI_nO, FR_nO, AI_nO, AR_nO, nx_nO, kd_nA, ln_nA, FI_nA, FR_nA, AI_nA, AR_nA, nx_nA, hr.1, hr.2, ixP hP hQ, nI_clamp (show 10 + 7 * p + k < 2 ^ 31 by omega), vpN hb (by decide)]
  exact hK
theorem c_setPlate {a : Nat} {P Q v : Int32} {p k : Nat} {K : Sg → Prop} (hr : Rw σ a 343) (hP : P = nI p) (hQ : Q = nI k) (hb : 10 + 7 * p + k < 343) (hK : K (sAIs σ a (upl (AI σ a) p k v))) : CalV w mX3_setPlate σ [va_rf (some a), .int P, .int Q, .int v] K := by
  refine eX3_setPlate _ _ _ _ (bX3_setPlate_0 _ _ _ _ ?_)
  simp only [Option.some.injEq, exists_eq_left', exists_eq_left, forall_eq, forall_eq', List.mem_cons, List.not_mem_nil, or_false, or_true, true_or, true_and, and_true, eq_self, Nat.reduceEqDiff, reduceCtorEq, forall_const, true_implies, false_implies, implies_true, not_true_eq_false, not_false_eq_true, kd_sFI, ln_sFI, FI_sFI, FR_sFI, AI_sFI, AR_sFI, nx_sFI, kd_sFR, ln_sFR, FI_sFR, FR_sFR, AI_sFR, AR_sFR, nx_sFR, kd_sAI, ln_sAI, FI_sAI, FR_sAI, AI_sAI, AR_sAI, nx_sAI, kd_sAR, ln_sAR, FI_sAR, FR_sAR, AI_sAR, AR_sAR, nx_sAR, kd_sAIs, ln_sAIs, FI_sAIs, FR_sAIs, AI_sAIs, AR_sAIs, nx_sAIs, kd_sARs, ln_sARs, FI_sARs, FR_sARs, AI_sARs, AR_sARs, nx_sARs, kd_nO, ln_nO, FI_nO, FR_nO, AI_nO, AR_nO, nx_nO, kd_nA, ln_nA, FI_nA, FR_nA, AI_nA, AR_nA, nx_nA, hr.1, hr.2, ixP hP hQ, nI_clamp (show 10 + 7 * p + k < 2 ^ 31 by omega), vpN hb (by decide), sAI_eq]
  exact hK
theorem c_of {a : Nat} {P Q : Int32} {p k : Nat} {K : Sg → Int32 → Prop} (hr : Rw σ a 343) (hP : P = nI p) (hQ : Q = nI k) (hb : 153 + 19 * p + k < 343) (hK : K σ (od (AI σ a) p k)) : CalI w mX3_of σ [va_rf (some a), .int P, .int Q] K := by
  refine eX3_of _ _ _ (bX3_of_0 _ _ _ ?_)
  simp only [Option.some.injEq, exists_eq_left', exists_eq_left, forall_eq, forall_eq', List.mem_cons, List.not_mem_nil, or_false, or_true, true_or, true_and, and_true, eq_self, Nat.reduceEqDiff, reduceCtorEq, forall_const, true_implies, false_implies, implies_true, not_true_eq_false, not_false_eq_true, kd_sFI, ln_sFI, FI_sFI, FR_sFI, AI_sFI, AR_sFI, nx_sFI, kd_sFR, ln_sFR, FI_sFR, FR_sFR, AI_sFR, AR_sFR, nx_sFR, kd_sAI, ln_sAI, FI_sAI, FR_sAI, AI_sAI, AR_sAI, nx_sAI, kd_sAR, ln_sAR, FI_sAR, FR_sAR, AI_sAR, AR_sAR, nx_sAR, kd_sAIs, ln_sAIs, FI_sAIs, FR_sAIs, AI_sAIs, AR_sAIs, nx_sAIs, kd_sARs, ln_sARs, FI_sARs, FR_sARs, AI_sARs, AR_sARs, nx_sARs, kd_nO, ln_nO, FI_nO, FR_nO, AI_nO, AR_nO, nx_nO, kd_nA, ln_nA, FI_nA, FR_nA, AI_nA, AR_nA, nx_nA, hr.1, hr.2, ixO hP hQ, nI_clamp (show 153 + 19 * p + k < 2 ^ 31 by omega), vpN hb (by decide)]
  exact hK
/-- how many plates are of a state -/
def cntS (f : Nat → Int32) (s : Int32) : Nat → Int32
  | 0 => 0
  | n + 1 => cntS f s n + if pl f n 2 = s then 1 else 0
theorem c_platesIn_l {a N : Nat} {st : Int32} {K : Sg → Int32 → Prop} (hr : Rw σ a 343) (h1 : AI σ a 1 = nI N) (hN : N ≤ 20) (hK : K σ (cntS (AI σ a) st N)) :
    ∀ d i, i + d = N → G w mX3_platesIn (KI K) 0 0 σ 4 [va_rf (some a), .int st, .int (cntS (AI σ a) st i), .int (nI i)] [] := by
  intro d
  induction d with
  | zero =>
    intro i hi
    refine bX3_platesIn_4 _ _ _ _ ?_
    obtain rfl : i = N := by omega
    simp only [Option.some.injEq, exists_eq_left', exists_eq_left, forall_eq, forall_eq', List.mem_cons, List.not_mem_nil, or_false, or_true, true_or, true_and, and_true, eq_self, Nat.reduceEqDiff, reduceCtorEq, forall_const, true_implies, false_implies, implies_true, not_true_eq_false, not_false_eq_true, kd_sFI, ln_sFI, FI_sFI, FR_sFI, AI_sFI, AR_sFI, nx_sFI, kd_sFR, ln_sFR, FI_sFR, FR_sFR, AI_sFR, AR_sFR, nx_sFR, kd_sAI, ln_sAI, FI_sAI, FR_sAI, AI_sAI, AR_sAI, nx_sAI, kd_sAR, ln_sAR, FI_sAR, FR_sAR, AI_sAR, AR_sAR, nx_sAR, kd_sAIs, ln_sAIs, FI_sAIs, FR_sAIs, AI_sAIs, AR_sAIs, nx_sAIs, kd_sARs, ln_sARs, FI_sARs, FR_sARs, AI_sARs, AR_sARs, nx_sARs, kd_nO, ln_nO, FI_nO, FR_nO, AI_nO, AR_nO, nx_nO, kd_nA, ln_nA, FI_nA, FR_nA, AI_nA, AR_nA, nx_nA, hr.1, hr.2, h1, show (1 : Int32).toNatClampNeg = 1 from rfl, vpN (show 1 < 343 by decide) (by decide), show vp_in 1 343 from vpN (show 1 < 343 by decide) (by decide)]
    exact ⟨fun _ => hK, fun h => absurd (nI_le (Nat.le_refl i) (by omega)) h⟩
  | succ d ih =>
    intro i hi
    refine bX3_platesIn_4 _ _ _ _ ?_
    simp only [Option.some.injEq, exists_eq_left', exists_eq_left, forall_eq, forall_eq', List.mem_cons, List.not_mem_nil, or_false, or_true, true_or, true_and, and_true, eq_self, Nat.reduceEqDiff, reduceCtorEq, forall_const, true_implies, false_implies, implies_true, not_true_eq_false, not_false_eq_true, kd_sFI, ln_sFI, FI_sFI, FR_sFI, AI_sFI, AR_sFI, nx_sFI, kd_sFR, ln_sFR, FI_sFR, FR_sFR, AI_sFR, AR_sFR, nx_sFR, kd_sAI, ln_sAI, FI_sAI, FR_sAI, AI_sAI, AR_sAI, nx_sAI, kd_sAR, ln_sAR, FI_sAR, FR_sAR, AI_sAR, AR_sAR, nx_sAR, kd_sAIs, ln_sAIs, FI_sAIs, FR_sAIs, AI_sAIs, AR_sAIs, nx_sAIs, kd_sARs, ln_sARs, FI_sARs, FR_sARs, AI_sARs, AR_sARs, nx_sARs, kd_nO, ln_nO, FI_nO, FR_nO, AI_nO, AR_nO, nx_nO, kd_nA, ln_nA, FI_nA, FR_nA, AI_nA, AR_nA, nx_nA, hr.1, hr.2, h1, show (1 : Int32).toNatClampNeg = 1 from rfl, vpN (show 1 < 343 by decide) (by decide), show vp_in 1 343 from vpN (show 1 < 343 by decide) (by decide)]
    refine ⟨fun h => absurd h (nI_ge (by omega) (by omega)), fun _ => ?_⟩
    refine c_ofPlate (p := i) (k := 2) hr rfl rfl (by omega) (fun _ => ⟨fun h => ?_, fun h => ?_⟩)
    · have := ih (i + 1) (by omega)
      rw [cntS, if_neg h, nI_succ] at this
      exact this
    · have := ih (i + 1) (by omega)
      rw [cntS, if_pos h, nI_succ] at this
      exact this
theorem c_platesIn {a N : Nat} {st : Int32} {K : Sg → Int32 → Prop} (hr : Rw σ a 343) (h1 : AI σ a 1 = nI N) (hN : N ≤ 20) (hK : K σ (cntS (AI σ a) st N)) : CalI w mX3_platesIn σ [va_rf (some a), .int st] K :=
  eX3_platesIn _ _ (bX3_platesIn_0 _ _ (c_platesIn_l hr h1 hN hK N 0 (by omega)))
end model1
