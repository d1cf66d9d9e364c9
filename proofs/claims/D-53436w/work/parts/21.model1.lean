/-! the model's small methods -/
set_option maxRecDepth 100000
section model1
variable {w : Wt} {σ : Sg}
theorem c_in {x l h : Int32} {K : Sg → Int32 → Prop} (hT : l ≤ x → x ≤ h → K σ 1) (hF : ¬ (l ≤ x ∧ x ≤ h) → K σ 0) : CalI w mX3_in σ [.int x, .int l, .int h] K := by
  refine eX3_in _ _ _ (bX3_in_0 _ _ _ ?_)
  exact ⟨fun h1 => hF (fun h => absurd h1 (Int32.not_lt.mpr h.1)), fun h1 => ⟨fun h2 => hF (fun h => absurd h2 (Int32.not_lt.mpr h.2)), fun h2 => hT (Int32.not_lt.mp h1) (Int32.not_lt.mp h2)⟩⟩
theorem c_ofPlate {a : Nat} {P Q : Int32} {p k : Nat} {K : Sg → Int32 → Prop} (hr : Rw σ a 343) (hP : P = nI p) (hQ : Q = nI k) (hb : 10 + 7 * p + k < 343) (hK : K σ (pl (AI σ a) p k)) : CalI w mX3_ofPlate σ [va_rf (some a), .int P, .int Q] K := by
  refine eX3_ofPlate _ _ _ (bX3_ofPlate_0 _ _ _ ?_)
  simp only [Option.some.injEq, exists_eq_left', exists_eq_left, forall_eq, forall_eq', List.mem_cons, List.not_mem_nil, or_false, or_true, true_or, true_and, and_true, eq_self, Nat.reduceEqDiff, reduceCtorEq, forall_const, true_implies, false_implies, implies_true, not_true_eq_false, not_false_eq_true, false_and, and_false, false_or, if_true, if_false, kd_sFI, ln_sFI, FI_sFI, FR_sFI, AI_sFI, AR_sFI, nx_sFI, kd_sFR, ln_sFR, FI_sFR, FR_sFR, AI_sFR, AR_sFR, nx_sFR, kd_sAI, ln_sAI, FI_sAI, FR_sAI, AI_sAI, AR_sAI, nx_sAI, kd_sAR, ln_sAR, FI_sAR, FR_sAR, AI_sAR, AR_sAR, nx_sAR, kd_sAIs, ln_sAIs, FI_sAIs, FR_sAIs, AR_sAIs, nx_sAIs, kd_sARs, ln_sARs, FI_sARs, FR_sARs, AI_sARs, nx_sARs, kd_nO, ln_nO, FI_nO, FR_nO, AI_nO, AR_nO, nx_nO, kd_nA, ln_nA, FI_nA, FR_nA, AI_nA, AR_nA, nx_nA, hr.1, hr.2, ixP hP hQ, nI_clamp (show 10 + 7 * p + k < 2 ^ 31 by omega), vpN hb (by decide)]
  exact hK
theorem c_setPlate {a : Nat} {P Q v : Int32} {p k : Nat} {K : Sg → Prop} (hr : Rw σ a 343) (hP : P = nI p) (hQ : Q = nI k) (hb : 10 + 7 * p + k < 343) (hK : K (sAIs σ a (upl (AI σ a) p k v))) : CalV w mX3_setPlate σ [va_rf (some a), .int P, .int Q, .int v] K := by
  refine eX3_setPlate _ _ _ _ (bX3_setPlate_0 _ _ _ _ ?_)
  simp only [Option.some.injEq, exists_eq_left', exists_eq_left, forall_eq, forall_eq', List.mem_cons, List.not_mem_nil, or_false, or_true, true_or, true_and, and_true, eq_self, Nat.reduceEqDiff, reduceCtorEq, forall_const, true_implies, false_implies, implies_true, not_true_eq_false, not_false_eq_true, false_and, and_false, false_or, if_true, if_false, kd_sFI, ln_sFI, FI_sFI, FR_sFI, AI_sFI, AR_sFI, nx_sFI, kd_sFR, ln_sFR, FI_sFR, FR_sFR, AI_sFR, AR_sFR, nx_sFR, kd_sAI, ln_sAI, FI_sAI, FR_sAI, AI_sAI, AR_sAI, nx_sAI, kd_sAR, ln_sAR, FI_sAR, FR_sAR, AI_sAR, AR_sAR, nx_sAR, kd_sAIs, ln_sAIs, FI_sAIs, FR_sAIs, AR_sAIs, nx_sAIs, kd_sARs, ln_sARs, FI_sARs, FR_sARs, AI_sARs, nx_sARs, kd_nO, ln_nO, FI_nO, FR_nO, AI_nO, AR_nO, nx_nO, kd_nA, ln_nA, FI_nA, FR_nA, AI_nA, AR_nA, nx_nA, hr.1, hr.2, ixP hP hQ, nI_clamp (show 10 + 7 * p + k < 2 ^ 31 by omega), vpN hb (by decide), sAI_eq]
  exact hK
theorem c_of {a : Nat} {P Q : Int32} {p k : Nat} {K : Sg → Int32 → Prop} (hr : Rw σ a 343) (hP : P = nI p) (hQ : Q = nI k) (hb : 153 + 19 * p + k < 343) (hK : K σ (od (AI σ a) p k)) : CalI w mX3_of σ [va_rf (some a), .int P, .int Q] K := by
  refine eX3_of _ _ _ (bX3_of_0 _ _ _ ?_)
  simp only [Option.some.injEq, exists_eq_left', exists_eq_left, forall_eq, forall_eq', List.mem_cons, List.not_mem_nil, or_false, or_true, true_or, true_and, and_true, eq_self, Nat.reduceEqDiff, reduceCtorEq, forall_const, true_implies, false_implies, implies_true, not_true_eq_false, not_false_eq_true, false_and, and_false, false_or, if_true, if_false, kd_sFI, ln_sFI, FI_sFI, FR_sFI, AI_sFI, AR_sFI, nx_sFI, kd_sFR, ln_sFR, FI_sFR, FR_sFR, AI_sFR, AR_sFR, nx_sFR, kd_sAI, ln_sAI, FI_sAI, FR_sAI, AI_sAI, AR_sAI, nx_sAI, kd_sAR, ln_sAR, FI_sAR, FR_sAR, AI_sAR, AR_sAR, nx_sAR, kd_sAIs, ln_sAIs, FI_sAIs, FR_sAIs, AR_sAIs, nx_sAIs, kd_sARs, ln_sARs, FI_sARs, FR_sARs, AI_sARs, nx_sARs, kd_nO, ln_nO, FI_nO, FR_nO, AI_nO, AR_nO, nx_nO, kd_nA, ln_nA, FI_nA, FR_nA, AI_nA, AR_nA, nx_nA, hr.1, hr.2, ixO hP hQ, nI_clamp (show 153 + 19 * p + k < 2 ^ 31 by omega), vpN hb (by decide)]
  exact hK
theorem v1 : vp_in 1 343 := vpN (show 1 < 343 by decide) (by decide)
theorem v2 : vp_in 2 343 := vpN (show 2 < 343 by decide) (by decide)
theorem v3 : vp_in 3 343 := vpN (show 3 < 343 by decide) (by decide)
theorem cl1 : (1 : Int32).toNatClampNeg = 1 := rfl
theorem cl2 : (2 : Int32).toNatClampNeg = 2 := rfl
theorem cl3 : (3 : Int32).toNatClampNeg = 3 := rfl
theorem c_platesIn {a N : Nat} {st : Int32} {K : Sg → Int32 → Prop} (hr : Rw σ a 343) (h1 : AI σ a 1 = nI N) (hN : N ≤ 20) (hK : K σ (cntS (AI σ a) st N)) : CalI w mX3_platesIn σ [va_rf (some a), .int st] K := by
  refine eX3_platesIn _ _ (bX3_platesIn_0 _ _ (upL (P := fun i => G w mX3_platesIn (KI K) 0 0 σ 4 [va_rf (some a), .int st, .int (cntS (AI σ a) st i), .int (nI i)] []) (N := N) ?_ ?_))
  · refine bX3_platesIn_4 _ _ _ _ ?_
    simp only [Option.some.injEq, exists_eq_left', exists_eq_left, forall_eq, forall_eq', List.mem_cons, List.not_mem_nil, or_false, or_true, true_or, true_and, and_true, eq_self, Nat.reduceEqDiff, reduceCtorEq, forall_const, true_implies, false_implies, implies_true, not_true_eq_false, not_false_eq_true, false_and, and_false, false_or, if_true, if_false, kd_sFI, ln_sFI, FI_sFI, FR_sFI, AI_sFI, AR_sFI, nx_sFI, kd_sFR, ln_sFR, FI_sFR, FR_sFR, AI_sFR, AR_sFR, nx_sFR, kd_sAI, ln_sAI, FI_sAI, FR_sAI, AI_sAI, AR_sAI, nx_sAI, kd_sAR, ln_sAR, FI_sAR, FR_sAR, AI_sAR, AR_sAR, nx_sAR, kd_sAIs, ln_sAIs, FI_sAIs, FR_sAIs, AR_sAIs, nx_sAIs, kd_sARs, ln_sARs, FI_sARs, FR_sARs, AI_sARs, nx_sARs, kd_nO, ln_nO, FI_nO, FR_nO, AI_nO, AR_nO, nx_nO, kd_nA, ln_nA, FI_nA, FR_nA, AI_nA, AR_nA, nx_nA, hr.1, hr.2, h1, cl1, v1]
    exact ⟨fun _ => hK, fun h => absurd (nI_le (Nat.le_refl N) (by omega)) h⟩
  · intro i hi ih
    refine bX3_platesIn_4 _ _ _ _ ?_
    simp only [Option.some.injEq, exists_eq_left', exists_eq_left, forall_eq, forall_eq', List.mem_cons, List.not_mem_nil, or_false, or_true, true_or, true_and, and_true, eq_self, Nat.reduceEqDiff, reduceCtorEq, forall_const, true_implies, false_implies, implies_true, not_true_eq_false, not_false_eq_true, false_and, and_false, false_or, if_true, if_false, kd_sFI, ln_sFI, FI_sFI, FR_sFI, AI_sFI, AR_sFI, nx_sFI, kd_sFR, ln_sFR, FI_sFR, FR_sFR, AI_sFR, AR_sFR, nx_sFR, kd_sAI, ln_sAI, FI_sAI, FR_sAI, AI_sAI, AR_sAI, nx_sAI, kd_sAR, ln_sAR, FI_sAR, FR_sAR, AI_sAR, AR_sAR, nx_sAR, kd_sAIs, ln_sAIs, FI_sAIs, FR_sAIs, AR_sAIs, nx_sAIs, kd_sARs, ln_sARs, FI_sARs, FR_sARs, AI_sARs, nx_sARs, kd_nO, ln_nO, FI_nO, FR_nO, AI_nO, AR_nO, nx_nO, kd_nA, ln_nA, FI_nA, FR_nA, AI_nA, AR_nA, nx_nA, hr.1, hr.2, h1, cl1, v1]
    refine ⟨fun h => absurd h (nI_ge (by omega) (by omega)), fun _ => ?_⟩
    refine c_ofPlate (p := i) (k := 2) hr rfl rfl (by omega) (fun _ => ⟨fun h => ?_, fun h => ?_⟩)
    · rw [cntS, if_neg h, nI_succ] at ih; exact ih
    · rw [cntS, if_pos h, nI_succ] at ih; exact ih
theorem c_depthOf {a : Nat} {P S : Int32} {p s : Nat} {K : Sg → Int32 → Prop} (hr : Rw σ a 343) (hP : P = nI p) (hS : S = nI s) (hb : 13 + 7 * p + s < 343) (hK : K σ (pl (AI σ a) p (3 + s))) : CalI w mX3_depthOf σ [va_rf (some a), .int P, .int S] K :=
  eX3_depthOf _ _ _ (bX3_depthOf_0 _ _ _ (c_ofPlate hr hP (thr_s hS) (by omega) (fun _ => hK)))
theorem c_leftOver {a : Nat} {P S d t : Int32} {p s : Nat} {K : Sg → Int32 → Prop} (hr : Rw σ a 343) (hP : P = nI p) (hS : S = nI s) (hs : s ≤ 1) (hp : p < 20) (hK : K σ (lo (AI σ a) p s d t)) : CalI w mX3_leftOver σ [va_rf (some a), .int P, .int S, .int d, .int t] K :=
  eX3_leftOver _ _ _ _ _ (bX3_leftOver_0 _ _ _ _ _ (c_ofPlate hr hP (k := 1) rfl (by omega) (fun _ => c_depthOf hr hP (one_s hS hs) (by omega) (fun _ => hK))))
theorem c_isReady3 {a : Nat} {P S d : Int32} {p s : Nat} {K : Sg → Int32 → Prop} (hr : Rw σ a 343) (hP : P = nI p) (hS : S = nI s) (hs : s ≤ 1) (hp : p < 20) (hT : sOk (AI σ a) p s d → K σ 1) (hF : ¬ sOk (AI σ a) p s d → K σ 0) : CalI w mX3_isReady σ [va_rf (some a), .int P, .int S, .int d] K := by
  refine eX3_isReady _ _ _ _ (bX3_isReady_0 _ _ _ _ (c_depthOf hr hP hS (by omega) (fun _ => ⟨fun h => hF (fun q => h q.1), fun h => ?_⟩)))
  exact c_leftOver hr hP hS hs hp (fun _ => ⟨fun h2 => hF (fun q => q.2 h2), fun h2 => hT ⟨h, h2⟩⟩)
theorem c_canBeGround3 {a : Nat} {P S d : Int32} {p s : Nat} {K : Sg → Int32 → Prop} (hr : Rw σ a 343) (hP : P = nI p) (hS : S = nI s) (hs : s ≤ 1) (hp : p < 20) (hT : gOk (AI σ a) p s d → K σ 1) (hF : ¬ gOk (AI σ a) p s d → K σ 0) : CalI w mX3_canBeGround σ [va_rf (some a), .int P, .int S, .int d] K := by
  refine eX3_canBeGround _ _ _ _ (bX3_canBeGround_0 _ _ _ _ (c_depthOf hr hP hS (by omega) (fun _ => ⟨fun h => hF (fun q => q.1 h), fun h => ?_⟩)))
  exact c_leftOver hr hP hS hs hp (fun _ => ⟨fun h2 => hF (fun q => q.2 h2), fun h2 => hT ⟨h, h2⟩⟩)
theorem c_mayTake {a : Nat} {P S d g : Int32} {p s : Nat} {b : Bool} {K : Sg → Int32 → Prop} (hr : Rw σ a 343) (hP : P = nI p) (hS : S = nI s) (hs : s ≤ 1) (hp : p < 20) (hg : g = b2i b) (hT : mTk (AI σ a) p s d b → K σ 1) (hF : ¬ mTk (AI σ a) p s d b → K σ 0) : CalI w mX3_mayTake σ [va_rf (some a), .int P, .int S, .int d, .int g] K := by
  subst hg
  refine eX3_mayTake _ _ _ _ _ (bX3_mayTake_0 _ _ _ _ _ ?_)
  cases b
  · refine ⟨fun _ => ?_, fun h => absurd rfl h⟩
    exact c_isReady3 hr hP hS hs hp (fun q _ => ⟨Or.inr rfl, hT q⟩) (fun q _ => ⟨Or.inl rfl, hF q⟩)
  · refine ⟨fun h => absurd h (by decide), fun _ => ?_⟩
    exact c_canBeGround3 hr hP hS hs hp (fun q _ => ⟨Or.inr rfl, hT q⟩) (fun q _ => ⟨Or.inl rfl, hF q⟩)
theorem c_isBetter {a : Nat} {P : Int32} {p : Nat} {q : Option Nat} {K : Sg → Int32 → Prop} (hr : Rw σ a 343) (hP : P = nI p) (hp : p < 20) (hq : ∀ x, q = some x → x < 20) (hT : (∀ x, q = some x → btr (AI σ a) p x) → K σ 1) (hF : ¬ (∀ x, q = some x → btr (AI σ a) p x) → K σ 0) : CalI w mX3_isBetter σ [va_rf (some a), .int P, .int (oI q)] K := by
  refine eX3_isBetter _ _ _ (bX3_isBetter_0 _ _ _ ?_)
  cases q with
  | none => exact ⟨fun h => absurd rfl h, fun _ => hT (fun x h => by cases h)⟩
  | some x =>
    have hx := hq x rfl
    refine ⟨fun _ => ?_, fun h => absurd h (m9n (by omega))⟩
    refine c_ofPlate hr hP (k := 0) rfl (by omega) (fun _ => ?_)
    refine c_ofPlate hr (p := x) rfl (k := 0) rfl (by omega) (fun _ => ?_)
    refine ⟨fun h => hT (fun y e => by cases e; exact Or.inl h), fun h => ⟨fun h2 => hF (fun q => ?_), fun h2 => ?_⟩⟩
    · rcases q x rfl with q | q
      · exact h q
      · exact h2 q.1
    · refine c_ofPlate hr hP (k := 1) rfl (by omega) (fun _ => ?_)
      refine c_ofPlate hr (p := x) rfl (k := 1) rfl (by omega) (fun _ => ?_)
      refine ⟨fun h3 => hF (fun q => ?_), fun h3 => hT (fun y e => by cases e; exact Or.inr ⟨h2, h3⟩)⟩
      rcases q x rfl with q | q
      · exact h q
      · exact q.2 h3
theorem c_widthOf {c : Int32} {K : Sg → Int32 → Prop} (hK : K σ (wid c)) : CalI w mX3_widthOf σ [.int c] K := by
  refine eX3_widthOf _ (bX3_widthOf_0 _ ?_)
  unfold wid at hK
  refine ⟨fun h => by rw [if_pos h] at hK; exact hK, fun h => ?_, fun h => ?_⟩
  · rw [if_neg, if_pos h] at hK
    · exact hK
    · intro q; rcases h with h | h <;> (rw [h] at q; revert q; decide)
  · rw [if_neg (by simp only [h.1, h.2.1, h.2.2.1, h.2.2.2.1, h.2.2.2.2.1, h.2.2.2.2.2.1, or_self, not_false_eq_true]), if_neg (by simp only [h.2.2.2.2.2.2.1, h.2.2.2.2.2.2.2, or_self, not_false_eq_true])] at hK
    exact hK
end model1
