/-! the model's methods over a row -/
set_option maxRecDepth 100000
section model2
variable {w : Wt} {σ : Sg}
theorem v4 : vp_in 4 343 := vpN (show 4 < 343 by decide) (by decide)
theorem v5 : vp_in 5 343 := vpN (show 5 < 343 by decide) (by decide)
theorem v6 : vp_in 6 343 := vpN (show 6 < 343 by decide) (by decide)
theorem v7 : vp_in 7 343 := vpN (show 7 < 343 by decide) (by decide)
theorem v8 : vp_in 8 343 := vpN (show 8 < 343 by decide) (by decide)
theorem v9 : vp_in 9 343 := vpN (show 9 < 343 by decide) (by decide)
theorem v0 : vp_in 0 343 := vpN (show 0 < 343 by decide) (by decide)
theorem cl0 : (0 : Int32).toNatClampNeg = 0 := rfl
theorem cl4 : (4 : Int32).toNatClampNeg = 4 := rfl
theorem cl5 : (5 : Int32).toNatClampNeg = 5 := rfl
theorem cl6 : (6 : Int32).toNatClampNeg = 6 := rfl
theorem cl7 : (7 : Int32).toNatClampNeg = 7 := rfl
theorem cl8 : (8 : Int32).toNatClampNeg = 8 := rfl
theorem cl9 : (9 : Int32).toNatClampNeg = 9 := rfl
theorem c_effort3 {a : Nat} {O : Int32} {o : Nat} {K : Sg → Int32 → Prop} (hr : Rw σ a 343) (hO : O = nI o) (ho : o < 10) (hK : K σ (eff (AI σ a) o)) : CalI w mX3_effort σ [va_rf (some a), .int O] K := by
  refine eX3_effort _ _ (bX3_effort_0 _ _ ?_)
  refine c_of hr hO (k := 5) rfl (by omega) (fun _ => ?_)
  refine c_of hr hO (k := 2) rfl (by omega) (fun _ => ?_)
  exact c_of hr hO (k := 3) rfl (by omega) (fun _ => hK)
theorem c_nameLength {a : Nat} {O : Int32} {o L : Nat} {K : Sg → Int32 → Prop} (hr : Rw σ a 343) (hO : O = nI o) (ho : o < 10) (hL : od (AI σ a) o 5 = nI L) (hL2 : L ≤ 12) (hK : K σ (nml (AI σ a) o L)) : CalI w mX3_nameLength σ [va_rf (some a), .int O] K := by
  refine eX3_nameLength _ _ (bX3_nameLength_0 _ _ ?_)
  refine c_of hr hO (k := 5) rfl (by omega) (fun _ => ?_)
  rw [hL]
  refine upL (P := fun i => G w mX3_nameLength (KI K) 0 0 σ 14 [va_rf (some a), .int O, .int (nI L), .int (wsum (fun k => od (AI σ a) o (6 + k)) (nI L - 1) i), .int (nI i)] []) (N := L) ?_ ?_
  · refine bX3_nameLength_14 _ _ _ _ _ ⟨fun _ => ?_, fun h => absurd (nI_le (Nat.le_refl L) (by omega)) h⟩
    exact c_of hr hO (k := 2) rfl (by omega) (fun _ => hK)
  · intro i hi ih
    refine bX3_nameLength_14 _ _ _ _ _ ⟨fun h => absurd h (nI_ge (by omega) (by omega)), fun _ => ?_⟩
    refine c_of hr hO (six_s rfl) (by omega) (fun _ => c_widthOf (fun _ => ?_))
    rw [wsum, nI_succ] at ih; exact ih
theorem c_platesOn3 {a N : Nat} {sh : Int32} {K : Sg → Int32 → Prop} (hr : Rw σ a 343) (h1 : AI σ a 1 = nI N) (hN : N ≤ 20) (hK : K σ (cntO (AI σ a) sh N)) : CalI w mX3_platesOn σ [va_rf (some a), .int sh] K := by
  refine eX3_platesOn _ _ (bX3_platesOn_0 _ _ (upL (P := fun i => G w mX3_platesOn (KI K) 0 0 σ 4 [va_rf (some a), .int sh, .int (cntO (AI σ a) sh i), .int (nI i)] []) (N := N) ?_ ?_))
  · refine bX3_platesOn_4 _ _ _ _ ?_
    simp only [Option.some.injEq, exists_eq_left', exists_eq_left, forall_eq, forall_eq', List.mem_cons, List.not_mem_nil, or_false, or_true, true_or, true_and, and_true, eq_self, Nat.reduceEqDiff, reduceCtorEq, forall_const, true_implies, false_implies, implies_true, not_true_eq_false, not_false_eq_true, false_and, and_false, false_or, if_true, if_false, kd_sFI, ln_sFI, FI_sFI, FR_sFI, AI_sFI, AR_sFI, nx_sFI, kd_sFR, ln_sFR, FI_sFR, FR_sFR, AI_sFR, AR_sFR, nx_sFR, kd_sAI, ln_sAI, FI_sAI, FR_sAI, AI_sAI, AR_sAI, nx_sAI, kd_sAR, ln_sAR, FI_sAR, FR_sAR, AI_sAR, AR_sAR, nx_sAR, kd_sAIs, ln_sAIs, FI_sAIs, FR_sAIs, AR_sAIs, nx_sAIs, kd_sARs, ln_sARs, FI_sARs, FR_sARs, AI_sARs, nx_sARs, kd_nO, ln_nO, FI_nO, FR_nO, AI_nO, AR_nO, nx_nO, kd_nA, ln_nA, FI_nA, FR_nA, AI_nA, AR_nA, nx_nA, hr.1, hr.2, h1, cl1, v1]
    exact ⟨fun _ => hK, fun h => absurd (nI_le (Nat.le_refl N) (by omega)) h⟩
  · intro i hi ih
    refine bX3_platesOn_4 _ _ _ _ ?_
    simp only [Option.some.injEq, exists_eq_left', exists_eq_left, forall_eq, forall_eq', List.mem_cons, List.not_mem_nil, or_false, or_true, true_or, true_and, and_true, eq_self, Nat.reduceEqDiff, reduceCtorEq, forall_const, true_implies, false_implies, implies_true, not_true_eq_false, not_false_eq_true, false_and, and_false, false_or, if_true, if_false, kd_sFI, ln_sFI, FI_sFI, FR_sFI, AI_sFI, AR_sFI, nx_sFI, kd_sFR, ln_sFR, FI_sFR, FR_sFR, AI_sFR, AR_sFR, nx_sFR, kd_sAI, ln_sAI, FI_sAI, FR_sAI, AI_sAI, AR_sAI, nx_sAI, kd_sAR, ln_sAR, FI_sAR, FR_sAR, AI_sAR, AR_sAR, nx_sAR, kd_sAIs, ln_sAIs, FI_sAIs, FR_sAIs, AR_sAIs, nx_sAIs, kd_sARs, ln_sARs, FI_sARs, FR_sARs, AI_sARs, nx_sARs, kd_nO, ln_nO, FI_nO, FR_nO, AI_nO, AR_nO, nx_nO, kd_nA, ln_nA, FI_nA, FR_nA, AI_nA, AR_nA, nx_nA, hr.1, hr.2, h1, cl1, v1]
    refine ⟨fun h => absurd h (nI_ge (by omega) (by omega)), fun _ => ?_⟩
    refine c_ofPlate (p := i) (k := 2) hr rfl rfl (by omega) (fun _ => ⟨fun h => ?_, fun h => ?_⟩)
    · rw [cntO, if_neg (fun q => h q.1), nI_succ] at ih; exact ih
    · refine c_ofPlate (p := i) (k := 5) hr rfl rfl (by omega) (fun _ => ⟨fun h2 => ?_, fun h2 => ?_⟩)
      · rw [cntO, if_neg (fun q => h2 q.2), nI_succ] at ih; exact ih
      · rw [cntO, if_pos ⟨h, h2⟩, nI_succ] at ih; exact ih
theorem c_plateOn {a N : Nat} {sh y : Int32} {K : Sg → Int32 → Prop} (hr : Rw σ a 343) (h1 : AI σ a 1 = nI N) (hN : N ≤ 20) (hK : K σ (oI (pOn (AI σ a) sh y N))) : CalI w mX3_plateOn σ [va_rf (some a), .int sh, .int y] K := by
  refine eX3_plateOn _ _ _ (bX3_plateOn_0 _ _ _ (upL (P := fun i => ∀ v, G w mX3_plateOn (KI K) 0 0 σ 6 [va_rf (some a), .int sh, .int y, .int (oI (pOn (AI σ a) sh y i)), .int (nI i), v] []) (N := N) ?_ ?_ U_))
  · intro v
    refine bX3_plateOn_6 _ _ _ _ _ _ ?_
    simp only [Option.some.injEq, exists_eq_left', exists_eq_left, forall_eq, forall_eq', List.mem_cons, List.not_mem_nil, or_false, or_true, true_or, true_and, and_true, eq_self, Nat.reduceEqDiff, reduceCtorEq, forall_const, true_implies, false_implies, implies_true, not_true_eq_false, not_false_eq_true, false_and, and_false, false_or, if_true, if_false, kd_sFI, ln_sFI, FI_sFI, FR_sFI, AI_sFI, AR_sFI, nx_sFI, kd_sFR, ln_sFR, FI_sFR, FR_sFR, AI_sFR, AR_sFR, nx_sFR, kd_sAI, ln_sAI, FI_sAI, FR_sAI, AI_sAI, AR_sAI, nx_sAI, kd_sAR, ln_sAR, FI_sAR, FR_sAR, AI_sAR, AR_sAR, nx_sAR, kd_sAIs, ln_sAIs, FI_sAIs, FR_sAIs, AR_sAIs, nx_sAIs, kd_sARs, ln_sARs, FI_sARs, FR_sARs, AI_sARs, nx_sARs, kd_nO, ln_nO, FI_nO, FR_nO, AI_nO, AR_nO, nx_nO, kd_nA, ln_nA, FI_nA, FR_nA, AI_nA, AR_nA, nx_nA, hr.1, hr.2, h1, cl1, v1]
    exact ⟨fun _ => hK, fun h => absurd (nI_le (Nat.le_refl N) (by omega)) h⟩
  · intro i hi ih v
    refine bX3_plateOn_6 _ _ _ _ _ _ ?_
    simp only [Option.some.injEq, exists_eq_left', exists_eq_left, forall_eq, forall_eq', List.mem_cons, List.not_mem_nil, or_false, or_true, true_or, true_and, and_true, eq_self, Nat.reduceEqDiff, reduceCtorEq, forall_const, true_implies, false_implies, implies_true, not_true_eq_false, not_false_eq_true, false_and, and_false, false_or, if_true, if_false, kd_sFI, ln_sFI, FI_sFI, FR_sFI, AI_sFI, AR_sFI, nx_sFI, kd_sFR, ln_sFR, FI_sFR, FR_sFR, AI_sFR, AR_sFR, nx_sFR, kd_sAI, ln_sAI, FI_sAI, FR_sAI, AI_sAI, AR_sAI, nx_sAI, kd_sAR, ln_sAR, FI_sAR, FR_sAR, AI_sAR, AR_sAR, nx_sAR, kd_sAIs, ln_sAIs, FI_sAIs, FR_sAIs, AR_sAIs, nx_sAIs, kd_sARs, ln_sARs, FI_sARs, FR_sARs, AI_sARs, nx_sARs, kd_nO, ln_nO, FI_nO, FR_nO, AI_nO, AR_nO, nx_nO, kd_nA, ln_nA, FI_nA, FR_nA, AI_nA, AR_nA, nx_nA, hr.1, hr.2, h1, cl1, v1]
    refine ⟨fun h => absurd h (nI_ge (by omega) (by omega)), fun _ => ?_⟩
    refine c_ofPlate (p := i) (k := 2) hr rfl rfl (by omega) (fun _ => ⟨fun h => ?_, fun h => ?_⟩)
    · rw [pOn, if_neg (fun q => h q.1.1), nI_succ] at ih; exact ih _
    · refine c_ofPlate (p := i) (k := 5) hr rfl rfl (by omega) (fun _ => ⟨fun h2 => ?_, fun h2 => ?_⟩)
      · rw [pOn, if_neg (fun q => h2 q.1.2), nI_succ] at ih; exact ih _
      · refine c_ofPlate (p := i) (k := 6) hr rfl rfl (by omega) (fun _ => ⟨fun h3 => ?_, fun h3 => ?_⟩)
        · rw [pOn, if_neg (fun q => h3 q.2), nI_succ] at ih; exact ih _
        · rw [pOn, if_pos ⟨⟨h, h2⟩, h3⟩, nI_succ] at ih; exact ih _
theorem c_yearOn {a N : Nat} {sh g : Int32} {K : Sg → Int32 → Prop} (hr : Rw σ a 343) (h1 : AI σ a 1 = nI N) (hN : N ≤ 20) (hK : K σ (yOn (AI σ a) sh g N)) : CalI w mX3_yearOn σ [va_rf (some a), .int sh, .int g] K := by
  refine eX3_yearOn _ _ _ (bX3_yearOn_0 _ _ _ (upL (P := fun i => ∀ v u, G w mX3_yearOn (KI K) 0 0 σ 6 [va_rf (some a), .int sh, .int g, .int (yOn (AI σ a) sh g i), .int (nI i), v, u] []) (N := N) ?_ ?_ U_ U_))
  · intro v u
    refine bX3_yearOn_6 _ _ _ _ _ _ _ ?_
    simp only [Option.some.injEq, exists_eq_left', exists_eq_left, forall_eq, forall_eq', List.mem_cons, List.not_mem_nil, or_false, or_true, true_or, true_and, and_true, eq_self, Nat.reduceEqDiff, reduceCtorEq, forall_const, true_implies, false_implies, implies_true, not_true_eq_false, not_false_eq_true, false_and, and_false, false_or, if_true, if_false, kd_sFI, ln_sFI, FI_sFI, FR_sFI, AI_sFI, AR_sFI, nx_sFI, kd_sFR, ln_sFR, FI_sFR, FR_sFR, AI_sFR, AR_sFR, nx_sFR, kd_sAI, ln_sAI, FI_sAI, FR_sAI, AI_sAI, AR_sAI, nx_sAI, kd_sAR, ln_sAR, FI_sAR, FR_sAR, AI_sAR, AR_sAR, nx_sAR, kd_sAIs, ln_sAIs, FI_sAIs, FR_sAIs, AR_sAIs, nx_sAIs, kd_sARs, ln_sARs, FI_sARs, FR_sARs, AI_sARs, nx_sARs, kd_nO, ln_nO, FI_nO, FR_nO, AI_nO, AR_nO, nx_nO, kd_nA, ln_nA, FI_nA, FR_nA, AI_nA, AR_nA, nx_nA, hr.1, hr.2, h1, cl1, v1]
    exact ⟨fun _ => hK, fun h => absurd (nI_le (Nat.le_refl N) (by omega)) h⟩
  · intro i hi ih v u
    refine bX3_yearOn_6 _ _ _ _ _ _ _ ?_
    simp only [Option.some.injEq, exists_eq_left', exists_eq_left, forall_eq, forall_eq', List.mem_cons, List.not_mem_nil, or_false, or_true, true_or, true_and, and_true, eq_self, Nat.reduceEqDiff, reduceCtorEq, forall_const, true_implies, false_implies, implies_true, not_true_eq_false, not_false_eq_true, false_and, and_false, false_or, if_true, if_false, kd_sFI, ln_sFI, FI_sFI, FR_sFI, AI_sFI, AR_sFI, nx_sFI, kd_sFR, ln_sFR, FI_sFR, FR_sFR, AI_sFR, AR_sFR, nx_sFR, kd_sAI, ln_sAI, FI_sAI, FR_sAI, AI_sAI, AR_sAI, nx_sAI, kd_sAR, ln_sAR, FI_sAR, FR_sAR, AI_sAR, AR_sAR, nx_sAR, kd_sAIs, ln_sAIs, FI_sAIs, FR_sAIs, AR_sAIs, nx_sAIs, kd_sARs, ln_sARs, FI_sARs, FR_sARs, AI_sARs, nx_sARs, kd_nO, ln_nO, FI_nO, FR_nO, AI_nO, AR_nO, nx_nO, kd_nA, ln_nA, FI_nA, FR_nA, AI_nA, AR_nA, nx_nA, hr.1, hr.2, h1, cl1, v1]
    refine ⟨fun h => absurd h (nI_ge (by omega) (by omega)), fun _ => ?_⟩
    refine c_ofPlate (p := i) (k := 2) hr rfl rfl (by omega) (fun _ => ⟨fun h => ?_, fun h => ?_⟩)
    · refine c_ofPlate (p := i) (k := 6) hr rfl rfl (by omega) (fun _ => ?_)
      rw [yOn, if_neg (fun q => h q.1.1), nI_succ] at ih; exact ih _ _
    · refine c_ofPlate (p := i) (k := 5) hr rfl rfl (by omega) (fun _ => ⟨fun h2 => ?_, fun h2 => ?_⟩)
      · refine c_ofPlate (p := i) (k := 6) hr rfl rfl (by omega) (fun _ => ?_)
        rw [yOn, if_neg (fun q => h2 q.1.2), nI_succ] at ih; exact ih _ _
      · refine c_ofPlate (p := i) (k := 6) hr rfl rfl (by omega) (fun _ => ⟨fun h3 => ?_, fun h3 => ⟨fun h4 => ?_, fun h4 => ?_⟩⟩)
        · rw [yOn, if_pos ⟨⟨h, h2⟩, Or.inl h3⟩, nI_succ] at ih; exact ih _ _
        · rw [yOn, if_neg (fun q => q.2.elim h3 (fun z => z h4)), nI_succ] at ih; exact ih _ _
        · rw [yOn, if_pos ⟨⟨h, h2⟩, Or.inr h4⟩, nI_succ] at ih; exact ih _ _
theorem c_rushes3 {a N : Nat} {K : Sg → Int32 → Prop} (hr : Rw σ a 343) (h1 : AI σ a 2 = nI N) (hN : N ≤ 10) (hK : K σ (rsh (AI σ a) N)) : CalI w mX3_rushes σ [va_rf (some a)] K := by
  refine eX3_rushes _ (bX3_rushes_0 _ (upL (P := fun i => G w mX3_rushes (KI K) 0 0 σ 4 [va_rf (some a), .int (rsh (AI σ a) i), .int (nI i)] []) (N := N) ?_ ?_))
  · refine bX3_rushes_4 _ _ _ ?_
    simp only [Option.some.injEq, exists_eq_left', exists_eq_left, forall_eq, forall_eq', List.mem_cons, List.not_mem_nil, or_false, or_true, true_or, true_and, and_true, eq_self, Nat.reduceEqDiff, reduceCtorEq, forall_const, true_implies, false_implies, implies_true, not_true_eq_false, not_false_eq_true, false_and, and_false, false_or, if_true, if_false, kd_sFI, ln_sFI, FI_sFI, FR_sFI, AI_sFI, AR_sFI, nx_sFI, kd_sFR, ln_sFR, FI_sFR, FR_sFR, AI_sFR, AR_sFR, nx_sFR, kd_sAI, ln_sAI, FI_sAI, FR_sAI, AI_sAI, AR_sAI, nx_sAI, kd_sAR, ln_sAR, FI_sAR, FR_sAR, AI_sAR, AR_sAR, nx_sAR, kd_sAIs, ln_sAIs, FI_sAIs, FR_sAIs, AR_sAIs, nx_sAIs, kd_sARs, ln_sARs, FI_sARs, FR_sARs, AI_sARs, nx_sARs, kd_nO, ln_nO, FI_nO, FR_nO, AI_nO, AR_nO, nx_nO, kd_nA, ln_nA, FI_nA, FR_nA, AI_nA, AR_nA, nx_nA, hr.1, hr.2, h1, cl2, v2]
    exact ⟨fun _ => hK, fun h => absurd (nI_le (Nat.le_refl N) (by omega)) h⟩
  · intro i hi ih
    refine bX3_rushes_4 _ _ _ ?_
    simp only [Option.some.injEq, exists_eq_left', exists_eq_left, forall_eq, forall_eq', List.mem_cons, List.not_mem_nil, or_false, or_true, true_or, true_and, and_true, eq_self, Nat.reduceEqDiff, reduceCtorEq, forall_const, true_implies, false_implies, implies_true, not_true_eq_false, not_false_eq_true, false_and, and_false, false_or, if_true, if_false, kd_sFI, ln_sFI, FI_sFI, FR_sFI, AI_sFI, AR_sFI, nx_sFI, kd_sFR, ln_sFR, FI_sFR, FR_sFR, AI_sFR, AR_sFR, nx_sFR, kd_sAI, ln_sAI, FI_sAI, FR_sAI, AI_sAI, AR_sAI, nx_sAI, kd_sAR, ln_sAR, FI_sAR, FR_sAR, AI_sAR, AR_sAR, nx_sAR, kd_sAIs, ln_sAIs, FI_sAIs, FR_sAIs, AR_sAIs, nx_sAIs, kd_sARs, ln_sARs, FI_sARs, FR_sARs, AI_sARs, nx_sARs, kd_nO, ln_nO, FI_nO, FR_nO, AI_nO, AR_nO, nx_nO, kd_nA, ln_nA, FI_nA, FR_nA, AI_nA, AR_nA, nx_nA, hr.1, hr.2, h1, cl2, v2]
    refine ⟨fun h => absurd h (nI_ge (by omega) (by omega)), fun _ => ?_⟩
    refine c_of (p := i) (k := 4) hr rfl rfl (by omega) (fun _ => ?_)
    rw [rsh, nI_succ] at ih; exact ih
theorem isO_succ {f : Nat → Int32} {sh y : Int32} {n : Nat} : isO f sh y (n + 1) ↔ isO f sh y n ∨ (od f n 0 = sh ∧ od f n 1 = y) := by
  constructor
  · rintro ⟨k, h1, h2⟩
    by_cases e : k = n
    · subst e; exact Or.inr h2
    · exact Or.inl ⟨k, by omega, h2⟩
  · rintro (⟨k, h1, h2⟩ | h)
    · exact ⟨k, by omega, h2⟩
    · exact ⟨n, by omega, h⟩
theorem c_isOrdered3 {m a N : Nat} {sh y : Int32} {K : Sg → Int32 → Prop} (hm : kd σ m = 13) (hma : FR σ 19 m = some a) (hr : Rw σ a 343) (h1 : AI σ a 2 = nI N) (hN : N ≤ 10) (hT : isO (AI σ a) sh y N → K σ 1) (hF : ¬ isO (AI σ a) sh y N → K σ 0) : CalI w mX3_isOrdered σ [va_rf (some m), .int sh, .int y] K := by
  refine eX3_isOrdered _ _ _ (bX3_isOrdered_0 _ _ _ (upL (P := fun i => ∀ x : Int32, (isO (AI σ a) sh y i → x = 1) → (¬ isO (AI σ a) sh y i → x = 0) → G w mX3_isOrdered (KI K) 0 0 σ 5 [va_rf (some m), .int sh, .int y, .int x, .int (nI i)] []) (N := N) ?_ ?_ 0 (fun ⟨k, h, _⟩ => absurd h (by omega)) (fun _ => rfl)))
  · intro x g1 g2
    refine bX3_isOrdered_5 _ _ _ _ _ ?_
    simp only [Option.some.injEq, exists_eq_left', exists_eq_left, forall_eq, forall_eq', List.mem_cons, List.not_mem_nil, or_false, or_true, true_or, true_and, and_true, eq_self, Nat.reduceEqDiff, reduceCtorEq, forall_const, true_implies, false_implies, implies_true, not_true_eq_false, not_false_eq_true, false_and, and_false, false_or, if_true, if_false, kd_sFI, ln_sFI, FI_sFI, FR_sFI, AI_sFI, AR_sFI, nx_sFI, kd_sFR, ln_sFR, FI_sFR, FR_sFR, AI_sFR, AR_sFR, nx_sFR, kd_sAI, ln_sAI, FI_sAI, FR_sAI, AI_sAI, AR_sAI, nx_sAI, kd_sAR, ln_sAR, FI_sAR, FR_sAR, AI_sAR, AR_sAR, nx_sAR, kd_sAIs, ln_sAIs, FI_sAIs, FR_sAIs, AR_sAIs, nx_sAIs, kd_sARs, ln_sARs, FI_sARs, FR_sARs, AI_sARs, nx_sARs, kd_nO, ln_nO, FI_nO, FR_nO, AI_nO, AR_nO, nx_nO, kd_nA, ln_nA, FI_nA, FR_nA, AI_nA, AR_nA, nx_nA, hm, hma, hr.1, hr.2, h1, cl2, v2]
    refine ⟨fun _ => ?_, fun h => absurd (nI_le (Nat.le_refl N) (by omega)) h⟩
    by_cases c : isO (AI σ a) sh y N
    · rw [g1 c]; exact ⟨Or.inr rfl, hT c⟩
    · rw [g2 c]; exact ⟨Or.inl rfl, hF c⟩
  · intro i hi ih x g1 g2
    refine bX3_isOrdered_5 _ _ _ _ _ ?_
    simp only [Option.some.injEq, exists_eq_left', exists_eq_left, forall_eq, forall_eq', List.mem_cons, List.not_mem_nil, or_false, or_true, true_or, true_and, and_true, eq_self, Nat.reduceEqDiff, reduceCtorEq, forall_const, true_implies, false_implies, implies_true, not_true_eq_false, not_false_eq_true, false_and, and_false, false_or, if_true, if_false, kd_sFI, ln_sFI, FI_sFI, FR_sFI, AI_sFI, AR_sFI, nx_sFI, kd_sFR, ln_sFR, FI_sFR, FR_sFR, AI_sFR, AR_sFR, nx_sFR, kd_sAI, ln_sAI, FI_sAI, FR_sAI, AI_sAI, AR_sAI, nx_sAI, kd_sAR, ln_sAR, FI_sAR, FR_sAR, AI_sAR, AR_sAR, nx_sAR, kd_sAIs, ln_sAIs, FI_sAIs, FR_sAIs, AR_sAIs, nx_sAIs, kd_sARs, ln_sARs, FI_sARs, FR_sARs, AI_sARs, nx_sARs, kd_nO, ln_nO, FI_nO, FR_nO, AI_nO, AR_nO, nx_nO, kd_nA, ln_nA, FI_nA, FR_nA, AI_nA, AR_nA, nx_nA, hm, hma, hr.1, hr.2, h1, cl2, v2]
    refine ⟨fun h => absurd h (nI_ge (by omega) (by omega)), fun _ => ⟨fun h => ?_, fun h => ?_⟩⟩
    · have c : isO (AI σ a) sh y i := Classical.byContradiction (fun c => h (g2 c))
      rw [nI_succ] at ih
      exact ih 1 (fun _ => rfl) (fun q => absurd (isO_succ.mpr (Or.inl c)) q)
    · have c : ¬ isO (AI σ a) sh y i := fun c => by rw [g1 c] at h; exact absurd h (by decide)
      rw [nI_succ] at ih
      refine c_of (p := i) (k := 0) hr rfl rfl (by omega) (fun _ => ⟨fun h2 => ?_, fun h2 => ?_⟩)
      · exact ih 0 (fun q => by rcases isO_succ.mp q with q | q; exact absurd q c; exact absurd q.1 h2) (fun _ => rfl)
      · simp only [Option.some.injEq, exists_eq_left', exists_eq_left, forall_eq, forall_eq', List.mem_cons, List.not_mem_nil, or_false, or_true, true_or, true_and, and_true, eq_self, Nat.reduceEqDiff, reduceCtorEq, forall_const, true_implies, false_implies, implies_true, not_true_eq_false, not_false_eq_true, false_and, and_false, false_or, if_true, if_false, kd_sFI, ln_sFI, FI_sFI, FR_sFI, AI_sFI, AR_sFI, nx_sFI, kd_sFR, ln_sFR, FI_sFR, FR_sFR, AI_sFR, AR_sFR, nx_sFR, kd_sAI, ln_sAI, FI_sAI, FR_sAI, AI_sAI, AR_sAI, nx_sAI, kd_sAR, ln_sAR, FI_sAR, FR_sAR, AI_sAR, AR_sAR, nx_sAR, kd_sAIs, ln_sAIs, FI_sAIs, FR_sAIs, AR_sAIs, nx_sAIs, kd_sARs, ln_sARs, FI_sARs, FR_sARs, AI_sARs, nx_sARs, kd_nO, ln_nO, FI_nO, FR_nO, AI_nO, AR_nO, nx_nO, kd_nA, ln_nA, FI_nA, FR_nA, AI_nA, AR_nA, nx_nA, hma]
        refine c_of (p := i) (k := 1) hr rfl rfl (by omega) (fun _ => ⟨fun h3 => ?_, fun h3 => ?_⟩)
        · exact ih 0 (fun q => by rcases isO_succ.mp q with q | q; exact absurd q c; exact absurd q.2 h3) (fun _ => rfl)
        · exact ih 1 (fun _ => rfl) (fun q => absurd (isO_succ.mpr (Or.inr ⟨h2, h3⟩)) q)
theorem c_rest3 {a : Nat} {K : Sg → Prop} (hr : Rw σ a 343) (hK : K (sAIs σ a (rst (AI σ a)))) : CalV w mX3_rest σ [va_rf (some a)] K := by
  refine eX3_rest _ (bX3_rest_0 _ ?_)
  simp only [Option.some.injEq, exists_eq_left', exists_eq_left, forall_eq, forall_eq', List.mem_cons, List.not_mem_nil, or_false, or_true, true_or, true_and, and_true, eq_self, Nat.reduceEqDiff, reduceCtorEq, forall_const, true_implies, false_implies, implies_true, not_true_eq_false, not_false_eq_true, false_and, and_false, false_or, if_true, if_false, kd_sFI, ln_sFI, FI_sFI, FR_sFI, AI_sFI, AR_sFI, nx_sFI, kd_sFR, ln_sFR, FI_sFR, FR_sFR, AI_sFR, AR_sFR, nx_sFR, kd_sAI, ln_sAI, FI_sAI, FR_sAI, AI_sAI, AR_sAI, nx_sAI, kd_sAR, ln_sAR, FI_sAR, FR_sAR, AI_sAR, AR_sAR, nx_sAR, kd_sAIs, ln_sAIs, FI_sAIs, FR_sAIs, AR_sAIs, nx_sAIs, kd_sARs, ln_sARs, FI_sARs, FR_sARs, AI_sARs, nx_sARs, kd_nO, ln_nO, FI_nO, FR_nO, AI_nO, AR_nO, nx_nO, kd_nA, ln_nA, FI_nA, FR_nA, AI_nA, AR_nA, nx_nA, hr.1, hr.2, cl3, cl4, cl5, cl6, v3, v4, v5, v6, sAI_eq, sAIs_sAIs, AI_self]
  exact hK
theorem c_grindSide {a : Nat} {P S : Int32} {p s : Nat} {K : Sg → Prop} (hr : Rw σ a 343) (hP : P = nI p) (hS : S = nI s) (hs : s ≤ 1) (hp : p < 20) (hK : K (sAIs σ a (grd (AI σ a) p s))) : CalV w mX3_grindSide σ [va_rf (some a), .int P, .int S] K := by
  refine eX3_grindSide _ _ _ (bX3_grindSide_0 _ _ _ ?_)
  refine c_ofPlate hr hP (k := 1) rfl (by omega) (fun _ => ?_)
  refine c_depthOf hr hP hS (by omega) (fun _ => ?_)
  refine c_setPlate hr hP (k := 1) rfl (by omega) (fun _ => ?_)
  refine c_setPlate hr hP (thr_s hS) (by omega) (fun _ => ?_)
  simp only [Option.some.injEq, exists_eq_left', exists_eq_left, forall_eq, forall_eq', List.mem_cons, List.not_mem_nil, or_false, or_true, true_or, true_and, and_true, eq_self, Nat.reduceEqDiff, reduceCtorEq, forall_const, true_implies, false_implies, implies_true, not_true_eq_false, not_false_eq_true, false_and, and_false, false_or, if_true, if_false, kd_sFI, ln_sFI, FI_sFI, FR_sFI, AI_sFI, AR_sFI, nx_sFI, kd_sFR, ln_sFR, FI_sFR, FR_sFR, AI_sFR, AR_sFR, nx_sFR, kd_sAI, ln_sAI, FI_sAI, FR_sAI, AI_sAI, AR_sAI, nx_sAI, kd_sAR, ln_sAR, FI_sAR, FR_sAR, AI_sAR, AR_sAR, nx_sAR, kd_sAIs, ln_sAIs, FI_sAIs, FR_sAIs, AR_sAIs, nx_sAIs, kd_sARs, ln_sARs, FI_sARs, FR_sARs, AI_sARs, nx_sARs, kd_nO, ln_nO, FI_nO, FR_nO, AI_nO, AR_nO, nx_nO, kd_nA, ln_nA, FI_nA, FR_nA, AI_nA, AR_nA, nx_nA, hr.1, hr.2, cl9, v9, sAI_eq, sAIs_sAIs, AI_self]
  exact hK
end model2
