/-! the model's methods that change a row, 2 -/
set_option maxRecDepth 100000
section model4
variable {w : Wt} {σ : Sg}
theorem c_putIn {m a b N : Nat} {O : Int32} {o : Nat} {K : Sg → Prop} (hm : kd σ m = 13) (hmb : FR σ 30 m = some b) (hr : Rw σ a 343) (hb : Rw σ b 19) (hab : ¬ a = b) (hO : O = nI o) (ho : o ≤ N) (h2 : AI σ a 2 = nI N) (hN : N < 10)
    (hK : K (sAIs σ a (pti (AI σ a) (AI σ b) o N))) : CalV w mX3_putIn σ [va_rf (some m), va_rf (some a), .int O] K := by
  subst hO
  let f : Nat → Nat → Int32 := fun R j => if 153 + 19 * o + R + 19 ≤ j ∧ j < 153 + 19 * (N + 1) then AI σ a (j - 19) else AI σ a j
  let h : Nat → Nat → Int32 := fun i j => if 153 + 19 * o ≤ j ∧ j < 153 + 19 * o + i then AI σ b (j - (153 + 19 * o)) else f 0 j
  have hf0 : f (19 * (N - o)) = AI σ a := by funext k; exact if_neg (by omega)
  have hfs : ∀ R, R < 19 * (N - o) → upd (f (R + 1)) (153 + 19 * o + R + 19) (AI σ a (153 + 19 * o + R)) = f R := fun R hR => by
    funext k
    show _ = (if 153 + 19 * o + R + 19 ≤ k ∧ k < 153 + 19 * (N + 1) then _ else _)
    by_cases e : k = 153 + 19 * o + R + 19
    · subst e; rw [pk_us, if_pos (by omega), show 153 + 19 * o + R + 19 - 19 = 153 + 19 * o + R by omega]
    · rw [pk_un e]; exact ifc (by omega)
  have hfr : ∀ R, R < 19 * (N - o) → f (R + 1) (153 + 19 * o + R) = AI σ a (153 + 19 * o + R) := fun R hR => if_neg (by omega)
  have hh0 : h 0 = f 0 := by funext k; exact if_neg (by omega)
  have hhs : ∀ i, upd (h i) (153 + 19 * o + i) (AI σ b i) = h (i + 1) := fun i => by
    funext k
    show _ = (if 153 + 19 * o ≤ k ∧ k < 153 + 19 * o + (i + 1) then _ else _)
    by_cases e : k = 153 + 19 * o + i
    · subst e; rw [pk_us, if_pos (by omega), show 153 + 19 * o + i - (153 + 19 * o) = i by omega]
    · rw [pk_un e]; exact ifc (by omega)
  have hh2 : h 19 2 = nI N := by
    show (if 153 + 19 * o ≤ 2 ∧ 2 < 153 + 19 * o + 19 then _ else (if 153 + 19 * o + 0 + 19 ≤ 2 ∧ 2 < 153 + 19 * (N + 1) then _ else _)) = _
    rw [if_neg (by omega), if_neg (by omega)]; exact h2
  have hh3 : upd (h 19) 2 (nI (N + 1)) 3 = AI σ a 3 := by
    rw [pk_un (by decide)]
    show (if 153 + 19 * o ≤ 3 ∧ 3 < 153 + 19 * o + 19 then _ else (if 153 + 19 * o + 0 + 19 ≤ 3 ∧ 3 < 153 + 19 * (N + 1) then _ else _)) = _
    rw [if_neg (by omega), if_neg (by omega)]
  have hfin : upd (upd (h 19) 2 (nI (N + 1))) 3 (if AI σ a 3 < nI o then AI σ a 3 + 0 else AI σ a 3 + 1) = pti (AI σ a) (AI σ b) o N := by
    funext k
    unfold pti
    by_cases e : k = 3
    · subst e; rw [pk_us, if_pos rfl]
    · rw [pk_un e, if_neg e]
      by_cases e2 : k = 2
      · subst e2; rw [pk_us, if_pos rfl]
      · rw [pk_un e2, if_neg e2]
        show (if 153 + 19 * o ≤ k ∧ k < 153 + 19 * o + 19 then _ else (if 153 + 19 * o + 0 + 19 ≤ k ∧ k < 153 + 19 * (N + 1) then _ else _)) = _
        by_cases c : 153 + 19 * o ≤ k ∧ k < 153 + 19 * (o + 1)
        · rw [if_pos c, if_pos (by omega)]
        · rw [if_neg c, if_neg (by omega)]; exact ifc (by omega)
  have step2 : G w mX3_putIn (KV K) 0 0 (sAIs σ a (f 0)) 42 [va_rf (some m), va_rf (some a), .int (nI o), .int 0] [] := by
    rw [← hh0]
    refine upL (P := fun i => G w mX3_putIn (KV K) 0 0 (sAIs σ a (h i)) 42 [va_rf (some m), va_rf (some a), .int (nI o), .int (nI i)] []) (N := 19) ?_ ?_
    · refine bX3_putIn_42 _ _ _ _ ⟨fun _ => ?_, fun h => absurd (nI_le (Nat.le_refl 19) (by omega)) h⟩
      have q : nI N + 1 = nI (N + 1) := nI_1 N
      simp only [Option.some.injEq, exists_eq_left', exists_eq_left, forall_eq, forall_eq', List.mem_cons, List.not_mem_nil, or_false, or_true, true_or, true_and, and_true, eq_self, Nat.reduceEqDiff, reduceCtorEq, forall_const, true_implies, false_implies, implies_true, not_true_eq_false, not_false_eq_true, false_and, and_false, false_or, if_true, if_false, kd_sFI, ln_sFI, FI_sFI, FR_sFI, AI_sFI, AR_sFI, nx_sFI, kd_sFR, ln_sFR, FI_sFR, FR_sFR, AI_sFR, AR_sFR, nx_sFR, kd_sAI, ln_sAI, FI_sAI, FR_sAI, AI_sAI, AR_sAI, nx_sAI, kd_sAR, ln_sAR, FI_sAR, FR_sAR, AI_sAR, AR_sAR, nx_sAR, kd_sAIs, ln_sAIs, FI_sAIs, FR_sAIs, AR_sAIs, nx_sAIs, kd_sARs, ln_sARs, FI_sARs, FR_sARs, AI_sARs, nx_sARs, kd_nO, ln_nO, FI_nO, FR_nO, AI_nO, AR_nO, nx_nO, kd_nA, ln_nA, FI_nA, FR_nA, AI_nA, AR_nA, nx_nA, hr.1, hr.2, cl2, v2, cl3, v3, AI_self, sAI_eq, sAIs_sAIs, hh2, q, hh3]
      refine ⟨fun e => ?_, fun e => ?_⟩
      · rw [if_pos e] at hfin; rw [hfin]; exact hK
      · rw [if_neg e] at hfin; rw [hfin]; exact hK
    · intro i hi ih
      refine bX3_putIn_42 _ _ _ _ ⟨fun h => absurd h (nI_ge (b := 19) hi (by decide)), fun _ => ?_⟩
      simp only [Option.some.injEq, exists_eq_left', exists_eq_left, forall_eq, forall_eq', List.mem_cons, List.not_mem_nil, or_false, or_true, true_or, true_and, and_true, eq_self, Nat.reduceEqDiff, reduceCtorEq, forall_const, true_implies, false_implies, implies_true, not_true_eq_false, not_false_eq_true, false_and, and_false, false_or, if_true, if_false, kd_sFI, ln_sFI, FI_sFI, FR_sFI, AI_sFI, AR_sFI, nx_sFI, kd_sFR, ln_sFR, FI_sFR, FR_sFR, AI_sFR, AR_sFR, nx_sFR, kd_sAI, ln_sAI, FI_sAI, FR_sAI, AI_sAI, AR_sAI, nx_sAI, kd_sAR, ln_sAR, FI_sAR, FR_sAR, AI_sAR, AR_sAR, nx_sAR, kd_sAIs, ln_sAIs, FI_sAIs, FR_sAIs, AR_sAIs, nx_sAIs, kd_sARs, ln_sARs, FI_sARs, FR_sARs, AI_sARs, nx_sARs, kd_nO, ln_nO, FI_nO, FR_nO, AI_nO, AR_nO, nx_nO, kd_nA, ln_nA, FI_nA, FR_nA, AI_nA, AR_nA, nx_nA, hm, hmb, hr.1, hr.2, hb.1, hb.2, ixO (rfl : nI o = nI o) (rfl : nI i = nI i), nI_clamp (show i < 2 ^ 31 by omega), vpN hi (by decide), nI_clamp (show 153 + 19 * o + i < 2 ^ 31 by omega), vpN (show 153 + 19 * o + i < 343 by omega) (by decide), AI_self, AI_ne (fun e => hab e.symm : ¬ b = a), sAI_eq, sAIs_sAIs, hhs]
      rw [nI_succ] at ih; exact ih
  refine eX3_putIn _ _ _ (bX3_putIn_0 _ _ _ ?_)
  have q : nI (153 + 19 * N) - 1 = nI (152 + 19 * N) := by rw [show 153 + 19 * N = 152 + 19 * N + 1 by omega]; exact nI_pred _
  simp only [Option.some.injEq, exists_eq_left', exists_eq_left, forall_eq, forall_eq', List.mem_cons, List.not_mem_nil, or_false, or_true, true_or, true_and, and_true, eq_self, Nat.reduceEqDiff, reduceCtorEq, forall_const, true_implies, false_implies, implies_true, not_true_eq_false, not_false_eq_true, false_and, and_false, false_or, if_true, if_false, kd_sFI, ln_sFI, FI_sFI, FR_sFI, AI_sFI, AR_sFI, nx_sFI, kd_sFR, ln_sFR, FI_sFR, FR_sFR, AI_sFR, AR_sFR, nx_sFR, kd_sAI, ln_sAI, FI_sAI, FR_sAI, AI_sAI, AR_sAI, nx_sAI, kd_sAR, ln_sAR, FI_sAR, FR_sAR, AI_sAR, AR_sAR, nx_sAR, kd_sAIs, ln_sAIs, FI_sAIs, FR_sAIs, AR_sAIs, nx_sAIs, kd_sARs, ln_sARs, FI_sARs, FR_sARs, AI_sARs, nx_sARs, kd_nO, ln_nO, FI_nO, FR_nO, AI_nO, AR_nO, nx_nO, kd_nA, ln_nA, FI_nA, FR_nA, AI_nA, AR_nA, nx_nA, hr.1, hr.2, cl2, v2, h2, c153 (rfl : nI N = nI N), q]
  have key := dnL (P := fun R => G w mX3_putIn (KV K) 0 0 (sAIs σ a (f R)) 13 [va_rf (some m), va_rf (some a), .int (nI o), .int (nI (152 + 19 * o + R))] []) (N := 19 * (N - o)) ?_ ?_
  · rw [hf0, sAIs_rfl, show 152 + 19 * o + 19 * (N - o) = 152 + 19 * N by omega] at key; exact key
  · refine bX3_putIn_13 _ _ _ _ ?_
    simp only [c153 (rfl : nI o = nI o)]
    exact ⟨fun _ => step2, fun h => absurd (nI_lt (by omega) (by omega)) h⟩
  · intro R hR ih
    refine bX3_putIn_13 _ _ _ _ ?_
    rw [show 152 + 19 * o + (R + 1) = 153 + 19 * o + R by omega]
    simp only [Option.some.injEq, exists_eq_left', exists_eq_left, forall_eq, forall_eq', List.mem_cons, List.not_mem_nil, or_false, or_true, true_or, true_and, and_true, eq_self, Nat.reduceEqDiff, reduceCtorEq, forall_const, true_implies, false_implies, implies_true, not_true_eq_false, not_false_eq_true, false_and, and_false, false_or, if_true, if_false, kd_sFI, ln_sFI, FI_sFI, FR_sFI, AI_sFI, AR_sFI, nx_sFI, kd_sFR, ln_sFR, FI_sFR, FR_sFR, AI_sFR, AR_sFR, nx_sFR, kd_sAI, ln_sAI, FI_sAI, FR_sAI, AI_sAI, AR_sAI, nx_sAI, kd_sAR, ln_sAR, FI_sAR, FR_sAR, AI_sAR, AR_sAR, nx_sAR, kd_sAIs, ln_sAIs, FI_sAIs, FR_sAIs, AR_sAIs, nx_sAIs, kd_sARs, ln_sARs, FI_sARs, FR_sARs, AI_sARs, nx_sARs, kd_nO, ln_nO, FI_nO, FR_nO, AI_nO, AR_nO, nx_nO, kd_nA, ln_nA, FI_nA, FR_nA, AI_nA, AR_nA, nx_nA, hr.1, hr.2, c153 (rfl : nI o = nI o), n19, nI_clamp (show 153 + 19 * o + R < 2 ^ 31 by omega), vpN (show 153 + 19 * o + R < 343 by omega) (by decide), nI_clamp (show 153 + 19 * o + R + 19 < 2 ^ 31 by omega), vpN (show 153 + 19 * o + R + 19 < 343 by omega) (by decide), AI_self, sAI_eq, sAIs_sAIs, hfr R hR, hfs R hR]
    refine ⟨fun h => absurd h (nI_nlt (by omega) (by omega)), fun _ => ?_⟩
    rw [show 153 + 19 * o + R = 152 + 19 * o + R + 1 by omega, pk_m1]
    exact ih
/-- findPlate: what it leaves in the model's object -/
theorem c_findPlate {m a N : Nat} {len d : Int32} {K : Sg → Int32 → Prop} (hm : kd σ m = 13) (hr : Rw σ a 343) (h1 : AI σ a 1 = nI N) (hN : N ≤ 20)
    (hT : ∀ (g : Bool) (p : Nat) (φ : Nat → Int32), (g = true → fnd (AI σ a) len d false N = none) → fnd (AI σ a) len d g N = some p → (∀ k, k ≠ 25 → k ≠ 26 → k ≠ 27 → φ k = Fm σ m k) → φ 25 = nI p → φ 26 = nI (fsd (AI σ a) d g p) → φ 27 = b2i g → K (sFs σ m φ) 1)
    (hF : ∀ (φ : Nat → Int32), fnd (AI σ a) len d false N = none → fnd (AI σ a) len d true N = none → (∀ k, k ≠ 25 → k ≠ 26 → k ≠ 27 → φ k = Fm σ m k) → K (sFs σ m φ) 0) :
    CalI w mX3_findPlate σ [va_rf (some m), va_rf (some a), .int len, .int d] K := by
  have pass : ∀ (g : Bool) (φ0 : Nat → Int32), φ0 25 = -9 → φ0 27 = b2i g → (∀ k, k ≠ 25 → k ≠ 26 → k ≠ 27 → φ0 k = Fm σ m k) →
      (∀ φ, (∀ p, fnd (AI σ a) len d g N = some p → φ 25 = nI p ∧ φ 26 = nI (fsd (AI σ a) d g p)) → (fnd (AI σ a) len d g N = none → φ 25 = -9) → φ 27 = b2i g → (∀ k, k ≠ 25 → k ≠ 26 → k ≠ 27 → φ k = Fm σ m k) → ∀ v6 v7 x, G w mX3_findPlate (KI K) 0 0 (sFs σ m φ) 9 [va_rf (some m), va_rf (some a), .int len, .int d, .int (b2i g + 1), .int x, v6, v7] []) →
      ∀ v6 v7, G w mX3_findPlate (KI K) 0 0 (sFs σ m φ0) 42 [va_rf (some m), va_rf (some a), .int len, .int d, .int (b2i g), .int 0, v6, v7] [] := by
    intro g φ0 z25 z27 zo hend
    have zend := fun φ c1 c2 c3 c4 v6 v7 => hend φ c1 c2 c3 c4 v6 v7 (nI N)
    refine fun v6 v7 => upL (P := fun i => ∀ φ, (∀ p, fnd (AI σ a) len d g i = some p → φ 25 = nI p ∧ φ 26 = nI (fsd (AI σ a) d g p)) → (fnd (AI σ a) len d g i = none → φ 25 = -9) → φ 27 = b2i g → (∀ k, k ≠ 25 → k ≠ 26 → k ≠ 27 → φ k = Fm σ m k) → ∀ v6 v7, G w mX3_findPlate (KI K) 0 0 (sFs σ m φ) 42 [va_rf (some m), va_rf (some a), .int len, .int d, .int (b2i g), .int (nI i), v6, v7] []) (N := N) ?_ ?_ φ0 (fun p h => by cases h) (fun _ => z25) z27 zo v6 v7
    · intro φ c1 c2 c3 c4 v6 v7
      refine bX3_findPlate_42 _ _ _ _ _ _ _ _ ?_
      simp only [Option.some.injEq, exists_eq_left', exists_eq_left, forall_eq, forall_eq', List.mem_cons, List.not_mem_nil, or_false, or_true, true_or, true_and, and_true, eq_self, Nat.reduceEqDiff, reduceCtorEq, forall_const, true_implies, false_implies, implies_true, not_true_eq_false, not_false_eq_true, false_and, and_false, false_or, if_true, if_false, kd_sFI, ln_sFI, FI_sFI, FR_sFI, AI_sFI, AR_sFI, nx_sFI, kd_sFR, ln_sFR, FI_sFR, FR_sFR, AI_sFR, AR_sFR, nx_sFR, kd_sAI, ln_sAI, FI_sAI, FR_sAI, AI_sAI, AR_sAI, nx_sAI, kd_sAR, ln_sAR, FI_sAR, FR_sAR, AI_sAR, AR_sAR, nx_sAR, kd_sAIs, ln_sAIs, FI_sAIs, FR_sAIs, AR_sAIs, nx_sAIs, kd_sARs, ln_sARs, FI_sARs, FR_sARs, AI_sARs, nx_sARs, kd_nO, ln_nO, FI_nO, FR_nO, AI_nO, AR_nO, nx_nO, kd_nA, ln_nA, FI_nA, FR_nA, AI_nA, AR_nA, nx_nA, hr.1, hr.2, kd_sFs, ln_sFs, AI_sFs, cl1, v1, h1]
      exact ⟨fun _ => zend φ c1 c2 c3 c4 v6 v7, fun h => absurd (nI_le (Nat.le_refl N) (by omega)) h⟩
    · intro i hi ih φ c1 c2 c3 c4 v6 v7
      have hrS : Rw (sFs σ m φ) a 343 := hr
      have no : ¬ (elg (AI σ a) len d g i ∧ (∀ q, fnd (AI σ a) len d g i = some q → btr (AI σ a) i q)) → ∀ v6 v7, G w mX3_findPlate (KI K) 0 0 (sFs σ m φ) 42 [va_rf (some m), va_rf (some a), .int len, .int d, .int (b2i g), .int (nI i + 1), v6, v7] [] := by
        intro c v6 v7
        rw [← nI_succ]
        have e : fnd (AI σ a) len d g (i + 1) = fnd (AI σ a) len d g i := by rw [fnd, iteP_f c]
        exact ih φ (by rw [e]; exact c1) (by rw [e]; exact c2) c3 c4 v6 v7
      have yes : (elg (AI σ a) len d g i ∧ (∀ q, fnd (AI σ a) len d g i = some q → btr (AI σ a) i q)) → ∀ v6 v7, G w mX3_findPlate (KI K) 0 0 (sFs σ m (upd (upd φ 25 (nI i)) 26 (nI (fsd (AI σ a) d g i)))) 42 [va_rf (some m), va_rf (some a), .int len, .int d, .int (b2i g), .int (nI i + 1), v6, v7] [] := by
        intro c v6 v7
        rw [← nI_succ]
        have e : fnd (AI σ a) len d g (i + 1) = some i := by rw [fnd, iteP_t c]
        refine ih _ (fun p h => ?_) (fun h => by rw [e] at h; cases h) ?_ ?_ v6 v7
        · rw [e] at h; cases h
          exact ⟨by rw [pk_un (by decide), pk_us], pk_us⟩
        · rw [pk_un (by decide), pk_un (by decide)]; exact c3
        · intro k k1 k2 k3; rw [pk_un k2, pk_un k1]; exact c4 k k1 k2 k3
      have f25 : φ 25 = oI (fnd (AI σ a) len d g i) := by
        cases q : fnd (AI σ a) len d g i with
        | none => exact c2 q
        | some p => exact (c1 p q).1
      refine bX3_findPlate_42 _ _ _ _ _ _ _ _ ?_
      simp only [Option.some.injEq, exists_eq_left', exists_eq_left, forall_eq, forall_eq', List.mem_cons, List.not_mem_nil, or_false, or_true, true_or, true_and, and_true, eq_self, Nat.reduceEqDiff, reduceCtorEq, forall_const, true_implies, false_implies, implies_true, not_true_eq_false, not_false_eq_true, false_and, and_false, false_or, if_true, if_false, kd_sFI, ln_sFI, FI_sFI, FR_sFI, AI_sFI, AR_sFI, nx_sFI, kd_sFR, ln_sFR, FI_sFR, FR_sFR, AI_sFR, AR_sFR, nx_sFR, kd_sAI, ln_sAI, FI_sAI, FR_sAI, AI_sAI, AR_sAI, nx_sAI, kd_sAR, ln_sAR, FI_sAR, FR_sAR, AI_sAR, AR_sAR, nx_sAR, kd_sAIs, ln_sAIs, FI_sAIs, FR_sAIs, AR_sAIs, nx_sAIs, kd_sARs, ln_sARs, FI_sARs, FR_sARs, AI_sARs, nx_sARs, kd_nO, ln_nO, FI_nO, FR_nO, AI_nO, AR_nO, nx_nO, kd_nA, ln_nA, FI_nA, FR_nA, AI_nA, AR_nA, nx_nA, hr.1, hr.2, kd_sFs, ln_sFs, AI_sFs, cl1, v1, h1]
      refine ⟨fun h => absurd h (nI_ge (by omega) (by omega)), fun _ => ?_⟩
      refine c_ofPlate (p := i) (k := 2) hrS rfl rfl (by omega) (fun _ => ⟨fun h => no (fun q => h q.1.1) _ _, fun h => ?_⟩)
      refine c_ofPlate (p := i) (k := 0) hrS rfl rfl (by omega) (fun _ => ⟨fun h2 => no (fun q => q.1.2.1 h2) _ _, fun h2 => ?_⟩)
      simp only [Option.some.injEq, exists_eq_left', exists_eq_left, forall_eq, forall_eq', List.mem_cons, List.not_mem_nil, or_false, or_true, true_or, true_and, and_true, eq_self, Nat.reduceEqDiff, reduceCtorEq, forall_const, true_implies, false_implies, implies_true, not_true_eq_false, not_false_eq_true, false_and, and_false, false_or, if_true, if_false, kd_sFI, ln_sFI, FI_sFI, FR_sFI, AI_sFI, AR_sFI, nx_sFI, kd_sFR, ln_sFR, FI_sFR, FR_sFR, AI_sFR, AR_sFR, nx_sFR, kd_sAI, ln_sAI, FI_sAI, FR_sAI, AI_sAI, AR_sAI, nx_sAI, kd_sAR, ln_sAR, FI_sAR, FR_sAR, AI_sAR, AR_sAR, nx_sAR, kd_sAIs, ln_sAIs, FI_sAIs, FR_sAIs, AR_sAIs, nx_sAIs, kd_sARs, ln_sARs, FI_sARs, FR_sARs, AI_sARs, nx_sARs, kd_nO, ln_nO, FI_nO, FR_nO, AI_nO, AR_nO, nx_nO, kd_nA, ln_nA, FI_nA, FR_nA, AI_nA, AR_nA, nx_nA, hm, kd_sFs, FI_sFs_self, c3, f25]
      have better : (mTk (AI σ a) i 0 d g ∨ mTk (AI σ a) i 1 d g) → ∀ (s : Int32) v6 v7, s = nI (fsd (AI σ a) d g i) →
          CalI w mX3_isBetter (sFs σ m φ) [va_rf (some a), .int (nI i), .int (oI (fnd (AI σ a) len d g i))] (fun s29 x30 => Ext (sFs σ m φ) s29 → ((x30 = 0 → G w mX3_findPlate (KI K) 0 0 s29 42 [va_rf (some m), va_rf (some a), .int len, .int d, .int (b2i g), .int (nI i + 1), v6, v7] []) ∧ (¬ x30 = 0 → G w mX3_findPlate (KI K) 0 0 (sFI (sFI s29 25 m (nI i)) 26 m s) 42 [va_rf (some m), va_rf (some a), .int len, .int d, .int (b2i g), .int (nI i + 1), v6, v7] []))) := by
        intro hmt s v6 v7 hs
        refine c_isBetter hrS rfl (by omega) (fun x hx => by have := fnd_lt hx; omega) (fun hb _ => ⟨fun h => absurd h (by decide), fun _ => ?_⟩) (fun hb _ => ⟨fun _ => ?_, fun h => absurd rfl h⟩)
        · have := yes ⟨⟨h, h2, hmt⟩, hb⟩ v6 v7
          rw [sFI_eq, sFI_eq, sFs_sFs, Fm_sFs, sFs_sFs, Fm_sFs, hs]
          exact this
        · exact no (fun q => hb q.2) v6 v7
      refine c_mayTake (s := 0) (b := g) hrS rfl rfl (by decide) (by omega) rfl (fun k _ => ⟨fun h => absurd h (by decide), fun _ => ?_⟩) (fun k _ => ⟨fun _ => ?_, fun h => absurd rfl h⟩)
      · rw [FI_sFs_self, f25]; exact better (Or.inl k) 0 _ _ (by unfold fsd; rw [iteP_t (show mTk (AI σ a) i 0 d g from k)]; rfl)
      · simp only [Option.some.injEq, exists_eq_left', exists_eq_left, forall_eq, forall_eq', List.mem_cons, List.not_mem_nil, or_false, or_true, true_or, true_and, and_true, eq_self, Nat.reduceEqDiff, reduceCtorEq, forall_const, true_implies, false_implies, implies_true, not_true_eq_false, not_false_eq_true, false_and, and_false, false_or, if_true, if_false, kd_sFI, ln_sFI, FI_sFI, FR_sFI, AI_sFI, AR_sFI, nx_sFI, kd_sFR, ln_sFR, FI_sFR, FR_sFR, AI_sFR, AR_sFR, nx_sFR, kd_sAI, ln_sAI, FI_sAI, FR_sAI, AI_sAI, AR_sAI, nx_sAI, kd_sAR, ln_sAR, FI_sAR, FR_sAR, AI_sAR, AR_sAR, nx_sAR, kd_sAIs, ln_sAIs, FI_sAIs, FR_sAIs, AR_sAIs, nx_sAIs, kd_sARs, ln_sARs, FI_sARs, FR_sARs, AI_sARs, nx_sARs, kd_nO, ln_nO, FI_nO, FR_nO, AI_nO, AR_nO, nx_nO, kd_nA, ln_nA, FI_nA, FR_nA, AI_nA, AR_nA, nx_nA, FI_sFs_self, c3, f25]
        refine c_mayTake (s := 1) (b := g) hrS rfl rfl (by decide) (by omega) rfl (fun k2 _ => ⟨fun h => absurd h (by decide), fun _ => ?_⟩) (fun k2 _ => ⟨fun _ => ?_, fun h => absurd rfl h⟩)
        · rw [FI_sFs_self, f25]; exact better (Or.inr k2) 1 _ _ (by unfold fsd; rw [iteP_f (show ¬ mTk (AI σ a) i 0 d g from k)]; rfl)
        · exact no (fun q => q.1.2.2.elim k k2) _ _
  have last : ∀ φ (g : Bool) v5 v6 v7, (φ 25 = -9 → g = true) → (g = true → φ 25 = -9 ∨ φ 25 ≠ -9) → ((φ 25 = -9 → K (sFs σ m φ) 0) ∧ (¬ φ 25 = -9 → K (sFs σ m φ) 1)) → G w mX3_findPlate (KI K) 0 0 (sFs σ m φ) 9 [va_rf (some m), va_rf (some a), .int len, .int d, .int (b2i g + 1), v5, v6, v7] [] := by
    intro φ g v5 v6 v7 c1 _ c2
    refine bX3_findPlate_9 _ _ _ _ _ _ _ _ ?_
    simp only [Option.some.injEq, exists_eq_left', exists_eq_left, forall_eq, forall_eq', List.mem_cons, List.not_mem_nil, or_false, or_true, true_or, true_and, and_true, eq_self, Nat.reduceEqDiff, reduceCtorEq, forall_const, true_implies, false_implies, implies_true, not_true_eq_false, not_false_eq_true, false_and, and_false, false_or, if_true, if_false, kd_sFI, ln_sFI, FI_sFI, FR_sFI, AI_sFI, AR_sFI, nx_sFI, kd_sFR, ln_sFR, FI_sFR, FR_sFR, AI_sFR, AR_sFR, nx_sFR, kd_sAI, ln_sAI, FI_sAI, FR_sAI, AI_sAI, AR_sAI, nx_sAI, kd_sAR, ln_sAR, FI_sAR, FR_sAR, AI_sAR, AR_sAR, nx_sAR, kd_sAIs, ln_sAIs, FI_sAIs, FR_sAIs, AR_sAIs, nx_sAIs, kd_sARs, ln_sARs, FI_sARs, FR_sARs, AI_sARs, nx_sARs, kd_nO, ln_nO, FI_nO, FR_nO, AI_nO, AR_nO, nx_nO, kd_nA, ln_nA, FI_nA, FR_nA, AI_nA, AR_nA, nx_nA, hm, kd_sFs, FI_sFs_self]
    refine ⟨fun _ => c2, fun h => ⟨fun _ => c2, fun h2 => ?_⟩⟩
    have := c1 h2; subst this
    exact absurd (by decide) h
  have done : ∀ φ (g : Bool) (p : Nat) v5 v6 v7, p < 20 → φ 25 = nI p → K (sFs σ m φ) 1 → G w mX3_findPlate (KI K) 0 0 (sFs σ m φ) 9 [va_rf (some m), va_rf (some a), .int len, .int d, .int (b2i g + 1), v5, v6, v7] [] := by
    intro φ g p v5 v6 v7 hp c1 c2
    have ne : ¬ φ 25 = -9 := by rw [c1]; exact m9n (by omega)
    exact last φ g v5 v6 v7 (fun h => absurd h ne) (fun _ => Or.inr ne) ⟨fun h => absurd h ne, fun _ => c2⟩
  have way1 : ∀ φ v5 v6 v7, fnd (AI σ a) len d false N = none → φ 25 = -9 → (∀ k, k ≠ 25 → k ≠ 26 → k ≠ 27 → φ k = Fm σ m k) → G w mX3_findPlate (KI K) 0 0 (sFs σ m φ) 9 [va_rf (some m), va_rf (some a), .int len, .int d, .int 1, v5, v6, v7] [] := by
    intro φ v5 v6 v7 hn c1 c2
    refine bX3_findPlate_9 _ _ _ _ _ _ _ _ ?_
    simp only [Option.some.injEq, exists_eq_left', exists_eq_left, forall_eq, forall_eq', List.mem_cons, List.not_mem_nil, or_false, or_true, true_or, true_and, and_true, eq_self, Nat.reduceEqDiff, reduceCtorEq, forall_const, true_implies, false_implies, implies_true, not_true_eq_false, not_false_eq_true, false_and, and_false, false_or, if_true, if_false, kd_sFI, ln_sFI, FI_sFI, FR_sFI, AI_sFI, AR_sFI, nx_sFI, kd_sFR, ln_sFR, FI_sFR, FR_sFR, AI_sFR, AR_sFR, nx_sFR, kd_sAI, ln_sAI, FI_sAI, FR_sAI, AI_sAI, AR_sAI, nx_sAI, kd_sAR, ln_sAR, FI_sAR, FR_sAR, AI_sAR, AR_sAR, nx_sAR, kd_sAIs, ln_sAIs, FI_sAIs, FR_sAIs, AR_sAIs, nx_sAIs, kd_sARs, ln_sARs, FI_sARs, FR_sARs, AI_sARs, nx_sARs, kd_nO, ln_nO, FI_nO, FR_nO, AI_nO, AR_nO, nx_nO, kd_nA, ln_nA, FI_nA, FR_nA, AI_nA, AR_nA, nx_nA, hm, kd_sFs, FI_sFs_self, c1, sFI_eq, sFs_sFs, Fm_sFs]
    refine ⟨fun h => absurd h (by decide), fun _ => ?_⟩
    refine pass true _ ?_ pk_us ?_ ?_ _ _
    · rw [pk_un (by decide)]; exact c1
    · intro k k1 k2 k3; rw [pk_un k3]; exact c2 k k1 k2 k3
    · intro φ' d1 d2 d3 d4 v6 v7 x
      cases q : fnd (AI σ a) len d true N with
      | none =>
        exact last φ' true _ v6 v7 (fun _ => rfl) (fun _ => Or.inl (d2 q)) ⟨fun _ => hF φ' hn q d4, fun h => absurd (d2 q) h⟩
      | some p =>
        exact done φ' true p _ v6 v7 (by have := fnd_lt q; omega) (d1 p q).1 (hT true p φ' (fun _ => hn) q d4 (d1 p q).1 (d1 p q).2 d3)
  refine eX3_findPlate _ _ _ _ (bX3_findPlate_0 _ _ _ _ ?_)
  simp only [Option.some.injEq, exists_eq_left', exists_eq_left, forall_eq, forall_eq', List.mem_cons, List.not_mem_nil, or_false, or_true, true_or, true_and, and_true, eq_self, Nat.reduceEqDiff, reduceCtorEq, forall_const, true_implies, false_implies, implies_true, not_true_eq_false, not_false_eq_true, false_and, and_false, false_or, if_true, if_false, kd_sFI, ln_sFI, FI_sFI, FR_sFI, AI_sFI, AR_sFI, nx_sFI, kd_sFR, ln_sFR, FI_sFR, FR_sFR, AI_sFR, AR_sFR, nx_sFR, kd_sAI, ln_sAI, FI_sAI, FR_sAI, AI_sAI, AR_sAI, nx_sAI, kd_sAR, ln_sAR, FI_sAR, FR_sAR, AI_sAR, AR_sAR, nx_sAR, kd_sAIs, ln_sAIs, FI_sAIs, FR_sAIs, AR_sAIs, nx_sAIs, kd_sARs, ln_sARs, FI_sARs, FR_sARs, AI_sARs, nx_sARs, kd_nO, ln_nO, FI_nO, FR_nO, AI_nO, AR_nO, nx_nO, kd_nA, ln_nA, FI_nA, FR_nA, AI_nA, AR_nA, nx_nA, hm, sFI_eq]
  refine bX3_findPlate_9 _ _ _ _ _ _ _ _ ?_
  simp only [Option.some.injEq, exists_eq_left', exists_eq_left, forall_eq, forall_eq', List.mem_cons, List.not_mem_nil, or_false, or_true, true_or, true_and, and_true, eq_self, Nat.reduceEqDiff, reduceCtorEq, forall_const, true_implies, false_implies, implies_true, not_true_eq_false, not_false_eq_true, false_and, and_false, false_or, if_true, if_false, kd_sFI, ln_sFI, FI_sFI, FR_sFI, AI_sFI, AR_sFI, nx_sFI, kd_sFR, ln_sFR, FI_sFR, FR_sFR, AI_sFR, AR_sFR, nx_sFR, kd_sAI, ln_sAI, FI_sAI, FR_sAI, AI_sAI, AR_sAI, nx_sAI, kd_sAR, ln_sAR, FI_sAR, FR_sAR, AI_sAR, AR_sAR, nx_sAR, kd_sAIs, ln_sAIs, FI_sAIs, FR_sAIs, AR_sAIs, nx_sAIs, kd_sARs, ln_sARs, FI_sARs, FR_sARs, AI_sARs, nx_sARs, kd_nO, ln_nO, FI_nO, FR_nO, AI_nO, AR_nO, nx_nO, kd_nA, ln_nA, FI_nA, FR_nA, AI_nA, AR_nA, nx_nA, hm, kd_sFs, FI_sFs_self, pk_us, sFI_eq, sFs_sFs, Fm_sFs]
  refine ⟨fun h => absurd h (by decide), fun _ => ?_⟩
  refine ⟨fun _ => ?_, fun h => absurd h (by decide)⟩
  refine pass false _ ?_ pk_us ?_ ?_ _ _
  · rw [pk_un (by decide), pk_us]
  · intro k k1 k2 k3; rw [pk_un k3, pk_un k1]
  · intro φ' d1 d2 d3 d4 v6 v7 x
    cases q : fnd (AI σ a) len d false N with
    | none => exact way1 φ' _ v6 v7 q (d2 q) d4
    | some p => exact done φ' false p _ v6 v7 (by have := fnd_lt q; omega) (d1 p q).1 (hT false p φ' (fun h => by cases h) q d4 (d1 p q).1 (d1 p q).2 d3)
end model4
