/-! the model's methods that change a row -/
set_option maxRecDepth 100000
section model3
variable {w : Wt} {σ : Sg}
theorem c_fix3 {a N : Nat} {P sh y : Int32} {p s : Nat} {K : Sg → Prop} (hr : Rw σ a 343) (hP : P = nI p) (hp : p < 20) (hS : sh = nI s) (hs : s < 3) (h1 : AI σ a 1 = nI N) (hN : N ≤ 20)
    (hF : cntO (fx1 (AI σ a) p sh y) sh N ≤ AI σ a (150 + s) → K (sAIs σ a (fx1 (AI σ a) p sh y)))
    (hE : ¬ cntO (fx1 (AI σ a) p sh y) sh N ≤ AI σ a (150 + s) → ∃ q, pOn (fx1 (AI σ a) p sh y) sh (yOn (fx1 (AI σ a) p sh y) sh 1 N) N = some q ∧ K (sAIs σ a (upl (fx1 (AI σ a) p sh y) q 2 0))) :
    CalV w mX3_fix σ [va_rf (some a), .int P, .int sh, .int y] K := by
  have e1 : ∀ k, 10 + 7 * p + k ≠ 1 := fun k => by omega
  have e150 : ∀ k, k ≤ 6 → 150 + s ≠ 10 + 7 * p + k := fun k hk => by omega
  have g1 : fx1 (AI σ a) p sh y 1 = nI N := by
    unfold fx1 upl; rw [pk_un (by omega), pk_un (by omega), pk_un (by omega)]; exact h1
  have g2 : fx1 (AI σ a) p sh y (150 + s) = AI σ a (150 + s) := by
    unfold fx1 upl; rw [pk_un (by omega), pk_un (by omega), pk_un (by omega)]
  refine eX3_fix _ _ _ _ (bX3_fix_0 _ _ _ _ ?_)
  refine c_setPlate hr hP (k := 2) rfl (by omega) (fun _ => ?_)
  refine c_setPlate hr hP (k := 5) rfl (by omega) (fun _ => ?_)
  refine c_setPlate hr hP (k := 6) rfl (by omega) (fun _ => ?_)
  simp only [sAIs_sAIs, AI_self]
  refine c_platesOn3 (N := N) hr (by rw [AI_self]; exact g1) hN (fun _ => ?_)
  have e5 : 150 + sh = nI (150 + s) := by rw [hS]; exact nI_add 150 s
  simp only [Option.some.injEq, exists_eq_left', exists_eq_left, forall_eq, forall_eq', List.mem_cons, List.not_mem_nil, or_false, or_true, true_or, true_and, and_true, eq_self, Nat.reduceEqDiff, reduceCtorEq, forall_const, true_implies, false_implies, implies_true, not_true_eq_false, not_false_eq_true, false_and, and_false, false_or, if_true, if_false, kd_sFI, ln_sFI, FI_sFI, FR_sFI, AI_sFI, AR_sFI, nx_sFI, kd_sFR, ln_sFR, FI_sFR, FR_sFR, AI_sFR, AR_sFR, nx_sFR, kd_sAI, ln_sAI, FI_sAI, FR_sAI, AI_sAI, AR_sAI, nx_sAI, kd_sAR, ln_sAR, FI_sAR, FR_sAR, AI_sAR, AR_sAR, nx_sAR, kd_sAIs, ln_sAIs, FI_sAIs, FR_sAIs, AR_sAIs, nx_sAIs, kd_sARs, ln_sARs, FI_sARs, FR_sARs, AI_sARs, nx_sARs, kd_nO, ln_nO, FI_nO, FR_nO, AI_nO, AR_nO, nx_nO, kd_nA, ln_nA, FI_nA, FR_nA, AI_nA, AR_nA, nx_nA, hr.1, hr.2, e5, nI_clamp (show 150 + s < 2 ^ 31 by omega), vpN (show 150 + s < 343 by omega) (by decide), AI_self]
  refine ⟨fun h => hF (by rw [← g2]; exact h), fun h => ?_⟩
  refine c_yearOn (N := N) hr (by rw [AI_self]; exact g1) hN (fun _ => ?_)
  refine c_plateOn (N := N) hr (by rw [AI_self]; exact g1) hN (fun _ => ?_)
  obtain ⟨q, h2, h3⟩ := hE (by rw [← g2]; exact h)
  have h4 := pOn_lt h2
  rw [AI_self]
  refine c_setPlate (p := q) hr (congrArg oI h2) (k := 2) rfl (by omega) (fun _ => ?_)
  rw [sAIs_sAIs, AI_self]
  exact h3
theorem sAIs_c {σ : Sg} {a b : Nat} {f g : Nat → Int32} (h : ¬ a = b) : sAIs (sAIs σ a f) b g = sAIs (sAIs σ b g) a f := by
  have : (fun c => if c = b then g else (if c = a then f else AI σ c)) = (fun c => if c = a then f else (if c = b then g else AI σ c)) := by
    funext c
    by_cases h1 : c = b
    · subst h1; rw [if_pos rfl, if_neg (Ne.symm h), if_pos rfl]
    · rw [if_neg h1, if_neg h1]
  show (kd σ, ln σ, FI σ, FR σ, (fun c => if c = b then g else (if c = a then f else AI σ c)), AR σ, nx σ) = _
  rw [this]; rfl
theorem n19 {j : Nat} : nI j + 19 = nI (j + 19) := nI_add j 19
theorem c153 {j : Int32} {n : Nat} (h : j = nI n) : 153 + 19 * j = nI (153 + 19 * n) := by
  subst h; rw [← nI_add, ← pk_mul]; rfl
theorem c_takeOut {m a b N : Nat} {O : Int32} {o : Nat} {K : Sg → Prop} (hm : kd σ m = 13) (hmb : FR σ 30 m = some b) (hr : Rw σ a 343) (hb : Rw σ b 19) (hab : ¬ a = b) (hO : O = nI o) (ho : o < N) (h2 : AI σ a 2 = nI N) (hN : N ≤ 10)
    (hK : K (sAIs (sAIs σ b (cpl (fun k => od (AI σ a) o k) (AI σ b) 19)) a (tko (AI σ a) o N))) : CalV w mX3_takeOut σ [va_rf (some m), va_rf (some a), .int O] K := by
  subst hO
  let g : Nat → Nat → Int32 := fun i => cpl (fun k => od (AI σ a) o k) (AI σ b) i
  let f : Nat → Nat → Int32 := fun i j => if 153 + 19 * o ≤ j ∧ j < 153 + 19 * o + i then AI σ a (j + 19) else if j = 2 then nI (N - 1) else AI σ a j
  have hg0 : g 0 = AI σ b := by funext k; exact if_neg (by omega)
  have hgs : ∀ i, upd (g i) i (od (AI σ a) o i) = g (i + 1) := fun i => by
    funext k
    by_cases h : k = i
    · subst h; rw [pk_us]; exact (if_pos (by omega)).symm
    · rw [pk_un h]
      show (if k < i then _ else _) = (if k < i + 1 then _ else _)
      by_cases c : k < i
      · rw [if_pos c, if_pos (by omega)]
      · rw [if_neg c, if_neg (by omega)]
  have hf0 : upd (AI σ a) 2 (nI (N - 1)) = f 0 := by
    funext k
    show _ = (if 153 + 19 * o ≤ k ∧ k < 153 + 19 * o + 0 then _ else _)
    rw [if_neg (by omega)]
    by_cases h : k = 2
    · subst h; rw [pk_us, if_pos rfl]
    · rw [pk_un h, if_neg h]
  have hfs : ∀ i, upd (f i) (153 + 19 * o + i) (AI σ a (153 + 19 * o + i + 19)) = f (i + 1) := fun i => by
    funext k
    show _ = (if 153 + 19 * o ≤ k ∧ k < 153 + 19 * o + (i + 1) then _ else _)
    by_cases h : k = 153 + 19 * o + i
    · subst h; rw [pk_us, if_pos (by omega)]
    · rw [pk_un h]
      exact ifc (by omega)
  have hf2 : ∀ i, f i 2 = nI (N - 1) := fun i => by
    show (if 153 + 19 * o ≤ 2 ∧ 2 < 153 + 19 * o + i then _ else _) = _
    rw [if_neg (by omega), if_pos rfl]
  have hf3 : ∀ i, f i 3 = AI σ a 3 := fun i => by
    show (if 153 + 19 * o ≤ 3 ∧ 3 < 153 + 19 * o + i then _ else _) = _
    rw [if_neg (by omega), if_neg (by decide)]
  have hfin : upd (f (19 * (N - 1 - o))) 3 (if AI σ a 3 ≤ nI o then AI σ a 3 - 0 else AI σ a 3 - 1) = tko (AI σ a) o N := by
    funext k
    unfold tko
    by_cases h : k = 3
    · subst h; rw [pk_us, if_pos rfl]
    · rw [pk_un h, if_neg h]
      exact ifc (by omega)
  -- the second loop
  have step2 : G w mX3_takeOut (KV K) 0 0 (sAIs (sAIs σ b (g 19)) a (f 0)) 42 [va_rf (some m), va_rf (some a), .int (nI o), .int (nI (153 + 19 * o))] [] := by
    refine upL (P := fun i => G w mX3_takeOut (KV K) 0 0 (sAIs (sAIs σ b (g 19)) a (f i)) 42 [va_rf (some m), va_rf (some a), .int (nI o), .int (nI (153 + 19 * o + i))] []) (N := 19 * (N - 1 - o)) ?_ ?_
    · refine bX3_takeOut_42 _ _ _ _ ?_
      simp only [Option.some.injEq, exists_eq_left', exists_eq_left, forall_eq, forall_eq', List.mem_cons, List.not_mem_nil, or_false, or_true, true_or, true_and, and_true, eq_self, Nat.reduceEqDiff, reduceCtorEq, forall_const, true_implies, false_implies, implies_true, not_true_eq_false, not_false_eq_true, false_and, and_false, false_or, if_true, if_false, kd_sFI, ln_sFI, FI_sFI, FR_sFI, AI_sFI, AR_sFI, nx_sFI, kd_sFR, ln_sFR, FI_sFR, FR_sFR, AI_sFR, AR_sFR, nx_sFR, kd_sAI, ln_sAI, FI_sAI, FR_sAI, AI_sAI, AR_sAI, nx_sAI, kd_sAR, ln_sAR, FI_sAR, FR_sAR, AI_sAR, AR_sAR, nx_sAR, kd_sAIs, ln_sAIs, FI_sAIs, FR_sAIs, AR_sAIs, nx_sAIs, kd_sARs, ln_sARs, FI_sARs, FR_sARs, AI_sARs, nx_sARs, kd_nO, ln_nO, FI_nO, FR_nO, AI_nO, AR_nO, nx_nO, kd_nA, ln_nA, FI_nA, FR_nA, AI_nA, AR_nA, nx_nA, hr.1, hr.2, cl2, v2, cl3, v3, AI_self, hf2, hf3, c153 (rfl : nI (N - 1) = nI (N - 1)), sAI_eq, sAIs_sAIs]
      refine ⟨fun _ => ⟨fun h => ?_, fun h => ?_⟩, fun h => absurd (nI_le (by omega) (by omega)) h⟩
      · rw [if_pos h] at hfin; rw [hfin]; exact hK
      · rw [if_neg h] at hfin; rw [hfin]; exact hK
    · intro i hi ih
      refine bX3_takeOut_42 _ _ _ _ ?_
      have q1 : f i (153 + 19 * o + i + 19) = AI σ a (153 + 19 * o + i + 19) := by
        show (if 153 + 19 * o ≤ 153 + 19 * o + i + 19 ∧ 153 + 19 * o + i + 19 < 153 + 19 * o + i then _ else _) = _
        rw [if_neg (by omega), if_neg (by omega)]
      simp only [Option.some.injEq, exists_eq_left', exists_eq_left, forall_eq, forall_eq', List.mem_cons, List.not_mem_nil, or_false, or_true, true_or, true_and, and_true, eq_self, Nat.reduceEqDiff, reduceCtorEq, forall_const, true_implies, false_implies, implies_true, not_true_eq_false, not_false_eq_true, false_and, and_false, false_or, if_true, if_false, kd_sFI, ln_sFI, FI_sFI, FR_sFI, AI_sFI, AR_sFI, nx_sFI, kd_sFR, ln_sFR, FI_sFR, FR_sFR, AI_sFR, AR_sFR, nx_sFR, kd_sAI, ln_sAI, FI_sAI, FR_sAI, AI_sAI, AR_sAI, nx_sAI, kd_sAR, ln_sAR, FI_sAR, FR_sAR, AI_sAR, AR_sAR, nx_sAR, kd_sAIs, ln_sAIs, FI_sAIs, FR_sAIs, AR_sAIs, nx_sAIs, kd_sARs, ln_sARs, FI_sARs, FR_sARs, AI_sARs, nx_sARs, kd_nO, ln_nO, FI_nO, FR_nO, AI_nO, AR_nO, nx_nO, kd_nA, ln_nA, FI_nA, FR_nA, AI_nA, AR_nA, nx_nA, hr.1, hr.2, cl2, v2, AI_self, hf2, c153 (rfl : nI (N - 1) = nI (N - 1)), sAI_eq, sAIs_sAIs, n19, nI_clamp (show 153 + 19 * o + i < 2 ^ 31 by omega), nI_clamp (show 153 + 19 * o + i + 19 < 2 ^ 31 by omega), vpN (show 153 + 19 * o + i < 343 by omega) (by decide), vpN (show 153 + 19 * o + i + 19 < 343 by omega) (by decide), q1, hfs]
      refine ⟨fun h => absurd h (nI_ge (by omega) (by omega)), fun _ => ?_⟩
      rw [show 153 + 19 * o + (i + 1) = 153 + 19 * o + i + 1 by omega, nI_succ] at ih
      exact ih
  refine eX3_takeOut _ _ _ (bX3_takeOut_0 _ _ _ (upL (P := fun i => G w mX3_takeOut (KV K) 0 0 (sAIs σ b (g i)) 2 [va_rf (some m), va_rf (some a), .int (nI o), .int (nI i)] []) (N := 19) ?_ ?_) |> fun h => by rw [hg0, sAIs_rfl] at h; exact h)
  · refine bX3_takeOut_2 _ _ _ _ ⟨fun _ => ?_, fun h => absurd (nI_le (Nat.le_refl 19) (by omega)) h⟩
    have q : nI N - 1 = nI (N - 1) := pk_sub (b := 1) (by omega)
    simp only [Option.some.injEq, exists_eq_left', exists_eq_left, forall_eq, forall_eq', List.mem_cons, List.not_mem_nil, or_false, or_true, true_or, true_and, and_true, eq_self, Nat.reduceEqDiff, reduceCtorEq, forall_const, true_implies, false_implies, implies_true, not_true_eq_false, not_false_eq_true, false_and, and_false, false_or, if_true, if_false, kd_sFI, ln_sFI, FI_sFI, FR_sFI, AI_sFI, AR_sFI, nx_sFI, kd_sFR, ln_sFR, FI_sFR, FR_sFR, AI_sFR, AR_sFR, nx_sFR, kd_sAI, ln_sAI, FI_sAI, FR_sAI, AI_sAI, AR_sAI, nx_sAI, kd_sAR, ln_sAR, FI_sAR, FR_sAR, AI_sAR, AR_sAR, nx_sAR, kd_sAIs, ln_sAIs, FI_sAIs, FR_sAIs, AR_sAIs, nx_sAIs, kd_sARs, ln_sARs, FI_sARs, FR_sARs, AI_sARs, nx_sARs, kd_nO, ln_nO, FI_nO, FR_nO, AI_nO, AR_nO, nx_nO, kd_nA, ln_nA, FI_nA, FR_nA, AI_nA, AR_nA, nx_nA, hr.1, hr.2, cl2, v2, AI_ne hab, h2, q, sAI_eq, hf0, c153 (rfl : nI o = nI o)]
    exact step2
  · intro i hi ih
    refine bX3_takeOut_2 _ _ _ _ ⟨fun h => absurd h (nI_ge (b := 19) hi (by decide)), fun _ => ?_⟩
    simp only [Option.some.injEq, exists_eq_left', exists_eq_left, forall_eq, forall_eq', List.mem_cons, List.not_mem_nil, or_false, or_true, true_or, true_and, and_true, eq_self, Nat.reduceEqDiff, reduceCtorEq, forall_const, true_implies, false_implies, implies_true, not_true_eq_false, not_false_eq_true, false_and, and_false, false_or, if_true, if_false, kd_sFI, ln_sFI, FI_sFI, FR_sFI, AI_sFI, AR_sFI, nx_sFI, kd_sFR, ln_sFR, FI_sFR, FR_sFR, AI_sFR, AR_sFR, nx_sFR, kd_sAI, ln_sAI, FI_sAI, FR_sAI, AI_sAI, AR_sAI, nx_sAI, kd_sAR, ln_sAR, FI_sAR, FR_sAR, AI_sAR, AR_sAR, nx_sAR, kd_sAIs, ln_sAIs, FI_sAIs, FR_sAIs, AR_sAIs, nx_sAIs, kd_sARs, ln_sARs, FI_sARs, FR_sARs, AI_sARs, nx_sARs, kd_nO, ln_nO, FI_nO, FR_nO, AI_nO, AR_nO, nx_nO, kd_nA, ln_nA, FI_nA, FR_nA, AI_nA, AR_nA, nx_nA, hm, hmb]
    refine c_of (p := o) (k := i) hr rfl rfl (by omega) (fun _ => ?_)
    simp only [Option.some.injEq, exists_eq_left', exists_eq_left, forall_eq, forall_eq', List.mem_cons, List.not_mem_nil, or_false, or_true, true_or, true_and, and_true, eq_self, Nat.reduceEqDiff, reduceCtorEq, forall_const, true_implies, false_implies, implies_true, not_true_eq_false, not_false_eq_true, false_and, and_false, false_or, if_true, if_false, kd_sFI, ln_sFI, FI_sFI, FR_sFI, AI_sFI, AR_sFI, nx_sFI, kd_sFR, ln_sFR, FI_sFR, FR_sFR, AI_sFR, AR_sFR, nx_sFR, kd_sAI, ln_sAI, FI_sAI, FR_sAI, AI_sAI, AR_sAI, nx_sAI, kd_sAR, ln_sAR, FI_sAR, FR_sAR, AI_sAR, AR_sAR, nx_sAR, kd_sAIs, ln_sAIs, FI_sAIs, FR_sAIs, AR_sAIs, nx_sAIs, kd_sARs, ln_sARs, FI_sARs, FR_sARs, AI_sARs, nx_sARs, kd_nO, ln_nO, FI_nO, FR_nO, AI_nO, AR_nO, nx_nO, kd_nA, ln_nA, FI_nA, FR_nA, AI_nA, AR_nA, nx_nA, hb.1, hb.2, hmb, nI_clamp (show i < 2 ^ 31 by omega), vpN hi (by decide), sAI_eq, sAIs_sAIs, AI_self, AI_ne hab, hgs]
    rw [nI_succ] at ih
    exact ih
end model3
