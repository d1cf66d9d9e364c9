/-! the model's methods that change a row, 4 -/
set_option maxRecDepth 100000
section model6
variable {w : Wt} {σ : Sg}
theorem c_finish {m a b N No o p s sh : Nat} {K : Sg → Prop} (hm : kd σ m = 13) (hmb : FR σ 30 m = some b) (hr : Rw σ a 343) (hb : Rw σ b 19) (hab : ¬ a = b)
    (h1 : AI σ a 1 = nI N) (hN : N ≤ 20) (h2 : AI σ a 2 = nI No) (hNo : No ≤ 10) (h3 : AI σ a 3 = nI o) (ho : o < No) (h5 : AI σ a 5 = nI p) (hp : p < 20) (h6 : AI σ a 6 = nI s) (hs : s ≤ 1)
    (hsh : od (AI σ a) o 0 = nI sh) (hsh3 : sh < 3) (h0 : 0 ≤ AI σ a (150 + sh))
    (hK : ∀ g, K (sAIs (sAIs σ b g) a (fin (AI σ a) o p s N No))) : CalV w mX3_finish σ [va_rf (some m), va_rf (some a)] K := by
  refine eX3_finish _ _ (bX3_finish_0 _ _ ?_)
  simp only [Option.some.injEq, exists_eq_left', exists_eq_left, forall_eq, forall_eq', List.mem_cons, List.not_mem_nil, or_false, or_true, true_or, true_and, and_true, eq_self, Nat.reduceEqDiff, reduceCtorEq, forall_const, true_implies, false_implies, implies_true, not_true_eq_false, not_false_eq_true, false_and, and_false, false_or, if_true, if_false, kd_sFI, ln_sFI, FI_sFI, FR_sFI, AI_sFI, AR_sFI, nx_sFI, kd_sFR, ln_sFR, FI_sFR, FR_sFR, AI_sFR, AR_sFR, nx_sFR, kd_sAI, ln_sAI, FI_sAI, FR_sAI, AI_sAI, AR_sAI, nx_sAI, kd_sAR, ln_sAR, FI_sAR, FR_sAR, AI_sAR, AR_sAR, nx_sAR, kd_sAIs, ln_sAIs, FI_sAIs, FR_sAIs, AR_sAIs, nx_sAIs, kd_sARs, ln_sARs, FI_sARs, FR_sARs, AI_sARs, nx_sARs, kd_nO, ln_nO, FI_nO, FR_nO, AI_nO, AR_nO, nx_nO, kd_nA, ln_nA, FI_nA, FR_nA, AI_nA, AR_nA, nx_nA, hr.1, hr.2, cl3, v3, cl5, v5, cl6, v6, h3, h5, h6]
  refine c_of (p := o) (k := 3) hr rfl rfl (by omega) (fun _ => ?_)
  refine c_setPlate (p := p) hr rfl (thr_s rfl) (by omega) (fun _ => ?_)
  have e0 : ∀ j, od (upl (AI σ a) p (3 + s) (od (AI σ a) o 3)) o j = od (AI σ a) o j := fun j => od_upl hp (by omega)
  refine c_of (p := o) (k := 0) hr rfl rfl (by omega) (fun _ => ?_)
  refine c_of (p := o) (k := 1) hr rfl rfl (by omega) (fun _ => ?_)
  rw [AI_self, e0, e0]
  refine c_fix (p := p) (s := sh) (N := N) hr rfl hp hsh hsh3 (by rw [AI_self, upl_lo (by decide)]; exact h1) hN ?_ (fun _ => ?_)
  · rw [AI_self]
    have : upl (AI σ a) p (3 + s) (od (AI σ a) o 3) (150 + sh) = AI σ a (150 + sh) := by unfold upl; exact pk_un (by omega)
    rw [this]; exact h0
  rw [AI_self, sAIs_sAIs]
  refine c_rest3 hr (fun _ => ?_)
  rw [AI_self, sAIs_sAIs]
  simp only [Option.some.injEq, exists_eq_left', exists_eq_left, forall_eq, forall_eq', List.mem_cons, List.not_mem_nil, or_false, or_true, true_or, true_and, and_true, eq_self, Nat.reduceEqDiff, reduceCtorEq, forall_const, true_implies, false_implies, implies_true, not_true_eq_false, not_false_eq_true, false_and, and_false, false_or, if_true, if_false, kd_sFI, ln_sFI, FI_sFI, FR_sFI, AI_sFI, AR_sFI, nx_sFI, kd_sFR, ln_sFR, FI_sFR, FR_sFR, AI_sFR, AR_sFR, nx_sFR, kd_sAI, ln_sAI, FI_sAI, FR_sAI, AI_sAI, AR_sAI, nx_sAI, kd_sAR, ln_sAR, FI_sAR, FR_sAR, AI_sAR, AR_sAR, nx_sAR, kd_sAIs, ln_sAIs, FI_sAIs, FR_sAIs, AR_sAIs, nx_sAIs, kd_sARs, ln_sARs, FI_sARs, FR_sARs, AI_sARs, nx_sARs, kd_nO, ln_nO, FI_nO, FR_nO, AI_nO, AR_nO, nx_nO, kd_nA, ln_nA, FI_nA, FR_nA, AI_nA, AR_nA, nx_nA, hm]
  have g2 : fin1 (AI σ a) o p s N 2 = nI No := by rw [fin1_lo (by decide) (by decide)]; exact h2
  refine c_takeOut (o := o) (N := No) hm hmb hr hb hab rfl ho ?_ hNo (fun _ => ?_)
  · rw [AI_self]; exact g2
  have hab' : ¬ b = a := fun e => hab e.symm
  simp only [Option.some.injEq, exists_eq_left', exists_eq_left, forall_eq, forall_eq', List.mem_cons, List.not_mem_nil, or_false, or_true, true_or, true_and, and_true, eq_self, Nat.reduceEqDiff, reduceCtorEq, forall_const, true_implies, false_implies, implies_true, not_true_eq_false, not_false_eq_true, false_and, and_false, false_or, if_true, if_false, kd_sFI, ln_sFI, FI_sFI, FR_sFI, AI_sFI, AR_sFI, nx_sFI, kd_sFR, ln_sFR, FI_sFR, FR_sFR, AI_sFR, AR_sFR, nx_sFR, kd_sAI, ln_sAI, FI_sAI, FR_sAI, AI_sAI, AR_sAI, nx_sAI, kd_sAR, ln_sAR, FI_sAR, FR_sAR, AI_sAR, AR_sAR, nx_sAR, kd_sAIs, ln_sAIs, FI_sAIs, FR_sAIs, AR_sAIs, nx_sAIs, kd_sARs, ln_sARs, FI_sARs, FR_sARs, AI_sARs, nx_sARs, kd_nO, ln_nO, FI_nO, FR_nO, AI_nO, AR_nO, nx_nO, kd_nA, ln_nA, FI_nA, FR_nA, AI_nA, AR_nA, nx_nA, hr.1, hr.2, cl7, v7, sAI_eq, AI_self]
  rw [sAIs_c hab, sAIs_sAIs, sAIs_sAIs]
  exact hK _
theorem c_hurryIn {m a b No o R : Nat} {O : Int32} {K : Sg → Int32 → Prop} (hm : kd σ m = 13) (hmb : FR σ 30 m = some b) (hr : Rw σ a 343) (hb : Rw σ b 19) (hab : ¬ a = b)
    (h2 : AI σ a 2 = nI No) (hNo : No ≤ 10) (hO : O = nI o) (ho : o < No) (hR : rsh (AI σ a) No = nI R) (hR2 : R < No)
    (hK : ∀ g, K (sAIs (sAIs σ b g) a (hur (AI σ a) (AI σ b) o R No)) (nI R)) : CalI w mX3_hurryIn σ [va_rf (some m), va_rf (some a), .int O] K := by
  subst hO
  have hab' : ¬ b = a := fun e => hab e.symm
  refine eX3_hurryIn _ _ _ (bX3_hurryIn_0 _ _ _ ?_)
  have g2 : tko (AI σ a) o No 2 = nI (No - 1) := by
    unfold tko; rw [if_neg (by decide), if_neg (by omega), if_pos rfl]
  have run : ∀ (J : Sg → Prop), J (sAIs (sAIs σ b (upd (cpl (fun k => od (AI σ a) o k) (AI σ b) 19) 4 1)) a (pti (tko (AI σ a) o No) (upd (cpl (fun k => od (AI σ a) o k) (AI σ b) 19) 4 1) R (No - 1))) →
      CalV w mX3_takeOut σ [va_rf (some m), va_rf (some a), .int (nI o)] (fun s12 => Ext σ s12 → ∃ a16, FR s12 30 m = some a16 ∧ kd s12 a16 = 1 ∧ vp_in 4 (ln s12 a16) ∧ CalV w mX3_putIn (sAI s12 a16 (4 : Int32).toNatClampNeg 1) [va_rf (some m), va_rf (some a), .int (nI R)] (fun s22 => Ext (sAI s12 a16 (4 : Int32).toNatClampNeg 1) s22 → J s22)) := by
    intro J hJ
    refine c_takeOut (o := o) (N := No) hm hmb hr hb hab rfl ho h2 hNo (fun _ => ?_)
    simp only [Option.some.injEq, exists_eq_left', exists_eq_left, forall_eq, forall_eq', List.mem_cons, List.not_mem_nil, or_false, or_true, true_or, true_and, and_true, eq_self, Nat.reduceEqDiff, reduceCtorEq, forall_const, true_implies, false_implies, implies_true, not_true_eq_false, not_false_eq_true, false_and, and_false, false_or, if_true, if_false, kd_sFI, ln_sFI, FI_sFI, FR_sFI, AI_sFI, AR_sFI, nx_sFI, kd_sFR, ln_sFR, FI_sFR, FR_sFR, AI_sFR, AR_sFR, nx_sFR, kd_sAI, ln_sAI, FI_sAI, FR_sAI, AI_sAI, AR_sAI, nx_sAI, kd_sAR, ln_sAR, FI_sAR, FR_sAR, AI_sAR, AR_sAR, nx_sAR, kd_sAIs, ln_sAIs, FI_sAIs, FR_sAIs, AR_sAIs, nx_sAIs, kd_sARs, ln_sARs, FI_sARs, FR_sARs, AI_sARs, nx_sARs, kd_nO, ln_nO, FI_nO, FR_nO, AI_nO, AR_nO, nx_nO, kd_nA, ln_nA, FI_nA, FR_nA, AI_nA, AR_nA, nx_nA, hmb, hb.1, hb.2, show vp_in 4 19 from vpN (by decide) (by decide), cl4, sAI_eq, AI_ne hab', AI_self]
    refine c_putIn (o := R) (N := No - 1) hm hmb hr hb hab rfl (by omega) ?_ (by omega) (fun _ => ?_)
    · rw [AI_ne hab, AI_self]; exact g2
    · rw [AI_ne hab, AI_self, AI_self, sAIs_c hab, sAIs_sAIs, sAIs_sAIs, sAIs_c hab']
      rw [sAIs_c hab'] at hJ
      exact hJ
  simp only [Option.some.injEq, exists_eq_left', exists_eq_left, forall_eq, forall_eq', List.mem_cons, List.not_mem_nil, or_false, or_true, true_or, true_and, and_true, eq_self, Nat.reduceEqDiff, reduceCtorEq, forall_const, true_implies, false_implies, implies_true, not_true_eq_false, not_false_eq_true, false_and, and_false, false_or, if_true, if_false, kd_sFI, ln_sFI, FI_sFI, FR_sFI, AI_sFI, AR_sFI, nx_sFI, kd_sFR, ln_sFR, FI_sFR, FR_sFR, AI_sFR, AR_sFR, nx_sFR, kd_sAI, ln_sAI, FI_sAI, FR_sAI, AI_sAI, AR_sAI, nx_sAI, kd_sAR, ln_sAR, FI_sAR, FR_sAR, AI_sAR, AR_sAR, nx_sAR, kd_sAIs, ln_sAIs, FI_sAIs, FR_sAIs, AR_sAIs, nx_sAIs, kd_sARs, ln_sARs, FI_sARs, FR_sARs, AI_sARs, nx_sARs, kd_nO, ln_nO, FI_nO, FR_nO, AI_nO, AR_nO, nx_nO, kd_nA, ln_nA, FI_nA, FR_nA, AI_nA, AR_nA, nx_nA, hr.1, hr.2, cl3, v3]
  refine ⟨fun h => ?_, fun h => ?_⟩
  · refine c_rushes3 hr h2 hNo (fun _ => ?_)
    simp only [Option.some.injEq, exists_eq_left', exists_eq_left, forall_eq, forall_eq', List.mem_cons, List.not_mem_nil, or_false, or_true, true_or, true_and, and_true, eq_self, Nat.reduceEqDiff, reduceCtorEq, forall_const, true_implies, false_implies, implies_true, not_true_eq_false, not_false_eq_true, false_and, and_false, false_or, if_true, if_false, kd_sFI, ln_sFI, FI_sFI, FR_sFI, AI_sFI, AR_sFI, nx_sFI, kd_sFR, ln_sFR, FI_sFR, FR_sFR, AI_sFR, AR_sFR, nx_sFR, kd_sAI, ln_sAI, FI_sAI, FR_sAI, AI_sAI, AR_sAI, nx_sAI, kd_sAR, ln_sAR, FI_sAR, FR_sAR, AI_sAR, AR_sAR, nx_sAR, kd_sAIs, ln_sAIs, FI_sAIs, FR_sAIs, AR_sAIs, nx_sAIs, kd_sARs, ln_sARs, FI_sARs, FR_sARs, AI_sARs, nx_sARs, kd_nO, ln_nO, FI_nO, FR_nO, AI_nO, AR_nO, nx_nO, kd_nA, ln_nA, FI_nA, FR_nA, AI_nA, AR_nA, nx_nA, hm]
    rw [hR]
    refine run _ ?_
    simp only [Option.some.injEq, exists_eq_left', exists_eq_left, forall_eq, forall_eq', List.mem_cons, List.not_mem_nil, or_false, or_true, true_or, true_and, and_true, eq_self, Nat.reduceEqDiff, reduceCtorEq, forall_const, true_implies, false_implies, implies_true, not_true_eq_false, not_false_eq_true, false_and, and_false, false_or, if_true, if_false, kd_sFI, ln_sFI, FI_sFI, FR_sFI, AI_sFI, AR_sFI, nx_sFI, kd_sFR, ln_sFR, FI_sFR, FR_sFR, AI_sFR, AR_sFR, nx_sFR, kd_sAI, ln_sAI, FI_sAI, FR_sAI, AI_sAI, AR_sAI, nx_sAI, kd_sAR, ln_sAR, FI_sAR, FR_sAR, AI_sAR, AR_sAR, nx_sAR, kd_sAIs, ln_sAIs, FI_sAIs, FR_sAIs, AR_sAIs, nx_sAIs, kd_sARs, ln_sARs, FI_sARs, FR_sARs, AI_sARs, nx_sARs, kd_nO, ln_nO, FI_nO, FR_nO, AI_nO, AR_nO, nx_nO, kd_nA, ln_nA, FI_nA, FR_nA, AI_nA, AR_nA, nx_nA, hr.1, hr.2, v3, sAI_eq, sAIs_sAIs, AI_self]
    have := hK (upd (cpl (fun k => od (AI σ a) o k) (AI σ b) 19) 4 1)
    simp only [hur, if_neg h] at this
    exact this
  · refine c_rushes3 hr h2 hNo (fun _ => ?_)
    simp only [Option.some.injEq, exists_eq_left', exists_eq_left, forall_eq, forall_eq', List.mem_cons, List.not_mem_nil, or_false, or_true, true_or, true_and, and_true, eq_self, Nat.reduceEqDiff, reduceCtorEq, forall_const, true_implies, false_implies, implies_true, not_true_eq_false, not_false_eq_true, false_and, and_false, false_or, if_true, if_false, kd_sFI, ln_sFI, FI_sFI, FR_sFI, AI_sFI, AR_sFI, nx_sFI, kd_sFR, ln_sFR, FI_sFR, FR_sFR, AI_sFR, AR_sFR, nx_sFR, kd_sAI, ln_sAI, FI_sAI, FR_sAI, AI_sAI, AR_sAI, nx_sAI, kd_sAR, ln_sAR, FI_sAR, FR_sAR, AI_sAR, AR_sAR, nx_sAR, kd_sAIs, ln_sAIs, FI_sAIs, FR_sAIs, AR_sAIs, nx_sAIs, kd_sARs, ln_sARs, FI_sARs, FR_sARs, AI_sARs, nx_sARs, kd_nO, ln_nO, FI_nO, FR_nO, AI_nO, AR_nO, nx_nO, kd_nA, ln_nA, FI_nA, FR_nA, AI_nA, AR_nA, nx_nA, hm]
    rw [hR]
    refine run _ ?_
    simp only [Option.some.injEq, exists_eq_left', exists_eq_left, forall_eq, forall_eq', List.mem_cons, List.not_mem_nil, or_false, or_true, true_or, true_and, and_true, eq_self, Nat.reduceEqDiff, reduceCtorEq, forall_const, true_implies, false_implies, implies_true, not_true_eq_false, not_false_eq_true, false_and, and_false, false_or, if_true, if_false, kd_sFI, ln_sFI, FI_sFI, FR_sFI, AI_sFI, AR_sFI, nx_sFI, kd_sFR, ln_sFR, FI_sFR, FR_sFR, AI_sFR, AR_sFR, nx_sFR, kd_sAI, ln_sAI, FI_sAI, FR_sAI, AI_sAI, AR_sAI, nx_sAI, kd_sAR, ln_sAR, FI_sAR, FR_sAR, AI_sAR, AR_sAR, nx_sAR, kd_sAIs, ln_sAIs, FI_sAIs, FR_sAIs, AR_sAIs, nx_sAIs, kd_sARs, ln_sARs, FI_sARs, FR_sARs, AI_sARs, nx_sARs, kd_nO, ln_nO, FI_nO, FR_nO, AI_nO, AR_nO, nx_nO, kd_nA, ln_nA, FI_nA, FR_nA, AI_nA, AR_nA, nx_nA, hr.1, hr.2, v3, sAI_eq, sAIs_sAIs, AI_self]
    have := hK (upd (cpl (fun k => od (AI σ a) o k) (AI σ b) 19) 4 1)
    simp only [hur, if_pos h] at this
    exact this
theorem c_act3 {m a b n : Nat} {K : Sg → Prop} (hm : kd σ m = 13) (hma : FR σ 19 m = some a) (hmb : FR σ 21 m = some b) (hr : Rw σ a 343) (hb : Rw σ b 1715) (hab : ¬ a = b) (hn : FI σ 22 m = nI n) (hn5 : n ≤ 5)
    (hK : K (sFs (sAIs σ b (svN (AI σ a) (AI σ b) n)) m (upd (Fm σ m) 22 (nI (nxN n))))) : CalV w mX3_act σ [va_rf (some m)] K := by
  have loop2 : ∀ (n : Nat) (g : Nat → Int32) (φ : Nat → Int32), n ≤ 4 → φ 22 = nI n → K (sFs (sAIs σ b (svA (AI σ a) g n)) m (upd φ 22 (nI (n + 1)))) → G w mX3_act (KV K) 0 0 (sFs (sAIs σ b g) m φ) 51 [va_rf (some m), .int 0] [] := by
    intro n g φ hn4 hφ hk
    let h : Nat → Nat → Int32 := fun i j => if 343 * n ≤ j ∧ j < 343 * n + i then AI σ a (j - 343 * n) else g j
    have h0 : h 0 = g := by funext k; exact if_neg (by omega)
    have hs : ∀ i, upd (h i) (343 * n + i) (AI σ a i) = h (i + 1) := fun i => by
      funext k
      show _ = (if 343 * n ≤ k ∧ k < 343 * n + (i + 1) then _ else _)
      by_cases e : k = 343 * n + i
      · subst e; rw [pk_us, if_pos (by omega), show 343 * n + i - 343 * n = i by omega]
      · rw [pk_un e]; exact ifc (by omega)
    rw [← h0]
    refine upL (P := fun i => G w mX3_act (KV K) 0 0 (sFs (sAIs σ b (h i)) m φ) 51 [va_rf (some m), .int (nI i)] []) (N := 343) ?_ ?_
    · refine bX3_act_51 _ _ ⟨fun _ => ?_, fun h => absurd (nI_le (Nat.le_refl 343) (by decide)) h⟩
      simp only [Option.some.injEq, exists_eq_left', exists_eq_left, forall_eq, forall_eq', List.mem_cons, List.not_mem_nil, or_false, or_true, true_or, true_and, and_true, eq_self, Nat.reduceEqDiff, reduceCtorEq, forall_const, true_implies, false_implies, implies_true, not_true_eq_false, not_false_eq_true, false_and, and_false, false_or, if_true, if_false, kd_sFI, ln_sFI, FI_sFI, FR_sFI, AI_sFI, AR_sFI, nx_sFI, kd_sFR, ln_sFR, FI_sFR, FR_sFR, AI_sFR, AR_sFR, nx_sFR, kd_sAI, ln_sAI, FI_sAI, FR_sAI, AI_sAI, AR_sAI, nx_sAI, kd_sAR, ln_sAR, FI_sAR, FR_sAR, AI_sAR, AR_sAR, nx_sAR, kd_sAIs, ln_sAIs, FI_sAIs, FR_sAIs, AR_sAIs, nx_sAIs, kd_sARs, ln_sARs, FI_sARs, FR_sARs, AI_sARs, nx_sARs, kd_nO, ln_nO, FI_nO, FR_nO, AI_nO, AR_nO, nx_nO, kd_nA, ln_nA, FI_nA, FR_nA, AI_nA, AR_nA, nx_nA, hm, kd_sFs, FI_sFs_self, sFI_eq, sFs_sFs, Fm_sFs, hφ, nI_1]
      exact hk
    · intro i hi ih
      refine bX3_act_51 _ _ ⟨fun h => absurd h (nI_ge (b := 343) hi (by decide)), fun _ => ?_⟩
      have e : 343 * nI n + nI i = nI (343 * n + i) := by rw [← nI_add, ← pk_mul]; rfl
      simp only [Option.some.injEq, exists_eq_left', exists_eq_left, forall_eq, forall_eq', List.mem_cons, List.not_mem_nil, or_false, or_true, true_or, true_and, and_true, eq_self, Nat.reduceEqDiff, reduceCtorEq, forall_const, true_implies, false_implies, implies_true, not_true_eq_false, not_false_eq_true, false_and, and_false, false_or, if_true, if_false, kd_sFI, ln_sFI, FI_sFI, FR_sFI, AI_sFI, AR_sFI, nx_sFI, kd_sFR, ln_sFR, FI_sFR, FR_sFR, AI_sFR, AR_sFR, nx_sFR, kd_sAI, ln_sAI, FI_sAI, FR_sAI, AI_sAI, AR_sAI, nx_sAI, kd_sAR, ln_sAR, FI_sAR, FR_sAR, AI_sAR, AR_sAR, nx_sAR, kd_sAIs, ln_sAIs, FI_sAIs, FR_sAIs, AR_sAIs, nx_sAIs, kd_sARs, ln_sARs, FI_sARs, FR_sARs, AI_sARs, nx_sARs, kd_nO, ln_nO, FI_nO, FR_nO, AI_nO, AR_nO, nx_nO, kd_nA, ln_nA, FI_nA, FR_nA, AI_nA, AR_nA, nx_nA, hm, hma, hmb, hr.1, hr.2, hb.1, hb.2, kd_sFs, ln_sFs, FR_sFs, AI_sFs, FI_sFs_self, hφ, e, nI_clamp (show i < 2 ^ 31 by omega), vpN hi (by decide), nI_clamp (show 343 * n + i < 2 ^ 31 by omega), vpN (show 343 * n + i < 1715 by omega) (by decide), AI_self, AI_ne hab, sAI_eq, sAIs_sFs, sAIs_sAIs, hs]
      rw [nI_succ] at ih; exact ih
  refine eX3_act _ (bX3_act_0 _ ?_)
  simp only [Option.some.injEq, exists_eq_left', exists_eq_left, forall_eq, forall_eq', List.mem_cons, List.not_mem_nil, or_false, or_true, true_or, true_and, and_true, eq_self, Nat.reduceEqDiff, reduceCtorEq, forall_const, true_implies, false_implies, implies_true, not_true_eq_false, not_false_eq_true, false_and, and_false, false_or, if_true, if_false, kd_sFI, ln_sFI, FI_sFI, FR_sFI, AI_sFI, AR_sFI, nx_sFI, kd_sFR, ln_sFR, FI_sFR, FR_sFR, AI_sFR, AR_sFR, nx_sFR, kd_sAI, ln_sAI, FI_sAI, FR_sAI, AI_sAI, AR_sAI, nx_sAI, kd_sAR, ln_sAR, FI_sAR, FR_sAR, AI_sAR, AR_sAR, nx_sAR, kd_sAIs, ln_sAIs, FI_sAIs, FR_sAIs, AR_sAIs, nx_sAIs, kd_sARs, ln_sARs, FI_sARs, FR_sARs, AI_sARs, nx_sARs, kd_nO, ln_nO, FI_nO, FR_nO, AI_nO, AR_nO, nx_nO, kd_nA, ln_nA, FI_nA, FR_nA, AI_nA, AR_nA, nx_nA, hm, hn]
  refine ⟨fun h => ?_, fun h => ?_⟩
  · have h5 : n ≠ 5 := fun e => h (by rw [e]; rfl)
    unfold svN nxN at hK
    rw [if_neg h5, if_neg h5] at hK
    have := loop2 n (AI σ b) (Fm σ m) (by omega) hn hK
    rw [sAIs_rfl, sFs_rfl] at this
    exact this
  · have h5 : n = 5 := nI_inj h (by omega) (by decide)
    subst h5
    unfold svN nxN at hK
    rw [if_pos rfl, if_pos rfl] at hK
    let h : Nat → Nat → Int32 := fun i j => if j < i then AI σ b (j + 343) else AI σ b j
    have h0 : h 0 = AI σ b := by funext k; exact if_neg (by omega)
    have hs : ∀ i, upd (h i) i (AI σ b (i + 343)) = h (i + 1) := fun i => by
      funext k
      show _ = (if k < i + 1 then _ else _)
      by_cases e : k = i
      · subst e; rw [pk_us, if_pos (by omega)]
      · rw [pk_un e]; exact ifc (by omega)
    have hq : ∀ i, h i (i + 343) = AI σ b (i + 343) := fun i => if_neg (by omega)
    have key := upL (P := fun i => G w mX3_act (KV K) 0 0 (sAIs σ b (h i)) 10 [va_rf (some m), .int (nI i)] []) (N := 1372) ?_ ?_
    · rw [h0, sAIs_rfl] at key; exact key
    · refine bX3_act_10 _ _ ⟨fun _ => ?_, fun h => absurd (nI_le (Nat.le_refl 1372) (by decide)) h⟩
      simp only [Option.some.injEq, exists_eq_left', exists_eq_left, forall_eq, forall_eq', List.mem_cons, List.not_mem_nil, or_false, or_true, true_or, true_and, and_true, eq_self, Nat.reduceEqDiff, reduceCtorEq, forall_const, true_implies, false_implies, implies_true, not_true_eq_false, not_false_eq_true, false_and, and_false, false_or, if_true, if_false, kd_sFI, ln_sFI, FI_sFI, FR_sFI, AI_sFI, AR_sFI, nx_sFI, kd_sFR, ln_sFR, FI_sFR, FR_sFR, AI_sFR, AR_sFR, nx_sFR, kd_sAI, ln_sAI, FI_sAI, FR_sAI, AI_sAI, AR_sAI, nx_sAI, kd_sAR, ln_sAR, FI_sAR, FR_sAR, AI_sAR, AR_sAR, nx_sAR, kd_sAIs, ln_sAIs, FI_sAIs, FR_sAIs, AR_sAIs, nx_sAIs, kd_sARs, ln_sARs, FI_sARs, FR_sARs, AI_sARs, nx_sARs, kd_nO, ln_nO, FI_nO, FR_nO, AI_nO, AR_nO, nx_nO, kd_nA, ln_nA, FI_nA, FR_nA, AI_nA, AR_nA, nx_nA, hm, hn, sFI_eq, Fm_sAIs]
      refine loop2 4 (h 1372) _ (by decide) ?_ ?_
      · rw [pk_us]; rfl
      · have e : upd (upd (Fm σ m) 22 (nI 5 - 1)) 22 (nI (4 + 1)) = upd (Fm σ m) 22 (nI 5) := by
          funext k
          by_cases e : k = 22
          · subst e; rw [pk_us, pk_us]
          · rw [pk_un e, pk_un e, pk_un e]
        rw [e]
        exact hK
    · intro i hi ih
      refine bX3_act_10 _ _ ⟨fun h => absurd h (nI_ge (b := 1372) hi (by decide)), fun _ => ?_⟩
      have e : nI i + 343 = nI (i + 343) := nI_add i 343
      simp only [Option.some.injEq, exists_eq_left', exists_eq_left, forall_eq, forall_eq', List.mem_cons, List.not_mem_nil, or_false, or_true, true_or, true_and, and_true, eq_self, Nat.reduceEqDiff, reduceCtorEq, forall_const, true_implies, false_implies, implies_true, not_true_eq_false, not_false_eq_true, false_and, and_false, false_or, if_true, if_false, kd_sFI, ln_sFI, FI_sFI, FR_sFI, AI_sFI, AR_sFI, nx_sFI, kd_sFR, ln_sFR, FI_sFR, FR_sFR, AI_sFR, AR_sFR, nx_sFR, kd_sAI, ln_sAI, FI_sAI, FR_sAI, AI_sAI, AR_sAI, nx_sAI, kd_sAR, ln_sAR, FI_sAR, FR_sAR, AI_sAR, AR_sAR, nx_sAR, kd_sAIs, ln_sAIs, FI_sAIs, FR_sAIs, AR_sAIs, nx_sAIs, kd_sARs, ln_sARs, FI_sARs, FR_sARs, AI_sARs, nx_sARs, kd_nO, ln_nO, FI_nO, FR_nO, AI_nO, AR_nO, nx_nO, kd_nA, ln_nA, FI_nA, FR_nA, AI_nA, AR_nA, nx_nA, hm, hmb, hb.1, hb.2, e, nI_clamp (show i < 2 ^ 31 by omega), vpN (show i < 1715 by omega) (by decide), nI_clamp (show i + 343 < 2 ^ 31 by omega), vpN (show i + 343 < 1715 by omega) (by decide), AI_self, sAI_eq, sAIs_sAIs, hq, hs]
      rw [nI_succ] at ih; exact ih
end model6
