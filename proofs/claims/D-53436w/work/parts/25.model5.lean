/-! the model's methods that change a row, 3 -/
set_option maxRecDepth 100000
section model5
variable {w : Wt} {σ : Sg}
theorem c_fix {a N : Nat} {P sh y : Int32} {p s : Nat} {K : Sg → Prop} (hr : Rw σ a 343) (hP : P = nI p) (hp : p < 20) (hS : sh = nI s) (hs : s < 3) (h1 : AI σ a 1 = nI N) (hN : N ≤ 20) (h0 : 0 ≤ AI σ a (150 + s))
    (hK : K (sAIs σ a (fxr (AI σ a) p sh y N))) : CalV w mX3_fix σ [va_rf (some a), .int P, .int sh, .int y] K := by
  have e : sh.toNatClampNeg = s := by rw [hS]; exact nI_clamp (by omega)
  refine c_fix3 hr hP hp hS hs h1 hN (fun h => ?_) (fun h => ?_)
  · unfold fxr at hK; rw [e, if_pos h] at hK; exact hK
  · have : ∃ q, q < N ∧ onS (fx1 (AI σ a) p sh y) sh q := by
      apply Classical.byContradiction
      intro z
      exact h (by rw [cntO_0 (fun q hq c => z ⟨q, hq, c⟩)]; exact h0)
    obtain ⟨q, h2, h3, h4⟩ := yOn_at (g := 1) this
    obtain ⟨r, h5⟩ := pOn_some h2 h3 h4.symm
    refine ⟨r, h5, ?_⟩
    unfold fxr at hK; rw [e, if_neg h, h5] at hK; exact hK
theorem c_findP {m a N : Nat} {len d : Int32} {K : Sg → Int32 → Prop} (hm : kd σ m = 13) (hr : Rw σ a 343) (h1 : AI σ a 1 = nI N) (hN : N ≤ 20)
    (hT : ∀ (g : Bool) (p : Nat) (φ : Nat → Int32), fpl (AI σ a) N len d = some (g, p) → (∀ k, k ≠ 25 → k ≠ 26 → k ≠ 27 → φ k = Fm σ m k) → φ 25 = nI p → φ 26 = nI (fsd (AI σ a) d g p) → φ 27 = b2i g → K (sFs σ m φ) 1)
    (hF : ∀ (φ : Nat → Int32), fpl (AI σ a) N len d = none → (∀ k, k ≠ 25 → k ≠ 26 → k ≠ 27 → φ k = Fm σ m k) → K (sFs σ m φ) 0) :
    CalI w mX3_findPlate σ [va_rf (some m), va_rf (some a), .int len, .int d] K := by
  refine c_findPlate hm hr h1 hN (fun g p φ g1 g2 g3 g4 g5 g6 => hT g p φ ?_ g3 g4 g5 g6) (fun φ g1 g2 g3 => hF φ ?_ g3)
  · unfold fpl
    cases g
    · rw [g2]
    · rw [g1 rfl, g2]
  · unfold fpl; rw [g1, g2]
theorem c_goesOn {m a N M : Nat} {K : Sg → Int32 → Prop} (hm : kd σ m = 13) (hr : Rw σ a 343) (h1 : AI σ a 1 = nI N) (hN : N ≤ 20) (h2 : AI σ a 2 = nI M) (hM : M ≤ 10) (hL : ∀ o, o < M → ∃ L, od (AI σ a) o 5 = nI L ∧ L ≤ 12)
    (hA : ¬ AI σ a 3 = -9 → K σ 1)
    (hT : ∀ (o : Nat) (g : Bool) (p : Nat) (φ : Nat → Int32), AI σ a 3 = -9 → o < M → (∀ j, j < o → fpo (AI σ a) N j = none) → fpo (AI σ a) N o = some (g, p) → (∀ k, k ≠ 25 → k ≠ 26 → k ≠ 27 → φ k = Fm σ m k) → K (sFs (sAIs σ a (gon (AI σ a) o g p (fsd (AI σ a) (od (AI σ a) o 3) g p))) m φ) 1)
    (hF : ∀ (φ : Nat → Int32), AI σ a 3 = -9 → (∀ j, j < M → fpo (AI σ a) N j = none) → (∀ k, k ≠ 25 → k ≠ 26 → k ≠ 27 → φ k = Fm σ m k) → K (sFs σ m φ) 0) :
    CalI w mX3_goesOn σ [va_rf (some m), va_rf (some a)] K := by
  have stop : ∀ (τ : Sg) (x : Int32), Rw τ a 343 → AI τ a 2 = nI M → ¬ AI τ a 3 = -9 → K τ 1 → G w mX3_goesOn (KI K) 0 0 τ 2 [va_rf (some m), va_rf (some a), .int x] [] := by
    intro τ x g1 g2 g3 g4
    refine bX3_goesOn_2 _ _ _ ?_
    simp only [Option.some.injEq, exists_eq_left', exists_eq_left, forall_eq, forall_eq', List.mem_cons, List.not_mem_nil, or_false, or_true, true_or, true_and, and_true, eq_self, Nat.reduceEqDiff, reduceCtorEq, forall_const, true_implies, false_implies, implies_true, not_true_eq_false, not_false_eq_true, false_and, and_false, false_or, if_true, if_false, kd_sFI, ln_sFI, FI_sFI, FR_sFI, AI_sFI, AR_sFI, nx_sFI, kd_sFR, ln_sFR, FI_sFR, FR_sFR, AI_sFR, AR_sFR, nx_sFR, kd_sAI, ln_sAI, FI_sAI, FR_sAI, AI_sAI, AR_sAI, nx_sAI, kd_sAR, ln_sAR, FI_sAR, FR_sAR, AI_sAR, AR_sAR, nx_sAR, kd_sAIs, ln_sAIs, FI_sAIs, FR_sAIs, AR_sAIs, nx_sAIs, kd_sARs, ln_sARs, FI_sARs, FR_sARs, AI_sARs, nx_sARs, kd_nO, ln_nO, FI_nO, FR_nO, AI_nO, AR_nO, nx_nO, kd_nA, ln_nA, FI_nA, FR_nA, AI_nA, AR_nA, nx_nA, g1.1, g1.2, cl2, v2, cl3, v3]
    exact ⟨fun _ => ⟨fun h => absurd h g3, fun _ => g4⟩, fun _ => ⟨fun _ => ⟨fun h => absurd h g3, fun _ => g4⟩, fun h => absurd h g3⟩⟩
  refine eX3_goesOn _ _ (bX3_goesOn_0 _ _ ?_)
  by_cases h3 : AI σ a 3 = -9
  · have key := upL (P := fun i => ∀ φ : Nat → Int32, (∀ j, j < i → fpo (AI σ a) N j = none) → (∀ k, k ≠ 25 → k ≠ 26 → k ≠ 27 → φ k = Fm σ m k) → G w mX3_goesOn (KI K) 0 0 (sFs σ m φ) 2 [va_rf (some m), va_rf (some a), .int (nI i)] []) (N := M) ?_ ?_ (Fm σ m) (fun j hj => absurd hj (by omega)) (fun _ _ _ _ => rfl)
    · rw [sFs_rfl] at key; exact key
    · intro φ c1 c2
      refine bX3_goesOn_2 _ _ _ ?_
      simp only [Option.some.injEq, exists_eq_left', exists_eq_left, forall_eq, forall_eq', List.mem_cons, List.not_mem_nil, or_false, or_true, true_or, true_and, and_true, eq_self, Nat.reduceEqDiff, reduceCtorEq, forall_const, true_implies, false_implies, implies_true, not_true_eq_false, not_false_eq_true, false_and, and_false, false_or, if_true, if_false, kd_sFI, ln_sFI, FI_sFI, FR_sFI, AI_sFI, AR_sFI, nx_sFI, kd_sFR, ln_sFR, FI_sFR, FR_sFR, AI_sFR, AR_sFR, nx_sFR, kd_sAI, ln_sAI, FI_sAI, FR_sAI, AI_sAI, AR_sAI, nx_sAI, kd_sAR, ln_sAR, FI_sAR, FR_sAR, AI_sAR, AR_sAR, nx_sAR, kd_sAIs, ln_sAIs, FI_sAIs, FR_sAIs, AR_sAIs, nx_sAIs, kd_sARs, ln_sARs, FI_sARs, FR_sARs, AI_sARs, nx_sARs, kd_nO, ln_nO, FI_nO, FR_nO, AI_nO, AR_nO, nx_nO, kd_nA, ln_nA, FI_nA, FR_nA, AI_nA, AR_nA, nx_nA, hr.1, hr.2, kd_sFs, ln_sFs, AI_sFs, cl2, v2, cl3, v3, h2, h3]
      exact ⟨fun _ => hF φ h3 c1 c2, fun h => absurd (nI_le (Nat.le_refl M) (by omega)) h⟩
    · intro i hi ih φ c1 c2
      have hrS : Rw (sFs σ m φ) a 343 := hr
      obtain ⟨L, hL1, hL2⟩ := hL i hi
      refine bX3_goesOn_2 _ _ _ ?_
      simp only [Option.some.injEq, exists_eq_left', exists_eq_left, forall_eq, forall_eq', List.mem_cons, List.not_mem_nil, or_false, or_true, true_or, true_and, and_true, eq_self, Nat.reduceEqDiff, reduceCtorEq, forall_const, true_implies, false_implies, implies_true, not_true_eq_false, not_false_eq_true, false_and, and_false, false_or, if_true, if_false, kd_sFI, ln_sFI, FI_sFI, FR_sFI, AI_sFI, AR_sFI, nx_sFI, kd_sFR, ln_sFR, FI_sFR, FR_sFR, AI_sFR, AR_sFR, nx_sFR, kd_sAI, ln_sAI, FI_sAI, FR_sAI, AI_sAI, AR_sAI, nx_sAI, kd_sAR, ln_sAR, FI_sAR, FR_sAR, AI_sAR, AR_sAR, nx_sAR, kd_sAIs, ln_sAIs, FI_sAIs, FR_sAIs, AR_sAIs, nx_sAIs, kd_sARs, ln_sARs, FI_sARs, FR_sARs, AI_sARs, nx_sARs, kd_nO, ln_nO, FI_nO, FR_nO, AI_nO, AR_nO, nx_nO, kd_nA, ln_nA, FI_nA, FR_nA, AI_nA, AR_nA, nx_nA, hr.1, hr.2, kd_sFs, ln_sFs, AI_sFs, cl2, v2, cl3, v3, h2, h3]
      refine ⟨fun h => absurd h (nI_ge (by omega) (by omega)), fun _ => ?_⟩
      refine c_nameLength (o := i) (L := L) hrS rfl (by omega) hL1 hL2 (fun _ => ?_)
      refine c_of (p := i) (k := 3) hrS rfl rfl (by omega) (fun _ => ?_)
      simp only [Option.some.injEq, exists_eq_left', exists_eq_left, forall_eq, forall_eq', List.mem_cons, List.not_mem_nil, or_false, or_true, true_or, true_and, and_true, eq_self, Nat.reduceEqDiff, reduceCtorEq, forall_const, true_implies, false_implies, implies_true, not_true_eq_false, not_false_eq_true, false_and, and_false, false_or, if_true, if_false, kd_sFI, ln_sFI, FI_sFI, FR_sFI, AI_sFI, AR_sFI, nx_sFI, kd_sFR, ln_sFR, FI_sFR, FR_sFR, AI_sFR, AR_sFR, nx_sFR, kd_sAI, ln_sAI, FI_sAI, FR_sAI, AI_sAI, AR_sAI, nx_sAI, kd_sAR, ln_sAR, FI_sAR, FR_sAR, AI_sAR, AR_sAR, nx_sAR, kd_sAIs, ln_sAIs, FI_sAIs, FR_sAIs, AR_sAIs, nx_sAIs, kd_sARs, ln_sARs, FI_sARs, FR_sARs, AI_sARs, nx_sARs, kd_nO, ln_nO, FI_nO, FR_nO, AI_nO, AR_nO, nx_nO, kd_nA, ln_nA, FI_nA, FR_nA, AI_nA, AR_nA, nx_nA, hm, kd_sFs, AI_sFs]
      have e1 : nml (AI σ a) i L = nmL (AI σ a) i := by unfold nmL; rw [hL1, nI_clamp (by omega)]
      rw [e1]
      refine c_findP (N := N) (σ := sFs σ m φ) hm hrS h1 hN (fun g p φ' g1 g2 g3 g4 g5 _ => ⟨fun h => absurd h (by decide), fun _ => ?_⟩) (fun φ' g1 g2 _ => ⟨fun _ => ?_, fun h => absurd rfl h⟩)
      · have hp := fpl_lt g1
        have hs : fsd (AI σ a) (od (AI σ a) i 3) g p ≤ 1 := fsd_le
        rw [sFs_sFs]
        have c2' : ∀ k, k ≠ 25 → k ≠ 26 → k ≠ 27 → φ' k = Fm σ m k := fun k k1 k2 k3 => by rw [g2 k k1 k2 k3, Fm_sFs]; exact c2 k k1 k2 k3
        have fin := hT i g p φ' h3 hi c1 g1 c2'
        rw [AI_sFs] at g4
        simp only [Option.some.injEq, exists_eq_left', exists_eq_left, forall_eq, forall_eq', List.mem_cons, List.not_mem_nil, or_false, or_true, true_or, true_and, and_true, eq_self, Nat.reduceEqDiff, reduceCtorEq, forall_const, true_implies, false_implies, implies_true, not_true_eq_false, not_false_eq_true, false_and, and_false, false_or, if_true, if_false, kd_sFI, ln_sFI, FI_sFI, FR_sFI, AI_sFI, AR_sFI, nx_sFI, kd_sFR, ln_sFR, FI_sFR, FR_sFR, AI_sFR, AR_sFR, nx_sFR, kd_sAI, ln_sAI, FI_sAI, FR_sAI, AI_sAI, AR_sAI, nx_sAI, kd_sAR, ln_sAR, FI_sAR, FR_sAR, AI_sAR, AR_sAR, nx_sAR, kd_sAIs, ln_sAIs, FI_sAIs, FR_sAIs, AR_sAIs, nx_sAIs, kd_sARs, ln_sARs, FI_sARs, FR_sARs, AI_sARs, nx_sARs, kd_nO, ln_nO, FI_nO, FR_nO, AI_nO, AR_nO, nx_nO, kd_nA, ln_nA, FI_nA, FR_nA, AI_nA, AR_nA, nx_nA, hr.1, hr.2, kd_sFs, ln_sFs, AI_sFs, FI_sFs_self, cl3, v3, cl5, v5, cl6, v6, sAI_eq, sAIs_sFs, sAIs_sAIs, AI_self, g3, g4]
        refine c_effort3 (o := i) hr rfl (by omega) (fun _ => ?_)
        have e2 : ∀ f : Nat → Int32, eff (AI (sFs (sAIs σ a (upd (upd (upd (AI σ a) 3 (nI i)) 5 (nI p)) 6 (nI (fsd (AI σ a) (od (AI σ a) i 3) g p)))) m φ') a) i = eff (AI σ a) i := fun f => by
          rw [AI_sFs, AI_self]; unfold eff; rw [od_upd (by decide), od_upd (by decide), od_upd (by decide), od_upd (by decide), od_upd (by decide), od_upd (by decide), od_upd (by decide), od_upd (by decide), od_upd (by decide)]
        rw [e2 (AI σ a)]
        simp only [Option.some.injEq, exists_eq_left', exists_eq_left, forall_eq, forall_eq', List.mem_cons, List.not_mem_nil, or_false, or_true, true_or, true_and, and_true, eq_self, Nat.reduceEqDiff, reduceCtorEq, forall_const, true_implies, false_implies, implies_true, not_true_eq_false, not_false_eq_true, false_and, and_false, false_or, if_true, if_false, kd_sFI, ln_sFI, FI_sFI, FR_sFI, AI_sFI, AR_sFI, nx_sFI, kd_sFR, ln_sFR, FI_sFR, FR_sFR, AI_sFR, AR_sFR, nx_sFR, kd_sAI, ln_sAI, FI_sAI, FR_sAI, AI_sAI, AR_sAI, nx_sAI, kd_sAR, ln_sAR, FI_sAR, FR_sAR, AI_sAR, AR_sAR, nx_sAR, kd_sAIs, ln_sAIs, FI_sAIs, FR_sAIs, AR_sAIs, nx_sAIs, kd_sARs, ln_sARs, FI_sARs, FR_sARs, AI_sARs, nx_sARs, kd_nO, ln_nO, FI_nO, FR_nO, AI_nO, AR_nO, nx_nO, kd_nA, ln_nA, FI_nA, FR_nA, AI_nA, AR_nA, nx_nA, hr.1, hr.2, kd_sFs, ln_sFs, AI_sFs, FI_sFs_self, cl4, v4, sAIs_sFs, sAIs_sAIs, AI_self, g5]
        have n3 : ¬ gon (AI σ a) i g p (fsd (AI σ a) (od (AI σ a) i 3) g p) 3 = -9 := by
          have : gon (AI σ a) i g p (fsd (AI σ a) (od (AI σ a) i 3) g p) 3 = nI i := by
            unfold gon
            have q : upl (upd (upd (upd (upd (AI σ a) 3 (nI i)) 5 (nI p)) 6 (nI (fsd (AI σ a) (od (AI σ a) i 3) g p))) 4 (eff (AI σ a) i + if g then 10 else 0)) p 2 1 3 = nI i := by
              rw [upl_lo (by decide), pk_un (by decide), pk_un (by decide), pk_un (by decide), pk_us]
            cases g
            · exact q
            · show grd _ _ _ 3 = _
              unfold grd; rw [pk_un (by decide), upl_lo (by decide), upl_lo (by decide)]; exact q
          rw [this]; exact m9n (by omega)
        have n2 : gon (AI σ a) i g p (fsd (AI σ a) (od (AI σ a) i 3) g p) 2 = nI M := by
          unfold gon
          have q : upl (upd (upd (upd (upd (AI σ a) 3 (nI i)) 5 (nI p)) 6 (nI (fsd (AI σ a) (od (AI σ a) i 3) g p))) 4 (eff (AI σ a) i + if g then 10 else 0)) p 2 1 2 = nI M := by
            rw [upl_lo (by decide), pk_un (by decide), pk_un (by decide), pk_un (by decide), pk_un (by decide)]; exact h2
          cases g
          · exact q
          · show grd _ _ _ 2 = _
            unfold grd; rw [pk_un (by decide), upl_lo (by decide), upl_lo (by decide)]; exact q
        have done : ∀ x, G w mX3_goesOn (KI K) 0 0 (sFs (sAIs σ a (gon (AI σ a) i g p (fsd (AI σ a) (od (AI σ a) i 3) g p))) m φ') 2 [va_rf (some m), va_rf (some a), .int x] [] := fun x =>
          stop _ x hr (by rw [AI_sFs, AI_self]; exact n2) (by rw [AI_sFs, AI_self]; exact n3) fin
        refine ⟨fun hg => ?_, fun hg => ?_⟩
        · cases g with
          | true => exact absurd hg (by decide)
          | false =>
            refine c_setPlate (p := p) hr g3 (k := 2) rfl (by omega) (fun _ => ?_)
            simp only [Option.some.injEq, exists_eq_left', exists_eq_left, forall_eq, forall_eq', List.mem_cons, List.not_mem_nil, or_false, or_true, true_or, true_and, and_true, eq_self, Nat.reduceEqDiff, reduceCtorEq, forall_const, true_implies, false_implies, implies_true, not_true_eq_false, not_false_eq_true, false_and, and_false, false_or, if_true, if_false, kd_sFI, ln_sFI, FI_sFI, FR_sFI, AI_sFI, AR_sFI, nx_sFI, kd_sFR, ln_sFR, FI_sFR, FR_sFR, AI_sFR, AR_sFR, nx_sFR, kd_sAI, ln_sAI, FI_sAI, FR_sAI, AI_sAI, AR_sAI, nx_sAI, kd_sAR, ln_sAR, FI_sAR, FR_sAR, AI_sAR, AR_sAR, nx_sAR, kd_sAIs, ln_sAIs, FI_sAIs, FR_sAIs, AR_sAIs, nx_sAIs, kd_sARs, ln_sARs, FI_sARs, FR_sARs, AI_sARs, nx_sARs, kd_nO, ln_nO, FI_nO, FR_nO, AI_nO, AR_nO, nx_nO, kd_nA, ln_nA, FI_nA, FR_nA, AI_nA, AR_nA, nx_nA, AI_sFs, FI_sFs_self, sAIs_sFs, sAIs_sAIs, AI_self, g5]
            exact ⟨fun _ => done _, fun h => absurd hg h⟩
        · cases g with
          | false => exact absurd rfl hg
          | true =>
            refine c_setPlate (p := p) hr g3 (k := 2) rfl (by omega) (fun _ => ?_)
            simp only [Option.some.injEq, exists_eq_left', exists_eq_left, forall_eq, forall_eq', List.mem_cons, List.not_mem_nil, or_false, or_true, true_or, true_and, and_true, eq_self, Nat.reduceEqDiff, reduceCtorEq, forall_const, true_implies, false_implies, implies_true, not_true_eq_false, not_false_eq_true, false_and, and_false, false_or, if_true, if_false, kd_sFI, ln_sFI, FI_sFI, FR_sFI, AI_sFI, AR_sFI, nx_sFI, kd_sFR, ln_sFR, FI_sFR, FR_sFR, AI_sFR, AR_sFR, nx_sFR, kd_sAI, ln_sAI, FI_sAI, FR_sAI, AI_sAI, AR_sAI, nx_sAI, kd_sAR, ln_sAR, FI_sAR, FR_sAR, AI_sAR, AR_sAR, nx_sAR, kd_sAIs, ln_sAIs, FI_sAIs, FR_sAIs, AR_sAIs, nx_sAIs, kd_sARs, ln_sARs, FI_sARs, FR_sARs, AI_sARs, nx_sARs, kd_nO, ln_nO, FI_nO, FR_nO, AI_nO, AR_nO, nx_nO, kd_nA, ln_nA, FI_nA, FR_nA, AI_nA, AR_nA, nx_nA, AI_sFs, FI_sFs_self, sAIs_sFs, sAIs_sAIs, AI_self, g5, g3, g4]
            refine ⟨fun h => absurd h hg, fun _ => ?_⟩
            refine c_grindSide (p := p) hr rfl rfl hs (by omega) (fun _ => ?_)
            rw [AI_sFs, AI_self, sAIs_sFs, sAIs_sAIs]
            exact done _
      · have := ih φ' (fun j hj => by
            by_cases e : j = i
            · subst e; exact g1
            · exact c1 j (by omega)) (fun k k1 k2 k3 => by rw [g2 k k1 k2 k3, Fm_sFs]; exact c2 k k1 k2 k3)
        rw [nI_succ] at this
        rw [sFs_sFs]
        exact this
  · exact stop σ 0 hr h2 h3 (hA h3)
end model5
