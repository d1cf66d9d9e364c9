/-! the model's calls -/
set_option maxRecDepth 100000
section model7
variable {w : Wt} {σ : Sg} {m n L : Nat} {A : Nat → Nat} {f sv tx : Nat → Int32}
theorem c_act {K : Sg → Prop} (hM : Mdl σ m A f sv tx n L) (hn : n ≤ 5) (hK : ∀ σ', MF m A σ σ' → Mdl σ' m A f (svN f sv n) tx (nxN n) L → K σ') : CalV w mX3_act σ [va_rf (some m)] K := by
  refine c_act3 hM.sh.kd (hM.sh.fr 19) (hM.sh.fr 21) (hM.sh.rw 19 343) (hM.sh.rw 21 1715) (hM.sh.ne 19 21) hM.eN hn ?_
  rw [hM.eF, hM.eS]
  refine hK _ (MF.rf.row 21).fld ((hM.svd _).fld pk_us ?_)
  rw [pk_un (by decide)]; exact hM.eL
theorem c_isPlate3 {x : Int32} {N : Nat} {K : Sg → Int32 → Prop} (hM : Mdl σ m A f sv tx n L) (h1 : f 1 = nI N) (hN : N ≤ 20) (hT : ∀ p, p < N → x = nI p → K σ 1) (hF : (∀ p, p < N → ¬ x = nI p) → K σ 0) : CalI w mX3_isPlate σ [va_rf (some m), .int x] K := by
  refine eX3_isPlate _ _ (bX3_isPlate_0 _ _ ?_)
  have hr := hM.sh.rw 19 343
  simp only [Option.some.injEq, exists_eq_left', exists_eq_left, forall_eq, forall_eq', List.mem_cons, List.not_mem_nil, or_false, or_true, true_or, true_and, and_true, eq_self, Nat.reduceEqDiff, reduceCtorEq, forall_const, true_implies, false_implies, implies_true, not_true_eq_false, not_false_eq_true, false_and, and_false, false_or, if_true, if_false, kd_sFI, ln_sFI, FI_sFI, FR_sFI, AI_sFI, AR_sFI, nx_sFI, kd_sFR, ln_sFR, FI_sFR, FR_sFR, AI_sFR, AR_sFR, nx_sFR, kd_sAI, ln_sAI, FI_sAI, FR_sAI, AI_sAI, AR_sAI, nx_sAI, kd_sAR, ln_sAR, FI_sAR, FR_sAR, AI_sAR, AR_sAR, nx_sAR, kd_sAIs, ln_sAIs, FI_sAIs, FR_sAIs, AR_sAIs, nx_sAIs, kd_sARs, ln_sARs, FI_sARs, FR_sARs, AI_sARs, nx_sARs, kd_nO, ln_nO, FI_nO, FR_nO, AI_nO, AR_nO, nx_nO, kd_nA, ln_nA, FI_nA, FR_nA, AI_nA, AR_nA, nx_nA, hM.sh.kd, hM.sh.fr 19, hr.1, hr.2, cl1, v1, hM.eF, h1]
  refine c_in (fun h1 h2 _ => ⟨Or.inr rfl, ?_⟩) (fun h _ => ⟨Or.inl rfl, ?_⟩)
  · obtain ⟨p, h3, h4⟩ := (inN (by omega)).mp ⟨h1, h2⟩
    exact hT p h3 h4
  · exact hF (fun p h3 h4 => h ((inN (by omega)).mpr ⟨p, h3, h4⟩))
theorem c_isOrder3 {x : Int32} {N : Nat} {K : Sg → Int32 → Prop} (hM : Mdl σ m A f sv tx n L) (h1 : f 2 = nI N) (hN : N ≤ 20) (hT : ∀ p, p < N → x = nI p → K σ 1) (hF : (∀ p, p < N → ¬ x = nI p) → K σ 0) : CalI w mX3_isOrder σ [va_rf (some m), .int x] K := by
  refine eX3_isOrder _ _ (bX3_isOrder_0 _ _ ?_)
  have hr := hM.sh.rw 19 343
  simp only [Option.some.injEq, exists_eq_left', exists_eq_left, forall_eq, forall_eq', List.mem_cons, List.not_mem_nil, or_false, or_true, true_or, true_and, and_true, eq_self, Nat.reduceEqDiff, reduceCtorEq, forall_const, true_implies, false_implies, implies_true, not_true_eq_false, not_false_eq_true, false_and, and_false, false_or, if_true, if_false, kd_sFI, ln_sFI, FI_sFI, FR_sFI, AI_sFI, AR_sFI, nx_sFI, kd_sFR, ln_sFR, FI_sFR, FR_sFR, AI_sFR, AR_sFR, nx_sFR, kd_sAI, ln_sAI, FI_sAI, FR_sAI, AI_sAI, AR_sAI, nx_sAI, kd_sAR, ln_sAR, FI_sAR, FR_sAR, AI_sAR, AR_sAR, nx_sAR, kd_sAIs, ln_sAIs, FI_sAIs, FR_sAIs, AR_sAIs, nx_sAIs, kd_sARs, ln_sARs, FI_sARs, FR_sARs, AI_sARs, nx_sARs, kd_nO, ln_nO, FI_nO, FR_nO, AI_nO, AR_nO, nx_nO, kd_nA, ln_nA, FI_nA, FR_nA, AI_nA, AR_nA, nx_nA, hM.sh.kd, hM.sh.fr 19, hr.1, hr.2, cl2, v2, hM.eF, h1]
  refine c_in (fun h1 h2 _ => ⟨Or.inr rfl, ?_⟩) (fun h _ => ⟨Or.inl rfl, ?_⟩)
  · obtain ⟨p, h3, h4⟩ := (inN (by omega)).mp ⟨h1, h2⟩
    exact hT p h3 h4
  · exact hF (fun p h3 h4 => h ((inN (by omega)).mpr ⟨p, h3, h4⟩))
theorem c_isShield3 {x : Int32} {N : Nat} {K : Sg → Int32 → Prop} (hM : Mdl σ m A f sv tx n L) (h1 : f 0 = nI N) (hN : N ≤ 20) (hT : ∀ p, p < N → x = nI p → K σ 1) (hF : (∀ p, p < N → ¬ x = nI p) → K σ 0) : CalI w mX3_isShield σ [va_rf (some m), .int x] K := by
  refine eX3_isShield _ _ (bX3_isShield_0 _ _ ?_)
  have hr := hM.sh.rw 19 343
  simp only [Option.some.injEq, exists_eq_left', exists_eq_left, forall_eq, forall_eq', List.mem_cons, List.not_mem_nil, or_false, or_true, true_or, true_and, and_true, eq_self, Nat.reduceEqDiff, reduceCtorEq, forall_const, true_implies, false_implies, implies_true, not_true_eq_false, not_false_eq_true, false_and, and_false, false_or, if_true, if_false, kd_sFI, ln_sFI, FI_sFI, FR_sFI, AI_sFI, AR_sFI, nx_sFI, kd_sFR, ln_sFR, FI_sFR, FR_sFR, AI_sFR, AR_sFR, nx_sFR, kd_sAI, ln_sAI, FI_sAI, FR_sAI, AI_sAI, AR_sAI, nx_sAI, kd_sAR, ln_sAR, FI_sAR, FR_sAR, AI_sAR, AR_sAR, nx_sAR, kd_sAIs, ln_sAIs, FI_sAIs, FR_sAIs, AR_sAIs, nx_sAIs, kd_sARs, ln_sARs, FI_sARs, FR_sARs, AI_sARs, nx_sARs, kd_nO, ln_nO, FI_nO, FR_nO, AI_nO, AR_nO, nx_nO, kd_nA, ln_nA, FI_nA, FR_nA, AI_nA, AR_nA, nx_nA, hM.sh.kd, hM.sh.fr 19, hr.1, hr.2, cl0, v0, hM.eF, h1]
  refine c_in (fun h1 h2 _ => ⟨Or.inr rfl, ?_⟩) (fun h _ => ⟨Or.inl rfl, ?_⟩)
  · obtain ⟨p, h3, h4⟩ := (inN (by omega)).mp ⟨h1, h2⟩
    exact hT p h3 h4
  · exact hF (fun p h3 h4 => h ((inN (by omega)).mpr ⟨p, h3, h4⟩))
theorem c_isYear {x : Int32} {K : Sg → Int32 → Prop} (hT : 1 ≤ x → x ≤ 999 → K σ 1) (hF : ¬ (1 ≤ x ∧ x ≤ 999) → K σ 0) : CalI w mX3_isYear σ [.int x] K :=
  eX3_isYear _ (bX3_isYear_0 _ (c_in (fun h1 h2 _ => ⟨Or.inr rfl, hT h1 h2⟩) (fun h _ => ⟨Or.inl rfl, hF h⟩)))
theorem c_setPl {σ : Sg} {f : Nat → Int32} {P Q v : Int32} {p k : Nat} {K : Sg → Prop} (hM : Mdl σ m A f sv tx n L) (hP : P = nI p) (hQ : Q = nI k) (hb : 10 + 7 * p + k < 343) (hK : ∀ σ', MF m A σ σ' → Mdl σ' m A (upl f p k v) sv tx n L → K σ') : CalV w mX3_setPlate σ [va_rf (some (A 19)), .int P, .int Q, .int v] K := by
  refine c_setPlate (hM.sh.rw 19 343) hP hQ hb (hK _ (MF.rf.row 19) ?_)
  rw [hM.eF]; exact hM.row _
theorem c_ofPl {σ : Sg} {f : Nat → Int32} {P Q : Int32} {p k : Nat} {K : Sg → Int32 → Prop} (hM : Mdl σ m A f sv tx n L) (hP : P = nI p) (hQ : Q = nI k) (hb : 10 + 7 * p + k < 343) (hK : K σ (pl f p k)) : CalI w mX3_ofPlate σ [va_rf (some (A 19)), .int P, .int Q] K := by
  refine c_ofPlate (hM.sh.rw 19 343) hP hQ hb ?_
  rw [hM.eF]; exact hK
theorem c_od {σ : Sg} {f : Nat → Int32} {P Q : Int32} {p k : Nat} {K : Sg → Int32 → Prop} (hM : Mdl σ m A f sv tx n L) (hP : P = nI p) (hQ : Q = nI k) (hb : 153 + 19 * p + k < 343) (hK : K σ (od f p k)) : CalI w mX3_of σ [va_rf (some (A 19)), .int P, .int Q] K := by
  refine c_of (hM.sh.rw 19 343) hP hQ hb ?_
  rw [hM.eF]; exact hK
theorem c_cut3 {x y : Int32} {np no ns : Nat} {K : Sg → Int32 → Prop} (hM : Mdl σ m A f sv tx n L) (hn : n ≤ 5) (hW : WfN f np no ns)
    (hK : ∀ σ', MF m A σ σ' → Mdl σ' m A (rRw (rCut f np x y) f) (rSv (rCut f np x y) f sv n) tx (rNx (rCut f np x y) n) L → K σ' (rCut f np x y).2) : CalI w mX3_cut σ [va_rf (some m), .int x, .int y] K := by
  refine eX3_cut _ _ _ (bX3_cut_0 _ _ _ ?_)
  have hM1 : Mdl (sFI σ 18 m 0) m A f sv tx n L := hM.fI (by decide) (by decide)
  have hr := hM.sh.rw 19 343
  simp only [Option.some.injEq, exists_eq_left', exists_eq_left, forall_eq, forall_eq', List.mem_cons, List.not_mem_nil, or_false, or_true, true_or, true_and, and_true, eq_self, Nat.reduceEqDiff, reduceCtorEq, forall_const, true_implies, false_implies, implies_true, not_true_eq_false, not_false_eq_true, false_and, and_false, false_or, if_true, if_false, kd_sFI, ln_sFI, FI_sFI, FR_sFI, AI_sFI, AR_sFI, nx_sFI, kd_sFR, ln_sFR, FI_sFR, FR_sFR, AI_sFR, AR_sFR, nx_sFR, kd_sAI, ln_sAI, FI_sAI, FR_sAI, AI_sAI, AR_sAI, nx_sAI, kd_sAR, ln_sAR, FI_sAR, FR_sAR, AI_sAR, AR_sAR, nx_sAR, kd_sAIs, ln_sAIs, FI_sAIs, FR_sAIs, AR_sAIs, nx_sAIs, kd_sARs, ln_sARs, FI_sARs, FR_sARs, AI_sARs, nx_sARs, kd_nO, ln_nO, FI_nO, FR_nO, AI_nO, AR_nO, nx_nO, kd_nA, ln_nA, FI_nA, FR_nA, AI_nA, AR_nA, nx_nA, hM.sh.kd]
  refine c_in (fun a1 a2 _ => ⟨fun h => absurd h (by decide), fun _ => ?_⟩) (fun a _ => ⟨fun _ => ?_, fun h => absurd rfl h⟩)
  · refine c_in (fun b1 b2 _ => ⟨fun _ => ?_, fun h => absurd h (by decide)⟩) (fun b _ => ⟨fun h => absurd rfl h, fun _ => ?_⟩)
    · simp only [Option.some.injEq, exists_eq_left', exists_eq_left, forall_eq, forall_eq', List.mem_cons, List.not_mem_nil, or_false, or_true, true_or, true_and, and_true, eq_self, Nat.reduceEqDiff, reduceCtorEq, forall_const, true_implies, false_implies, implies_true, not_true_eq_false, not_false_eq_true, false_and, and_false, false_or, if_true, if_false, kd_sFI, ln_sFI, FI_sFI, FR_sFI, AI_sFI, AR_sFI, nx_sFI, kd_sFR, ln_sFR, FI_sFR, FR_sFR, AI_sFR, AR_sFR, nx_sFR, kd_sAI, ln_sAI, FI_sAI, FR_sAI, AI_sAI, AR_sAI, nx_sAI, kd_sAR, ln_sAR, FI_sAR, FR_sAR, AI_sAR, AR_sAR, nx_sAR, kd_sAIs, ln_sAIs, FI_sAIs, FR_sAIs, AR_sAIs, nx_sAIs, kd_sARs, ln_sARs, FI_sARs, FR_sARs, AI_sARs, nx_sARs, kd_nO, ln_nO, FI_nO, FR_nO, AI_nO, AR_nO, nx_nO, kd_nA, ln_nA, FI_nA, FR_nA, AI_nA, AR_nA, nx_nA, hM.sh.fr 19, hr.1, hr.2, v1, cl1, hM.eF, hW.1]
      refine ⟨fun h => ?_, fun h => ?_⟩
      · have e : rCut f np x y = (some (cutR f np x y), nI np) := by
          unfold rCut; rw [if_neg (fun q => q ⟨⟨a1, a2⟩, b1, b2⟩), if_neg (fun q => h (by rw [q]; rfl))]
        rw [e] at hK
        have hnp : np < 20 := by
          rcases Nat.lt_or_ge np 20 with q | q
          · exact q
          · exact absurd (by rw [Nat.le_antisymm hW.2.1 q]; rfl) h
        refine c_act hM1 hn (fun σ1 F1 D1 _ => ?_)
        have hr1 := D1.sh.rw 19 343
        simp only [Option.some.injEq, exists_eq_left', exists_eq_left, forall_eq, forall_eq', List.mem_cons, List.not_mem_nil, or_false, or_true, true_or, true_and, and_true, eq_self, Nat.reduceEqDiff, reduceCtorEq, forall_const, true_implies, false_implies, implies_true, not_true_eq_false, not_false_eq_true, false_and, and_false, false_or, if_true, if_false, kd_sFI, ln_sFI, FI_sFI, FR_sFI, AI_sFI, AR_sFI, nx_sFI, kd_sFR, ln_sFR, FI_sFR, FR_sFR, AI_sFR, AR_sFR, nx_sFR, kd_sAI, ln_sAI, FI_sAI, FR_sAI, AI_sAI, AR_sAI, nx_sAI, kd_sAR, ln_sAR, FI_sAR, FR_sAR, AI_sAR, AR_sAR, nx_sAR, kd_sAIs, ln_sAIs, FI_sAIs, FR_sAIs, AR_sAIs, nx_sAIs, kd_sARs, ln_sARs, FI_sARs, FR_sARs, AI_sARs, nx_sARs, kd_nO, ln_nO, FI_nO, FR_nO, AI_nO, AR_nO, nx_nO, kd_nA, ln_nA, FI_nA, FR_nA, AI_nA, AR_nA, nx_nA, D1.sh.fr 19, hr1.1, hr1.2, v1, cl1, D1.eF, hW.1, sAI_eq, nI_1]
        refine upL (P := fun i => ∀ σ2 f2, MF m A σ σ2 → Mdl σ2 m A f2 (svN f sv n) tx (nxN n) L → (∀ j, j < i → upl f2 np j 0 = f2) → upl (upl (upl (upl (upl (upl (upl f2 np 0 0) np 1 0) np 2 0) np 3 0) np 4 0) np 5 0) np 6 0 = upl (upl (upl (upl (upl (upl (upl (upd f 1 (nI (np + 1))) np 0 0) np 1 0) np 2 0) np 3 0) np 4 0) np 5 0) np 6 0 → G w mX3_cut (KI K) 0 0 σ2 67 [va_rf (some m), .int x, .int y, .int (nI np), .int (nI i)] []) (N := 7) ?_ ?_ _ _ ?_ (D1.row _) (fun j hj => absurd hj (by omega)) rfl
        · intro σ2 f2 F2 D2 hz he
          refine bX3_cut_67 _ _ _ _ _ ⟨fun _ => ?_, fun h => absurd (nI_le (Nat.le_refl 7) (by decide)) h⟩
          simp only [Option.some.injEq, exists_eq_left', exists_eq_left, forall_eq, forall_eq', List.mem_cons, List.not_mem_nil, or_false, or_true, true_or, true_and, and_true, eq_self, Nat.reduceEqDiff, reduceCtorEq, forall_const, true_implies, false_implies, implies_true, not_true_eq_false, not_false_eq_true, false_and, and_false, false_or, if_true, if_false, kd_sFI, ln_sFI, FI_sFI, FR_sFI, AI_sFI, AR_sFI, nx_sFI, kd_sFR, ln_sFR, FI_sFR, FR_sFR, AI_sFR, AR_sFR, nx_sFR, kd_sAI, ln_sAI, FI_sAI, FR_sAI, AI_sAI, AR_sAI, nx_sAI, kd_sAR, ln_sAR, FI_sAR, FR_sAR, AI_sAR, AR_sAR, nx_sAR, kd_sAIs, ln_sAIs, FI_sAIs, FR_sAIs, AR_sAIs, nx_sAIs, kd_sARs, ln_sARs, FI_sARs, FR_sARs, AI_sARs, nx_sARs, kd_nO, ln_nO, FI_nO, FR_nO, AI_nO, AR_nO, nx_nO, kd_nA, ln_nA, FI_nA, FR_nA, AI_nA, AR_nA, nx_nA, D2.sh.kd, D2.sh.fr 19]
          rw [hz 0 (by decide), hz 1 (by decide), hz 2 (by decide), hz 3 (by decide), hz 4 (by decide), hz 5 (by decide), hz 6 (by decide)] at he
          refine c_setPl D2 rfl (k := 0) rfl (by omega) (fun σ3 F3 D3 _ => ?_)
          rw [D3.sh.fr 19]
          refine c_setPl D3 rfl (k := 1) rfl (by omega) (fun σ4 F4 D4 _ => ?_)
          refine hK σ4 (F2.trans (F3.trans F4)) ?_
          show Mdl σ4 m A (cutR f np x y) _ _ _ _
          unfold cutR
          rw [← he]; exact D4
        · intro i hi ih σ2 f2 F2 D2 hz he
          refine bX3_cut_67 _ _ _ _ _ ⟨fun h => absurd h (nI_ge (b := 7) hi (by decide)), fun _ => ?_⟩
          simp only [Option.some.injEq, exists_eq_left', exists_eq_left, forall_eq, forall_eq', List.mem_cons, List.not_mem_nil, or_false, or_true, true_or, true_and, and_true, eq_self, Nat.reduceEqDiff, reduceCtorEq, forall_const, true_implies, false_implies, implies_true, not_true_eq_false, not_false_eq_true, false_and, and_false, false_or, if_true, if_false, kd_sFI, ln_sFI, FI_sFI, FR_sFI, AI_sFI, AR_sFI, nx_sFI, kd_sFR, ln_sFR, FI_sFR, FR_sFR, AI_sFR, AR_sFR, nx_sFR, kd_sAI, ln_sAI, FI_sAI, FR_sAI, AI_sAI, AR_sAI, nx_sAI, kd_sAR, ln_sAR, FI_sAR, FR_sAR, AI_sAR, AR_sAR, nx_sAR, kd_sAIs, ln_sAIs, FI_sAIs, FR_sAIs, AR_sAIs, nx_sAIs, kd_sARs, ln_sARs, FI_sARs, FR_sARs, AI_sARs, nx_sARs, kd_nO, ln_nO, FI_nO, FR_nO, AI_nO, AR_nO, nx_nO, kd_nA, ln_nA, FI_nA, FR_nA, AI_nA, AR_nA, nx_nA, D2.sh.kd, D2.sh.fr 19]
          refine c_setPl D2 rfl (k := i) rfl (by omega) (fun σ3 F3 D3 _ => ?_)
          have uu : ∀ (g : Nat → Int32) j k, upl (upl g np j 0) np k 0 = upl (upl g np k 0) np j 0 := fun g j k => by
            unfold upl
            funext z
            by_cases e1 : z = 10 + 7 * np + j
            · by_cases e2 : z = 10 + 7 * np + k
              · rw [← e1, ← e2]
              · rw [pk_un e2, e1, pk_us, pk_us]
            · rw [pk_un e1]
              by_cases e2 : z = 10 + 7 * np + k
              · rw [e2, pk_us, pk_us]
              · rw [pk_un e2, pk_un e2, pk_un e1]
          have ui : ∀ (g : Nat → Int32) j, upl (upl g np j 0) np j 0 = upl g np j 0 := fun g j => by
            unfold upl
            funext z
            by_cases e1 : z = 10 + 7 * np + j
            · rw [e1, pk_us, pk_us]
            · rw [pk_un e1]
          have := ih σ3 (upl f2 np i 0) (F2.trans F3) D3 (fun j hj => by
            by_cases e : j = i
            · subst e; exact ui f2 j
            · rw [uu, hz j (by omega)]) (by
            rw [← he]
            have : ∀ (g : Nat → Int32), i = 0 ∨ i = 1 ∨ i = 2 ∨ i = 3 ∨ i = 4 ∨ i = 5 ∨ i = 6 → upl (upl (upl (upl (upl (upl (upl (upl g np i 0) np 0 0) np 1 0) np 2 0) np 3 0) np 4 0) np 5 0) np 6 0 = upl (upl (upl (upl (upl (upl (upl g np 0 0) np 1 0) np 2 0) np 3 0) np 4 0) np 5 0) np 6 0 := by
              intro g hi
              rcases hi with hi | hi | hi | hi | hi | hi | hi <;> subst hi
              · rw [ui]
              · rw [uu g 1 0, ui]
              · rw [uu g 2 0, uu _ 2 1, ui]
              · rw [uu g 3 0, uu _ 3 1, uu _ 3 2, ui]
              · rw [uu g 4 0, uu _ 4 1, uu _ 4 2, uu _ 4 3, ui]
              · rw [uu g 5 0, uu _ 5 1, uu _ 5 2, uu _ 5 3, uu _ 5 4, ui]
              · rw [uu g 6 0, uu _ 6 1, uu _ 6 2, uu _ 6 3, uu _ 6 4, uu _ 6 5, ui]
            exact this f2 (by omega))
          rw [nI_succ] at this; exact this
        · exact ((MF.rf.fI).trans F1).row 19
      · have e : np = 20 := nI_inj h (by have := hW.2.1; omega) (by decide)
        have e : rCut f np x y = (none, -3) := by
          unfold rCut; rw [if_neg (fun q => q ⟨⟨a1, a2⟩, b1, b2⟩), if_pos e]
        rw [e] at hK
        exact hK _ MF.rf.fI hM1
    · have e : rCut f np x y = (none, -1) := by unfold rCut; rw [if_pos (fun q => b q.2)]
      rw [e] at hK
      exact hK _ MF.rf.fI hM1
  · have e : rCut f np x y = (none, -1) := by unfold rCut; rw [if_pos (fun q => a q.1)]
    rw [e] at hK
    exact hK _ MF.rf.fI hM1
end model7
