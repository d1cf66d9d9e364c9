/-! the model's calls, 4 -/
set_option maxRecDepth 100000
section model10
variable {w : Wt} {σ : Sg} {m n L : Nat} {A : Nat → Nat} {f sv tx : Nat → Int32} {np no ns : Nat}
theorem c_textLength {x : Int32} {K : Sg → Int32 → Prop} (hM : Mdl σ m A f sv tx n L) (hL : L ≤ 12) (hK : K σ (txL tx L x)) : CalI w mX3_textLength σ [va_rf (some m), .int x] K := by
  refine eX3_textLength _ _ (bX3_textLength_0 _ _ ?_)
  have hr := hM.sh.rw 23 12
  have run : ∀ z, (if L = 0 then (0 : Int32) else nI L - 1) = z → G w mX3_textLength (KI K) 0 0 σ 20 [va_rf (some m), .int x, .int z, .int 0] [] := by
    intro z hz
    refine upL (P := fun i => G w mX3_textLength (KI K) 0 0 σ 20 [va_rf (some m), .int x, .int (wsum tx z i), .int (nI i)] []) (N := L) ?_ ?_
    · refine bX3_textLength_20 _ _ _ _ ?_
      simp only [Option.some.injEq, exists_eq_left', exists_eq_left, forall_eq, forall_eq', List.mem_cons, List.not_mem_nil, or_false, or_true, true_or, true_and, and_true, eq_self, Nat.reduceEqDiff, reduceCtorEq, forall_const, true_implies, false_implies, implies_true, not_true_eq_false, not_false_eq_true, false_and, and_false, false_or, if_true, if_false, kd_sFI, ln_sFI, FI_sFI, FR_sFI, AI_sFI, AR_sFI, nx_sFI, kd_sFR, ln_sFR, FI_sFR, FR_sFR, AI_sFR, AR_sFR, nx_sFR, kd_sAI, ln_sAI, FI_sAI, FR_sAI, AI_sAI, AR_sAI, nx_sAI, kd_sAR, ln_sAR, FI_sAR, FR_sAR, AI_sAR, AR_sAR, nx_sAR, kd_sAIs, ln_sAIs, FI_sAIs, FR_sAIs, AR_sAIs, nx_sAIs, kd_sARs, ln_sARs, FI_sARs, FR_sARs, AI_sARs, nx_sARs, kd_nO, ln_nO, FI_nO, FR_nO, AI_nO, AR_nO, nx_nO, kd_nA, ln_nA, FI_nA, FR_nA, AI_nA, AR_nA, nx_nA, hM.sh.kd, hM.eL]
      refine ⟨fun _ => ?_, fun h => absurd (nI_le (Nat.le_refl L) (by omega)) h⟩
      unfold txL at hK; rw [hz] at hK; exact hK
    · intro i hi ih
      refine bX3_textLength_20 _ _ _ _ ?_
      simp only [Option.some.injEq, exists_eq_left', exists_eq_left, forall_eq, forall_eq', List.mem_cons, List.not_mem_nil, or_false, or_true, true_or, true_and, and_true, eq_self, Nat.reduceEqDiff, reduceCtorEq, forall_const, true_implies, false_implies, implies_true, not_true_eq_false, not_false_eq_true, false_and, and_false, false_or, if_true, if_false, kd_sFI, ln_sFI, FI_sFI, FR_sFI, AI_sFI, AR_sFI, nx_sFI, kd_sFR, ln_sFR, FI_sFR, FR_sFR, AI_sFR, AR_sFR, nx_sFR, kd_sAI, ln_sAI, FI_sAI, FR_sAI, AI_sAI, AR_sAI, nx_sAI, kd_sAR, ln_sAR, FI_sAR, FR_sAR, AI_sAR, AR_sAR, nx_sAR, kd_sAIs, ln_sAIs, FI_sAIs, FR_sAIs, AR_sAIs, nx_sAIs, kd_sARs, ln_sARs, FI_sARs, FR_sARs, AI_sARs, nx_sARs, kd_nO, ln_nO, FI_nO, FR_nO, AI_nO, AR_nO, nx_nO, kd_nA, ln_nA, FI_nA, FR_nA, AI_nA, AR_nA, nx_nA, hM.sh.kd, hM.eL, hM.sh.fr 23, hr.1, hr.2, nI_clamp (show i < 2 ^ 31 by omega), vpN (show i < 12 by omega) (by decide), hM.eT]
      refine ⟨fun h => absurd h (nI_ge hi (by omega)), fun _ => ?_⟩
      refine c_widthOf (fun _ => ?_)
      rw [wsum, nI_succ] at ih; exact ih
  simp only [Option.some.injEq, exists_eq_left', exists_eq_left, forall_eq, forall_eq', List.mem_cons, List.not_mem_nil, or_false, or_true, true_or, true_and, and_true, eq_self, Nat.reduceEqDiff, reduceCtorEq, forall_const, true_implies, false_implies, implies_true, not_true_eq_false, not_false_eq_true, false_and, and_false, false_or, if_true, if_false, kd_sFI, ln_sFI, FI_sFI, FR_sFI, AI_sFI, AR_sFI, nx_sFI, kd_sFR, ln_sFR, FI_sFR, FR_sFR, AI_sFR, AR_sFR, nx_sFR, kd_sAI, ln_sAI, FI_sAI, FR_sAI, AI_sAI, AR_sAI, nx_sAI, kd_sAR, ln_sAR, FI_sAR, FR_sAR, AI_sAR, AR_sAR, nx_sAR, kd_sAIs, ln_sAIs, FI_sAIs, FR_sAIs, AR_sAIs, nx_sAIs, kd_sARs, ln_sARs, FI_sARs, FR_sARs, AI_sARs, nx_sARs, kd_nO, ln_nO, FI_nO, FR_nO, AI_nO, AR_nO, nx_nO, kd_nA, ln_nA, FI_nA, FR_nA, AI_nA, AR_nA, nx_nA, hM.sh.kd, hM.eL]
  refine ⟨fun h => run _ (if_neg (fun q => h (by rw [q]; rfl))), fun h => run _ (if_pos (nI_inj h (by omega) (by decide)))⟩
theorem c_lengthOf3 {x : Int32} {K : Sg → Int32 → Prop} (hM : Mdl σ m A f sv tx n L) (hL : L ≤ 12)
    (hK : ∀ σ', MF m A σ σ' → Mdl σ' m A f sv tx n L → K σ' (rLen tx L x)) : CalI w mX3_lengthOf σ [va_rf (some m), .int x] K := by
  have hM1 : Mdl (sFI σ 18 m 0) m A f sv tx n L := hM.fI (by decide) (by decide)
  refine eX3_lengthOf _ _ (bX3_lengthOf_0 _ _ ?_)
  have hK := hK _ MF.rf.fI hM1
  unfold rLen at hK
  simp only [Option.some.injEq, exists_eq_left', exists_eq_left, forall_eq, forall_eq', List.mem_cons, List.not_mem_nil, or_false, or_true, true_or, true_and, and_true, eq_self, Nat.reduceEqDiff, reduceCtorEq, forall_const, true_implies, false_implies, implies_true, not_true_eq_false, not_false_eq_true, false_and, and_false, false_or, if_true, if_false, kd_sFI, ln_sFI, FI_sFI, FR_sFI, AI_sFI, AR_sFI, nx_sFI, kd_sFR, ln_sFR, FI_sFR, FR_sFR, AI_sFR, AR_sFR, nx_sFR, kd_sAI, ln_sAI, FI_sAI, FR_sAI, AI_sAI, AR_sAI, nx_sAI, kd_sAR, ln_sAR, FI_sAR, FR_sAR, AI_sAR, AR_sAR, nx_sAR, kd_sAIs, ln_sAIs, FI_sAIs, FR_sAIs, AR_sAIs, nx_sAIs, kd_sARs, ln_sARs, FI_sARs, FR_sARs, AI_sARs, nx_sARs, kd_nO, ln_nO, FI_nO, FR_nO, AI_nO, AR_nO, nx_nO, kd_nA, ln_nA, FI_nA, FR_nA, AI_nA, AR_nA, nx_nA, hM.sh.kd]
  refine c_in (fun a1 a2 _ => ⟨fun h => absurd h (by decide), fun _ => ?_⟩) (fun a _ => ⟨fun _ => ?_, fun h => absurd rfl h⟩)
  · rw [if_pos ⟨a1, a2⟩] at hK
    exact c_textLength hM1 hL (fun _ => hK)
  · rw [if_neg a] at hK; exact hK
theorem c_plateFound3 {x y z : Int32} {K : Sg → Int32 → Prop} (hM : Mdl σ m A f sv tx n L) (hL : L ≤ 12) (hW : WfN f np no ns)
    (hK : ∀ σ', MF m A σ σ' → Mdl σ' m A f sv tx n L → K σ' (rFound f tx np L x y z)) : CalI w mX3_plateFound σ [va_rf (some m), .int x, .int y, .int z] K := by
  have hM1 : Mdl (sFI σ 18 m 0) m A f sv tx n L := hM.fI (by decide) (by decide)
  have hr := hM.sh.rw 19 343
  have F1 : MF m A σ (sFI σ 18 m 0) := MF.rf.fI
  refine eX3_plateFound _ _ _ _ (bX3_plateFound_0 _ _ _ _ ?_)
  unfold rFound at hK
  simp only [Option.some.injEq, exists_eq_left', exists_eq_left, forall_eq, forall_eq', List.mem_cons, List.not_mem_nil, or_false, or_true, true_or, true_and, and_true, eq_self, Nat.reduceEqDiff, reduceCtorEq, forall_const, true_implies, false_implies, implies_true, not_true_eq_false, not_false_eq_true, false_and, and_false, false_or, if_true, if_false, kd_sFI, ln_sFI, FI_sFI, FR_sFI, AI_sFI, AR_sFI, nx_sFI, kd_sFR, ln_sFR, FI_sFR, FR_sFR, AI_sFR, AR_sFR, nx_sFR, kd_sAI, ln_sAI, FI_sAI, FR_sAI, AI_sAI, AR_sAI, nx_sAI, kd_sAR, ln_sAR, FI_sAR, FR_sAR, AI_sAR, AR_sAR, nx_sAR, kd_sAIs, ln_sAIs, FI_sAIs, FR_sAIs, AR_sAIs, nx_sAIs, kd_sARs, ln_sARs, FI_sARs, FR_sARs, AI_sARs, nx_sARs, kd_nO, ln_nO, FI_nO, FR_nO, AI_nO, AR_nO, nx_nO, kd_nA, ln_nA, FI_nA, FR_nA, AI_nA, AR_nA, nx_nA, hM.sh.kd]
  have e24 : FI (sFI σ 18 m 0) 24 m = nI L := hM1.eL
  refine c_in (fun a1 a2 _ => ⟨fun h => absurd h (by decide), fun _ => ?_⟩) (fun a _ => ⟨fun _ => ?_, fun h => absurd rfl h⟩)
  · refine c_in (fun b1 b2 _ => ⟨fun h => absurd h (by decide), fun _ => ?_⟩) (fun b _ => ⟨fun _ => ?_, fun h => absurd rfl h⟩)
    · refine c_in (fun c1 c2 _ => ⟨fun _ => ⟨fun h => ?_, fun h => ?_⟩, fun h => absurd h (by decide)⟩) (fun c _ => ⟨fun h => absurd rfl h, fun _ => ?_⟩)
      · rw [e24] at h
        rw [if_neg (fun q => q ⟨⟨a1, a2⟩, ⟨b1, b2⟩, c1, c2⟩), if_neg (fun q => h (by rw [q]; rfl))] at hK
        refine c_textLength hM1 hL (fun _ => ?_)
        simp only [Option.some.injEq, exists_eq_left', exists_eq_left, forall_eq, forall_eq', List.mem_cons, List.not_mem_nil, or_false, or_true, true_or, true_and, and_true, eq_self, Nat.reduceEqDiff, reduceCtorEq, forall_const, true_implies, false_implies, implies_true, not_true_eq_false, not_false_eq_true, false_and, and_false, false_or, if_true, if_false, kd_sFI, ln_sFI, FI_sFI, FR_sFI, AI_sFI, AR_sFI, nx_sFI, kd_sFR, ln_sFR, FI_sFR, FR_sFR, AI_sFR, AR_sFR, nx_sFR, kd_sAI, ln_sAI, FI_sAI, FR_sAI, AI_sAI, AR_sAI, nx_sAI, kd_sAR, ln_sAR, FI_sAR, FR_sAR, AI_sAR, AR_sAR, nx_sAR, kd_sAIs, ln_sAIs, FI_sAIs, FR_sAIs, AR_sAIs, nx_sAIs, kd_sARs, ln_sARs, FI_sARs, FR_sARs, AI_sARs, nx_sARs, kd_nO, ln_nO, FI_nO, FR_nO, AI_nO, AR_nO, nx_nO, kd_nA, ln_nA, FI_nA, FR_nA, AI_nA, AR_nA, nx_nA, hM.sh.fr 19]
        refine c_findP (σ := sFI σ 18 m 0) (N := np) hM.sh.kd hr (by rw [AI_sFI, hM.eF]; exact hW.1) hW.2.1 (fun g p φ g1 g2 g3 g4 g5 _ => ⟨fun _ => ?_, fun h => absurd h (by decide)⟩) (fun φ g1 g2 _ => ⟨fun h => absurd rfl h, fun _ => ?_⟩)
        · rw [AI_sFI, hM.eF] at g1 g4
          rw [g1] at hK
          have hK := hK (sFs (sFI σ 18 m 0) m φ) F1.fld (hM1.fld (by rw [g2 22 (by decide) (by decide) (by decide)]; exact hM1.eN) (by rw [g2 24 (by decide) (by decide) (by decide)]; exact hM1.eL))
          simp only [Option.some.injEq, exists_eq_left', exists_eq_left, forall_eq, forall_eq', List.mem_cons, List.not_mem_nil, or_false, or_true, true_or, true_and, and_true, eq_self, Nat.reduceEqDiff, reduceCtorEq, forall_const, true_implies, false_implies, implies_true, not_true_eq_false, not_false_eq_true, false_and, and_false, false_or, if_true, if_false, kd_sFI, ln_sFI, FI_sFI, FR_sFI, AI_sFI, AR_sFI, nx_sFI, kd_sFR, ln_sFR, FI_sFR, FR_sFR, AI_sFR, AR_sFR, nx_sFR, kd_sAI, ln_sAI, FI_sAI, FR_sAI, AI_sAI, AR_sAI, nx_sAI, kd_sAR, ln_sAR, FI_sAR, FR_sAR, AI_sAR, AR_sAR, nx_sAR, kd_sAIs, ln_sAIs, FI_sAIs, FR_sAIs, AR_sAIs, nx_sAIs, kd_sARs, ln_sARs, FI_sARs, FR_sARs, AI_sARs, nx_sARs, kd_nO, ln_nO, FI_nO, FR_nO, AI_nO, AR_nO, nx_nO, kd_nA, ln_nA, FI_nA, FR_nA, AI_nA, AR_nA, nx_nA, FI_sFs_self, g3, g4, g5]
          refine ⟨fun k0 => ⟨fun k1 => ?_, fun k1 => ?_⟩, fun k0 => ?_⟩
          · simp only [if_neg k0, if_neg k1] at hK
            cases g
            · exact ⟨fun _ => hK, fun q => absurd rfl q⟩
            · exact ⟨fun q => absurd q (by decide), fun _ => hK⟩
          · simp only [if_neg k0, if_pos k1] at hK; exact hK
          · simp only [if_pos k0] at hK; exact hK
        · rw [AI_sFI, hM.eF] at g1
          rw [g1] at hK
          exact hK (sFs (sFI σ 18 m 0) m φ) F1.fld (hM1.fld (by rw [g2 22 (by decide) (by decide) (by decide)]; exact hM1.eN) (by rw [g2 24 (by decide) (by decide) (by decide)]; exact hM1.eL))
      · rw [e24] at h
        rw [if_neg (fun q => q ⟨⟨a1, a2⟩, ⟨b1, b2⟩, c1, c2⟩), if_pos (nI_inj h (by omega) (by decide))] at hK
        exact hK _ F1 hM1
      · rw [if_pos (fun q => c q.2.2)] at hK; exact hK _ F1 hM1
    · rw [if_pos (fun q => b q.2.1)] at hK; exact hK _ F1 hM1
  · rw [if_pos (fun q => a q.1)] at hK; exact hK _ F1 hM1
theorem c_largestSize3 {x : Int32} {K : Sg → Int32 → Prop} (hM : Mdl σ m A f sv tx n L) (hL : L ≤ 12) (hW : WfN f np no ns)
    (hK : ∀ σ', MF m A σ σ' → Mdl σ' m A f sv tx n L → K σ' (rLarge f tx np L x)) : CalI w mX3_largestSize σ [va_rf (some m), .int x] K := by
  have h20 := hW.2.1
  have hM1 : Mdl (sFI σ 18 m 0) m A f sv tx n L := hM.fI (by decide) (by decide)
  refine eX3_largestSize _ _ (bX3_largestSize_0 _ _ ?_)
  have hK := hK _ MF.rf.fI hM1
  unfold rLarge at hK
  have e24 : FI (sFI σ 18 m 0) 24 m = nI L := hM1.eL
  simp only [Option.some.injEq, exists_eq_left', forall_eq, hM.sh.kd, true_and]
  refine c_isPlate3 hM1 hW.1 h20 (fun p hp hx _ => ⟨fun _ => ⟨fun h => ?_, fun h => ?_⟩, fun h => absurd h (by decide)⟩) (fun hx _ => ⟨fun h => absurd rfl h, fun _ => ?_⟩)
  · subst hx
    rw [e24] at h
    rw [iteP_t ⟨p, hp, rfl⟩, if_neg (fun q => h (by rw [q]; rfl)), nI_clamp (by omega)] at hK
    have : ∀ i, i ≤ 4 → K (sFI σ 18 m 0) (lsz f tx L p i) → G w mX3_largestSize (KI K) 0 0 (sFI σ 18 m 0) 27 [va_rf (some m), .int (nI p), .int (nI i)] [] := by
      intro i
      induction i with
      | zero =>
        intro _ hk
        exact bX3_largestSize_27 _ _ _ ⟨fun _ => ⟨fun q => absurd rfl q, fun _ => hk⟩, fun q => absurd (by decide) q⟩
      | succ i ih =>
        intro hi hk
        refine bX3_largestSize_27 _ _ _ ⟨fun q => absurd q (nI_nle (by omega) (by omega)), fun _ => ?_⟩
        simp only [Option.some.injEq, exists_eq_left', exists_eq_left, forall_eq, forall_eq', List.mem_cons, List.not_mem_nil, or_false, or_true, true_or, true_and, and_true, eq_self, Nat.reduceEqDiff, reduceCtorEq, forall_const, true_implies, false_implies, implies_true, not_true_eq_false, not_false_eq_true, false_and, and_false, false_or, if_true, if_false, kd_sFI, ln_sFI, FI_sFI, FR_sFI, AI_sFI, AR_sFI, nx_sFI, kd_sFR, ln_sFR, FI_sFR, FR_sFR, AI_sFR, AR_sFR, nx_sFR, kd_sAI, ln_sAI, FI_sAI, FR_sAI, AI_sAI, AR_sAI, nx_sAI, kd_sAR, ln_sAR, FI_sAR, FR_sAR, AI_sAR, AR_sAR, nx_sAR, kd_sAIs, ln_sAIs, FI_sAIs, FR_sAIs, AR_sAIs, nx_sAIs, kd_sARs, ln_sARs, FI_sARs, FR_sARs, AI_sARs, nx_sARs, kd_nO, ln_nO, FI_nO, FR_nO, AI_nO, AR_nO, nx_nO, kd_nA, ln_nA, FI_nA, FR_nA, AI_nA, AR_nA, nx_nA, hM.sh.kd]
        refine c_textLength hM1 hL (fun _ => ?_)
        simp only [Option.some.injEq, exists_eq_left', exists_eq_left, forall_eq, forall_eq', List.mem_cons, List.not_mem_nil, or_false, or_true, true_or, true_and, and_true, eq_self, Nat.reduceEqDiff, reduceCtorEq, forall_const, true_implies, false_implies, implies_true, not_true_eq_false, not_false_eq_true, false_and, and_false, false_or, if_true, if_false, kd_sFI, ln_sFI, FI_sFI, FR_sFI, AI_sFI, AR_sFI, nx_sFI, kd_sFR, ln_sFR, FI_sFR, FR_sFR, AI_sFR, AR_sFR, nx_sFR, kd_sAI, ln_sAI, FI_sAI, FR_sAI, AI_sAI, AR_sAI, nx_sAI, kd_sAR, ln_sAR, FI_sAR, FR_sAR, AI_sAR, AR_sAR, nx_sAR, kd_sAIs, ln_sAIs, FI_sAIs, FR_sAIs, AR_sAIs, nx_sAIs, kd_sARs, ln_sARs, FI_sARs, FR_sARs, AI_sARs, nx_sARs, kd_nO, ln_nO, FI_nO, FR_nO, AI_nO, AR_nO, nx_nO, kd_nA, ln_nA, FI_nA, FR_nA, AI_nA, AR_nA, nx_nA, hM.sh.fr 19]
        refine c_ofPl hM1 (p := p) rfl (k := 0) rfl (by omega) (fun _ => ⟨fun h3 => ⟨fun _ => ?_, fun q => absurd q (nI_ne0 (by omega) (by omega))⟩, fun h3 => ?_⟩)
        · rw [lsz, if_pos h3] at hk; exact hk
        · rw [lsz, if_neg h3] at hk
          rw [pk_m1]; exact ih (by omega) hk
    exact this 4 (by decide) hK
  · rw [e24] at h
    rw [iteP_t ⟨p, hp, hx⟩, if_pos (nI_inj h (by omega) (by decide))] at hK
    exact hK
  · rw [iteP_f (nInR hx)] at hK; exact hK
theorem c_hurry3 {x : Int32} {K : Sg → Int32 → Prop} (hM : Mdl σ m A f sv tx n L) (hn : n ≤ 5) (hW : WfN f np no ns) (hR : ∀ o, o < no → ¬ od f o 4 = 1 → ∃ R, R < no ∧ rsh f no = nI R)
    (hK : ∀ σ', MF m A σ σ' → Mdl σ' m A (rRw (rHurry f no x) f) (rSv (rHurry f no x) f sv n) tx (rNx (rHurry f no x) n) L → K σ' (rHurry f no x).2) : CalI w mX3_hurry σ [va_rf (some m), .int x] K := by
  have h10 := hW.2.2.2.1
  refine eX3_hurry _ _ (bX3_hurry_0 _ _ ?_)
  have hM1 : Mdl (sFI σ 18 m 0) m A f sv tx n L := hM.fI (by decide) (by decide)
  unfold rHurry at hK
  simp only [Option.some.injEq, exists_eq_left', exists_eq_left, forall_eq, forall_eq', List.mem_cons, List.not_mem_nil, or_false, or_true, true_or, true_and, and_true, eq_self, Nat.reduceEqDiff, reduceCtorEq, forall_const, true_implies, false_implies, implies_true, not_true_eq_false, not_false_eq_true, false_and, and_false, false_or, if_true, if_false, kd_sFI, ln_sFI, FI_sFI, FR_sFI, AI_sFI, AR_sFI, nx_sFI, kd_sFR, ln_sFR, FI_sFR, FR_sFR, AI_sFR, AR_sFR, nx_sFR, kd_sAI, ln_sAI, FI_sAI, FR_sAI, AI_sAI, AR_sAI, nx_sAI, kd_sAR, ln_sAR, FI_sAR, FR_sAR, AI_sAR, AR_sAR, nx_sAR, kd_sAIs, ln_sAIs, FI_sAIs, FR_sAIs, AR_sAIs, nx_sAIs, kd_sARs, ln_sARs, FI_sARs, FR_sARs, AI_sARs, nx_sARs, kd_nO, ln_nO, FI_nO, FR_nO, AI_nO, AR_nO, nx_nO, kd_nA, ln_nA, FI_nA, FR_nA, AI_nA, AR_nA, nx_nA, hM.sh.kd]
  refine c_isOrder3 hM1 hW.2.2.1 (by omega) (fun p hp hx _ => ⟨fun _ => ?_, fun h => absurd h (by decide)⟩) (fun hx _ => ⟨fun h => absurd rfl h, fun _ => ?_⟩)
  · subst hx
    rw [iteP_t ⟨p, hp, rfl⟩, nI_clamp (by omega)] at hK
    simp only [Option.some.injEq, exists_eq_left', exists_eq_left, forall_eq, forall_eq', List.mem_cons, List.not_mem_nil, or_false, or_true, true_or, true_and, and_true, eq_self, Nat.reduceEqDiff, reduceCtorEq, forall_const, true_implies, false_implies, implies_true, not_true_eq_false, not_false_eq_true, false_and, and_false, false_or, if_true, if_false, kd_sFI, ln_sFI, FI_sFI, FR_sFI, AI_sFI, AR_sFI, nx_sFI, kd_sFR, ln_sFR, FI_sFR, FR_sFR, AI_sFR, AR_sFR, nx_sFR, kd_sAI, ln_sAI, FI_sAI, FR_sAI, AI_sAI, AR_sAI, nx_sAI, kd_sAR, ln_sAR, FI_sAR, FR_sAR, AI_sAR, AR_sAR, nx_sAR, kd_sAIs, ln_sAIs, FI_sAIs, FR_sAIs, AR_sAIs, nx_sAIs, kd_sARs, ln_sARs, FI_sARs, FR_sARs, AI_sARs, nx_sARs, kd_nO, ln_nO, FI_nO, FR_nO, AI_nO, AR_nO, nx_nO, kd_nA, ln_nA, FI_nA, FR_nA, AI_nA, AR_nA, nx_nA, hM.sh.fr 19]
    refine c_od hM1 (p := p) rfl (k := 4) rfl (by omega) (fun _ => ⟨fun h => ?_, fun h => ?_⟩)
    · rw [if_neg h] at hK
      obtain ⟨R, hR1, hR2⟩ := hR p hp h
      refine c_act hM1 hn (fun σ1 F1 D1 _ => ?_)
      rw [D1.sh.fr 19]
      refine c_hurryIn (o := p) (R := R) (No := no) D1.sh.kd (D1.sh.fr 30) (D1.sh.rw 19 343) (D1.sh.rw 30 19) (D1.sh.ne 19 30) (by rw [D1.eF]; exact hW.2.2.1) h10 rfl hp (by rw [D1.eF]; exact hR2) hR1 (fun g _ => ?_)
      have hK := hK (sAIs (sAIs σ1 (A 30) g) (A 19) (hurR f p no)) (MF.rf.fI.trans ((F1.row 30).row 19)) ((D1.oth 30 g).row _)
      rw [D1.eF, hur_c (B := fun _ => 0)]
      unfold hurR at hK
      rw [hR2, nI_clamp (by omega)] at hK
      exact hK
    · rw [if_pos h] at hK
      exact hK _ MF.rf.fI hM1
  · rw [iteP_f (nInR hx)] at hK
    exact hK _ MF.rf.fI hM1
theorem c_cancel3 {x : Int32} {K : Sg → Int32 → Prop} (hM : Mdl σ m A f sv tx n L) (hn : n ≤ 5) (hW : WfN f np no ns) (hA : WfA f np no)
    (hK : ∀ σ', MF m A σ σ' → Mdl σ' m A (rRw (rCancel f no x) f) (rSv (rCancel f no x) f sv n) tx (rNx (rCancel f no x) n) L → K σ' (rCancel f no x).2) : CalI w mX3_cancel σ [va_rf (some m), .int x] K := by
  have h10 := hW.2.2.2.1
  have h20 := hW.2.1
  refine eX3_cancel _ _ (bX3_cancel_0 _ _ ?_)
  have hM1 : Mdl (sFI σ 18 m 0) m A f sv tx n L := hM.fI (by decide) (by decide)
  unfold rCancel at hK
  simp only [Option.some.injEq, exists_eq_left', exists_eq_left, forall_eq, forall_eq', List.mem_cons, List.not_mem_nil, or_false, or_true, true_or, true_and, and_true, eq_self, Nat.reduceEqDiff, reduceCtorEq, forall_const, true_implies, false_implies, implies_true, not_true_eq_false, not_false_eq_true, false_and, and_false, false_or, if_true, if_false, kd_sFI, ln_sFI, FI_sFI, FR_sFI, AI_sFI, AR_sFI, nx_sFI, kd_sFR, ln_sFR, FI_sFR, FR_sFR, AI_sFR, AR_sFR, nx_sFR, kd_sAI, ln_sAI, FI_sAI, FR_sAI, AI_sAI, AR_sAI, nx_sAI, kd_sAR, ln_sAR, FI_sAR, FR_sAR, AI_sAR, AR_sAR, nx_sAR, kd_sAIs, ln_sAIs, FI_sAIs, FR_sAIs, AR_sAIs, nx_sAIs, kd_sARs, ln_sARs, FI_sARs, FR_sARs, AI_sARs, nx_sARs, kd_nO, ln_nO, FI_nO, FR_nO, AI_nO, AR_nO, nx_nO, kd_nA, ln_nA, FI_nA, FR_nA, AI_nA, AR_nA, nx_nA, hM.sh.kd]
  refine c_isOrder3 hM1 hW.2.2.1 (by omega) (fun p hp hx _ => ⟨fun _ => ?_, fun h => absurd h (by decide)⟩) (fun hx _ => ⟨fun h => absurd rfl h, fun _ => ?_⟩)
  · subst hx
    rw [iteP_t ⟨p, hp, rfl⟩, nI_clamp (by omega)] at hK
    refine c_act hM1 hn (fun σ1 F1 D1 _ => ?_)
    have hr := D1.sh.rw 19 343
    have fin : ∀ (τ : Sg) (g : Nat → Int32), MF m A σ τ → Mdl τ m A g (svN f sv n) tx (nxN n) L → g 2 = nI no → tko g p no = canR f p no → CalV w mX3_takeOut τ [va_rf (some m), va_rf (FR τ 19 m), .int (nI p)] (fun s19 => Ext τ s19 → ∃ a22, FR s19 19 m = some a22 ∧ (kd s19 a22 = 1 ∨ kd s19 a22 = 5) ∧ vp_in 2 (ln s19 a22) ∧ K s19 (AI s19 a22 (2 : Int32).toNatClampNeg)) := by
      intro τ g F D e2 eg
      rw [D.sh.fr 19]
      refine c_takeOut (o := p) (N := no) D.sh.kd (D.sh.fr 30) (D.sh.rw 19 343) (D.sh.rw 30 19) (D.sh.ne 19 30) rfl hp (by rw [D.eF]; exact e2) h10 (fun _ => ?_)
      have hr := D.sh.rw 19 343
      rw [D.eF, eg]
      have h2 : canR f p no 2 = nI (no - 1) := by
        rw [← eg]; unfold tko; rw [if_neg (by decide), if_neg (by omega), if_pos rfl]
      simp only [Option.some.injEq, exists_eq_left', exists_eq_left, forall_eq, forall_eq', List.mem_cons, List.not_mem_nil, or_false, or_true, true_or, true_and, and_true, eq_self, Nat.reduceEqDiff, reduceCtorEq, forall_const, true_implies, false_implies, implies_true, not_true_eq_false, not_false_eq_true, false_and, and_false, false_or, if_true, if_false, kd_sFI, ln_sFI, FI_sFI, FR_sFI, AI_sFI, AR_sFI, nx_sFI, kd_sFR, ln_sFR, FI_sFR, FR_sFR, AI_sFR, AR_sFR, nx_sFR, kd_sAI, ln_sAI, FI_sAI, FR_sAI, AI_sAI, AR_sAI, nx_sAI, kd_sAR, ln_sAR, FI_sAR, FR_sAR, AI_sAR, AR_sAR, nx_sAR, kd_sAIs, ln_sAIs, FI_sAIs, FR_sAIs, AR_sAIs, nx_sAIs, kd_sARs, ln_sARs, FI_sARs, FR_sARs, AI_sARs, nx_sARs, kd_nO, ln_nO, FI_nO, FR_nO, AI_nO, AR_nO, nx_nO, kd_nA, ln_nA, FI_nA, FR_nA, AI_nA, AR_nA, nx_nA, D.sh.fr 19, hr.1, hr.2, cl2, v2, AI_self, h2]
      exact hK _ ((F.row 30).row 19) ((D.oth 30 _).row _)
    simp only [D1.sh.fr 19, Option.some.injEq, exists_eq_left', hr.1, hr.2, List.mem_cons, true_or, v3, cl3, true_and, D1.eF]
    refine ⟨fun h => ?_, fun h => ?_⟩
    · have := fin σ1 f (MF.rf.fI.trans F1) D1 hW.2.2.1 (by unfold canR; rw [if_neg h])
      rw [D1.sh.fr 19] at this; exact this
    · rcases hA with hA | ⟨o, q, s, h3, ho, h5, hq, h6, hs⟩
      · rw [hA] at h; exact absurd h.symm (m9n (by omega))
      · refine ⟨v5, ?_⟩
        rw [cl5, h5]
        refine c_setPl D1 (p := q) rfl (k := 2) rfl (by omega) (fun σ2 F2 D2 _ => ?_)
        rw [D2.sh.fr 19]
        refine c_rest3 (D2.sh.rw 19 343) (fun _ => ?_)
        rw [D2.eF]
        refine fin _ _ (((MF.rf.fI.trans F1).trans F2).row 19) (D2.row _) ?_ ?_
        · unfold rst; rw [pk_un (by decide), pk_un (by decide), pk_un (by decide), pk_un (by decide), upl_lo (by decide)]; exact hW.2.2.1
        · unfold canR; rw [if_pos h, h5, nI_clamp (by omega)]
  · rw [iteP_f (nInR hx)] at hK
    exact hK _ MF.rf.fI hM1
end model10
