/-! the model's calls, 2 -/
set_option maxRecDepth 100000
section model8
variable {w : Wt} {σ : Sg} {m n L : Nat} {A : Nat → Nat} {f sv tx : Nat → Int32} {np no ns : Nat}
theorem cInR {x l h : Int32} {N : Nat} {K : Sg → Int32 → Prop} (hl : l = 0) (hh : h = nI N - 1) (hN : N < 2 ^ 31) (hT : ∀ p, p < N → x = nI p → K σ 1) (hF : (∀ p, p < N → ¬ x = nI p) → K σ 0) : CalI w mX3_in σ [.int x, .int l, .int h] K := by
  subst hl hh
  refine c_in (fun h1 h2 => ?_) (fun h => hF (fun p h3 h4 => h ((inN hN).mpr ⟨p, h3, h4⟩)))
  obtain ⟨p, h3, h4⟩ := (inN hN).mp ⟨h1, h2⟩
  exact hT p h3 h4
theorem nInR {x : Int32} {N : Nat} (h : ∀ p, p < N → ¬ x = nI p) : ¬ inR x N := fun ⟨p, h1, h2⟩ => h p h1 h2
theorem c_spoil3 {x : Int32} {K : Sg → Int32 → Prop} (hM : Mdl σ m A f sv tx n L) (hn : n ≤ 5) (hW : WfN f np no ns)
    (hK : ∀ σ', MF m A σ σ' → Mdl σ' m A (rRw (rSpoil f np x) f) (rSv (rSpoil f np x) f sv n) tx (rNx (rSpoil f np x) n) L → K σ' (rSpoil f np x).2) : CalI w mX3_spoil σ [va_rf (some m), .int x] K := by
  have h20 := hW.2.1
  refine eX3_spoil _ _ (bX3_spoil_0 _ _ ?_)
  have hM1 : Mdl (sFI σ 18 m 0) m A f sv tx n L := hM.fI (by decide) (by decide)
  simp only [Option.some.injEq, exists_eq_left', exists_eq_left, forall_eq, forall_eq', List.mem_cons, List.not_mem_nil, or_false, or_true, true_or, true_and, and_true, eq_self, Nat.reduceEqDiff, reduceCtorEq, forall_const, true_implies, false_implies, implies_true, not_true_eq_false, not_false_eq_true, false_and, and_false, false_or, if_true, if_false, kd_sFI, ln_sFI, FI_sFI, FR_sFI, AI_sFI, AR_sFI, nx_sFI, kd_sFR, ln_sFR, FI_sFR, FR_sFR, AI_sFR, AR_sFR, nx_sFR, kd_sAI, ln_sAI, FI_sAI, FR_sAI, AI_sAI, AR_sAI, nx_sAI, kd_sAR, ln_sAR, FI_sAR, FR_sAR, AI_sAR, AR_sAR, nx_sAR, kd_sAIs, ln_sAIs, FI_sAIs, FR_sAIs, AR_sAIs, nx_sAIs, kd_sARs, ln_sARs, FI_sARs, FR_sARs, AI_sARs, nx_sARs, kd_nO, ln_nO, FI_nO, FR_nO, AI_nO, AR_nO, nx_nO, kd_nA, ln_nA, FI_nA, FR_nA, AI_nA, AR_nA, nx_nA, hM.sh.kd]
  refine c_isPlate3 hM1 hW.1 h20 (fun p hp hx _ => ⟨fun _ => ?_, fun h => absurd h (by decide)⟩) (fun hx _ => ⟨fun h => absurd rfl h, fun _ => ?_⟩)
  · subst hx
    unfold rSpoil at hK
    rw [iteP_t ⟨p, hp, rfl⟩, nI_clamp (by omega)] at hK
    simp only [Option.some.injEq, exists_eq_left', exists_eq_left, forall_eq, forall_eq', List.mem_cons, List.not_mem_nil, or_false, or_true, true_or, true_and, and_true, eq_self, Nat.reduceEqDiff, reduceCtorEq, forall_const, true_implies, false_implies, implies_true, not_true_eq_false, not_false_eq_true, false_and, and_false, false_or, if_true, if_false, kd_sFI, ln_sFI, FI_sFI, FR_sFI, AI_sFI, AR_sFI, nx_sFI, kd_sFR, ln_sFR, FI_sFR, FR_sFR, AI_sFR, AR_sFR, nx_sFR, kd_sAI, ln_sAI, FI_sAI, FR_sAI, AI_sAI, AR_sAI, nx_sAI, kd_sAR, ln_sAR, FI_sAR, FR_sAR, AI_sAR, AR_sAR, nx_sAR, kd_sAIs, ln_sAIs, FI_sAIs, FR_sAIs, AR_sAIs, nx_sAIs, kd_sARs, ln_sARs, FI_sARs, FR_sARs, AI_sARs, nx_sARs, kd_nO, ln_nO, FI_nO, FR_nO, AI_nO, AR_nO, nx_nO, kd_nA, ln_nA, FI_nA, FR_nA, AI_nA, AR_nA, nx_nA, hM.sh.fr 19]
    refine c_ofPl hM1 rfl (k := 2) rfl (by omega) (fun _ => ⟨fun h => ?_, fun h => ?_⟩)
    · rw [if_pos h] at hK
      refine c_act hM1 hn (fun σ1 F1 D1 _ => ?_)
      rw [D1.sh.fr 19]
      refine c_setPl D1 rfl (k := 2) rfl (by omega) (fun σ2 F2 D2 _ => ?_)
      rw [D2.sh.fr 19]
      refine c_platesIn (N := np) (D2.sh.rw 19 343) (by rw [D2.eF, upl_lo (by decide)]; exact hW.1) h20 (fun _ => ?_)
      rw [D2.eF]
      exact hK σ2 (MF.rf.fI.trans (F1.trans F2)) D2
    · rw [if_neg h] at hK
      exact hK _ MF.rf.fI hM1
  · unfold rSpoil at hK
    rw [iteP_f (nInR hx)] at hK
    exact hK _ MF.rf.fI hM1
theorem c_grind3 {x y : Int32} {K : Sg → Int32 → Prop} (hM : Mdl σ m A f sv tx n L) (hn : n ≤ 5) (hW : WfN f np no ns)
    (hK : ∀ σ', MF m A σ σ' → Mdl σ' m A (rRw (rGrind f np x y) f) (rSv (rGrind f np x y) f sv n) tx (rNx (rGrind f np x y) n) L → K σ' (rGrind f np x y).2) : CalI w mX3_grind σ [va_rf (some m), .int x, .int y] K := by
  have h20 := hW.2.1
  refine eX3_grind _ _ _ (bX3_grind_0 _ _ _ ?_)
  have hM1 : Mdl (sFI σ 18 m 0) m A f sv tx n L := hM.fI (by decide) (by decide)
  have hr := hM.sh.rw 19 343
  simp only [Option.some.injEq, exists_eq_left', exists_eq_left, forall_eq, forall_eq', List.mem_cons, List.not_mem_nil, or_false, or_true, true_or, true_and, and_true, eq_self, Nat.reduceEqDiff, reduceCtorEq, forall_const, true_implies, false_implies, implies_true, not_true_eq_false, not_false_eq_true, false_and, and_false, false_or, if_true, if_false, kd_sFI, ln_sFI, FI_sFI, FR_sFI, AI_sFI, AR_sFI, nx_sFI, kd_sFR, ln_sFR, FI_sFR, FR_sFR, AI_sFR, AR_sFR, nx_sFR, kd_sAI, ln_sAI, FI_sAI, FR_sAI, AI_sAI, AR_sAI, nx_sAI, kd_sAR, ln_sAR, FI_sAR, FR_sAR, AI_sAR, AR_sAR, nx_sAR, kd_sAIs, ln_sAIs, FI_sAIs, FR_sAIs, AR_sAIs, nx_sAIs, kd_sARs, ln_sARs, FI_sARs, FR_sARs, AI_sARs, nx_sARs, kd_nO, ln_nO, FI_nO, FR_nO, AI_nO, AR_nO, nx_nO, kd_nA, ln_nA, FI_nA, FR_nA, AI_nA, AR_nA, nx_nA, hM.sh.kd]
  refine c_isPlate3 hM1 hW.1 h20 (fun p hp hx _ => ⟨fun h => absurd h (by decide), fun _ => ?_⟩) (fun hx _ => ⟨fun _ => ?_, fun h => absurd rfl h⟩)
  · refine cInR (N := 2) rfl rfl (by decide) (fun s hs hy _ => ⟨fun _ => ?_, fun h => absurd h (by decide)⟩) (fun hy _ => ⟨fun h => absurd rfl h, fun _ => ?_⟩)
    · subst hx hy
      unfold rGrind at hK
      rw [iteP_t ⟨⟨p, hp, rfl⟩, s, hs, rfl⟩, nI_clamp (by omega), nI_clamp (by omega)] at hK
      simp only [Option.some.injEq, exists_eq_left', exists_eq_left, forall_eq, forall_eq', List.mem_cons, List.not_mem_nil, or_false, or_true, true_or, true_and, and_true, eq_self, Nat.reduceEqDiff, reduceCtorEq, forall_const, true_implies, false_implies, implies_true, not_true_eq_false, not_false_eq_true, false_and, and_false, false_or, if_true, if_false, kd_sFI, ln_sFI, FI_sFI, FR_sFI, AI_sFI, AR_sFI, nx_sFI, kd_sFR, ln_sFR, FI_sFR, FR_sFR, AI_sFR, AR_sFR, nx_sFR, kd_sAI, ln_sAI, FI_sAI, FR_sAI, AI_sAI, AR_sAI, nx_sAI, kd_sAR, ln_sAR, FI_sAR, FR_sAR, AI_sAR, AR_sAR, nx_sAR, kd_sAIs, ln_sAIs, FI_sAIs, FR_sAIs, AR_sAIs, nx_sAIs, kd_sARs, ln_sARs, FI_sARs, FR_sARs, AI_sARs, nx_sARs, kd_nO, ln_nO, FI_nO, FR_nO, AI_nO, AR_nO, nx_nO, kd_nA, ln_nA, FI_nA, FR_nA, AI_nA, AR_nA, nx_nA, hM.sh.fr 19]
      refine c_depthOf (σ := sFI σ 18 m 0) (p := p) (s := s) hr rfl rfl (by omega) (fun _ => ?_)
      simp only [Option.some.injEq, exists_eq_left', exists_eq_left, forall_eq, forall_eq', List.mem_cons, List.not_mem_nil, or_false, or_true, true_or, true_and, and_true, eq_self, Nat.reduceEqDiff, reduceCtorEq, forall_const, true_implies, false_implies, implies_true, not_true_eq_false, not_false_eq_true, false_and, and_false, false_or, if_true, if_false, kd_sFI, ln_sFI, FI_sFI, FR_sFI, AI_sFI, AR_sFI, nx_sFI, kd_sFR, ln_sFR, FI_sFR, FR_sFR, AI_sFR, AR_sFR, nx_sFR, kd_sAI, ln_sAI, FI_sAI, FR_sAI, AI_sAI, AR_sAI, nx_sAI, kd_sAR, ln_sAR, FI_sAR, FR_sAR, AI_sAR, AR_sAR, nx_sAR, kd_sAIs, ln_sAIs, FI_sAIs, FR_sAIs, AR_sAIs, nx_sAIs, kd_sARs, ln_sARs, FI_sARs, FR_sARs, AI_sARs, nx_sARs, kd_nO, ln_nO, FI_nO, FR_nO, AI_nO, AR_nO, nx_nO, kd_nA, ln_nA, FI_nA, FR_nA, AI_nA, AR_nA, nx_nA, hM.sh.fr 19, hM.eF]
      refine c_ofPl hM1 rfl (k := 2) rfl (by omega) (fun _ => ⟨fun h => ?_, fun h => ⟨fun h2 => ?_, fun h2 => ?_⟩⟩)
      · rw [if_neg (fun q => h q.1)] at hK; exact hK _ MF.rf.fI hM1
      · rw [if_neg (fun q => q.2.1 h2)] at hK; exact hK _ MF.rf.fI hM1
      · simp only [Option.some.injEq, exists_eq_left', exists_eq_left, forall_eq, forall_eq', List.mem_cons, List.not_mem_nil, or_false, or_true, true_or, true_and, and_true, eq_self, Nat.reduceEqDiff, reduceCtorEq, forall_const, true_implies, false_implies, implies_true, not_true_eq_false, not_false_eq_true, false_and, and_false, false_or, if_true, if_false, kd_sFI, ln_sFI, FI_sFI, FR_sFI, AI_sFI, AR_sFI, nx_sFI, kd_sFR, ln_sFR, FI_sFR, FR_sFR, AI_sFR, AR_sFR, nx_sFR, kd_sAI, ln_sAI, FI_sAI, FR_sAI, AI_sAI, AR_sAI, nx_sAI, kd_sAR, ln_sAR, FI_sAR, FR_sAR, AI_sAR, AR_sAR, nx_sAR, kd_sAIs, ln_sAIs, FI_sAIs, FR_sAIs, AR_sAIs, nx_sAIs, kd_sARs, ln_sARs, FI_sARs, FR_sARs, AI_sARs, nx_sARs, kd_nO, ln_nO, FI_nO, FR_nO, AI_nO, AR_nO, nx_nO, kd_nA, ln_nA, FI_nA, FR_nA, AI_nA, AR_nA, nx_nA, hM.sh.fr 19]
        refine c_leftOver (σ := sFI σ 18 m 0) (p := p) (s := s) hr rfl rfl (by omega) (by omega) (fun _ => ?_)
        rw [AI_sFI, hM.eF]
        refine ⟨fun h3 => ?_, fun h3 => ?_⟩
        · rw [if_pos ⟨h, h2, h3⟩] at hK
          refine c_act hM1 hn (fun σ1 F1 D1 _ => ?_)
          rw [D1.sh.fr 19]
          refine c_grindSide (p := p) (s := s) (D1.sh.rw 19 343) rfl rfl (by omega) (by omega) (fun _ => ?_)
          rw [D1.eF]
          have D2 := D1.row (grd f p s)
          rw [D2.sh.fr 19]
          refine c_ofPl D2 rfl (k := 1) rfl (by omega) (fun _ => ?_)
          exact hK _ (MF.rf.fI.trans (F1.row 19)) D2
        · rw [if_neg (fun q => h3 q.2.2)] at hK; exact hK _ MF.rf.fI hM1
    · unfold rGrind at hK
      rw [iteP_f (fun q => nInR hy q.2)] at hK
      exact hK _ MF.rf.fI hM1
  · unfold rGrind at hK
    rw [iteP_f (fun q => nInR hx q.1)] at hK
    exact hK _ MF.rf.fI hM1
theorem c_addShield3 {x : Int32} {K : Sg → Int32 → Prop} (hM : Mdl σ m A f sv tx n L) (hn : n ≤ 5) (hW : WfN f np no ns)
    (hK : ∀ σ', MF m A σ σ' → Mdl σ' m A (rRw (rAddS f ns x) f) (rSv (rAddS f ns x) f sv n) tx (rNx (rAddS f ns x) n) L → K σ' (rAddS f ns x).2) : CalI w mX3_addShield σ [va_rf (some m), .int x] K := by
  have h3 := hW.2.2.2.2.2
  have h0 := hW.2.2.2.2.1
  refine eX3_addShield _ _ (bX3_addShield_0 _ _ ?_)
  have hM1 : Mdl (sFI σ 18 m 0) m A f sv tx n L := hM.fI (by decide) (by decide)
  have hr := hM.sh.rw 19 343
  simp only [Option.some.injEq, exists_eq_left', exists_eq_left, forall_eq, forall_eq', List.mem_cons, List.not_mem_nil, or_false, or_true, true_or, true_and, and_true, eq_self, Nat.reduceEqDiff, reduceCtorEq, forall_const, true_implies, false_implies, implies_true, not_true_eq_false, not_false_eq_true, false_and, and_false, false_or, if_true, if_false, kd_sFI, ln_sFI, FI_sFI, FR_sFI, AI_sFI, AR_sFI, nx_sFI, kd_sFR, ln_sFR, FI_sFR, FR_sFR, AI_sFR, AR_sFR, nx_sFR, kd_sAI, ln_sAI, FI_sAI, FR_sAI, AI_sAI, AR_sAI, nx_sAI, kd_sAR, ln_sAR, FI_sAR, FR_sAR, AI_sAR, AR_sAR, nx_sAR, kd_sAIs, ln_sAIs, FI_sAIs, FR_sAIs, AR_sAIs, nx_sAIs, kd_sARs, ln_sARs, FI_sARs, FR_sARs, AI_sARs, nx_sARs, kd_nO, ln_nO, FI_nO, FR_nO, AI_nO, AR_nO, nx_nO, kd_nA, ln_nA, FI_nA, FR_nA, AI_nA, AR_nA, nx_nA, hM.sh.kd]
  refine c_in (fun a1 a2 _ => ⟨fun _ => ?_, fun h => absurd h (by decide)⟩) (fun a _ => ⟨fun h => absurd rfl h, fun _ => ?_⟩)
  · unfold rAddS at hK
    rw [if_neg (fun q => q ⟨a1, a2⟩)] at hK
    simp only [Option.some.injEq, exists_eq_left', exists_eq_left, forall_eq, forall_eq', List.mem_cons, List.not_mem_nil, or_false, or_true, true_or, true_and, and_true, eq_self, Nat.reduceEqDiff, reduceCtorEq, forall_const, true_implies, false_implies, implies_true, not_true_eq_false, not_false_eq_true, false_and, and_false, false_or, if_true, if_false, kd_sFI, ln_sFI, FI_sFI, FR_sFI, AI_sFI, AR_sFI, nx_sFI, kd_sFR, ln_sFR, FI_sFR, FR_sFR, AI_sFR, AR_sFR, nx_sFR, kd_sAI, ln_sAI, FI_sAI, FR_sAI, AI_sAI, AR_sAI, nx_sAI, kd_sAR, ln_sAR, FI_sAR, FR_sAR, AI_sAR, AR_sAR, nx_sAR, kd_sAIs, ln_sAIs, FI_sAIs, FR_sAIs, AR_sAIs, nx_sAIs, kd_sARs, ln_sARs, FI_sARs, FR_sARs, AI_sARs, nx_sARs, kd_nO, ln_nO, FI_nO, FR_nO, AI_nO, AR_nO, nx_nO, kd_nA, ln_nA, FI_nA, FR_nA, AI_nA, AR_nA, nx_nA, hM.sh.fr 19, hr.1, hr.2, v0, cl0, hM.eF, h0]
    refine ⟨fun h => ?_, fun h => ?_⟩
    · rw [if_neg (fun q => h (by rw [q]; rfl))] at hK
      have h2 : ns < 3 := by
        rcases Nat.lt_or_ge ns 3 with q | q
        · exact q
        · exact absurd (by rw [Nat.le_antisymm h3 q]; rfl) h
      refine c_act hM1 hn (fun σ1 F1 D1 _ => ?_)
      have hr1 := D1.sh.rw 19 343
      have e : 150 + nI ns = nI (150 + ns) := nI_add 150 ns
      have e3 : upd f (150 + ns) x 0 = nI ns := by rw [pk_un (by omega)]; exact h0
      simp only [Option.some.injEq, exists_eq_left', exists_eq_left, forall_eq, forall_eq', List.mem_cons, List.not_mem_nil, or_false, or_true, true_or, true_and, and_true, eq_self, Nat.reduceEqDiff, reduceCtorEq, forall_const, true_implies, false_implies, implies_true, not_true_eq_false, not_false_eq_true, false_and, and_false, false_or, if_true, if_false, kd_sFI, ln_sFI, FI_sFI, FR_sFI, AI_sFI, AR_sFI, nx_sFI, kd_sFR, ln_sFR, FI_sFR, FR_sFR, AI_sFR, AR_sFR, nx_sFR, kd_sAI, ln_sAI, FI_sAI, FR_sAI, AI_sAI, AR_sAI, nx_sAI, kd_sAR, ln_sAR, FI_sAR, FR_sAR, AI_sAR, AR_sAR, nx_sAR, kd_sAIs, ln_sAIs, FI_sAIs, FR_sAIs, AR_sAIs, nx_sAIs, kd_sARs, ln_sARs, FI_sARs, FR_sARs, AI_sARs, nx_sARs, kd_nO, ln_nO, FI_nO, FR_nO, AI_nO, AR_nO, nx_nO, kd_nA, ln_nA, FI_nA, FR_nA, AI_nA, AR_nA, nx_nA, D1.sh.fr 19, hr1.1, hr1.2, v0, cl0, D1.eF, h0, e, nI_clamp (show 150 + ns < 2 ^ 31 by omega), vpN (show 150 + ns < 343 by omega) (by decide), sAI_eq, sAIs_sAIs, AI_self, e3, eq_false (show ¬ 0 = 150 + ns by omega), nI_1, pk_us]
      exact hK _ (MF.rf.fI.trans (F1.row 19)) (D1.row _)
    · rw [if_pos (nI_inj h (by omega) (by decide))] at hK
      exact hK _ MF.rf.fI hM1
  · unfold rAddS at hK
    rw [if_pos (fun q => a q)] at hK
    exact hK _ MF.rf.fI hM1
theorem c_takeOff3 {x y : Int32} {K : Sg → Int32 → Prop} (hM : Mdl σ m A f sv tx n L) (hn : n ≤ 5) (hW : WfN f np no ns)
    (hK : ∀ σ', MF m A σ σ' → Mdl σ' m A (rRw (rTake f np ns x y) f) (rSv (rTake f np ns x y) f sv n) tx (rNx (rTake f np ns x y) n) L → K σ' (rTake f np ns x y).2) : CalI w mX3_takeOff σ [va_rf (some m), .int x, .int y] K := by
  have h20 := hW.2.1
  refine eX3_takeOff _ _ _ (bX3_takeOff_0 _ _ _ ?_)
  have hM1 : Mdl (sFI σ 18 m 0) m A f sv tx n L := hM.fI (by decide) (by decide)
  have hr := hM.sh.rw 19 343
  simp only [Option.some.injEq, exists_eq_left', exists_eq_left, forall_eq, forall_eq', List.mem_cons, List.not_mem_nil, or_false, or_true, true_or, true_and, and_true, eq_self, Nat.reduceEqDiff, reduceCtorEq, forall_const, true_implies, false_implies, implies_true, not_true_eq_false, not_false_eq_true, false_and, and_false, false_or, if_true, if_false, kd_sFI, ln_sFI, FI_sFI, FR_sFI, AI_sFI, AR_sFI, nx_sFI, kd_sFR, ln_sFR, FI_sFR, FR_sFR, AI_sFR, AR_sFR, nx_sFR, kd_sAI, ln_sAI, FI_sAI, FR_sAI, AI_sAI, AR_sAI, nx_sAI, kd_sAR, ln_sAR, FI_sAR, FR_sAR, AI_sAR, AR_sAR, nx_sAR, kd_sAIs, ln_sAIs, FI_sAIs, FR_sAIs, AR_sAIs, nx_sAIs, kd_sARs, ln_sARs, FI_sARs, FR_sARs, AI_sARs, nx_sARs, kd_nO, ln_nO, FI_nO, FR_nO, AI_nO, AR_nO, nx_nO, kd_nA, ln_nA, FI_nA, FR_nA, AI_nA, AR_nA, nx_nA, hM.sh.kd]
  refine c_isShield3 hM1 hW.2.2.2.2.1 (by have := hW.2.2.2.2.2; omega) (fun p hp hx _ => ⟨fun h => absurd h (by decide), fun _ => ?_⟩) (fun hx _ => ⟨fun _ => ?_, fun h => absurd rfl h⟩)
  · refine c_isYear (fun y1 y2 _ => ⟨fun _ => ?_, fun h => absurd h (by decide)⟩) (fun hy _ => ⟨fun h => absurd rfl h, fun _ => ?_⟩)
    · unfold rTake at hK
      rw [iteP_t ⟨⟨p, hp, hx⟩, y1, y2⟩] at hK
      simp only [Option.some.injEq, exists_eq_left', exists_eq_left, forall_eq, forall_eq', List.mem_cons, List.not_mem_nil, or_false, or_true, true_or, true_and, and_true, eq_self, Nat.reduceEqDiff, reduceCtorEq, forall_const, true_implies, false_implies, implies_true, not_true_eq_false, not_false_eq_true, false_and, and_false, false_or, if_true, if_false, kd_sFI, ln_sFI, FI_sFI, FR_sFI, AI_sFI, AR_sFI, nx_sFI, kd_sFR, ln_sFR, FI_sFR, FR_sFR, AI_sFR, AR_sFR, nx_sFR, kd_sAI, ln_sAI, FI_sAI, FR_sAI, AI_sAI, AR_sAI, nx_sAI, kd_sAR, ln_sAR, FI_sAR, FR_sAR, AI_sAR, AR_sAR, nx_sAR, kd_sAIs, ln_sAIs, FI_sAIs, FR_sAIs, AR_sAIs, nx_sAIs, kd_sARs, ln_sARs, FI_sARs, FR_sARs, AI_sARs, nx_sARs, kd_nO, ln_nO, FI_nO, FR_nO, AI_nO, AR_nO, nx_nO, kd_nA, ln_nA, FI_nA, FR_nA, AI_nA, AR_nA, nx_nA, hM.sh.fr 19]
      refine c_plateOn (σ := sFI σ 18 m 0) (N := np) hr (by rw [AI_sFI, hM.eF]; exact hW.1) h20 (fun _ => ?_)
      rw [AI_sFI, hM.eF]
      cases e : pOn f x y np with
      | none => rw [e] at hK; exact ⟨fun h => absurd rfl h, fun _ => hK _ MF.rf.fI hM1⟩
      | some q =>
        rw [e] at hK
        have hq := pOn_lt e
        refine ⟨fun _ => ?_, fun h => absurd h (m9n (by omega))⟩
        refine c_act hM1 hn (fun σ1 F1 D1 _ => ?_)
        rw [D1.sh.fr 19]
        refine c_setPl D1 (p := q) rfl (k := 2) rfl (by omega) (fun σ2 F2 D2 _ => ?_)
        exact hK σ2 (MF.rf.fI.trans (F1.trans F2)) D2
    · unfold rTake at hK
      rw [iteP_f (fun q => hy q.2)] at hK
      exact hK _ MF.rf.fI hM1
  · unfold rTake at hK
    rw [iteP_f (fun q => nInR hx q.1)] at hK
    exact hK _ MF.rf.fI hM1
theorem c_append3 {x : Int32} {K : Sg → Int32 → Prop} (hM : Mdl σ m A f sv tx n L) (hL : L ≤ 12)
    (h1 : ∀ σ', MF m A σ σ' → ¬ (97 ≤ x ∧ x ≤ 122) → Mdl σ' m A f sv tx n L → K σ' (-1))
    (h2 : ∀ σ', MF m A σ σ' → (97 ≤ x ∧ x ≤ 122) → L = 12 → Mdl σ' m A f sv tx n L → K σ' (-3))
    (h3 : ∀ σ', MF m A σ σ' → (97 ≤ x ∧ x ≤ 122) → L < 12 → Mdl σ' m A f sv (upd tx L x) n (L + 1) → K σ' (nI (L + 1))) : CalI w mX3_append σ [va_rf (some m), .int x] K := by
  refine eX3_append _ _ (bX3_append_0 _ _ ?_)
  have hM1 : Mdl (sFI σ 18 m 0) m A f sv tx n L := hM.fI (by decide) (by decide)
  simp only [Option.some.injEq, exists_eq_left', exists_eq_left, forall_eq, forall_eq', List.mem_cons, List.not_mem_nil, or_false, or_true, true_or, true_and, and_true, eq_self, Nat.reduceEqDiff, reduceCtorEq, forall_const, true_implies, false_implies, implies_true, not_true_eq_false, not_false_eq_true, false_and, and_false, false_or, if_true, if_false, kd_sFI, ln_sFI, FI_sFI, FR_sFI, AI_sFI, AR_sFI, nx_sFI, kd_sFR, ln_sFR, FI_sFR, FR_sFR, AI_sFR, AR_sFR, nx_sFR, kd_sAI, ln_sAI, FI_sAI, FR_sAI, AI_sAI, AR_sAI, nx_sAI, kd_sAR, ln_sAR, FI_sAR, FR_sAR, AI_sAR, AR_sAR, nx_sAR, kd_sAIs, ln_sAIs, FI_sAIs, FR_sAIs, AR_sAIs, nx_sAIs, kd_sARs, ln_sARs, FI_sARs, FR_sARs, AI_sARs, nx_sARs, kd_nO, ln_nO, FI_nO, FR_nO, AI_nO, AR_nO, nx_nO, kd_nA, ln_nA, FI_nA, FR_nA, AI_nA, AR_nA, nx_nA, hM.sh.kd]
  refine c_in (fun a1 a2 _ => ⟨fun _ => ⟨fun h => ?_, fun h => ?_⟩, fun h => absurd h (by decide)⟩) (fun a _ => ⟨fun h => absurd rfl h, fun _ => ?_⟩)
  · have e : FI (sFI σ 18 m 0) 24 m = nI L := hM1.eL
    rw [e] at h
    have hL2 : L < 12 := by
      rcases Nat.lt_or_ge L 12 with q | q
      · exact q
      · exact absurd (by rw [Nat.le_antisymm hL q]; rfl) h
    have hr := hM.sh.rw 23 12
    simp only [Option.some.injEq, exists_eq_left', exists_eq_left, forall_eq, forall_eq', List.mem_cons, List.not_mem_nil, or_false, or_true, true_or, true_and, and_true, eq_self, Nat.reduceEqDiff, reduceCtorEq, forall_const, true_implies, false_implies, implies_true, not_true_eq_false, not_false_eq_true, false_and, and_false, false_or, if_true, if_false, kd_sFI, ln_sFI, FI_sFI, FR_sFI, AI_sFI, AR_sFI, nx_sFI, kd_sFR, ln_sFR, FI_sFR, FR_sFR, AI_sFR, AR_sFR, nx_sFR, kd_sAI, ln_sAI, FI_sAI, FR_sAI, AI_sAI, AR_sAI, nx_sAI, kd_sAR, ln_sAR, FI_sAR, FR_sAR, AI_sAR, AR_sAR, nx_sAR, kd_sAIs, ln_sAIs, FI_sAIs, FR_sAIs, AR_sAIs, nx_sAIs, kd_sARs, ln_sARs, FI_sARs, FR_sARs, AI_sARs, nx_sARs, kd_nO, ln_nO, FI_nO, FR_nO, AI_nO, AR_nO, nx_nO, kd_nA, ln_nA, FI_nA, FR_nA, AI_nA, AR_nA, nx_nA, hM.sh.fr 23, hr.1, hr.2, hM.eL, nI_clamp (show L < 2 ^ 31 by omega), vpN hL2 (by decide), nI_1]
    rw [sAI_eq, sFI_eq]
    refine h3 _ ((MF.rf.fI.row 23).fld) ⟨a1, a2⟩ hL2 ?_
    have := hM1.txt (upd tx L x)
    rw [show AI (sFI σ 18 m 0) (A 23) = tx from hM1.eT]
    exact this.fld (by rw [pk_un (by decide)]; exact this.eN) pk_us
  · have e : FI (sFI σ 18 m 0) 24 m = nI L := hM1.eL
    rw [e] at h
    exact h2 _ MF.rf.fI ⟨a1, a2⟩ (nI_inj h (by omega) (by decide)) hM1
  · exact h1 _ MF.rf.fI a hM1
theorem c_clearText3 {K : Sg → Int32 → Prop} (hM : Mdl σ m A f sv tx n L) (hK : ∀ σ', MF m A σ σ' → Mdl σ' m A f sv tx n 0 → K σ' (nI L)) : CalI w mX3_clearText σ [va_rf (some m)] K := by
  refine eX3_clearText _ (bX3_clearText_0 _ ?_)
  have hM1 : Mdl (sFI σ 18 m 0) m A f sv tx n L := hM.fI (by decide) (by decide)
  have e : FI (sFI σ 18 m 0) 24 m = nI L := hM1.eL
  simp only [Option.some.injEq, exists_eq_left', forall_eq, hM.sh.kd, true_and, e]
  refine hK _ MF.rf.fI.fI ?_
  rw [sFI_eq]
  exact hM1.fld (by rw [pk_un (by decide)]; exact hM1.eN) pk_us
end model8
