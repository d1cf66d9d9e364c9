/-! the model's calls, 3: what looks only; undo -/
set_option maxRecDepth 100000
section model9
variable {w : Wt} {σ : Sg} {m n L : Nat} {A : Nat → Nat} {f sv tx : Nat → Int32} {np no ns : Nat}
theorem c_undo3 {K : Sg → Int32 → Prop} (hM : Mdl σ m A f sv tx n L) (hn : n ≤ 5)
    (h1 : ∀ σ', MF m A σ σ' → n = 0 → Mdl σ' m A f sv tx n L → K σ' (-2))
    (h2 : ∀ σ', MF m A σ σ' → 0 < n → Mdl σ' m A (svR f sv n) sv tx (n - 1) L → K σ' (nI (n - 1))) : CalI w mX3_undo σ [va_rf (some m)] K := by
  refine eX3_undo _ (bX3_undo_0 _ ?_)
  have hM1 : Mdl (sFI σ 18 m 0) m A f sv tx n L := hM.fI (by decide) (by decide)
  have e : FI (sFI σ 18 m 0) 22 m = nI n := hM1.eN
  simp only [Option.some.injEq, exists_eq_left', forall_eq, hM.sh.kd, true_and, e]
  refine ⟨fun h => ?_, fun h => ?_⟩
  · have hn0 : 0 < n := by
      rcases Nat.eq_zero_or_pos n with q | q
      · exact absurd (by rw [q]; rfl) h
      · exact q
    have e1 : nI n - 1 = nI (n - 1) := pk_sub (b := 1) hn0
    have hM2 : Mdl (sFI (sFI σ 18 m 0) 22 m (nI n - 1)) m A f sv tx (n - 1) L := by
      rw [sFI_eq, e1]
      exact hM1.fld pk_us (by rw [pk_un (by decide)]; exact hM1.eL)
    have F2 : MF m A σ (sFI (sFI σ 18 m 0) 22 m (nI n - 1)) := MF.rf.fI.fI
    generalize sFI (sFI σ 18 m 0) 22 m (nI n - 1) = τ at hM2 F2
    let g : Nat → Nat → Int32 := fun i k => if k < i then sv (343 * (n - 1) + k) else f k
    have g0 : g 0 = f := by funext k; exact if_neg (by omega)
    have gs : ∀ i, upd (g i) i (sv (343 * (n - 1) + i)) = g (i + 1) := fun i => by
      funext k
      show _ = (if k < i + 1 then _ else _)
      by_cases e : k = i
      · subst e; rw [pk_us, if_pos (by omega)]
      · rw [pk_un e]; exact ifc (by omega)
    have key := upL (P := fun i => G w mX3_undo (KI K) 0 0 (sAIs τ (A 19) (g i)) 27 [va_rf (some m), .int (nI i)] []) (N := 343) ?_ ?_
    · rw [g0, ← hM2.eF, sAIs_rfl] at key; exact key
    · have D := hM2.row (g 343)
      refine bX3_undo_27 _ _ ⟨fun _ => ?_, fun h => absurd (nI_le (Nat.le_refl 343) (by decide)) h⟩
      simp only [Option.some.injEq, exists_eq_left', exists_eq_left, forall_eq, forall_eq', List.mem_cons, List.not_mem_nil, or_false, or_true, true_or, true_and, and_true, eq_self, Nat.reduceEqDiff, reduceCtorEq, forall_const, true_implies, false_implies, implies_true, not_true_eq_false, not_false_eq_true, false_and, and_false, false_or, if_true, if_false, kd_sFI, ln_sFI, FI_sFI, FR_sFI, AI_sFI, AR_sFI, nx_sFI, kd_sFR, ln_sFR, FI_sFR, FR_sFR, AI_sFR, AR_sFR, nx_sFR, kd_sAI, ln_sAI, FI_sAI, FR_sAI, AI_sAI, AR_sAI, nx_sAI, kd_sAR, ln_sAR, FI_sAR, FR_sAR, AI_sAR, AR_sAR, nx_sAR, kd_sAIs, ln_sAIs, FI_sAIs, FR_sAIs, AR_sAIs, nx_sAIs, kd_sARs, ln_sARs, FI_sARs, FR_sARs, AI_sARs, nx_sARs, kd_nO, ln_nO, FI_nO, FR_nO, AI_nO, AR_nO, nx_nO, kd_nA, ln_nA, FI_nA, FR_nA, AI_nA, AR_nA, nx_nA, hM2.sh.kd, hM2.eN]
      exact h2 _ (F2.row 19) hn0 D
    · intro i hi ih
      refine bX3_undo_27 _ _ ⟨fun h => absurd h (nI_ge (b := 343) hi (by decide)), fun _ => ?_⟩
      have e3 : 343 * nI (n - 1) + nI i = nI (343 * (n - 1) + i) := by rw [← nI_add, ← pk_mul]; rfl
      have hr := hM2.sh.rw 19 343
      have hr2 := hM2.sh.rw 21 1715
      simp only [Option.some.injEq, exists_eq_left', exists_eq_left, forall_eq, forall_eq', List.mem_cons, List.not_mem_nil, or_false, or_true, true_or, true_and, and_true, eq_self, Nat.reduceEqDiff, reduceCtorEq, forall_const, true_implies, false_implies, implies_true, not_true_eq_false, not_false_eq_true, false_and, and_false, false_or, if_true, if_false, kd_sFI, ln_sFI, FI_sFI, FR_sFI, AI_sFI, AR_sFI, nx_sFI, kd_sFR, ln_sFR, FI_sFR, FR_sFR, AI_sFR, AR_sFR, nx_sFR, kd_sAI, ln_sAI, FI_sAI, FR_sAI, AI_sAI, AR_sAI, nx_sAI, kd_sAR, ln_sAR, FI_sAR, FR_sAR, AI_sAR, AR_sAR, nx_sAR, kd_sAIs, ln_sAIs, FI_sAIs, FR_sAIs, AR_sAIs, nx_sAIs, kd_sARs, ln_sARs, FI_sARs, FR_sARs, AI_sARs, nx_sARs, kd_nO, ln_nO, FI_nO, FR_nO, AI_nO, AR_nO, nx_nO, kd_nA, ln_nA, FI_nA, FR_nA, AI_nA, AR_nA, nx_nA, hM2.sh.kd, hM2.sh.fr 19, hM2.sh.fr 21, hr.1, hr.2, hr2.1, hr2.2, hM2.eN, e3, nI_clamp (show i < 2 ^ 31 by omega), vpN hi (by decide), nI_clamp (show 343 * (n - 1) + i < 2 ^ 31 by omega), vpN (show 343 * (n - 1) + i < 1715 by omega) (by decide), AI_ne (hM2.sh.ne 21 19), hM2.eS, AI_self, sAI_eq, sAIs_sAIs, gs]
      rw [nI_succ] at ih; exact ih
  · exact h1 _ MF.rf.fI (nI_inj h (by omega) (by decide)) hM1
theorem c_count3 {x : Int32} {K : Sg → Int32 → Prop} (hM : Mdl σ m A f sv tx n L) (hW : WfN f np no ns)
    (hK : ∀ σ', MF m A σ σ' → Mdl σ' m A f sv tx n L → K σ' (rCount f np no n L x)) : CalI w mX3_count σ [va_rf (some m), .int x] K := by
  have hr := hM.sh.rw 19 343
  have hM1 : Mdl (sFI σ 18 m 0) m A f sv tx n L := hM.fI (by decide) (by decide)
  refine eX3_count _ _ (bX3_count_0 _ _ ?_)
  have hK := hK _ MF.rf.fI hM1
  unfold rCount at hK
  have e22 : FI (sFI σ 18 m 0) 22 m = nI n := hM1.eN
  have e24 : FI (sFI σ 18 m 0) 24 m = nI L := hM1.eL
  have ps : (x = 0 ∨ x = 1 ∨ x = 2 ∨ x = 3) → CalI w mX3_platesIn (sFI σ 18 m 0) [va_rf (some (A 19)), .int x] (fun s40 x41 => Ext (sFI σ 18 m 0) s40 → K s40 x41) := by
    intro h
    rw [if_pos h] at hK
    refine c_platesIn (σ := sFI σ 18 m 0) (N := np) hr (by rw [AI_sFI, hM.eF]; exact hW.1) hW.2.1 (fun _ => ?_)
    rw [AI_sFI, hM.eF]; exact hK
  have rs : x = 7 → CalI w mX3_rushes (sFI σ 18 m 0) [va_rf (some (A 19))] (fun s40 x41 => Ext (sFI σ 18 m 0) s40 → K s40 x41) := by
    intro h
    subst h
    refine c_rushes3 (σ := sFI σ 18 m 0) (N := no) hr (by rw [AI_sFI, hM.eF]; exact hW.2.2.1) hW.2.2.2.1 (fun _ => ?_)
    rw [AI_sFI, hM.eF]; exact hK
  simp only [Option.some.injEq, exists_eq_left', forall_eq, true_and, hM.sh.kd, FR_sFI, kd_sFI, ln_sFI, AI_sFI, hM.sh.fr 19, hr.1, hr.2, List.mem_cons, List.not_mem_nil, or_false, true_or, v0, v1, v2, v3, v4, v5, v7, v8, v9, cl0, cl1, cl2, cl3, cl4, cl5, cl7, cl8, cl9, hM.eF, e22, e24]
  refine ⟨fun h9 => ?_, fun h9 => ?_⟩
  · refine ⟨ps, ?_, ?_, ?_, rs, ?_, ?_, ?_, ?_, ?_, ?_, ?_, ?_, fun h => ?_⟩
    · intro h; subst h; exact hK
    · intro h; subst h; exact hK
    · intro h; subst h; exact hK
    · intro h; subst h; exact hK
    · intro h; subst h; rw [if_pos h9] at hK; exact hK
    · intro h; subst h; exact hK
    · intro h; subst h; exact hK
    · intro h; subst h; exact hK
    · intro h; subst h; exact hK
    · intro h; subst h; exact hK
    · intro h; subst h; exact hK
    · simp only [h, or_self, if_false] at hK; exact hK
  · refine ⟨ps, ?_, ?_, ?_, rs, ?_, ?_, ?_, ?_, ?_, ?_, ?_, ?_, fun h => ?_⟩
    · intro h; subst h; exact hK
    · intro h; subst h; exact hK
    · intro h; subst h; exact hK
    · intro h; subst h; exact hK
    · intro h; subst h; rw [if_neg h9] at hK; exact hK
    · intro h; subst h; exact hK
    · intro h; subst h; exact hK
    · intro h; subst h; exact hK
    · intro h; subst h; exact hK
    · intro h; subst h; exact hK
    · intro h; subst h; exact hK
    · simp only [h, or_self, if_false] at hK; exact hK
theorem c_plate3 {x y : Int32} {K : Sg → Int32 → Prop} (hM : Mdl σ m A f sv tx n L) (hW : WfN f np no ns)
    (hK : ∀ σ', MF m A σ σ' → Mdl σ' m A f sv tx n L → K σ' (rPlate f np x y)) : CalI w mX3_plate σ [va_rf (some m), .int x, .int y] K := by
  have h20 := hW.2.1
  have hM1 : Mdl (sFI σ 18 m 0) m A f sv tx n L := hM.fI (by decide) (by decide)
  refine eX3_plate _ _ _ (bX3_plate_0 _ _ _ ?_)
  have hK := hK _ MF.rf.fI hM1
  unfold rPlate at hK
  simp only [Option.some.injEq, exists_eq_left', exists_eq_left, forall_eq, forall_eq', List.mem_cons, List.not_mem_nil, or_false, or_true, true_or, true_and, and_true, eq_self, Nat.reduceEqDiff, reduceCtorEq, forall_const, true_implies, false_implies, implies_true, not_true_eq_false, not_false_eq_true, false_and, and_false, false_or, if_true, if_false, kd_sFI, ln_sFI, FI_sFI, FR_sFI, AI_sFI, AR_sFI, nx_sFI, kd_sFR, ln_sFR, FI_sFR, FR_sFR, AI_sFR, AR_sFR, nx_sFR, kd_sAI, ln_sAI, FI_sAI, FR_sAI, AI_sAI, AR_sAI, nx_sAI, kd_sAR, ln_sAR, FI_sAR, FR_sAR, AI_sAR, AR_sAR, nx_sAR, kd_sAIs, ln_sAIs, FI_sAIs, FR_sAIs, AR_sAIs, nx_sAIs, kd_sARs, ln_sARs, FI_sARs, FR_sARs, AI_sARs, nx_sARs, kd_nO, ln_nO, FI_nO, FR_nO, AI_nO, AR_nO, nx_nO, kd_nA, ln_nA, FI_nA, FR_nA, AI_nA, AR_nA, nx_nA, hM.sh.kd]
  refine c_isPlate3 hM1 hW.1 h20 (fun p hp hx _ => ⟨fun h => absurd h (by decide), fun _ => ?_⟩) (fun hx _ => ⟨fun _ => ?_, fun h => absurd rfl h⟩)
  · refine cInR (N := 7) rfl rfl (by decide) (fun s hs hy _ => ⟨fun _ => ⟨fun h4 => ?_, fun h4 => ?_⟩, fun h => absurd h (by decide)⟩) (fun hy _ => ⟨fun h => absurd rfl h, fun _ => ?_⟩)
    · subst hx hy
      rw [iteP_t ⟨⟨p, hp, rfl⟩, s, hs, rfl⟩, nI_clamp (by omega), nI_clamp (by omega), if_neg (fun q => q.1 h4)] at hK
      simp only [Option.some.injEq, exists_eq_left', exists_eq_left, forall_eq, forall_eq', List.mem_cons, List.not_mem_nil, or_false, or_true, true_or, true_and, and_true, eq_self, Nat.reduceEqDiff, reduceCtorEq, forall_const, true_implies, false_implies, implies_true, not_true_eq_false, not_false_eq_true, false_and, and_false, false_or, if_true, if_false, kd_sFI, ln_sFI, FI_sFI, FR_sFI, AI_sFI, AR_sFI, nx_sFI, kd_sFR, ln_sFR, FI_sFR, FR_sFR, AI_sFR, AR_sFR, nx_sFR, kd_sAI, ln_sAI, FI_sAI, FR_sAI, AI_sAI, AR_sAI, nx_sAI, kd_sAR, ln_sAR, FI_sAR, FR_sAR, AI_sAR, AR_sAR, nx_sAR, kd_sAIs, ln_sAIs, FI_sAIs, FR_sAIs, AR_sAIs, nx_sAIs, kd_sARs, ln_sARs, FI_sARs, FR_sARs, AI_sARs, nx_sARs, kd_nO, ln_nO, FI_nO, FR_nO, AI_nO, AR_nO, nx_nO, kd_nA, ln_nA, FI_nA, FR_nA, AI_nA, AR_nA, nx_nA, hM.sh.fr 19]
      exact c_ofPl hM1 rfl rfl (by omega) (fun _ => hK)
    · subst hx hy
      rw [iteP_t ⟨⟨p, hp, rfl⟩, s, hs, rfl⟩, nI_clamp (by omega), nI_clamp (by omega)] at hK
      simp only [Option.some.injEq, exists_eq_left', exists_eq_left, forall_eq, forall_eq', List.mem_cons, List.not_mem_nil, or_false, or_true, true_or, true_and, and_true, eq_self, Nat.reduceEqDiff, reduceCtorEq, forall_const, true_implies, false_implies, implies_true, not_true_eq_false, not_false_eq_true, false_and, and_false, false_or, if_true, if_false, kd_sFI, ln_sFI, FI_sFI, FR_sFI, AI_sFI, AR_sFI, nx_sFI, kd_sFR, ln_sFR, FI_sFR, FR_sFR, AI_sFR, AR_sFR, nx_sFR, kd_sAI, ln_sAI, FI_sAI, FR_sAI, AI_sAI, AR_sAI, nx_sAI, kd_sAR, ln_sAR, FI_sAR, FR_sAR, AI_sAR, AR_sAR, nx_sAR, kd_sAIs, ln_sAIs, FI_sAIs, FR_sAIs, AR_sAIs, nx_sAIs, kd_sARs, ln_sARs, FI_sARs, FR_sARs, AI_sARs, nx_sARs, kd_nO, ln_nO, FI_nO, FR_nO, AI_nO, AR_nO, nx_nO, kd_nA, ln_nA, FI_nA, FR_nA, AI_nA, AR_nA, nx_nA, hM.sh.fr 19]
      refine c_ofPl hM1 (p := p) rfl (k := 2) rfl (by omega) (fun _ => ⟨fun h => ?_, fun h => ?_⟩)
      · rw [if_neg (fun q => q.2 h)] at hK
        simp only [Option.some.injEq, exists_eq_left', exists_eq_left, forall_eq, forall_eq', List.mem_cons, List.not_mem_nil, or_false, or_true, true_or, true_and, and_true, eq_self, Nat.reduceEqDiff, reduceCtorEq, forall_const, true_implies, false_implies, implies_true, not_true_eq_false, not_false_eq_true, false_and, and_false, false_or, if_true, if_false, kd_sFI, ln_sFI, FI_sFI, FR_sFI, AI_sFI, AR_sFI, nx_sFI, kd_sFR, ln_sFR, FI_sFR, FR_sFR, AI_sFR, AR_sFR, nx_sFR, kd_sAI, ln_sAI, FI_sAI, FR_sAI, AI_sAI, AR_sAI, nx_sAI, kd_sAR, ln_sAR, FI_sAR, FR_sAR, AI_sAR, AR_sAR, nx_sAR, kd_sAIs, ln_sAIs, FI_sAIs, FR_sAIs, AR_sAIs, nx_sAIs, kd_sARs, ln_sARs, FI_sARs, FR_sARs, AI_sARs, nx_sARs, kd_nO, ln_nO, FI_nO, FR_nO, AI_nO, AR_nO, nx_nO, kd_nA, ln_nA, FI_nA, FR_nA, AI_nA, AR_nA, nx_nA, hM.sh.fr 19]
        exact c_ofPl hM1 rfl rfl (by omega) (fun _ => hK)
      · rw [if_pos ⟨h4, h⟩] at hK; exact hK
    · rw [iteP_f (fun q => nInR hy q.2)] at hK; exact hK
  · rw [iteP_f (fun q => nInR hx q.1)] at hK; exact hK
theorem c_shield3 {x y : Int32} {K : Sg → Int32 → Prop} (hM : Mdl σ m A f sv tx n L) (hW : WfN f np no ns)
    (hK : ∀ σ', MF m A σ σ' → Mdl σ' m A f sv tx n L → K σ' (rShield f np ns x y)) : CalI w mX3_shield σ [va_rf (some m), .int x, .int y] K := by
  have h20 := hW.2.1
  have h3 := hW.2.2.2.2.2
  have hr := hM.sh.rw 19 343
  have hM1 : Mdl (sFI σ 18 m 0) m A f sv tx n L := hM.fI (by decide) (by decide)
  refine eX3_shield _ _ _ (bX3_shield_0 _ _ _ ?_)
  have hK := hK _ MF.rf.fI hM1
  unfold rShield at hK
  simp only [Option.some.injEq, exists_eq_left', exists_eq_left, forall_eq, forall_eq', List.mem_cons, List.not_mem_nil, or_false, or_true, true_or, true_and, and_true, eq_self, Nat.reduceEqDiff, reduceCtorEq, forall_const, true_implies, false_implies, implies_true, not_true_eq_false, not_false_eq_true, false_and, and_false, false_or, if_true, if_false, kd_sFI, ln_sFI, FI_sFI, FR_sFI, AI_sFI, AR_sFI, nx_sFI, kd_sFR, ln_sFR, FI_sFR, FR_sFR, AI_sFR, AR_sFR, nx_sFR, kd_sAI, ln_sAI, FI_sAI, FR_sAI, AI_sAI, AR_sAI, nx_sAI, kd_sAR, ln_sAR, FI_sAR, FR_sAR, AI_sAR, AR_sAR, nx_sAR, kd_sAIs, ln_sAIs, FI_sAIs, FR_sAIs, AR_sAIs, nx_sAIs, kd_sARs, ln_sARs, FI_sARs, FR_sARs, AI_sARs, nx_sARs, kd_nO, ln_nO, FI_nO, FR_nO, AI_nO, AR_nO, nx_nO, kd_nA, ln_nA, FI_nA, FR_nA, AI_nA, AR_nA, nx_nA, hM.sh.kd]
  refine c_isShield3 hM1 hW.2.2.2.2.1 (by omega) (fun p hp hx _ => ⟨fun h => absurd h (by decide), fun _ => ?_⟩) (fun hx _ => ⟨fun _ => ?_, fun h => absurd rfl h⟩)
  · refine cInR (N := 5) rfl rfl (by decide) (fun s hs hy _ => ⟨fun _ => ?_, fun h => absurd h (by decide)⟩) (fun hy _ => ⟨fun h => absurd rfl h, fun _ => ?_⟩)
    · rw [iteP_t ⟨⟨p, hp, hx⟩, s, hs, hy⟩] at hK
      have z1 : AI (sFI σ 18 m 0) (A 19) 1 = nI np := by rw [AI_sFI, hM.eF]; exact hW.1
      simp only [Option.some.injEq, exists_eq_left', exists_eq_left, forall_eq, forall_eq', List.mem_cons, List.not_mem_nil, or_false, or_true, true_or, true_and, and_true, eq_self, Nat.reduceEqDiff, reduceCtorEq, forall_const, true_implies, false_implies, implies_true, not_true_eq_false, not_false_eq_true, false_and, and_false, false_or, if_true, if_false, kd_sFI, ln_sFI, FI_sFI, FR_sFI, AI_sFI, AR_sFI, nx_sFI, kd_sFR, ln_sFR, FI_sFR, FR_sFR, AI_sFR, AR_sFR, nx_sFR, kd_sAI, ln_sAI, FI_sAI, FR_sAI, AI_sAI, AR_sAI, nx_sAI, kd_sAR, ln_sAR, FI_sAR, FR_sAR, AI_sAR, AR_sAR, nx_sAR, kd_sAIs, ln_sAIs, FI_sAIs, FR_sAIs, AR_sAIs, nx_sAIs, kd_sARs, ln_sARs, FI_sARs, FR_sARs, AI_sARs, nx_sARs, kd_nO, ln_nO, FI_nO, FR_nO, AI_nO, AR_nO, nx_nO, kd_nA, ln_nA, FI_nA, FR_nA, AI_nA, AR_nA, nx_nA, hM.sh.fr 19]
      refine c_platesOn3 (σ := sFI σ 18 m 0) (N := np) hr z1 h20 (fun _ => ?_)
      simp only [Option.some.injEq, exists_eq_left', exists_eq_left, forall_eq, forall_eq', List.mem_cons, List.not_mem_nil, or_false, or_true, true_or, true_and, and_true, eq_self, Nat.reduceEqDiff, reduceCtorEq, forall_const, true_implies, false_implies, implies_true, not_true_eq_false, not_false_eq_true, false_and, and_false, false_or, if_true, if_false, kd_sFI, ln_sFI, FI_sFI, FR_sFI, AI_sFI, AR_sFI, nx_sFI, kd_sFR, ln_sFR, FI_sFR, FR_sFR, AI_sFR, AR_sFR, nx_sFR, kd_sAI, ln_sAI, FI_sAI, FR_sAI, AI_sAI, AR_sAI, nx_sAI, kd_sAR, ln_sAR, FI_sAR, FR_sAR, AI_sAR, AR_sAR, nx_sAR, kd_sAIs, ln_sAIs, FI_sAIs, FR_sAIs, AR_sAIs, nx_sAIs, kd_sARs, ln_sARs, FI_sARs, FR_sARs, AI_sARs, nx_sARs, kd_nO, ln_nO, FI_nO, FR_nO, AI_nO, AR_nO, nx_nO, kd_nA, ln_nA, FI_nA, FR_nA, AI_nA, AR_nA, nx_nA, hM.sh.fr 19]
      refine c_yearOn (σ := sFI σ 18 m 0) (N := np) hr z1 h20 (fun _ => ?_)
      simp only [Option.some.injEq, exists_eq_left', exists_eq_left, forall_eq, forall_eq', List.mem_cons, List.not_mem_nil, or_false, or_true, true_or, true_and, and_true, eq_self, Nat.reduceEqDiff, reduceCtorEq, forall_const, true_implies, false_implies, implies_true, not_true_eq_false, not_false_eq_true, false_and, and_false, false_or, if_true, if_false, kd_sFI, ln_sFI, FI_sFI, FR_sFI, AI_sFI, AR_sFI, nx_sFI, kd_sFR, ln_sFR, FI_sFR, FR_sFR, AI_sFR, AR_sFR, nx_sFR, kd_sAI, ln_sAI, FI_sAI, FR_sAI, AI_sAI, AR_sAI, nx_sAI, kd_sAR, ln_sAR, FI_sAR, FR_sAR, AI_sAR, AR_sAR, nx_sAR, kd_sAIs, ln_sAIs, FI_sAIs, FR_sAIs, AR_sAIs, nx_sAIs, kd_sARs, ln_sARs, FI_sARs, FR_sARs, AI_sARs, nx_sARs, kd_nO, ln_nO, FI_nO, FR_nO, AI_nO, AR_nO, nx_nO, kd_nA, ln_nA, FI_nA, FR_nA, AI_nA, AR_nA, nx_nA, hM.sh.fr 19]
      refine c_yearOn (σ := sFI σ 18 m 0) (N := np) hr z1 h20 (fun _ => ?_)
      subst hx
      rw [nI_clamp (by omega)] at hK
      have e : 150 + nI p = nI (150 + p) := nI_add 150 p
      simp only [Option.some.injEq, exists_eq_left', exists_eq_left, forall_eq, forall_eq', List.mem_cons, List.not_mem_nil, or_false, or_true, true_or, true_and, and_true, eq_self, Nat.reduceEqDiff, reduceCtorEq, forall_const, true_implies, false_implies, implies_true, not_true_eq_false, not_false_eq_true, false_and, and_false, false_or, if_true, if_false, kd_sFI, ln_sFI, FI_sFI, FR_sFI, AI_sFI, AR_sFI, nx_sFI, kd_sFR, ln_sFR, FI_sFR, FR_sFR, AI_sFR, AR_sFR, nx_sFR, kd_sAI, ln_sAI, FI_sAI, FR_sAI, AI_sAI, AR_sAI, nx_sAI, kd_sAR, ln_sAR, FI_sAR, FR_sAR, AI_sAR, AR_sAR, nx_sAR, kd_sAIs, ln_sAIs, FI_sAIs, FR_sAIs, AR_sAIs, nx_sAIs, kd_sARs, ln_sARs, FI_sARs, FR_sARs, AI_sARs, nx_sARs, kd_nO, ln_nO, FI_nO, FR_nO, AI_nO, AR_nO, nx_nO, kd_nA, ln_nA, FI_nA, FR_nA, AI_nA, AR_nA, nx_nA, hM.sh.fr 19, hM.eF, hr.1, hr.2, e, nI_clamp (show 150 + p < 2 ^ 31 by omega), vpN (show 150 + p < 343 by omega) (by decide)]
      refine ⟨fun h => ?_, fun h => ?_, fun h => ?_, fun h => ?_, fun h => ⟨fun h2 => ?_, fun h2 => ?_⟩⟩
      · rw [if_pos h] at hK; exact hK
      · subst h; exact hK
      · subst h; exact hK
      · subst h; exact hK
      · rw [if_neg h.1, if_neg h.2.1, if_neg h.2.2.1, if_neg h.2.2.2, if_neg h2] at hK; exact hK
      · rw [if_neg h.1, if_neg h.2.1, if_neg h.2.2.1, if_neg h.2.2.2, if_pos h2] at hK; exact hK
    · rw [iteP_f (fun q => nInR hy q.2)] at hK; exact hK
  · rw [iteP_f (fun q => nInR hx q.1)] at hK; exact hK
theorem c_plateFor3 {x y : Int32} {K : Sg → Int32 → Prop} (hM : Mdl σ m A f sv tx n L) (hW : WfN f np no ns)
    (hK : ∀ σ', MF m A σ σ' → Mdl σ' m A f sv tx n L → K σ' (rPFor f np ns x y)) : CalI w mX3_plateFor σ [va_rf (some m), .int x, .int y] K := by
  have h3 := hW.2.2.2.2.2
  have hr := hM.sh.rw 19 343
  have hM1 : Mdl (sFI σ 18 m 0) m A f sv tx n L := hM.fI (by decide) (by decide)
  refine eX3_plateFor _ _ _ (bX3_plateFor_0 _ _ _ ?_)
  have hK := hK _ MF.rf.fI hM1
  unfold rPFor at hK
  simp only [Option.some.injEq, exists_eq_left', exists_eq_left, forall_eq, forall_eq', List.mem_cons, List.not_mem_nil, or_false, or_true, true_or, true_and, and_true, eq_self, Nat.reduceEqDiff, reduceCtorEq, forall_const, true_implies, false_implies, implies_true, not_true_eq_false, not_false_eq_true, false_and, and_false, false_or, if_true, if_false, kd_sFI, ln_sFI, FI_sFI, FR_sFI, AI_sFI, AR_sFI, nx_sFI, kd_sFR, ln_sFR, FI_sFR, FR_sFR, AI_sFR, AR_sFR, nx_sFR, kd_sAI, ln_sAI, FI_sAI, FR_sAI, AI_sAI, AR_sAI, nx_sAI, kd_sAR, ln_sAR, FI_sAR, FR_sAR, AI_sAR, AR_sAR, nx_sAR, kd_sAIs, ln_sAIs, FI_sAIs, FR_sAIs, AR_sAIs, nx_sAIs, kd_sARs, ln_sARs, FI_sARs, FR_sARs, AI_sARs, nx_sARs, kd_nO, ln_nO, FI_nO, FR_nO, AI_nO, AR_nO, nx_nO, kd_nA, ln_nA, FI_nA, FR_nA, AI_nA, AR_nA, nx_nA, hM.sh.kd]
  refine c_isShield3 hM1 hW.2.2.2.2.1 (by omega) (fun p hp hx _ => ⟨fun h => absurd h (by decide), fun _ => ?_⟩) (fun hx _ => ⟨fun _ => ?_, fun h => absurd rfl h⟩)
  · refine c_isYear (fun y1 y2 _ => ⟨fun h => absurd h (by decide), fun _ => ?_⟩) (fun hy _ => ⟨fun _ => ?_, fun h => absurd rfl h⟩)
    · rw [iteP_t ⟨⟨p, hp, hx⟩, y1, y2⟩] at hK
      simp only [Option.some.injEq, exists_eq_left', exists_eq_left, forall_eq, forall_eq', List.mem_cons, List.not_mem_nil, or_false, or_true, true_or, true_and, and_true, eq_self, Nat.reduceEqDiff, reduceCtorEq, forall_const, true_implies, false_implies, implies_true, not_true_eq_false, not_false_eq_true, false_and, and_false, false_or, if_true, if_false, kd_sFI, ln_sFI, FI_sFI, FR_sFI, AI_sFI, AR_sFI, nx_sFI, kd_sFR, ln_sFR, FI_sFR, FR_sFR, AI_sFR, AR_sFR, nx_sFR, kd_sAI, ln_sAI, FI_sAI, FR_sAI, AI_sAI, AR_sAI, nx_sAI, kd_sAR, ln_sAR, FI_sAR, FR_sAR, AI_sAR, AR_sAR, nx_sAR, kd_sAIs, ln_sAIs, FI_sAIs, FR_sAIs, AR_sAIs, nx_sAIs, kd_sARs, ln_sARs, FI_sARs, FR_sARs, AI_sARs, nx_sARs, kd_nO, ln_nO, FI_nO, FR_nO, AI_nO, AR_nO, nx_nO, kd_nA, ln_nA, FI_nA, FR_nA, AI_nA, AR_nA, nx_nA, hM.sh.fr 19]
      refine c_plateOn (σ := sFI σ 18 m 0) (N := np) hr (by rw [AI_sFI, hM.eF]; exact hW.1) hW.2.1 (fun _ => ?_)
      rw [AI_sFI, hM.eF]; exact hK
    · rw [iteP_f (fun q => hy q.2)] at hK; exact hK
  · rw [iteP_f (fun q => nInR hx q.1)] at hK; exact hK
theorem c_orderOf3 {x y : Int32} {K : Sg → Int32 → Prop} (hM : Mdl σ m A f sv tx n L) (hW : WfN f np no ns) (hL : WfL f no)
    (hK : ∀ σ', MF m A σ σ' → Mdl σ' m A f sv tx n L → K σ' (rOrdOf f no x y)) : CalI w mX3_orderOf σ [va_rf (some m), .int x, .int y] K := by
  have h10 := hW.2.2.2.1
  have hr := hM.sh.rw 19 343
  have hM1 : Mdl (sFI σ 18 m 0) m A f sv tx n L := hM.fI (by decide) (by decide)
  refine eX3_orderOf _ _ _ (bX3_orderOf_0 _ _ _ ?_)
  have hK := hK _ MF.rf.fI hM1
  unfold rOrdOf at hK
  simp only [Option.some.injEq, exists_eq_left', exists_eq_left, forall_eq, forall_eq', List.mem_cons, List.not_mem_nil, or_false, or_true, true_or, true_and, and_true, eq_self, Nat.reduceEqDiff, reduceCtorEq, forall_const, true_implies, false_implies, implies_true, not_true_eq_false, not_false_eq_true, false_and, and_false, false_or, if_true, if_false, kd_sFI, ln_sFI, FI_sFI, FR_sFI, AI_sFI, AR_sFI, nx_sFI, kd_sFR, ln_sFR, FI_sFR, FR_sFR, AI_sFR, AR_sFR, nx_sFR, kd_sAI, ln_sAI, FI_sAI, FR_sAI, AI_sAI, AR_sAI, nx_sAI, kd_sAR, ln_sAR, FI_sAR, FR_sAR, AI_sAR, AR_sAR, nx_sAR, kd_sAIs, ln_sAIs, FI_sAIs, FR_sAIs, AR_sAIs, nx_sAIs, kd_sARs, ln_sARs, FI_sARs, FR_sARs, AI_sARs, nx_sARs, kd_nO, ln_nO, FI_nO, FR_nO, AI_nO, AR_nO, nx_nO, kd_nA, ln_nA, FI_nA, FR_nA, AI_nA, AR_nA, nx_nA, hM.sh.kd]
  refine c_isOrder3 hM1 hW.2.2.1 (by omega) (fun p hp hx _ => ⟨fun h => absurd h (by decide), fun _ => ?_⟩) (fun hx _ => ⟨fun _ => ?_, fun h => absurd rfl h⟩)
  · refine cInR (N := 8) rfl rfl (by decide) (fun s hs hy _ => ⟨fun _ => ?_, fun h => absurd h (by decide)⟩) (fun hy _ => ⟨fun h => absurd rfl h, fun _ => ?_⟩)
    · rw [iteP_t ⟨⟨p, hp, hx⟩, s, hs, hy⟩] at hK
      subst hx hy
      rw [nI_clamp (by omega), nI_clamp (by omega)] at hK
      obtain ⟨Lp, hL1, hL2⟩ := hL p hp
      simp only [Option.some.injEq, exists_eq_left', exists_eq_left, forall_eq, forall_eq', List.mem_cons, List.not_mem_nil, or_false, or_true, true_or, true_and, and_true, eq_self, Nat.reduceEqDiff, reduceCtorEq, forall_const, true_implies, false_implies, implies_true, not_true_eq_false, not_false_eq_true, false_and, and_false, false_or, if_true, if_false, kd_sFI, ln_sFI, FI_sFI, FR_sFI, AI_sFI, AR_sFI, nx_sFI, kd_sFR, ln_sFR, FI_sFR, FR_sFR, AI_sFR, AR_sFR, nx_sFR, kd_sAI, ln_sAI, FI_sAI, FR_sAI, AI_sAI, AR_sAI, nx_sAI, kd_sAR, ln_sAR, FI_sAR, FR_sAR, AI_sAR, AR_sAR, nx_sAR, kd_sAIs, ln_sAIs, FI_sAIs, FR_sAIs, AR_sAIs, nx_sAIs, kd_sARs, ln_sARs, FI_sARs, FR_sARs, AI_sARs, nx_sARs, kd_nO, ln_nO, FI_nO, FR_nO, AI_nO, AR_nO, nx_nO, kd_nA, ln_nA, FI_nA, FR_nA, AI_nA, AR_nA, nx_nA, hM.sh.fr 19]
      refine ⟨fun h => ⟨fun h2 => ?_, fun h2 => ?_⟩, fun h => ?_⟩
      · rw [if_neg (fun q => q h), if_neg h2] at hK
        refine c_effort3 (σ := sFI σ 18 m 0) (o := p) hr rfl (by omega) (fun _ => ?_)
        rw [AI_sFI, hM.eF]; exact hK
      · rw [if_neg (fun q => q h), if_pos h2] at hK
        refine c_nameLength (σ := sFI σ 18 m 0) (o := p) (L := Lp) hr rfl (by omega) (by rw [AI_sFI, hM.eF]; exact hL1) hL2 (fun _ => ?_)
        rw [AI_sFI, hM.eF]
        unfold nmL at hK; rw [hL1, nI_clamp (by omega)] at hK; exact hK
      · rw [if_pos h] at hK
        have : s ≤ 18 := by omega
        exact c_od hM1 (p := p) (k := s) rfl rfl (by omega) (fun _ => hK)
    · rw [iteP_f (fun q => nInR hy q.2)] at hK; exact hK
  · rw [iteP_f (fun q => nInR hx q.1)] at hK; exact hK
theorem c_letter3 {x y : Int32} {K : Sg → Int32 → Prop} (hM : Mdl σ m A f sv tx n L) (hW : WfN f np no ns) (hL : WfL f no)
    (hK : ∀ σ', MF m A σ σ' → Mdl σ' m A f sv tx n L → K σ' (rLett f no x y)) : CalI w mX3_letter σ [va_rf (some m), .int x, .int y] K := by
  have h10 := hW.2.2.2.1
  have hM1 : Mdl (sFI σ 18 m 0) m A f sv tx n L := hM.fI (by decide) (by decide)
  refine eX3_letter _ _ _ (bX3_letter_0 _ _ _ ?_)
  have hK := hK _ MF.rf.fI hM1
  unfold rLett at hK
  simp only [Option.some.injEq, exists_eq_left', exists_eq_left, forall_eq, forall_eq', List.mem_cons, List.not_mem_nil, or_false, or_true, true_or, true_and, and_true, eq_self, Nat.reduceEqDiff, reduceCtorEq, forall_const, true_implies, false_implies, implies_true, not_true_eq_false, not_false_eq_true, false_and, and_false, false_or, if_true, if_false, kd_sFI, ln_sFI, FI_sFI, FR_sFI, AI_sFI, AR_sFI, nx_sFI, kd_sFR, ln_sFR, FI_sFR, FR_sFR, AI_sFR, AR_sFR, nx_sFR, kd_sAI, ln_sAI, FI_sAI, FR_sAI, AI_sAI, AR_sAI, nx_sAI, kd_sAR, ln_sAR, FI_sAR, FR_sAR, AI_sAR, AR_sAR, nx_sAR, kd_sAIs, ln_sAIs, FI_sAIs, FR_sAIs, AR_sAIs, nx_sAIs, kd_sARs, ln_sARs, FI_sARs, FR_sARs, AI_sARs, nx_sARs, kd_nO, ln_nO, FI_nO, FR_nO, AI_nO, AR_nO, nx_nO, kd_nA, ln_nA, FI_nA, FR_nA, AI_nA, AR_nA, nx_nA, hM.sh.kd]
  refine c_isOrder3 hM1 hW.2.2.1 (by omega) (fun p hp hx _ => ⟨fun h => absurd h (by decide), fun _ => ⟨fun hy => ?_, fun hy => ?_⟩⟩) (fun hx _ => ⟨fun _ => ?_, fun h => absurd rfl h⟩)
  · rw [iteP_t ⟨⟨p, hp, hx⟩, hy⟩] at hK
    obtain ⟨j, hj, rfl⟩ := nI_of (Int32.not_lt.mpr hy)
    subst hx
    rw [nI_clamp (by omega), nI_clamp hj] at hK
    obtain ⟨Lp, hL1, hL2⟩ := hL p hp
    simp only [Option.some.injEq, exists_eq_left', exists_eq_left, forall_eq, forall_eq', List.mem_cons, List.not_mem_nil, or_false, or_true, true_or, true_and, and_true, eq_self, Nat.reduceEqDiff, reduceCtorEq, forall_const, true_implies, false_implies, implies_true, not_true_eq_false, not_false_eq_true, false_and, and_false, false_or, if_true, if_false, kd_sFI, ln_sFI, FI_sFI, FR_sFI, AI_sFI, AR_sFI, nx_sFI, kd_sFR, ln_sFR, FI_sFR, FR_sFR, AI_sFR, AR_sFR, nx_sFR, kd_sAI, ln_sAI, FI_sAI, FR_sAI, AI_sAI, AR_sAI, nx_sAI, kd_sAR, ln_sAR, FI_sAR, FR_sAR, AI_sAR, AR_sAR, nx_sAR, kd_sAIs, ln_sAIs, FI_sAIs, FR_sAIs, AR_sAIs, nx_sAIs, kd_sARs, ln_sARs, FI_sARs, FR_sARs, AI_sARs, nx_sARs, kd_nO, ln_nO, FI_nO, FR_nO, AI_nO, AR_nO, nx_nO, kd_nA, ln_nA, FI_nA, FR_nA, AI_nA, AR_nA, nx_nA, hM.sh.fr 19]
    refine c_od hM1 (p := p) rfl (k := 5) rfl (by omega) (fun _ => ⟨fun h => ?_, fun h => ?_⟩)
    · rw [if_pos h] at hK; exact hK
    · rw [if_neg h] at hK
      rw [hL1] at h
      have hjL : j < Lp := by
        rcases Nat.lt_or_ge j Lp with q | q
        · exact q
        · exact absurd (nI_le q hj) h
      simp only [Option.some.injEq, exists_eq_left', exists_eq_left, forall_eq, forall_eq', List.mem_cons, List.not_mem_nil, or_false, or_true, true_or, true_and, and_true, eq_self, Nat.reduceEqDiff, reduceCtorEq, forall_const, true_implies, false_implies, implies_true, not_true_eq_false, not_false_eq_true, false_and, and_false, false_or, if_true, if_false, kd_sFI, ln_sFI, FI_sFI, FR_sFI, AI_sFI, AR_sFI, nx_sFI, kd_sFR, ln_sFR, FI_sFR, FR_sFR, AI_sFR, AR_sFR, nx_sFR, kd_sAI, ln_sAI, FI_sAI, FR_sAI, AI_sAI, AR_sAI, nx_sAI, kd_sAR, ln_sAR, FI_sAR, FR_sAR, AI_sAR, AR_sAR, nx_sAR, kd_sAIs, ln_sAIs, FI_sAIs, FR_sAIs, AR_sAIs, nx_sAIs, kd_sARs, ln_sARs, FI_sARs, FR_sARs, AI_sARs, nx_sARs, kd_nO, ln_nO, FI_nO, FR_nO, AI_nO, AR_nO, nx_nO, kd_nA, ln_nA, FI_nA, FR_nA, AI_nA, AR_nA, nx_nA, hM.sh.fr 19]
      exact c_od hM1 (p := p) rfl (six_s rfl) (by omega) (fun _ => hK)
  · rw [iteP_f (fun q => hy q.2)] at hK; exact hK
  · rw [iteP_f (fun q => nInR hx q.1)] at hK; exact hK
end model9
