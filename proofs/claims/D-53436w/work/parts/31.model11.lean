/-! the model's calls, 5: slip, order -/
set_option maxRecDepth 100000
section model11
variable {w : Wt} {σ : Sg} {m n L : Nat} {A : Nat → Nat} {f sv tx : Nat → Int32} {np no ns : Nat}
theorem c_slip3 {K : Sg → Int32 → Prop} (hM : Mdl σ m A f sv tx n L) (hn : n ≤ 5) (hW : WfN f np no ns) (hA : WfA f np no)
    (hK : ∀ σ', MF m A σ σ' → Mdl σ' m A (rRw (rSlip f) f) (rSv (rSlip f) f sv n) tx (rNx (rSlip f) n) L → K σ' (rSlip f).2) : CalI w mX3_slip σ [va_rf (some m)] K := by
  have h10 := hW.2.2.2.1
  have h20 := hW.2.1
  refine eX3_slip _ (bX3_slip_0 _ ?_)
  have hM1 : Mdl (sFI σ 18 m 0) m A f sv tx n L := hM.fI (by decide) (by decide)
  have hr := hM.sh.rw 19 343
  have F0 : MF m A σ (sFI σ 18 m 0) := MF.rf.fI
  unfold rSlip at hK
  simp only [Option.some.injEq, exists_eq_left', forall_eq, true_and, hM.sh.kd, FR_sFI, kd_sFI, ln_sFI, AI_sFI, hM.sh.fr 19, hr.1, hr.2, List.mem_cons, true_or, v3, cl3, hM.eF]
  refine ⟨fun h => ?_, fun h => ?_⟩
  · rw [if_neg h] at hK
    rcases hA with hA | ⟨o, p, s, e3, ho, e5, hp, e6, hs⟩
    · exact absurd hA h
    · rw [e3, e5, e6, nI_clamp (by omega), nI_clamp (by omega), nI_clamp (by omega)] at hK
      refine c_act hM1 hn (fun σ1 F1 D1 _ => ?_)
      have hr1 := D1.sh.rw 19 343
      simp only [Option.some.injEq, exists_eq_left', exists_eq_left, forall_eq, forall_eq', List.mem_cons, List.not_mem_nil, or_false, or_true, true_or, true_and, and_true, eq_self, Nat.reduceEqDiff, reduceCtorEq, forall_const, true_implies, false_implies, implies_true, not_true_eq_false, not_false_eq_true, false_and, and_false, false_or, if_true, if_false, kd_sFI, ln_sFI, FI_sFI, FR_sFI, AI_sFI, AR_sFI, nx_sFI, kd_sFR, ln_sFR, FI_sFR, FR_sFR, AI_sFR, AR_sFR, nx_sFR, kd_sAI, ln_sAI, FI_sAI, FR_sAI, AI_sAI, AR_sAI, nx_sAI, kd_sAR, ln_sAR, FI_sAR, FR_sAR, AI_sAR, AR_sAR, nx_sAR, kd_sAIs, ln_sAIs, FI_sAIs, FR_sAIs, AR_sAIs, nx_sAIs, kd_sARs, ln_sARs, FI_sARs, FR_sARs, AI_sARs, nx_sARs, kd_nO, ln_nO, FI_nO, FR_nO, AI_nO, AR_nO, nx_nO, kd_nA, ln_nA, FI_nA, FR_nA, AI_nA, AR_nA, nx_nA, D1.sh.fr 19, hr1.1, hr1.2, v3, cl3, D1.eF, e3]
      refine c_od D1 (p := o) rfl (k := 3) rfl (by omega) (fun _ => ?_)
      simp only [Option.some.injEq, exists_eq_left', exists_eq_left, forall_eq, forall_eq', List.mem_cons, List.not_mem_nil, or_false, or_true, true_or, true_and, and_true, eq_self, Nat.reduceEqDiff, reduceCtorEq, forall_const, true_implies, false_implies, implies_true, not_true_eq_false, not_false_eq_true, false_and, and_false, false_or, if_true, if_false, kd_sFI, ln_sFI, FI_sFI, FR_sFI, AI_sFI, AR_sFI, nx_sFI, kd_sFR, ln_sFR, FI_sFR, FR_sFR, AI_sFR, AR_sFR, nx_sFR, kd_sAI, ln_sAI, FI_sAI, FR_sAI, AI_sAI, AR_sAI, nx_sAI, kd_sAR, ln_sAR, FI_sAR, FR_sAR, AI_sAR, AR_sAR, nx_sAR, kd_sAIs, ln_sAIs, FI_sAIs, FR_sAIs, AR_sAIs, nx_sAIs, kd_sARs, ln_sARs, FI_sARs, FR_sARs, AI_sARs, nx_sARs, kd_nO, ln_nO, FI_nO, FR_nO, AI_nO, AR_nO, nx_nO, kd_nA, ln_nA, FI_nA, FR_nA, AI_nA, AR_nA, nx_nA, D1.sh.fr 19, hr1.1, hr1.2, v5, cl5, v6, cl6, D1.eF, e5, e6]
      refine c_setPl D1 (p := p) rfl (thr_s rfl) (by omega) (fun σ2 F2 D2 _ => ?_)
      have hr2 := D2.sh.rw 19 343
      have g8 : upl f p (3 + s) (od f o 3) 8 = f 8 := upl_lo (by decide)
      simp only [Option.some.injEq, exists_eq_left', exists_eq_left, forall_eq, forall_eq', List.mem_cons, List.not_mem_nil, or_false, or_true, true_or, true_and, and_true, eq_self, Nat.reduceEqDiff, reduceCtorEq, forall_const, true_implies, false_implies, implies_true, not_true_eq_false, not_false_eq_true, false_and, and_false, false_or, if_true, if_false, kd_sFI, ln_sFI, FI_sFI, FR_sFI, AI_sFI, AR_sFI, nx_sFI, kd_sFR, ln_sFR, FI_sFR, FR_sFR, AI_sFR, AR_sFR, nx_sFR, kd_sAI, ln_sAI, FI_sAI, FR_sAI, AI_sAI, AR_sAI, nx_sAI, kd_sAR, ln_sAR, FI_sAR, FR_sAR, AI_sAR, AR_sAR, nx_sAR, kd_sAIs, ln_sAIs, FI_sAIs, FR_sAIs, AR_sAIs, nx_sAIs, kd_sARs, ln_sARs, FI_sARs, FR_sARs, AI_sARs, nx_sARs, kd_nO, ln_nO, FI_nO, FR_nO, AI_nO, AR_nO, nx_nO, kd_nA, ln_nA, FI_nA, FR_nA, AI_nA, AR_nA, nx_nA, D2.sh.fr 19, hr2.1, hr2.2, v8, cl8, D2.eF, g8, sAI_eq]
      have D3 := D2.row (upd (upl f p (3 + s) (od f o 3)) 8 (f 8 + 1))
      have F3 : MF m A σ (sAIs σ2 (A 19) (upd (upl f p (3 + s) (od f o 3)) 8 (f 8 + 1))) := (F0.trans (F1.trans F2)).row 19
      have eo : ∀ j, od (upd (upl f p (3 + s) (od f o 3)) 8 (f 8 + 1)) o j = od f o j := fun j => by rw [od_upd (by decide), od_upl (by omega) (by omega)]
      have eo2 : eff (upd (upl f p (3 + s) (od f o 3)) 8 (f 8 + 1)) o = eff f o := by unfold eff; rw [eo, eo, eo]
      unfold slpR at hK
      generalize (upd (upl f p (3 + s) (od f o 3)) 8 (f 8 + 1)) = g at hK D3 F3 eo eo2
      generalize sAIs σ2 (A 19) g = τ at D3 F3
      have hr3 := D3.sh.rw 19 343
      refine c_isReady3 (p := p) hr3 rfl (one_s rfl hs) (by omega) (by omega) (fun q _ => ⟨fun k => absurd k (by decide), fun _ => ?_⟩) (fun q _ => ⟨fun _ => ?_, fun k => absurd rfl k⟩)
      · rw [D3.eF] at q
        simp only [iteP_t q] at hK
        simp only [Option.some.injEq, exists_eq_left', exists_eq_left, forall_eq, forall_eq', List.mem_cons, List.not_mem_nil, or_false, or_true, true_or, true_and, and_true, eq_self, Nat.reduceEqDiff, reduceCtorEq, forall_const, true_implies, false_implies, implies_true, not_true_eq_false, not_false_eq_true, false_and, and_false, false_or, if_true, if_false, kd_sFI, ln_sFI, FI_sFI, FR_sFI, AI_sFI, AR_sFI, nx_sFI, kd_sFR, ln_sFR, FI_sFR, FR_sFR, AI_sFR, AR_sFR, nx_sFR, kd_sAI, ln_sAI, FI_sAI, FR_sAI, AI_sAI, AR_sAI, nx_sAI, kd_sAR, ln_sAR, FI_sAR, FR_sAR, AI_sAR, AR_sAR, nx_sAR, kd_sAIs, ln_sAIs, FI_sAIs, FR_sAIs, AR_sAIs, nx_sAIs, kd_sARs, ln_sARs, FI_sARs, FR_sARs, AI_sARs, nx_sARs, kd_nO, ln_nO, FI_nO, FR_nO, AI_nO, AR_nO, nx_nO, kd_nA, ln_nA, FI_nA, FR_nA, AI_nA, AR_nA, nx_nA, D3.sh.fr 19, hr3.1, hr3.2, v6, cl6, one_s (rfl : nI s = nI s) hs, sAI_eq, D3.eF]
        have D4 := D3.row (upd g 6 (nI (1 - s)))
        have hr4 := D4.sh.rw 19 343
        refine c_effort3 (o := o) hr4 rfl (by omega) (fun _ => ?_)
        rw [D4.eF]
        have e : eff (upd g 6 (nI (1 - s))) o = eff f o := by
          rw [← eo2]; unfold eff; rw [od_upd (by decide), od_upd (by decide), od_upd (by decide)]
        simp only [Option.some.injEq, exists_eq_left', exists_eq_left, forall_eq, forall_eq', List.mem_cons, List.not_mem_nil, or_false, or_true, true_or, true_and, and_true, eq_self, Nat.reduceEqDiff, reduceCtorEq, forall_const, true_implies, false_implies, implies_true, not_true_eq_false, not_false_eq_true, false_and, and_false, false_or, if_true, if_false, kd_sFI, ln_sFI, FI_sFI, FR_sFI, AI_sFI, AR_sFI, nx_sFI, kd_sFR, ln_sFR, FI_sFR, FR_sFR, AI_sFR, AR_sFR, nx_sFR, kd_sAI, ln_sAI, FI_sAI, FR_sAI, AI_sAI, AR_sAI, nx_sAI, kd_sAR, ln_sAR, FI_sAR, FR_sAR, AI_sAR, AR_sAR, nx_sAR, kd_sAIs, ln_sAIs, FI_sAIs, FR_sAIs, AR_sAIs, nx_sAIs, kd_sARs, ln_sARs, FI_sARs, FR_sARs, AI_sARs, nx_sARs, kd_nO, ln_nO, FI_nO, FR_nO, AI_nO, AR_nO, nx_nO, kd_nA, ln_nA, FI_nA, FR_nA, AI_nA, AR_nA, nx_nA, D3.sh.fr 19, hr3.1, hr3.2, v4, cl4, sAI_eq, AI_self, sAIs_sAIs, e]
        exact hK _ (F3.row 19) (D3.row _)
      · rw [D3.eF] at q
        rw [D3.sh.fr 19]
        refine c_canBeGround3 (p := p) hr3 rfl rfl hs (by omega) (fun q2 _ => ⟨fun k => absurd k (by decide), fun _ => ?_⟩) (fun q2 _ => ⟨fun _ => ?_, fun k => absurd rfl k⟩)
        · rw [D3.eF] at q2
          simp only [iteP_f q, iteP_t q2] at hK
          rw [D3.sh.fr 19]
          refine c_grindSide (p := p) hr3 rfl rfl hs (by omega) (fun _ => ?_)
          rw [D3.eF]
          have D4 := D3.row (grd g p s)
          rw [D4.sh.fr 19]
          refine c_effort3 (o := o) (D4.sh.rw 19 343) rfl (by omega) (fun _ => ?_)
          have e : eff (AI (sAIs τ (A 19) (grd g p s)) (A 19)) o = eff f o := by
            rw [AI_self, ← eo2]; unfold eff grd
            rw [od_upd (by decide), od_upd (by decide), od_upd (by decide), od_upl (by omega) (by omega), od_upl (by omega) (by omega), od_upl (by omega) (by omega), od_upl (by omega) (by omega), od_upl (by omega) (by omega), od_upl (by omega) (by omega)]
          rw [e]
          simp only [Option.some.injEq, exists_eq_left', exists_eq_left, forall_eq, forall_eq', List.mem_cons, List.not_mem_nil, or_false, or_true, true_or, true_and, and_true, eq_self, Nat.reduceEqDiff, reduceCtorEq, forall_const, true_implies, false_implies, implies_true, not_true_eq_false, not_false_eq_true, false_and, and_false, false_or, if_true, if_false, kd_sFI, ln_sFI, FI_sFI, FR_sFI, AI_sFI, AR_sFI, nx_sFI, kd_sFR, ln_sFR, FI_sFR, FR_sFR, AI_sFR, AR_sFR, nx_sFR, kd_sAI, ln_sAI, FI_sAI, FR_sAI, AI_sAI, AR_sAI, nx_sAI, kd_sAR, ln_sAR, FI_sAR, FR_sAR, AI_sAR, AR_sAR, nx_sAR, kd_sAIs, ln_sAIs, FI_sAIs, FR_sAIs, AR_sAIs, nx_sAIs, kd_sARs, ln_sARs, FI_sARs, FR_sARs, AI_sARs, nx_sARs, kd_nO, ln_nO, FI_nO, FR_nO, AI_nO, AR_nO, nx_nO, kd_nA, ln_nA, FI_nA, FR_nA, AI_nA, AR_nA, nx_nA, D3.sh.fr 19, hr3.1, hr3.2, v4, cl4, sAI_eq, AI_self, sAIs_sAIs]
          exact hK _ (F3.row 19) (D3.row _)
        · rw [D3.eF] at q2
          simp only [iteP_f q, iteP_f q2] at hK
          rw [D3.sh.fr 19]
          refine c_setPl D3 (p := p) rfl (k := 2) rfl (by omega) (fun σ4 F4 D4 _ => ?_)
          rw [D4.sh.fr 19]
          refine c_rest3 (D4.sh.rw 19 343) (fun _ => ?_)
          rw [D4.eF]
          exact hK _ ((F3.trans F4).row 19) (D4.row _)
  · rw [if_pos h] at hK
    exact hK _ F0 hM1
theorem c_order3 {x y s d r : Int32} {K : Sg → Int32 → Prop} (hM : Mdl σ m A f sv tx n L) (hn : n ≤ 5) (hL : L ≤ 12) (hW : WfN f np no ns) (hR : ∃ R, R ≤ no ∧ rsh f no = nI R)
    (hK : ∀ σ', MF m A σ σ' → Mdl σ' m A (rRw (rOrder f tx np no ns L x y s d r) f) (rSv (rOrder f tx np no ns L x y s d r) f sv n) tx (rNx (rOrder f tx np no ns L x y s d r) n) (if (rOrder f tx np no ns L x y s d r).1 = none then L else 0) → K σ' (rOrder f tx np no ns L x y s d r).2) : CalI w mX3_order σ [va_rf (some m), .int x, .int y, .int s, .int d, .int r] K := by
  have h10 := hW.2.2.2.1
  have h20 := hW.2.1
  have h3 := hW.2.2.2.2.2
  refine eX3_order _ _ _ _ _ _ (bX3_order_0 _ _ _ _ _ _ ?_)
  have hM1 : Mdl (sFI σ 18 m 0) m A f sv tx n L := hM.fI (by decide) (by decide)
  have hr := hM.sh.rw 19 343
  have F0 : MF m A σ (sFI σ 18 m 0) := MF.rf.fI
  have e24 : FI (sFI σ 18 m 0) 24 m = nI L := hM1.eL
  have bad : ¬ (inR x ns ∧ (1 ≤ y ∧ y ≤ 999) ∧ (1 ≤ s ∧ s ≤ 4) ∧ (1 ≤ d ∧ d ≤ 5) ∧ inR r 2) → K (sFI σ 18 m 0) (-1) := by
    intro q
    unfold rOrder at hK
    rw [iteP_f q] at hK
    exact hK _ F0 hM1
  simp only [Option.some.injEq, exists_eq_left', forall_eq, hM.sh.kd, true_and]
  refine c_isShield3 hM1 hW.2.2.2.2.1 (by omega) (fun sh hsh hx _ => ⟨fun h => absurd h (by decide), fun _ => ?_⟩) (fun hx _ => ⟨fun _ => bad (fun q => nInR hx q.1), fun h => absurd rfl h⟩)
  refine c_isYear (fun y1 y2 _ => ⟨fun h => absurd h (by decide), fun _ => ?_⟩) (fun hy _ => ⟨fun _ => bad (fun q => hy q.2.1), fun h => absurd rfl h⟩)
  refine c_in (fun s1 s2 _ => ⟨fun h => absurd h (by decide), fun _ => ?_⟩) (fun a _ => ⟨fun _ => bad (fun q => a q.2.2.1), fun h => absurd rfl h⟩)
  refine c_in (fun d1 d2 _ => ⟨fun h => absurd h (by decide), fun _ => ?_⟩) (fun a _ => ⟨fun _ => bad (fun q => a q.2.2.2.1), fun h => absurd rfl h⟩)
  refine cInR (N := 2) rfl rfl (by decide) (fun rr hrr er _ => ⟨fun _ => ?_, fun h => absurd h (by decide)⟩) (fun hy _ => ⟨fun h => absurd rfl h, fun _ => bad (fun q => nInR hy q.2.2.2.2)⟩)
  have good : (inR x ns ∧ (1 ≤ y ∧ y ≤ 999) ∧ (1 ≤ s ∧ s ≤ 4) ∧ (1 ≤ d ∧ d ≤ 5) ∧ inR r 2) := ⟨⟨sh, hsh, hx⟩, ⟨y1, y2⟩, ⟨s1, s2⟩, ⟨d1, d2⟩, rr, hrr, er⟩
  have ill : (L = 0 ∨ ¬ pOn f x y np = none ∨ isO f x y no) → K (sFI σ 18 m 0) (-2) := by
    intro q
    unfold rOrder at hK
    rw [iteP_t good, iteP_t q] at hK
    exact hK _ F0 hM1
  rw [e24]
  refine ⟨fun h => ill (Or.inl (nI_inj h (by omega) (by decide))), fun hL0 => ?_⟩
  have hL0 : ¬ L = 0 := fun q => hL0 (by rw [q]; rfl)
  simp only [Option.some.injEq, exists_eq_left', exists_eq_left, forall_eq, forall_eq', List.mem_cons, List.not_mem_nil, or_false, or_true, true_or, true_and, and_true, eq_self, Nat.reduceEqDiff, reduceCtorEq, forall_const, true_implies, false_implies, implies_true, not_true_eq_false, not_false_eq_true, false_and, and_false, false_or, if_true, if_false, kd_sFI, ln_sFI, FI_sFI, FR_sFI, AI_sFI, AR_sFI, nx_sFI, kd_sFR, ln_sFR, FI_sFR, FR_sFR, AI_sFR, AR_sFR, nx_sFR, kd_sAI, ln_sAI, FI_sAI, FR_sAI, AI_sAI, AR_sAI, nx_sAI, kd_sAR, ln_sAR, FI_sAR, FR_sAR, AI_sAR, AR_sAR, nx_sAR, kd_sAIs, ln_sAIs, FI_sAIs, FR_sAIs, AR_sAIs, nx_sAIs, kd_sARs, ln_sARs, FI_sARs, FR_sARs, AI_sARs, nx_sARs, kd_nO, ln_nO, FI_nO, FR_nO, AI_nO, AR_nO, nx_nO, kd_nA, ln_nA, FI_nA, FR_nA, AI_nA, AR_nA, nx_nA, hM.sh.fr 19]
  refine c_plateOn (σ := sFI σ 18 m 0) (N := np) hr (by rw [AI_sFI, hM.eF]; exact hW.1) h20 (fun _ => ?_)
  rw [AI_sFI, hM.eF]
  cases hp : pOn f x y np with
  | some q => exact ⟨fun _ => ill (Or.inr (Or.inl (by rw [hp]; exact fun z => by cases z))), fun z => absurd z (m9n (by have := pOn_lt hp; omega))⟩
  | none =>
    refine ⟨fun z => absurd rfl z, fun _ => ?_⟩
    refine c_isOrdered3 (σ := sFI σ 18 m 0) (N := no) hM.sh.kd (hM.sh.fr 19) hr (by rw [AI_sFI, hM.eF]; exact hW.2.2.1) h10 (fun q _ => ⟨fun z => absurd z (by decide), fun _ => ill (Or.inr (Or.inr (by rw [AI_sFI, hM.eF] at q; exact q)))⟩) (fun q _ => ⟨fun _ => ?_, fun z => absurd rfl z⟩)
    rw [AI_sFI, hM.eF] at q
    unfold rOrder at hK
    rw [iteP_t good, iteP_f (fun z => z.elim hL0 (fun z => z.elim (fun z => z hp) q))] at hK
    simp only [Option.some.injEq, exists_eq_left', exists_eq_left, forall_eq, forall_eq', List.mem_cons, List.not_mem_nil, or_false, or_true, true_or, true_and, and_true, eq_self, Nat.reduceEqDiff, reduceCtorEq, forall_const, true_implies, false_implies, implies_true, not_true_eq_false, not_false_eq_true, false_and, and_false, false_or, if_true, if_false, kd_sFI, ln_sFI, FI_sFI, FR_sFI, AI_sFI, AR_sFI, nx_sFI, kd_sFR, ln_sFR, FI_sFR, FR_sFR, AI_sFR, AR_sFR, nx_sFR, kd_sAI, ln_sAI, FI_sAI, FR_sAI, AI_sAI, AR_sAI, nx_sAI, kd_sAR, ln_sAR, FI_sAR, FR_sAR, AI_sAR, AR_sAR, nx_sAR, kd_sAIs, ln_sAIs, FI_sAIs, FR_sAIs, AR_sAIs, nx_sAIs, kd_sARs, ln_sARs, FI_sARs, FR_sARs, AI_sARs, nx_sARs, kd_nO, ln_nO, FI_nO, FR_nO, AI_nO, AR_nO, nx_nO, kd_nA, ln_nA, FI_nA, FR_nA, AI_nA, AR_nA, nx_nA, hM.sh.fr 19, hr.1, hr.2, v2, cl2, hM.eF, hW.2.2.1]
    refine ⟨fun h => ?_, fun h => ?_⟩
    · rw [if_neg (fun z => h (by rw [z]; rfl))] at hK
      have hno : no < 10 := by
        rcases Nat.lt_or_ge no 10 with z | z
        · exact z
        · exact absurd (by rw [Nat.le_antisymm h10 z]; rfl) h
      refine c_act hM1 hn (fun σ1 F1 D1 _ => ?_)
      have hb := D1.sh.rw 30 19
      have fr30 := D1.sh.fr 30
      have w0 : vp_in 0 19 := vpN (by decide) (by decide)
      have w1 : vp_in 1 19 := vpN (show 1 < 19 by decide) (by decide)
      have w2 : vp_in 2 19 := vpN (show 2 < 19 by decide) (by decide)
      have w3 : vp_in 3 19 := vpN (show 3 < 19 by decide) (by decide)
      have w4 : vp_in 4 19 := vpN (show 4 < 19 by decide) (by decide)
      have w5 : vp_in 5 19 := vpN (show 5 < 19 by decide) (by decide)
      have w18 : vp_in 18 19 := vpN (show 18 < 19 by decide) (by decide)
      simp only [fr30, Option.some.injEq, exists_eq_left', forall_eq, sAI_eq, FR_sAIs, kd_sAIs, ln_sAIs, FI_sAIs, hb.1, hb.2, w0, w1, w2, w3, w4, w5, true_and, cl0, cl1, cl2, cl3, cl4, cl5, sAIs_sAIs, AI_self, D1.eL]
      refine upL (P := fun i => ∀ τ g, MF m A σ τ → Mdl τ m A f (svN f sv n) tx (nxN n) L → AI τ (A 30) = g → (∀ k, k < 6 + i → g k = ordN tx L x y s d r k) → G w mX3_order (KI K) 0 0 τ 152 [va_rf (some m), .int x, .int y, .int s, .int d, .int r, .int (nI i)] []) (N := 12) ?_ ?_ _ _ ((F0.trans F1).row 30) (D1.oth 30 _) AI_self ?_
      · intro τ g F D e hg
        refine bX3_order_152 _ _ _ _ _ _ _ ⟨fun _ => ?_, fun h => absurd (nI_le (Nat.le_refl 12) (by decide)) h⟩
        have hb := D.sh.rw 30 19
        have hr := D.sh.rw 19 343
        have ne := D.sh.ne 19 30
        have hg2 : ∀ k, k < 19 → upd g 18 0 k = ordN tx L x y s d r k := by
          intro k hk
          by_cases z : k = 18
          · subst z; rw [pk_us]; unfold ordN
            rw [if_neg (by decide), if_neg (by decide), if_neg (by decide), if_neg (by decide), if_neg (by decide), if_neg (by decide), if_neg (by decide)]
          · rw [pk_un z]; exact hg k (by omega)
        have D2 : Mdl (sFI (sAIs τ (A 30) (upd g 18 0)) 24 m 0) m A f (svN f sv n) tx (nxN n) 0 := by
          rw [sFI_eq]
          have := D.oth 30 (upd g 18 0)
          exact this.fld (by rw [pk_un (by decide)]; exact this.eN) pk_us
        have F2 : MF m A σ (sFI (sAIs τ (A 30) (upd g 18 0)) 24 m 0) := (F.row 30).fI
        have z30 : AI (sFI (sAIs τ (A 30) (upd g 18 0)) 24 m 0) (A 30) = upd g 18 0 := by rw [AI_sFI, AI_self]
        have z19 : AI (sFI (sAIs τ (A 30) (upd g 18 0)) 24 m 0) (A 19) = f := D2.eF
        simp only [D.sh.kd, D.sh.fr 30, Option.some.injEq, exists_eq_left', forall_eq, sAI_eq, hb.1, hb.2, w18, true_and, show (18 : Int32).toNatClampNeg = 18 from rfl, e]
        have put : ∀ (P : Int32) (R : Nat), P = nI R → R ≤ no → (if r = 1 then (rsh f no).toNatClampNeg else no) = R → (if r = 1 then rsh f no else nI no) = P → CalV w mX3_putIn (sFI (sAIs τ (A 30) (upd g 18 0)) 24 m 0) [va_rf (some m), va_rf (some (A 19)), .int P] (fun s18 => Ext (sFI (sAIs τ (A 30) (upd g 18 0)) 24 m 0) s18 → K s18 P) := by
          intro P R hP hR1 hR2 hR3
          refine c_putIn (o := R) (N := no) D2.sh.kd (D2.sh.fr 30) (D2.sh.rw 19 343) (D2.sh.rw 30 19) (D2.sh.ne 19 30) hP hR1 (by rw [z19]; exact hW.2.2.1) hno (fun _ => ?_)
          rw [z19, z30, pti_c hg2]
          have hK := hK (sAIs (sFI (sAIs τ (A 30) (upd g 18 0)) 24 m 0) (A 19) (pti f (ordN tx L x y s d r) R no)) (F2.row 19) (by
            show Mdl _ m A (ordR f tx no L x y s d r) _ _ _ 0
            unfold ordR; rw [hR2]; exact D2.row _)
          rw [← hR3]; exact hK
        simp only [Option.some.injEq, exists_eq_left', exists_eq_left, forall_eq, forall_eq', List.mem_cons, List.not_mem_nil, or_false, or_true, true_or, true_and, and_true, eq_self, Nat.reduceEqDiff, reduceCtorEq, forall_const, true_implies, false_implies, implies_true, not_true_eq_false, not_false_eq_true, false_and, and_false, false_or, if_true, if_false, kd_sFI, ln_sFI, FI_sFI, FR_sFI, AI_sFI, AR_sFI, nx_sFI, kd_sFR, ln_sFR, FI_sFR, FR_sFR, AI_sFR, AR_sFR, nx_sFR, kd_sAI, ln_sAI, FI_sAI, FR_sAI, AI_sAI, AR_sAI, nx_sAI, kd_sAR, ln_sAR, FI_sAR, FR_sAR, AI_sAR, AR_sAR, nx_sAR, kd_sAIs, ln_sAIs, FI_sAIs, FR_sAIs, AR_sAIs, nx_sAIs, kd_sARs, ln_sARs, FI_sARs, FR_sARs, AI_sARs, nx_sARs, kd_nO, ln_nO, FI_nO, FR_nO, AI_nO, AR_nO, nx_nO, kd_nA, ln_nA, FI_nA, FR_nA, AI_nA, AR_nA, nx_nA, D.sh.fr 19, hr.1, hr.2, v2, cl2, AI_ne ne, D.eF, hW.2.2.1]
        refine ⟨fun h1 => ?_, fun h1 => ?_⟩
        · exact put _ no rfl (Nat.le_refl no) (by rw [if_neg h1]) (by rw [if_neg h1])
        · obtain ⟨R, hR1, hR2⟩ := hR
          refine c_rushes3 (N := no) (D2.sh.rw 19 343) (by rw [D2.eF]; exact hW.2.2.1) h10 (fun _ => ?_)
          rw [z19]
          rw [D2.sh.fr 19]
          exact put _ R hR2 hR1 (by rw [if_pos h1, hR2, nI_clamp (by omega)]) (by rw [if_pos h1])
      · intro i hi ih τ g F D e hg
        refine bX3_order_152 _ _ _ _ _ _ _ ⟨fun h => absurd h (nI_ge (b := 12) hi (by decide)), fun _ => ?_⟩
        have hb := D.sh.rw 30 19
        have hc := D.sh.rw 23 12
        have e6 : 6 + nI i = nI (6 + i) := nI_add 6 i
        have nxt : ∀ v, v = ordN tx L x y s d r (6 + i) → G w mX3_order (KI K) 0 0 (sAIs τ (A 30) (upd g (6 + i) v)) 152 [va_rf (some m), .int x, .int y, .int s, .int d, .int r, .int (nI i + 1)] [] := by
          intro v hv
          rw [← nI_succ]
          refine ih _ _ (F.row 30) (D.oth 30 _) AI_self (fun k hk => ?_)
          by_cases z : k = 6 + i
          · subst z; rw [pk_us]; exact hv
          · rw [pk_un z]; exact hg k (by omega)
        have eN : ordN tx L x y s d r (6 + i) = if 6 + i < 6 + L then tx i else 0 := by
          unfold ordN
          rw [if_neg (by omega), if_neg (by omega), if_neg (by omega), if_neg (by omega), if_neg (by omega), if_neg (by omega), if_pos (by omega), show 6 + i - 6 = i by omega]
        simp only [Option.some.injEq, exists_eq_left', exists_eq_left, forall_eq, forall_eq', List.mem_cons, List.not_mem_nil, or_false, or_true, true_or, true_and, and_true, eq_self, Nat.reduceEqDiff, reduceCtorEq, forall_const, true_implies, false_implies, implies_true, not_true_eq_false, not_false_eq_true, false_and, and_false, false_or, if_true, if_false, kd_sFI, ln_sFI, FI_sFI, FR_sFI, AI_sFI, AR_sFI, nx_sFI, kd_sFR, ln_sFR, FI_sFR, FR_sFR, AI_sFR, AR_sFR, nx_sFR, kd_sAI, ln_sAI, FI_sAI, FR_sAI, AI_sAI, AR_sAI, nx_sAI, kd_sAR, ln_sAR, FI_sAR, FR_sAR, AI_sAR, AR_sAR, nx_sAR, kd_sAIs, ln_sAIs, FI_sAIs, FR_sAIs, AR_sAIs, nx_sAIs, kd_sARs, ln_sARs, FI_sARs, FR_sARs, AI_sARs, nx_sARs, kd_nO, ln_nO, FI_nO, FR_nO, AI_nO, AR_nO, nx_nO, kd_nA, ln_nA, FI_nA, FR_nA, AI_nA, AR_nA, nx_nA, D.sh.kd, D.sh.fr 30, D.sh.fr 23, D.eL, hb.1, hb.2, hc.1, hc.2, e6, sAI_eq, e, nI_clamp (show i < 2 ^ 31 by omega), vpN hi (by decide), nI_clamp (show 6 + i < 2 ^ 31 by omega), vpN (show 6 + i < 19 by omega) (by decide), D.eT]
        refine ⟨fun h => nxt 0 ?_, fun h => nxt (tx i) ?_⟩
        · rw [eN, if_neg]
          intro z; exact absurd h (nI_ge (by omega) (by omega))
        · rw [eN, if_pos]
          rcases Nat.lt_or_ge i L with z | z
          · omega
          · exact absurd (nI_le z (by omega)) h
      · intro k hk
        have hk : k = 0 ∨ k = 1 ∨ k = 2 ∨ k = 3 ∨ k = 4 ∨ k = 5 := by omega
        rcases hk with hk | hk | hk | hk | hk | hk <;> (subst hk; rfl)
    · rw [if_pos (nI_inj h (by omega) (by decide))] at hK
      exact hK _ F0 hM1
end model11
