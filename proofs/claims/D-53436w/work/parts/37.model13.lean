/-! the model's calls, 7: forecasts, the start -/
set_option maxRecDepth 100000
noncomputable def wkT (np : Nat) : Nat → (Nat → Int32) → Nat → Int32 → (Nat → Int32) → (Nat → Int32)
  | 0, _, _, _, t => t
  | k + 1, f, no, mi, t => match goR f np no with
    | none => t
    | some h => wkT np k (finA h np no) (no - 1) (mi + h 4) (upd t (od h (h 3).toNatClampNeg 18).toNatClampNeg (mi + h 4))
def m9 : Nat → Int32 := fun _ => -9
noncomputable def tmN (f : Nat → Int32) (np no : Nat) : Nat → Int32 := wkT np (no + 1) (tagd f no) no 0 m9
noncomputable def tmT (f : Nat → Int32) (np no : Nat) (x : Nat) : Nat → Int32 := wkT np (no + 1) (hurR (tagd f no) x no) no 0 m9
noncomputable def rDone (f : Nat → Int32) (np no : Nat) (x : Int32) : Int32 := iteP (inR x no) (tmN f np no x.toNatClampNeg) (-1)
def msum (a b : Nat → Int32) (x : Int32) : Nat → Int32
  | 0 => 0
  | n + 1 => msum a b x n + if nI n = x then 0 else b n - a n
def mall (a b : Nat → Int32) (n : Nat) : Prop := ∀ k, k < n → ¬ a k = -9 ∧ ¬ b k = -9
noncomputable def rMoved (f : Nat → Int32) (np no : Nat) (x : Int32) : Int32 :=
  iteP (inR x no) (if od f x.toNatClampNeg 4 = 1 then -2 else iteP (mall (tmN f np no) (tmT f np no x.toNatClampNeg) no) (100000 + msum (tmN f np no) (tmT f np no x.toNatClampNeg) x no) (-9)) (-1)
section model13
variable {w : Wt} {σ : Sg} {m n L : Nat} {A : Nat → Nat} {f sv tx : Nat → Int32} {np no ns : Nat}
theorem c_tryNow {K : Sg → Prop} (hM : Mdl σ m A f sv tx n L) (h2 : f 2 = nI no) (hno : no ≤ 10) (hK : K (sAIs σ (A 20) (tagd f no))) : CalV w mX3_tryNow σ [va_rf (some m)] K := by
  refine eX3_tryNow _ (bX3_tryNow_0 _ ?_)
  have hr := hM.sh.rw 19 343
  have hw := hM.sh.rw 20 343
  have ne := hM.sh.ne 19 20
  let g : Nat → Nat → Int32 := fun i k => if k < i then f k else AI σ (A 20) k
  have g0 : g 0 = AI σ (A 20) := by funext k; exact if_neg (by omega)
  have gs : ∀ i, upd (g i) i (f i) = g (i + 1) := fun i => by
    funext k
    show _ = (if k < i + 1 then _ else _)
    by_cases e : k = i
    · subst e; rw [pk_us, if_pos (by omega)]
    · rw [pk_un e]; exact ifc (by omega)
  have key := upL (P := fun i => G w mX3_tryNow (KV K) 0 0 (sAIs σ (A 20) (g i)) 2 [va_rf (some m), .int (nI i)] []) (N := 343) ?_ ?_
  · rw [g0, sAIs_rfl] at key; exact key
  · refine bX3_tryNow_2 _ _ ⟨fun _ => ?_, fun h => absurd (nI_le (Nat.le_refl 343) (by decide)) h⟩
    refine G.tail (a := A 20) (g := f) hw.1 (fun i hi => ?_) ?_
    · rw [AI_self]
      have hi : i < ln σ (A 20) := hi
      rw [hw.2] at hi
      exact (if_pos hi).symm
    rw [sAIs_sAIs]
    refine upL (P := fun i => G w mX3_tryNow (KV K) 0 0 (sAIs σ (A 20) (tagd f i)) 29 [va_rf (some m), .int (nI i)] []) (N := no) ?_ ?_
    · refine bX3_tryNow_29 _ _ ?_
      simp only [Option.some.injEq, exists_eq_left', exists_eq_left, forall_eq, forall_eq', List.mem_cons, List.not_mem_nil, or_false, or_true, true_or, true_and, and_true, eq_self, Nat.reduceEqDiff, reduceCtorEq, forall_const, true_implies, false_implies, implies_true, not_true_eq_false, not_false_eq_true, false_and, and_false, false_or, if_true, if_false, kd_sFI, ln_sFI, FI_sFI, FR_sFI, AI_sFI, AR_sFI, nx_sFI, kd_sFR, ln_sFR, FI_sFR, FR_sFR, AI_sFR, AR_sFR, nx_sFR, kd_sAI, ln_sAI, FI_sAI, FR_sAI, AI_sAI, AR_sAI, nx_sAI, kd_sAR, ln_sAR, FI_sAR, FR_sAR, AI_sAR, AR_sAR, nx_sAR, kd_sAIs, ln_sAIs, FI_sAIs, FR_sAIs, AR_sAIs, nx_sAIs, kd_sARs, ln_sARs, FI_sARs, FR_sARs, AI_sARs, nx_sARs, kd_nO, ln_nO, FI_nO, FR_nO, AI_nO, AR_nO, nx_nO, kd_nA, ln_nA, FI_nA, FR_nA, AI_nA, AR_nA, nx_nA, hM.sh.kd, hM.sh.fr 20, hw.1, hw.2, v2, cl2, AI_self, tagd_lo (show 2 < 153 by decide), h2]
      exact ⟨fun _ => hK, fun h => absurd (nI_le (Nat.le_refl no) (by omega)) h⟩
    · intro i hi ih
      refine bX3_tryNow_29 _ _ ?_
      simp only [Option.some.injEq, exists_eq_left', exists_eq_left, forall_eq, forall_eq', List.mem_cons, List.not_mem_nil, or_false, or_true, true_or, true_and, and_true, eq_self, Nat.reduceEqDiff, reduceCtorEq, forall_const, true_implies, false_implies, implies_true, not_true_eq_false, not_false_eq_true, false_and, and_false, false_or, if_true, if_false, kd_sFI, ln_sFI, FI_sFI, FR_sFI, AI_sFI, AR_sFI, nx_sFI, kd_sFR, ln_sFR, FI_sFR, FR_sFR, AI_sFR, AR_sFR, nx_sFR, kd_sAI, ln_sAI, FI_sAI, FR_sAI, AI_sAI, AR_sAI, nx_sAI, kd_sAR, ln_sAR, FI_sAR, FR_sAR, AI_sAR, AR_sAR, nx_sAR, kd_sAIs, ln_sAIs, FI_sAIs, FR_sAIs, AR_sAIs, nx_sAIs, kd_sARs, ln_sARs, FI_sARs, FR_sARs, AI_sARs, nx_sARs, kd_nO, ln_nO, FI_nO, FR_nO, AI_nO, AR_nO, nx_nO, kd_nA, ln_nA, FI_nA, FR_nA, AI_nA, AR_nA, nx_nA, hM.sh.kd, hM.sh.fr 20, hw.1, hw.2, v2, cl2, AI_self, tagd_lo (show 2 < 153 by decide), h2, ixO (rfl : nI i = nI i) (rfl : (18 : Int32) = nI 18), nI_clamp (show 153 + 19 * i + 18 < 2 ^ 31 by omega), vpN (show 153 + 19 * i + 18 < 343 by omega) (by decide), sAI_eq, sAIs_sAIs]
      refine ⟨fun h => absurd h (nI_ge hi (by omega)), fun _ => ?_⟩
      rw [tagd, nI_succ] at ih; exact ih
  · intro i hi ih
    refine bX3_tryNow_2 _ _ ⟨fun h => absurd h (nI_ge (b := 343) hi (by decide)), fun _ => ?_⟩
    simp only [Option.some.injEq, exists_eq_left', exists_eq_left, forall_eq, forall_eq', List.mem_cons, List.not_mem_nil, or_false, or_true, true_or, true_and, and_true, eq_self, Nat.reduceEqDiff, reduceCtorEq, forall_const, true_implies, false_implies, implies_true, not_true_eq_false, not_false_eq_true, false_and, and_false, false_or, if_true, if_false, kd_sFI, ln_sFI, FI_sFI, FR_sFI, AI_sFI, AR_sFI, nx_sFI, kd_sFR, ln_sFR, FI_sFR, FR_sFR, AI_sFR, AR_sFR, nx_sFR, kd_sAI, ln_sAI, FI_sAI, FR_sAI, AI_sAI, AR_sAI, nx_sAI, kd_sAR, ln_sAR, FI_sAR, FR_sAR, AI_sAR, AR_sAR, nx_sAR, kd_sAIs, ln_sAIs, FI_sAIs, FR_sAIs, AR_sAIs, nx_sAIs, kd_sARs, ln_sARs, FI_sARs, FR_sARs, AI_sARs, nx_sARs, kd_nO, ln_nO, FI_nO, FR_nO, AI_nO, AR_nO, nx_nO, kd_nA, ln_nA, FI_nA, FR_nA, AI_nA, AR_nA, nx_nA, hM.sh.kd, hM.sh.fr 19, hM.sh.fr 20, hr.1, hr.2, hw.1, hw.2, nI_clamp (show i < 2 ^ 31 by omega), vpN hi (by decide), AI_ne ne, hM.eF, AI_self, sAI_eq, sAIs_sAIs, gs]
    rw [nI_succ] at ih; exact ih
/-- the loop of workOn: on the row w, into the times at T -/
theorem workOn_l {T : Nat} {K : Sg → Prop} (hT : T = 28 ∨ T = 29) : ∀ (k : Nat) (τ : Sg) (h : Nat → Int32) (no : Nat) (mi : Int32) (t : Nat → Int32), Mdl τ m A f sv tx n L → AI τ (A 20) = h → AI τ (A T) = t → Wf h np no ns → WfT h no → no + 1 ≤ k →
    (∀ σ', MF m A τ σ' → Mdl σ' m A f sv tx n L → AI σ' (A T) = wkT np k h no mi t → (∀ U, U = 28 ∨ U = 29 → U ≠ T → AI σ' (A U) = AI τ (A U)) → K σ') →
    G w mX3_workOn (KV K) 0 0 τ 21 [va_rf (some m), va_rf (some (A T)), .int mi] []
  | 0, τ, h, no, mi, t, D, eh, et, hW, hT2, hk, hK => absurd hk (by omega)
  | k + 1, τ, h, no, mi, t, D, eh, et, hW, hT2, hk, hK => by
    have hTm : T ∈ mfs := by rcases hT with e | e <;> (subst e; decide)
    have hT20 : ¬ A T = A 20 := by rcases hT with e | e <;> (subst e; exact D.sh.ne _ _)
    have hTl : Rw τ (A T) 10 := by rcases hT with e | e <;> (subst e; exact D.sh.rw _ _)
    have hw := D.sh.rw 20 343
    have h10 := hW.1.2.2.2.1
    refine bX3_workOn_21 _ _ _ ?_
    simp only [Option.some.injEq, exists_eq_left', exists_eq_left, forall_eq, forall_eq', List.mem_cons, List.not_mem_nil, or_false, or_true, true_or, true_and, and_true, eq_self, Nat.reduceEqDiff, reduceCtorEq, forall_const, true_implies, false_implies, implies_true, not_true_eq_false, not_false_eq_true, false_and, and_false, false_or, if_true, if_false, kd_sFI, ln_sFI, FI_sFI, FR_sFI, AI_sFI, AR_sFI, nx_sFI, kd_sFR, ln_sFR, FI_sFR, FR_sFR, AI_sFR, AR_sFR, nx_sFR, kd_sAI, ln_sAI, FI_sAI, FR_sAI, AI_sAI, AR_sAI, nx_sAI, kd_sAR, ln_sAR, FI_sAR, FR_sAR, AI_sAR, AR_sAR, nx_sAR, kd_sAIs, ln_sAIs, FI_sAIs, FR_sAIs, AR_sAIs, nx_sAIs, kd_sARs, ln_sARs, FI_sARs, FR_sARs, AI_sARs, nx_sARs, kd_nO, ln_nO, FI_nO, FR_nO, AI_nO, AR_nO, nx_nO, kd_nA, ln_nA, FI_nA, FR_nA, AI_nA, AR_nA, nx_nA, D.sh.kd, D.sh.fr 20]
    rw [wkT] at hK
    refine c_goes (np := np) (no := no) (ns := ns) D.sh.kd hw (by rw [eh]; exact hW) (fun g φ g1 g2 _ => ⟨fun q => absurd q (by decide), fun _ => ?_⟩) (fun φ g1 g2 _ => ⟨fun _ => ?_, fun q => absurd rfl q⟩)
    · rw [eh] at g1
      rw [g1] at hK
      obtain ⟨W1, c1⟩ := hW.go g1
      obtain ⟨o, p, s, l, w1, w2, w3, w4, w5, w6, w7, w8, w9, w10⟩ := W1.work c1
      have D1 : Mdl (sFs (sAIs τ (A 20) g) m φ) m A f sv tx n L := (D.oth 20 g).fld (by rw [g2 22 (by decide) (by decide) (by decide)]; exact D.eN) (by rw [g2 24 (by decide) (by decide) (by decide)]; exact D.eL)
      have F1 : MF m A τ (sFs (sAIs τ (A 20) g) m φ) := (MF.rf.row 20).fld
      have e20 : AI (sFs (sAIs τ (A 20) g) m φ) (A 20) = g := by rw [AI_sFs, AI_self]
      have eT : ∀ b, ¬ b = A 20 → AI (sFs (sAIs τ (A 20) g) m φ) b = AI τ b := fun b hb => by rw [AI_sFs, AI_ne hb]
      have rT : Rw (sFs (sAIs τ (A 20) g) m φ) (A T) 10 := hTl
      generalize sFs (sAIs τ (A 20) g) m φ = υ at D1 F1 e20 eT rT
      have hw1 := D1.sh.rw 20 343
      obtain ⟨tg, tg1, tg2⟩ := hT2 o w2
      have tg3 : od g o 18 = nI tg := by rw [goR_od g1 hW.1.2.1]; exact tg2
      simp only [Option.some.injEq, exists_eq_left', exists_eq_left, forall_eq, forall_eq', List.mem_cons, List.not_mem_nil, or_false, or_true, true_or, true_and, and_true, eq_self, Nat.reduceEqDiff, reduceCtorEq, forall_const, true_implies, false_implies, implies_true, not_true_eq_false, not_false_eq_true, false_and, and_false, false_or, if_true, if_false, kd_sFI, ln_sFI, FI_sFI, FR_sFI, AI_sFI, AR_sFI, nx_sFI, kd_sFR, ln_sFR, FI_sFR, FR_sFR, AI_sFR, AR_sFR, nx_sFR, kd_sAI, ln_sAI, FI_sAI, FR_sAI, AI_sAI, AR_sAI, nx_sAI, kd_sAR, ln_sAR, FI_sAR, FR_sAR, AI_sAR, AR_sAR, nx_sAR, kd_sAIs, ln_sAIs, FI_sAIs, FR_sAIs, AR_sAIs, nx_sAIs, kd_sARs, ln_sARs, FI_sARs, FR_sARs, AI_sARs, nx_sARs, kd_nO, ln_nO, FI_nO, FR_nO, AI_nO, AR_nO, nx_nO, kd_nA, ln_nA, FI_nA, FR_nA, AI_nA, AR_nA, nx_nA, D1.sh.fr 20, hw1.1, hw1.2, v4, cl4, v3, cl3, e20, w1]
      refine c_of (p := o) (k := 18) hw1 rfl rfl (by omega) (fun _ => ?_)
      rw [e20, tg3]
      simp only [Option.some.injEq, exists_eq_left', exists_eq_left, forall_eq, forall_eq', List.mem_cons, List.not_mem_nil, or_false, or_true, true_or, true_and, and_true, eq_self, Nat.reduceEqDiff, reduceCtorEq, forall_const, true_implies, false_implies, implies_true, not_true_eq_false, not_false_eq_true, false_and, and_false, false_or, if_true, if_false, kd_sFI, ln_sFI, FI_sFI, FR_sFI, AI_sFI, AR_sFI, nx_sFI, kd_sFR, ln_sFR, FI_sFR, FR_sFR, AI_sFR, AR_sFR, nx_sFR, kd_sAI, ln_sAI, FI_sAI, FR_sAI, AI_sAI, AR_sAI, nx_sAI, kd_sAR, ln_sAR, FI_sAR, FR_sAR, AI_sAR, AR_sAR, nx_sAR, kd_sAIs, ln_sAIs, FI_sAIs, FR_sAIs, AR_sAIs, nx_sAIs, kd_sARs, ln_sARs, FI_sARs, FR_sARs, AI_sARs, nx_sARs, kd_nO, ln_nO, FI_nO, FR_nO, AI_nO, AR_nO, nx_nO, kd_nA, ln_nA, FI_nA, FR_nA, AI_nA, AR_nA, nx_nA, D1.sh.fr 20, rT.1, rT.2, vpN tg1 (by decide), nI_clamp (show tg < 2 ^ 31 by omega), sAI_eq]
      simp only [w1, nI_clamp (show o < 2 ^ 31 by omega), tg3, nI_clamp (show tg < 2 ^ 31 by omega)] at hK
      have e1 : AI υ (A T) = t := by rw [eT _ hT20]; exact et
      rw [e1]
      have hT20' : ¬ A 20 = A T := fun e => hT20 e.symm
      have Dt : ∀ q, Mdl (sAIs υ (A T) q) m A f sv tx n L := fun q => D1.oth T q (by rcases hT with e | e <;> (subst e; decide))
      have D2 := Dt (upd t tg (mi + g 4))
      refine c_fin (np := np) (no := no) (ns := ns) (h := g) (x := g 4) D2.sh.kd (D2.sh.fr 30) (D2.sh.rw 20 343) (D2.sh.rw 30 19) (D2.sh.ne 20 30) W1 c1 (by rw [AI_ne hT20', e20, upd_self]) (fun a _ => ?_)
      rw [upd_self]
      have D3 := (D2.oth 30 a).oth 20 (finA g np no)
      have hT30 : ¬ A T = A 30 := by rcases hT with e | e <;> (subst e; exact D.sh.ne _ _)
      refine workOn_l hT k _ (finA g np no) (no - 1) _ (upd t tg (mi + g 4)) D3 AI_self (by rw [AI_ne hT20, AI_ne hT30, AI_self]) ?_ ?_ (by omega) (fun σ' F D4 e4 e5 => hK σ' (F1.trans ((((MF.rf.row T hTm).row 30).row 20).trans F)) D4 e4 (fun U hU hUT => ?_))
      · have := W1.fin4 (x := g 4) c1; rw [upd_self] at this; exact this
      · intro q hq
        rw [finA_od W1 c1 hq (by decide), goR_od g1 hW.1.2.1]
        exact hT2 _ (skp_lt hq)
      · rw [e5 U hU hUT]
        have n1 : ¬ A U = A 20 := by rcases hU with e | e <;> (subst e; exact D.sh.ne _ _)
        have n2 : ¬ A U = A 30 := by rcases hU with e | e <;> (subst e; exact D.sh.ne _ _)
        have n3 : ¬ A U = A T := D.sh.2.2.2 U (by rcases hU with e | e <;> (subst e; decide)) T hTm hUT
        rw [AI_ne n1, AI_ne n2, AI_ne n3, eT _ n1]
    · rw [eh] at g1
      rw [g1] at hK
      exact hK _ MF.rf.fld (D.fld (by rw [g2 22 (by decide) (by decide) (by decide)]; exact D.eN) (by rw [g2 24 (by decide) (by decide) (by decide)]; exact D.eL)) (by rw [AI_sFs]; exact et) (fun U _ _ => rfl)
theorem c_workOn {T : Nat} {h : Nat → Int32} {K : Sg → Prop} (hT : T = 28 ∨ T = 29) (D : Mdl σ m A f sv tx n L) (eh : AI σ (A 20) = h) (hW : Wf h np no ns) (hT2 : WfT h no)
    (hK : ∀ σ', MF m A σ σ' → Mdl σ' m A f sv tx n L → AI σ' (A T) = wkT np (no + 1) h no 0 m9 → (∀ U, U = 28 ∨ U = 29 → U ≠ T → AI σ' (A U) = AI σ (A U)) → K σ') : CalV w mX3_workOn σ [va_rf (some m), va_rf (some (A T))] K := by
  have hTm : T ∈ mfs := by rcases hT with e | e <;> (subst e; decide)
  have hTl : Rw σ (A T) 10 := by rcases hT with e | e <;> (subst e; exact D.sh.rw _ _)
  have hT20 : ¬ A 20 = A T := by rcases hT with e | e <;> (subst e; exact D.sh.ne _ _)
  refine eX3_workOn _ _ (bX3_workOn_0 _ _ ?_)
  let g : Nat → Nat → Int32 := fun i k => if k < i then -9 else AI σ (A T) k
  have g0 : g 0 = AI σ (A T) := by funext k; exact if_neg (by omega)
  have gs : ∀ i, upd (g i) i (-9) = g (i + 1) := fun i => by
    funext k
    show _ = (if k < i + 1 then _ else _)
    by_cases e : k = i
    · subst e; rw [pk_us, if_pos (by omega)]
    · rw [pk_un e]; exact ifc (by omega)
  have key := upL (P := fun i => G w mX3_workOn (KV K) 0 0 (sAIs σ (A T) (g i)) 2 [va_rf (some m), va_rf (some (A T)), .int (nI i)] []) (N := 10) ?_ ?_
  · rw [g0, sAIs_rfl] at key; exact key
  · refine bX3_workOn_2 _ _ _ ⟨fun _ => ?_, fun h => absurd (nI_le (Nat.le_refl 10) (by decide)) h⟩
    refine G.tail (a := A T) (g := m9) hTl.1 (fun i hi => ?_) ?_
    · rw [AI_self]
      have hi : i < ln σ (A T) := hi
      rw [hTl.2] at hi
      exact (if_pos hi).symm
    rw [sAIs_sAIs]
    refine workOn_l hT (no + 1) _ h no 0 m9 (D.oth T m9 (by rcases hT with e | e <;> (subst e; decide))) (by rw [AI_ne hT20]; exact eh) AI_self hW hT2 (Nat.le_refl _) (fun σ' F D' e e2 => hK σ' ((MF.rf.row T hTm).trans F) D' e (fun U hU hUT => ?_))
    rw [e2 U hU hUT, AI_ne (D.sh.2.2.2 U (by rcases hU with e | e <;> (subst e; decide)) T hTm hUT)]
  · intro i hi ih
    refine bX3_workOn_2 _ _ _ ⟨fun h => absurd h (nI_ge (b := 10) hi (by decide)), fun _ => ?_⟩
    simp only [Option.some.injEq, exists_eq_left', exists_eq_left, forall_eq, forall_eq', List.mem_cons, List.not_mem_nil, or_false, or_true, true_or, true_and, and_true, eq_self, Nat.reduceEqDiff, reduceCtorEq, forall_const, true_implies, false_implies, implies_true, not_true_eq_false, not_false_eq_true, false_and, and_false, false_or, if_true, if_false, kd_sFI, ln_sFI, FI_sFI, FR_sFI, AI_sFI, AR_sFI, nx_sFI, kd_sFR, ln_sFR, FI_sFR, FR_sFR, AI_sFR, AR_sFR, nx_sFR, kd_sAI, ln_sAI, FI_sAI, FR_sAI, AI_sAI, AR_sAI, nx_sAI, kd_sAR, ln_sAR, FI_sAR, FR_sAR, AI_sAR, AR_sAR, nx_sAR, kd_sAIs, ln_sAIs, FI_sAIs, FR_sAIs, AR_sAIs, nx_sAIs, kd_sARs, ln_sARs, FI_sARs, FR_sARs, AI_sARs, nx_sARs, kd_nO, ln_nO, FI_nO, FR_nO, AI_nO, AR_nO, nx_nO, kd_nA, ln_nA, FI_nA, FR_nA, AI_nA, AR_nA, nx_nA, hTl.1, hTl.2, nI_clamp (show i < 2 ^ 31 by omega), vpN hi (by decide), AI_self, sAI_eq, sAIs_sAIs, gs]
    rw [nI_succ] at ih; exact ih
theorem c_doneIn3 {x : Int32} {K : Sg → Int32 → Prop} (hM : Mdl σ m A f sv tx n L) (hW : Wf f np no ns)
    (hK : ∀ σ', MF m A σ σ' → Mdl σ' m A f sv tx n L → K σ' (rDone f np no x)) : CalI w mX3_doneIn σ [va_rf (some m), .int x] K := by
  have h10 := hW.1.2.2.2.1
  have hM1 : Mdl (sFI σ 18 m 0) m A f sv tx n L := hM.fI (by decide) (by decide)
  refine eX3_doneIn _ _ (bX3_doneIn_0 _ _ ?_)
  unfold rDone at hK
  simp only [Option.some.injEq, exists_eq_left', exists_eq_left, forall_eq, forall_eq', List.mem_cons, List.not_mem_nil, or_false, or_true, true_or, true_and, and_true, eq_self, Nat.reduceEqDiff, reduceCtorEq, forall_const, true_implies, false_implies, implies_true, not_true_eq_false, not_false_eq_true, false_and, and_false, false_or, if_true, if_false, kd_sFI, ln_sFI, FI_sFI, FR_sFI, AI_sFI, AR_sFI, nx_sFI, kd_sFR, ln_sFR, FI_sFR, FR_sFR, AI_sFR, AR_sFR, nx_sFR, kd_sAI, ln_sAI, FI_sAI, FR_sAI, AI_sAI, AR_sAI, nx_sAI, kd_sAR, ln_sAR, FI_sAR, FR_sAR, AI_sAR, AR_sAR, nx_sAR, kd_sAIs, ln_sAIs, FI_sAIs, FR_sAIs, AR_sAIs, nx_sAIs, kd_sARs, ln_sARs, FI_sARs, FR_sARs, AI_sARs, nx_sARs, kd_nO, ln_nO, FI_nO, FR_nO, AI_nO, AR_nO, nx_nO, kd_nA, ln_nA, FI_nA, FR_nA, AI_nA, AR_nA, nx_nA, hM.sh.kd]
  refine c_isOrder3 hM1 hW.1.2.2.1 (by omega) (fun p hp hx _ => ⟨fun _ => ?_, fun h => absurd h (by decide)⟩) (fun hx _ => ⟨fun h => absurd rfl h, fun _ => ?_⟩)
  · subst hx
    rw [iteP_t ⟨p, hp, rfl⟩, nI_clamp (by omega)] at hK
    refine c_tryNow hM1 hW.1.2.2.1 h10 (fun _ => ?_)
    have D2 := hM1.oth 20 (tagd f no)
    have F2 : MF m A σ (sAIs (sFI σ 18 m 0) (A 20) (tagd f no)) := MF.rf.fI.row 20
    rw [D2.sh.fr 28]
    refine c_workOn (T := 28) (np := np) (no := no) (ns := ns) (Or.inl rfl) D2 AI_self (Wf_tagd hW) (WfT_tagd h10) (fun σ' F D e _ _ => ?_)
    have hr := D.sh.rw 28 10
    simp only [Option.some.injEq, exists_eq_left', exists_eq_left, forall_eq, forall_eq', List.mem_cons, List.not_mem_nil, or_false, or_true, true_or, true_and, and_true, eq_self, Nat.reduceEqDiff, reduceCtorEq, forall_const, true_implies, false_implies, implies_true, not_true_eq_false, not_false_eq_true, false_and, and_false, false_or, if_true, if_false, kd_sFI, ln_sFI, FI_sFI, FR_sFI, AI_sFI, AR_sFI, nx_sFI, kd_sFR, ln_sFR, FI_sFR, FR_sFR, AI_sFR, AR_sFR, nx_sFR, kd_sAI, ln_sAI, FI_sAI, FR_sAI, AI_sAI, AR_sAI, nx_sAI, kd_sAR, ln_sAR, FI_sAR, FR_sAR, AI_sAR, AR_sAR, nx_sAR, kd_sAIs, ln_sAIs, FI_sAIs, FR_sAIs, AR_sAIs, nx_sAIs, kd_sARs, ln_sARs, FI_sARs, FR_sARs, AI_sARs, nx_sARs, kd_nO, ln_nO, FI_nO, FR_nO, AI_nO, AR_nO, nx_nO, kd_nA, ln_nA, FI_nA, FR_nA, AI_nA, AR_nA, nx_nA, D.sh.fr 28, hr.1, hr.2, vpN (show p < 10 by omega) (by decide), nI_clamp (show p < 2 ^ 31 by omega), e]
    exact hK σ' (F2.trans F) D
  · rw [iteP_f (nInR hx)] at hK
    exact hK _ MF.rf.fI hM1
end model13
