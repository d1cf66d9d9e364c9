/-! the model's calls, 6: work -/
set_option maxRecDepth 100000
noncomputable def fo (f : Nat → Int32) (np : Nat) : Nat → Option (Nat × Bool × Nat)
  | 0 => none
  | n + 1 => match fo f np n with
    | some z => some z
    | none => match fpo f np n with
      | some z => some (n, z.1, z.2)
      | none => none
theorem fo_none {f : Nat → Int32} {np : Nat} : ∀ {n : Nat}, (∀ j, j < n → fpo f np j = none) → fo f np n = none
  | 0, _ => rfl
  | n + 1, h => by rw [fo, fo_none (fun j hj => h j (by omega)), h n (by omega)]
theorem fo_some {f : Nat → Int32} {np o p : Nat} {g : Bool} : ∀ {n : Nat}, o < n → (∀ j, j < o → fpo f np j = none) → fpo f np o = some (g, p) → fo f np n = some (o, g, p)
  | 0, h, _, _ => absurd h (by omega)
  | n + 1, h, h1, h2 => by
    by_cases e : o = n
    · subst e; rw [fo, fo_none h1, h2]
    · rw [fo, fo_some (by omega) h1 h2]
theorem fo_of {f : Nat → Int32} {np o p : Nat} {g : Bool} : ∀ {n : Nat}, fo f np n = some (o, g, p) → o < n ∧ fpo f np o = some (g, p)
  | 0, h => by cases h
  | n + 1, h => by
    rw [fo] at h
    cases e : fo f np n with
    | some z => rw [e] at h; cases h; have := fo_of e; exact ⟨by omega, this.2⟩
    | none =>
      rw [e] at h
      cases e2 : fpo f np n with
      | none => rw [e2] at h; cases h
      | some z => rw [e2] at h; cases h; exact ⟨by omega, e2⟩
/-- the row once an order is at work, if one can be -/
noncomputable def goR (f : Nat → Int32) (np no : Nat) : Option (Nat → Int32) :=
  if f 3 = -9 then (match fo f np no with
    | none => none
    | some z => some (gon f z.1 z.2.1 z.2.2 (fsd f (od f z.1 3) z.2.1 z.2.2))) else some f
def finA (h : Nat → Int32) (np no : Nat) : Nat → Int32 := fin h (h 3).toNatClampNeg (h 5).toNatClampNeg (h 6).toNatClampNeg np no
noncomputable def wrk (np : Nat) : Nat → (Nat → Int32) → Nat → Int32 → Int32 → (Nat → Int32) × Int32
  | 0, f, _, _, done => (f, done)
  | k + 1, f, no, left, done =>
    if left ≤ 0 then (f, done) else match goR f np no with
      | none => (f, done)
      | some h =>
        if h 4 ≤ left then wrk np k (finA (upd h 4 (h 4 - h 4)) np no) (no - 1) (left - h 4) (done + 1)
        else wrk np k (upd h 4 (h 4 - left)) no (left - left) done
theorem Wf.go {f h : Nat → Int32} {np no ns : Nat} (hW : Wf f np no ns) (e : goR f np no = some h) : Wf h np no ns ∧ ¬ h 3 = -9 := by
  unfold goR at e
  by_cases c : f 3 = -9
  · rw [if_pos c] at e
    cases q : fo f np no with
    | none => rw [q] at e; cases e
    | some z =>
      obtain ⟨o, g, p⟩ := z
      rw [q] at e
      cases e
      obtain ⟨h1, h2⟩ := fo_of q
      have h3 := fpl_lt h2
      have W := hW.goes (g := g) h1 h3 (fsd_le (f := f) (d := od f o 3) (g := g) (p := p))
      refine ⟨W, ?_⟩
      show ¬ gon f o g p _ 3 = -9
      rcases W.2.2.2.2.2 with w | ⟨o', _, _, _, w, w2, _⟩
      · exfalso
        have : gon f o g p (fsd f (od f o 3) g p) 3 = nI o := by
          unfold gon
          have q : upl (upd (upd (upd (upd f 3 (nI o)) 5 (nI p)) 6 (nI (fsd f (od f o 3) g p))) 4 (eff f o + if g then 10 else 0)) p 2 1 3 = nI o := by
            rw [upl_lo (by decide), pk_un (by decide), pk_un (by decide), pk_un (by decide), pk_us]
          cases g
          · exact q
          · show grd _ _ _ 3 = _
            rw [grd_lo (by decide)]; exact q
        rw [this] at w
        exact m9n (by have := hW.1.2.2.2.1; omega) w.1
      · rw [w]; exact m9n (by have := hW.1.2.2.2.1; omega)
  · rw [if_neg c] at e; cases e; exact ⟨hW, c⟩
theorem Wf.work {h : Nat → Int32} {np no ns : Nat} (hW : Wf h np no ns) (c : ¬ h 3 = -9) : ∃ o p s l, h 3 = nI o ∧ o < no ∧ h 5 = nI p ∧ p < np ∧ h 6 = nI s ∧ s ≤ 1 ∧ pl h p 2 = 1 ∧ h 4 = nI l ∧ 1 ≤ l ∧ l ≤ 118 := by
  rcases hW.2.2.2.2.2 with w | w
  · exact absurd w.1 c
  · exact w
theorem upd4_v {h : Nat → Int32} {x : Int32} {i : Nat} (hi : i ≠ 4) : upd h 4 x i = h i := pk_un hi
theorem Wf.left {h : Nat → Int32} {np no ns : Nat} {x : Int32} (hW : Wf h np no ns) (hx : h 3 = -9 ∨ ∃ l, x = nI l ∧ 1 ≤ l ∧ l ≤ 118) : Wf (upd h 4 x) np no ns := by
  obtain ⟨hN, hP, hS, hO, hX, hw⟩ := hW
  have v : ∀ q k, q < np → k = 0 ∨ k = 2 ∨ k = 5 ∨ k = 6 → pl (upd h 4 x) q k = pl h q k := fun q k _ _ => pl_upd (by decide)
  refine ⟨hN.c (pk_un (by decide)) (pk_un (by decide)) (pk_un (by decide)), hP.v v, hS.v v (fun s _ => pk_un (by omega)), hO.c (fun o k => od_upd (by decide)), fun o p ho hp e1 e2 e3 => ?_, ?_⟩
  · rw [pl_upd (by decide)] at e1 e2 e3
    rw [od_upd (by decide)] at e2 e3
    exact hX o p ho hp e1 e2 e3
  · unfold WfW
    rw [pk_un (by decide), pk_un (by decide), pk_un (by decide), pk_us]
    rcases hw with w | ⟨o, p, s, l, w1, w2, w3, w4, w5, w6, w7, w8⟩
    · exact Or.inl w
    · rcases hx with hx | ⟨l', hx⟩
      · rw [w1] at hx; exact absurd hx (m9n (by have := hN.2.2.2.1; omega))
      · exact Or.inr ⟨o, p, s, l', w1, w2, w3, w4, w5, w6, by rw [pl_upd (by decide)]; exact w7, hx⟩
/-- finish, whatever is left -/
theorem Wf.fin4 {h : Nat → Int32} {np no ns : Nat} {x : Int32} (hW : Wf h np no ns) (c : ¬ h 3 = -9) : Wf (finA (upd h 4 x) np no) np (no - 1) ns := by
  obtain ⟨o, p, s, l, w1, w2, w3, w4, w5, w6, w7, _⟩ := hW.work c
  have h10 := hW.1.2.2.2.1
  have h20 := hW.1.2.1
  obtain ⟨hN, hP, hS, hO, hX, hw⟩ := hW
  have v : ∀ q k, q < np → k = 0 ∨ k = 2 ∨ k = 5 ∨ k = 6 → pl (upd h 4 x) q k = pl h q k := fun q k _ _ => pl_upd (by decide)
  unfold finA
  rw [upd4_v (by decide), upd4_v (by decide), upd4_v (by decide), w1, w3, w5, nI_clamp (by omega), nI_clamp (by omega), nI_clamp (by omega)]
  refine Wf_fin (hN.c (pk_un (by decide)) (pk_un (by decide)) (pk_un (by decide))) (hP.v v) (hS.v v (fun s _ => pk_un (by omega))) (hO.c (fun o k => od_upd (by decide))) (fun o p ho hp e1 e2 e3 => ?_) w2 w4 w6 (by rw [pl_upd (by decide)]; exact w7)
  rw [pl_upd (by decide)] at e1 e2 e3
  rw [od_upd (by decide)] at e2 e3
  exact hX o p ho hp e1 e2 e3
section model12
variable {w : Wt} {σ : Sg}
theorem c_goes {m a np no ns : Nat} {K : Sg → Int32 → Prop} (hm : kd σ m = 13) (hr : Rw σ a 343) (hW : Wf (AI σ a) np no ns)
    (hT : ∀ h (φ : Nat → Int32), goR (AI σ a) np no = some h → (∀ k, k ≠ 25 → k ≠ 26 → k ≠ 27 → φ k = Fm σ m k) → K (sFs (sAIs σ a h) m φ) 1)
    (hF : ∀ (φ : Nat → Int32), goR (AI σ a) np no = none → (∀ k, k ≠ 25 → k ≠ 26 → k ≠ 27 → φ k = Fm σ m k) → K (sFs σ m φ) 0) :
    CalI w mX3_goesOn σ [va_rf (some m), va_rf (some a)] K := by
  refine c_goesOn hm hr hW.1.1 hW.1.2.1 hW.1.2.2.1 hW.1.2.2.2.1 hW.2.2.2.1.l (fun h => ?_) (fun o g p φ h1 h2 h3 h4 h5 => ?_) (fun φ h1 h2 h3 => ?_)
  · have := hT (AI σ a) (Fm σ m) (by unfold goR; rw [if_neg h]) (fun _ _ _ _ => rfl)
    rw [sAIs_rfl, sFs_rfl] at this; exact this
  · exact hT _ φ (by unfold goR; rw [if_pos h1, fo_some h2 h3 h4]) h5
  · exact hF φ (by unfold goR; rw [if_pos h1, fo_none h2]) h3
/-- finish on a row at work -/
theorem c_fin {m a b np no ns : Nat} {x : Int32} {h : Nat → Int32} {K : Sg → Prop} (hm : kd σ m = 13) (hmb : FR σ 30 m = some b) (hr : Rw σ a 343) (hb : Rw σ b 19) (hab : ¬ a = b) (hW : Wf h np no ns) (c : ¬ h 3 = -9) (e : AI σ a = upd h 4 x)
    (hK : ∀ g, K (sAIs (sAIs σ b g) a (finA (upd h 4 x) np no))) : CalV w mX3_finish σ [va_rf (some m), va_rf (some a)] K := by
  obtain ⟨o, p, s, l, w1, w2, w3, w4, w5, w6, w7, _⟩ := hW.work c
  have h10 := hW.1.2.2.2.1
  have h20 := hW.1.2.1
  have h3 := hW.1.2.2.2.2.2
  obtain ⟨⟨sh, hsh, esh⟩, _⟩ := hW.2.2.2.1.1 o w2
  obtain ⟨cc, c1, c2, c3, _⟩ := hW.2.2.1 sh hsh
  refine c_finish (o := o) (p := p) (s := s) (N := np) (No := no) (sh := sh) hm hmb hr hb hab ?_ h20 ?_ h10 ?_ w2 ?_ (by omega) ?_ w6 ?_ (by omega) ?_ (fun g => ?_)
  · rw [e, upd4_v (by decide)]; exact hW.1.1
  · rw [e, upd4_v (by decide)]; exact hW.1.2.2.1
  · rw [e, upd4_v (by decide)]; exact w1
  · rw [e, upd4_v (by decide)]; exact w3
  · rw [e, upd4_v (by decide)]; exact w5
  · rw [e, od_upd (by decide)]; exact esh
  · rw [e, upd4_v (by omega), c1]; exact nI_pos' (by omega)
  · have := hK g
    unfold finA at this
    rw [upd4_v (by decide), upd4_v (by decide), upd4_v (by decide), w1, w3, w5, nI_clamp (by omega), nI_clamp (by omega), nI_clamp (by omega)] at this
    rw [e]; exact this
variable {m n L : Nat} {A : Nat → Nat} {sv tx : Nat → Int32} {np ns : Nat}
theorem work_l {x : Int32} {K : Sg → Int32 → Prop} : ∀ (k : Nat) (τ : Sg) (f : Nat → Int32) (no j : Nat) (done : Int32) (vv : Value), Mdl τ m A f sv tx n L → Wf f np no ns → j ≤ 600 → (no + 1 ≤ k ∨ j = 0) →
    (∀ σ' no', MF m A τ σ' → Mdl σ' m A (wrk np k f no (nI j) done).1 sv tx n L → Wf (wrk np k f no (nI j) done).1 np no' ns → K σ' (wrk np k f no (nI j) done).2) →
    G w mX3_work (KI K) 0 0 τ 26 [va_rf (some m), .int x, .int (nI j), .int done, vv] []
  | 0, τ, f, no, j, done, vv, D, hW, hj, hk, hK => by
    have hj0 : j = 0 := by omega
    subst hj0
    exact bX3_work_26 _ _ _ _ _ ⟨fun _ => hK τ no MF.rf D hW, fun h => absurd (by decide) h⟩
  | k + 1, τ, f, no, j, done, vv, D, hW, hj, hk, hK => by
    have hr := D.sh.rw 19 343
    have hnoL := hW.1.2.2.2.1
    refine bX3_work_26 _ _ _ _ _ ⟨fun h => ?_, fun h => ?_⟩
    · rw [wrk, if_pos h] at hK
      exact hK τ no MF.rf D hW
    · have hj0 : 0 < j := by
        rcases Nat.eq_zero_or_pos j with q | q
        · exact absurd (by rw [q]; decide) h
        · exact q
      have hk2 : no ≤ k := by omega
      rw [wrk, if_neg h] at hK
      simp only [Option.some.injEq, exists_eq_left', exists_eq_left, forall_eq, forall_eq', List.mem_cons, List.not_mem_nil, or_false, or_true, true_or, true_and, and_true, eq_self, Nat.reduceEqDiff, reduceCtorEq, forall_const, true_implies, false_implies, implies_true, not_true_eq_false, not_false_eq_true, false_and, and_false, false_or, if_true, if_false, kd_sFI, ln_sFI, FI_sFI, FR_sFI, AI_sFI, AR_sFI, nx_sFI, kd_sFR, ln_sFR, FI_sFR, FR_sFR, AI_sFR, AR_sFR, nx_sFR, kd_sAI, ln_sAI, FI_sAI, FR_sAI, AI_sAI, AR_sAI, nx_sAI, kd_sAR, ln_sAR, FI_sAR, FR_sAR, AI_sAR, AR_sAR, nx_sAR, kd_sAIs, ln_sAIs, FI_sAIs, FR_sAIs, AR_sAIs, nx_sAIs, kd_sARs, ln_sARs, FI_sARs, FR_sARs, AI_sARs, nx_sARs, kd_nO, ln_nO, FI_nO, FR_nO, AI_nO, AR_nO, nx_nO, kd_nA, ln_nA, FI_nA, FR_nA, AI_nA, AR_nA, nx_nA, D.sh.kd, D.sh.fr 19]
      refine c_goes (np := np) (no := no) (ns := ns) D.sh.kd hr (by rw [D.eF]; exact hW) (fun g φ g1 g2 _ => ⟨fun q => absurd q (by decide), fun _ => ?_⟩) (fun φ g1 g2 _ => ⟨fun _ => ?_, fun q => absurd rfl q⟩)
      · rw [D.eF] at g1
        rw [g1] at hK
        obtain ⟨W1, c1⟩ := hW.go g1
        obtain ⟨o, p, s, l, w1, w2, w3, w4, w5, w6, w7, w8, w9, w10⟩ := W1.work c1
        have D1 : Mdl (sFs (sAIs τ (A 19) g) m φ) m A g sv tx n L := (D.row g).fld (by rw [g2 22 (by decide) (by decide) (by decide)]; exact D.eN) (by rw [g2 24 (by decide) (by decide) (by decide)]; exact D.eL)
        have F1 : MF m A τ (sFs (sAIs τ (A 19) g) m φ) := (MF.rf.row 19).fld
        generalize sFs (sAIs τ (A 19) g) m φ = υ at D1 F1
        have hr1 := D1.sh.rw 19 343
        simp only [Option.some.injEq, exists_eq_left', exists_eq_left, forall_eq, forall_eq', List.mem_cons, List.not_mem_nil, or_false, or_true, true_or, true_and, and_true, eq_self, Nat.reduceEqDiff, reduceCtorEq, forall_const, true_implies, false_implies, implies_true, not_true_eq_false, not_false_eq_true, false_and, and_false, false_or, if_true, if_false, kd_sFI, ln_sFI, FI_sFI, FR_sFI, AI_sFI, AR_sFI, nx_sFI, kd_sFR, ln_sFR, FI_sFR, FR_sFR, AI_sFR, AR_sFR, nx_sFR, kd_sAI, ln_sAI, FI_sAI, FR_sAI, AI_sAI, AR_sAI, nx_sAI, kd_sAR, ln_sAR, FI_sAR, FR_sAR, AI_sAR, AR_sAR, nx_sAR, kd_sAIs, ln_sAIs, FI_sAIs, FR_sAIs, AR_sAIs, nx_sAIs, kd_sARs, ln_sARs, FI_sARs, FR_sARs, AI_sARs, nx_sARs, kd_nO, ln_nO, FI_nO, FR_nO, AI_nO, AR_nO, nx_nO, kd_nA, ln_nA, FI_nA, FR_nA, AI_nA, AR_nA, nx_nA, D1.sh.fr 19, hr1.1, hr1.2, v4, cl4, D1.eF, sAI_eq, AI_self, pk_us]
        refine ⟨fun h4 => ?_, fun h4 => ?_⟩
        · refine ⟨fun q => absurd (by rw [w8, pk_sub (Nat.le_refl l), Nat.sub_self]; rfl) q, fun _ => ?_⟩
          simp only [if_pos h4] at hK
          have hno : 1 ≤ no := by omega
          have hlj : l ≤ j := by
            rw [w8] at h4
            rcases Nat.lt_or_ge j l with q | q
            · exact absurd h4 (nI_ge q (by omega))
            · exact q
          have D2 := D1.row (upd g 4 (g 4 - g 4))
          refine c_fin (np := np) (no := no) (ns := ns) (h := g) (x := g 4 - g 4) D2.sh.kd (D2.sh.fr 30) (D2.sh.rw 19 343) (D2.sh.rw 30 19) (D2.sh.ne 19 30) W1 c1 D2.eF (fun a _ => ?_)
          have ej : nI j - g 4 = nI (j - l) := by rw [w8]; exact pk_sub hlj
          rw [ej] at hK ⊢
          have D3 := (D2.oth 30 a).row (finA (upd g 4 (g 4 - g 4)) np no)
          exact work_l k _ _ (no - 1) (j - l) (done + 1) _ D3 (W1.fin4 c1) (by omega) (by omega) (fun σ' no' F => hK σ' no' (F1.trans ((((MF.rf.row 19).row 30).row 19).trans F)))
        · simp only [if_neg h4] at hK
          have hlj : j < l := by
            rw [w8] at h4
            rcases Nat.lt_or_ge j l with q | q
            · exact q
            · exact absurd (nI_le q (by omega)) h4
          have el : g 4 - nI j = nI (l - j) := by rw [w8]; exact pk_sub (by omega)
          refine ⟨fun _ => ?_, fun q => absurd q (by rw [el]; exact nI_ne0 (by omega) (by omega))⟩
          have ej : nI j - nI j = nI 0 := by rw [pk_sub (Nat.le_refl j), Nat.sub_self]
          rw [ej] at hK ⊢
          have D2 := D1.row (upd g 4 (g 4 - nI j))
          exact work_l k _ _ no 0 done _ D2 (W1.left (Or.inr ⟨l - j, el, by omega, by omega⟩)) (by omega) (by omega) (fun σ' no' F => hK σ' no' (F1.trans ((MF.rf.row 19).trans F)))
      · rw [D.eF] at g1
        rw [g1] at hK
        exact hK _ no MF.rf.fld (D.fld (by rw [g2 22 (by decide) (by decide) (by decide)]; exact D.eN) (by rw [g2 24 (by decide) (by decide) (by decide)]; exact D.eL)) hW
noncomputable def rWork (f : Nat → Int32) (np no : Nat) (x : Int32) : Rs :=
  if 1 ≤ x ∧ x ≤ 600 then (some (wrk np (no + 1) f no x 0).1, (wrk np (no + 1) f no x 0).2) else (none, -1)
theorem c_work3 {f : Nat → Int32} {no : Nat} {x : Int32} {K : Sg → Int32 → Prop} (hM : Mdl σ m A f sv tx n L) (hn : n ≤ 5) (hW : Wf f np no ns)
    (hK : ∀ σ' no', MF m A σ σ' → Mdl σ' m A (rRw (rWork f np no x) f) (rSv (rWork f np no x) f sv n) tx (rNx (rWork f np no x) n) L → Wf (rRw (rWork f np no x) f) np no' ns → K σ' (rWork f np no x).2) : CalI w mX3_work σ [va_rf (some m), .int x] K := by
  refine eX3_work _ _ (bX3_work_0 _ _ ?_)
  have hM1 : Mdl (sFI σ 18 m 0) m A f sv tx n L := hM.fI (by decide) (by decide)
  unfold rWork at hK
  simp only [Option.some.injEq, exists_eq_left', exists_eq_left, forall_eq, forall_eq', List.mem_cons, List.not_mem_nil, or_false, or_true, true_or, true_and, and_true, eq_self, Nat.reduceEqDiff, reduceCtorEq, forall_const, true_implies, false_implies, implies_true, not_true_eq_false, not_false_eq_true, false_and, and_false, false_or, if_true, if_false, kd_sFI, ln_sFI, FI_sFI, FR_sFI, AI_sFI, AR_sFI, nx_sFI, kd_sFR, ln_sFR, FI_sFR, FR_sFR, AI_sFR, AR_sFR, nx_sFR, kd_sAI, ln_sAI, FI_sAI, FR_sAI, AI_sAI, AR_sAI, nx_sAI, kd_sAR, ln_sAR, FI_sAR, FR_sAR, AI_sAR, AR_sAR, nx_sAR, kd_sAIs, ln_sAIs, FI_sAIs, FR_sAIs, AR_sAIs, nx_sAIs, kd_sARs, ln_sARs, FI_sARs, FR_sARs, AI_sARs, nx_sARs, kd_nO, ln_nO, FI_nO, FR_nO, AI_nO, AR_nO, nx_nO, kd_nA, ln_nA, FI_nA, FR_nA, AI_nA, AR_nA, nx_nA, hM.sh.kd]
  refine c_in (fun a1 a2 _ => ⟨fun _ => ?_, fun h => absurd h (by decide)⟩) (fun a _ => ⟨fun h => absurd rfl h, fun _ => ?_⟩)
  · rw [if_pos ⟨a1, a2⟩] at hK
    obtain ⟨j, hj, ej⟩ := nI_of2 (x := x) (M := 600) (n := 600) (by decide) (Int32.not_lt.mpr (Int32.le_trans (by decide) a1)) a2
    subst ej
    refine c_act hM1 hn (fun σ1 F1 D1 _ => ?_)
    exact work_l (no + 1) σ1 f no j 0 _ D1 hW hj (Or.inl (Nat.le_refl _)) (fun σ' no' F D W => hK σ' no' ((MF.rf.fI.trans F1).trans F) D W)
  · rw [if_neg a] at hK
    exact hK _ no MF.rf.fI hM1 hW
end model12
