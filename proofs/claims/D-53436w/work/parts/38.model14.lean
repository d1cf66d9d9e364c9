/-! the model's calls, 8: moved -/
set_option maxRecDepth 100000
theorem mall_succ {a b : Nat → Int32} {n : Nat} : mall a b (n + 1) ↔ mall a b n ∧ ¬ a n = -9 ∧ ¬ b n = -9 := by
  constructor
  · intro h; exact ⟨fun k hk => h k (by omega), h n (by omega)⟩
  · rintro ⟨h1, h2⟩ k hk
    by_cases e : k = n
    · subst e; exact h2
    · exact h1 k (by omega)
section model14
variable {w : Wt} {σ : Sg} {m n L : Nat} {A : Nat → Nat} {f sv tx : Nat → Int32} {np no ns : Nat}
theorem c_moved3 {x : Int32} {K : Sg → Int32 → Prop} (hM : Mdl σ m A f sv tx n L) (hW : Wf f np no ns)
    (hK : ∀ σ', MF m A σ σ' → Mdl σ' m A f sv tx n L → K σ' (rMoved f np no x)) : CalI w mX3_moved σ [va_rf (some m), .int x] K := by
  have h10 := hW.1.2.2.2.1
  have hM1 : Mdl (sFI σ 18 m 0) m A f sv tx n L := hM.fI (by decide) (by decide)
  refine eX3_moved _ _ (bX3_moved_0 _ _ ?_)
  unfold rMoved at hK
  simp only [Option.some.injEq, exists_eq_left', exists_eq_left, forall_eq, forall_eq', List.mem_cons, List.not_mem_nil, or_false, or_true, true_or, true_and, and_true, eq_self, Nat.reduceEqDiff, reduceCtorEq, forall_const, true_implies, false_implies, implies_true, not_true_eq_false, not_false_eq_true, false_and, and_false, false_or, if_true, if_false, kd_sFI, ln_sFI, FI_sFI, FR_sFI, AI_sFI, AR_sFI, nx_sFI, kd_sFR, ln_sFR, FI_sFR, FR_sFR, AI_sFR, AR_sFR, nx_sFR, kd_sAI, ln_sAI, FI_sAI, FR_sAI, AI_sAI, AR_sAI, nx_sAI, kd_sAR, ln_sAR, FI_sAR, FR_sAR, AI_sAR, AR_sAR, nx_sAR, kd_sAIs, ln_sAIs, FI_sAIs, FR_sAIs, AR_sAIs, nx_sAIs, kd_sARs, ln_sARs, FI_sARs, FR_sARs, AI_sARs, nx_sARs, kd_nO, ln_nO, FI_nO, FR_nO, AI_nO, AR_nO, nx_nO, kd_nA, ln_nA, FI_nA, FR_nA, AI_nA, AR_nA, nx_nA, hM.sh.kd]
  refine c_isOrder3 hM1 hW.1.2.2.1 (by omega) (fun o ho hx _ => ⟨fun _ => ?_, fun h => absurd h (by decide)⟩) (fun hx _ => ⟨fun h => absurd rfl h, fun _ => ?_⟩)
  · subst hx
    rw [iteP_t ⟨o, ho, rfl⟩, nI_clamp (by omega)] at hK
    simp only [Option.some.injEq, exists_eq_left', exists_eq_left, forall_eq, forall_eq', List.mem_cons, List.not_mem_nil, or_false, or_true, true_or, true_and, and_true, eq_self, Nat.reduceEqDiff, reduceCtorEq, forall_const, true_implies, false_implies, implies_true, not_true_eq_false, not_false_eq_true, false_and, and_false, false_or, if_true, if_false, kd_sFI, ln_sFI, FI_sFI, FR_sFI, AI_sFI, AR_sFI, nx_sFI, kd_sFR, ln_sFR, FI_sFR, FR_sFR, AI_sFR, AR_sFR, nx_sFR, kd_sAI, ln_sAI, FI_sAI, FR_sAI, AI_sAI, AR_sAI, nx_sAI, kd_sAR, ln_sAR, FI_sAR, FR_sAR, AI_sAR, AR_sAR, nx_sAR, kd_sAIs, ln_sAIs, FI_sAIs, FR_sAIs, AR_sAIs, nx_sAIs, kd_sARs, ln_sARs, FI_sARs, FR_sARs, AI_sARs, nx_sARs, kd_nO, ln_nO, FI_nO, FR_nO, AI_nO, AR_nO, nx_nO, kd_nA, ln_nA, FI_nA, FR_nA, AI_nA, AR_nA, nx_nA, hM.sh.fr 19]
    refine c_od hM1 (p := o) rfl (k := 4) rfl (by omega) (fun _ => ⟨fun h => ?_, fun h => ?_⟩)
    · rw [if_neg h] at hK
      obtain ⟨R, hR1, hR2, hR3⟩ := rsh_n (f := f) (no := no) (fun o ho => (hW.2.2.2.1.1 o ho).2.2.2.2.1)
      have hR := hR3 o ho h
      have WT := Wf_tagd hW
      refine c_tryNow hM1 hW.1.2.2.1 h10 (fun _ => ?_)
      have D2 := hM1.oth 20 (tagd f no)
      have F2 : MF m A σ (sAIs (sFI σ 18 m 0) (A 20) (tagd f no)) := MF.rf.fI.row 20
      rw [D2.sh.fr 28]
      refine c_workOn (T := 28) (np := np) (no := no) (ns := ns) (Or.inl rfl) D2 AI_self WT (WfT_tagd h10) (fun σ3 F3 D3 e3 _ _ => ?_)
      refine c_tryNow D3 hW.1.2.2.1 h10 (fun _ => ?_)
      have D4 := D3.oth 20 (tagd f no)
      have e4 : AI (sAIs σ3 (A 20) (tagd f no)) (A 28) = tmN f np no := by rw [AI_ne (D3.sh.ne 28 20)]; exact e3
      have F4 : MF m A σ (sAIs σ3 (A 20) (tagd f no)) := (F2.trans F3).row 20
      have e20 : AI (sAIs σ3 (A 20) (tagd f no)) (A 20) = tagd f no := AI_self
      generalize sAIs σ3 (A 20) (tagd f no) = σ4 at D4 e4 F4 e20
      rw [D4.sh.fr 20]
      refine c_hurryIn (o := o) (R := R) (No := no) D4.sh.kd (D4.sh.fr 30) (D4.sh.rw 20 343) (D4.sh.rw 30 19) (D4.sh.ne 20 30) (by rw [e20, tagd_lo (by decide)]; exact hW.1.2.2.1) h10 rfl ho (by rw [e20, tagd_rsh]; exact hR2) hR (fun g _ => ?_)
      have eh : hur (AI σ4 (A 20)) (AI σ4 (A 30)) o R no = hurR (tagd f no) o no := by
        rw [e20, hur_c (B := fun _ => 0)]
        unfold hurR; rw [tagd_rsh, hR2, nI_clamp (by omega)]
      rw [eh]
      have D5 := (D4.oth 30 g).oth 20 (hurR (tagd f no) o no)
      have F5 : MF m A σ (sAIs (sAIs σ4 (A 30) g) (A 20) (hurR (tagd f no) o no)) := (F4.row 30).row 20
      have e5 : AI (sAIs (sAIs σ4 (A 30) g) (A 20) (hurR (tagd f no) o no)) (A 28) = tmN f np no := by
        rw [AI_ne (D4.sh.ne 28 20), AI_ne (D4.sh.ne 28 30)]; exact e4
      have e6 : AI (sAIs (sAIs σ4 (A 30) g) (A 20) (hurR (tagd f no) o no)) (A 20) = hurR (tagd f no) o no := AI_self
      generalize sAIs (sAIs σ4 (A 30) g) (A 20) (hurR (tagd f no) o no) = σ5 at D5 F5 e5 e6
      rw [D5.sh.fr 29]
      have hurR' : hurR (tagd f no) o no = hur (tagd f no) (fun _ => 0) o R no := by
        unfold hurR; rw [tagd_rsh, hR2, nI_clamp (by omega)]
      refine c_workOn (T := 29) (np := np) (no := no) (ns := ns) (Or.inr rfl) D5 e6 (by rw [hurR']; exact Wf_hur WT ho hR) (by rw [hurR']; exact WfT_hur (WfT_tagd h10) ho hR) (fun σ6 F6 D6 e7 e8 _ => ?_)
      have e9 : AI σ6 (A 28) = tmN f np no := by rw [e8 28 (Or.inl rfl) (by decide)]; exact e5
      have e10 : AI σ6 (A 29) = tmT f np no o := e7
      have fin := hK σ6 (F5.trans F6) D6
      generalize tmN f np no = a at fin e9
      generalize tmT f np no o = b at fin e10
      have hr := D6.sh.rw 19 343
      have ha := D6.sh.rw 28 10
      have hb := D6.sh.rw 29 10
      refine ⟨fun q => absurd q (nI_pos (by omega)), fun _ => ?_⟩
      refine upL (P := fun i => ∀ z : Int32, (mall a b i → z = 1) → (¬ mall a b i → z = 0) → G w mX3_moved (KI K) 0 0 σ6 81 [va_rf (some m), .int (nI o), .int (nI R), .int (msum a b (nI o) i), .int z, .int (nI i)] []) (N := no) ?_ ?_ 1 (fun _ => rfl) (fun q => absurd (fun k hk => absurd hk (by omega)) q)
      · intro z z1 z2
        refine bX3_moved_81 _ _ _ _ _ _ ?_
        simp only [Option.some.injEq, exists_eq_left', exists_eq_left, forall_eq, forall_eq', List.mem_cons, List.not_mem_nil, or_false, or_true, true_or, true_and, and_true, eq_self, Nat.reduceEqDiff, reduceCtorEq, forall_const, true_implies, false_implies, implies_true, not_true_eq_false, not_false_eq_true, false_and, and_false, false_or, if_true, if_false, kd_sFI, ln_sFI, FI_sFI, FR_sFI, AI_sFI, AR_sFI, nx_sFI, kd_sFR, ln_sFR, FI_sFR, FR_sFR, AI_sFR, AR_sFR, nx_sFR, kd_sAI, ln_sAI, FI_sAI, FR_sAI, AI_sAI, AR_sAI, nx_sAI, kd_sAR, ln_sAR, FI_sAR, FR_sAR, AI_sAR, AR_sAR, nx_sAR, kd_sAIs, ln_sAIs, FI_sAIs, FR_sAIs, AR_sAIs, nx_sAIs, kd_sARs, ln_sARs, FI_sARs, FR_sARs, AI_sARs, nx_sARs, kd_nO, ln_nO, FI_nO, FR_nO, AI_nO, AR_nO, nx_nO, kd_nA, ln_nA, FI_nA, FR_nA, AI_nA, AR_nA, nx_nA, D6.sh.kd, D6.sh.fr 19, hr.1, hr.2, v2, cl2, D6.eF, hW.1.2.2.1]
        refine ⟨fun _ => ⟨fun q => ?_, fun q => ?_⟩, fun q => absurd (nI_le (Nat.le_refl no) (by omega)) q⟩
        · have c : ¬ mall a b no := fun c => absurd (z1 c) (by rw [q]; decide)
          rw [iteP_f c] at fin; exact fin
        · have c : mall a b no := Classical.byContradiction (fun c => q (z2 c))
          rw [iteP_t c] at fin; exact fin
      · intro i hi ih z z1 z2
        refine bX3_moved_81 _ _ _ _ _ _ ?_
        have va := vpN (show i < 10 by omega) (by decide)
        simp only [Option.some.injEq, exists_eq_left', exists_eq_left, forall_eq, forall_eq', List.mem_cons, List.not_mem_nil, or_false, or_true, true_or, true_and, and_true, eq_self, Nat.reduceEqDiff, reduceCtorEq, forall_const, true_implies, false_implies, implies_true, not_true_eq_false, not_false_eq_true, false_and, and_false, false_or, if_true, if_false, kd_sFI, ln_sFI, FI_sFI, FR_sFI, AI_sFI, AR_sFI, nx_sFI, kd_sFR, ln_sFR, FI_sFR, FR_sFR, AI_sFR, AR_sFR, nx_sFR, kd_sAI, ln_sAI, FI_sAI, FR_sAI, AI_sAI, AR_sAI, nx_sAI, kd_sAR, ln_sAR, FI_sAR, FR_sAR, AI_sAR, AR_sAR, nx_sAR, kd_sAIs, ln_sAIs, FI_sAIs, FR_sAIs, AR_sAIs, nx_sAIs, kd_sARs, ln_sARs, FI_sARs, FR_sARs, AI_sARs, nx_sARs, kd_nO, ln_nO, FI_nO, FR_nO, AI_nO, AR_nO, nx_nO, kd_nA, ln_nA, FI_nA, FR_nA, AI_nA, AR_nA, nx_nA, D6.sh.kd, D6.sh.fr 19, D6.sh.fr 28, D6.sh.fr 29, hr.1, hr.2, ha.1, ha.2, hb.1, hb.2, v2, cl2, D6.eF, hW.1.2.2.1, va, nI_clamp (show i < 2 ^ 31 by omega), e9, e10]
        rw [msum, nI_succ] at ih
        refine ⟨fun q => absurd q (nI_ge hi (by omega)), fun _ => ⟨fun q => ?_, fun q => ⟨fun q1 => ?_, fun q1 => ⟨fun q2 => ?_, fun q2 => ?_⟩⟩⟩⟩
        · have c : ¬ mall a b i := fun c => absurd (z1 c) (by rw [q]; decide)
          have c' : ¬ mall a b (i + 1) := fun d => c (mall_succ.mp d).1
          refine ⟨fun e => ?_, fun e => ?_⟩
          · have := ih 0 (fun d => absurd d c') (fun _ => rfl); rw [if_neg e] at this; exact this
          · have := ih 0 (fun d => absurd d c') (fun _ => rfl); rw [if_pos e] at this; exact this
        · have c' : ¬ mall a b (i + 1) := fun d => (mall_succ.mp d).2.1 q1
          refine ⟨fun e => ?_, fun e => ?_⟩
          · have := ih 0 (fun d => absurd d c') (fun _ => rfl); rw [if_neg e] at this; exact this
          · have := ih 0 (fun d => absurd d c') (fun _ => rfl); rw [if_pos e] at this; exact this
        · have c' : ¬ mall a b (i + 1) := fun d => (mall_succ.mp d).2.2 q2
          refine ⟨fun e => ?_, fun e => ?_⟩
          · have := ih 0 (fun d => absurd d c') (fun _ => rfl); rw [if_neg e] at this; exact this
          · have := ih 0 (fun d => absurd d c') (fun _ => rfl); rw [if_pos e] at this; exact this
        · have c : mall a b i := Classical.byContradiction (fun c => q (z2 c))
          have c' : mall a b (i + 1) := mall_succ.mpr ⟨c, q1, q2⟩
          refine ⟨fun e => ?_, fun e => ?_⟩
          · have := ih 1 (fun _ => rfl) (fun d => absurd c' d); rw [if_neg e] at this; exact this
          · have := ih 1 (fun _ => rfl) (fun d => absurd c' d); rw [if_pos e] at this; exact this
    · rw [if_pos h] at hK
      exact hK _ MF.rf.fI hM1
  · rw [iteP_f (nInR hx)] at hK
    exact hK _ MF.rf.fI hM1
end model14
