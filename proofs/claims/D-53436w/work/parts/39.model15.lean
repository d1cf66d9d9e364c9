/-! the model's constructor -/
set_option maxRecDepth 100000
/-- the row of a new shop -/
def row0 : Nat → Int32 := upd (upd (fun _ => 0) 3 (-9)) 5 (-9)
/-- while the constructor runs: what was there ahead of it stays but the object m; the arrays of the fields in D are made -/
def Cs (σ0 σ : Sg) (m : Nat) (D : List Nat) (A : Nat → Nat) : Prop :=
  nx σ0 ≤ nx σ ∧ kd σ m = 13 ∧ m < nx σ0 ∧ (∀ b, b < nx σ0 → kd σ b = kd σ0 b ∧ ln σ b = ln σ0 b ∧ AI σ b = AI σ0 b ∧ AR σ b = AR σ0 b ∧ (∀ g, FI σ g b = FI σ0 g b) ∧ (¬ b = m → ∀ g, FR σ g b = FR σ0 g b)) ∧
  (∀ f ∈ D, nx σ0 ≤ A f ∧ A f < nx σ ∧ FR σ f m = some (A f) ∧ kd σ (A f) = 1 ∧ ln σ (A f) = mln f ∧ AI σ (A f) = fun _ => 0) ∧
  (∀ f ∈ D, ∀ g ∈ D, f ≠ g → ¬ A f = A g) ∧ ∀ b, nx σ ≤ b → kd σ b = kd σ0 b
theorem Cs.step {σ0 σ σ1 σ2 : Sg} {m n f N : Nat} {D : List Nat} {A : Nat → Nat} (h : Cs σ0 σ m D A) (hn : n = nx σ) (h1 : σ1 = nA σ 1 N) (h2 : σ2 = sFR σ1 f m (some n)) (hf : f ∉ D) (hN : N = mln f) : ∃ B, Cs σ0 σ2 m (f :: D) B := by
  obtain ⟨a1, a2, a3, a4, a5, a6, a7⟩ := h
  have mn : ¬ m = nx σ := by omega
  have kd2 : ∀ b, kd σ2 b = if b = nx σ then 1 else kd σ b := fun b => by rw [h2, kd_sFR, h1, kd_nA]
  have ln2 : ∀ b, ln σ2 b = if b = nx σ then N else ln σ b := fun b => by rw [h2, ln_sFR, h1, ln_nA]
  have AI2 : ∀ b, AI σ2 b = if b = nx σ then fun _ => 0 else AI σ b := fun b => by rw [h2, AI_sFR, h1, AI_nA]
  have AR2 : ∀ b, AR σ2 b = if b = nx σ then fun _ => none else AR σ b := fun b => by rw [h2, AR_sFR, h1, AR_nA]
  have FI2 : FI σ2 = FI σ := by rw [h2, FI_sFR, h1, FI_nA]
  have FR2 : ∀ g b, FR σ2 g b = if g = f ∧ b = m then some n else FR σ g b := fun g b => by rw [h2, FR_sFR, h1, FR_nA]
  have nx2 : nx σ2 = nx σ + 1 := by rw [h2, nx_sFR, h1, nx_nA]
  refine ⟨fun g => if g = f then n else A g, by omega, by rw [kd2, if_neg mn]; exact a2, a3, fun b hb => ?_, fun g hg => ?_, fun g hg k hk hgk => ?_, fun b hb => ?_⟩
  · have nb : ¬ b = nx σ := by omega
    rw [kd2, if_neg nb, ln2, if_neg nb, AI2, if_neg nb, AR2, if_neg nb, FI2]
    obtain ⟨z1, z2, z3, z4, z5, z6⟩ := a4 b hb
    refine ⟨z1, z2, z3, z4, z5, fun hbm g => ?_⟩
    rw [FR2, if_neg (fun q => hbm q.2)]; exact z6 hbm g
  · rcases List.mem_cons.mp hg with rfl | hg
    · simp only [if_true]
      rw [FR2, if_pos ⟨rfl, rfl⟩, kd2, if_pos hn, ln2, if_pos hn, AI2, if_pos hn, hn, nx2]
      exact ⟨a1, by omega, rfl, rfl, hN, rfl⟩
    · have gf : ¬ g = f := fun e => hf (by rw [← e]; exact hg)
      simp only [if_neg gf]
      obtain ⟨z1, z2, z3, z4, z5, z6⟩ := a5 g hg
      have ng : ¬ A g = nx σ := by omega
      rw [FR2, if_neg (fun q => gf q.1), kd2, if_neg ng, ln2, if_neg ng, AI2, if_neg ng, nx2]
      exact ⟨z1, by omega, z3, z4, z5, z6⟩
  · rcases List.mem_cons.mp hg with e1 | hg
    · rcases List.mem_cons.mp hk with e2 | hk
      · exact absurd (e1.trans e2.symm) hgk
      · have kf : ¬ k = f := fun e => hf (by rw [← e]; exact hk)
        have := (a5 k hk).2.1
        simp only [if_pos e1, if_neg kf]; omega
    · have gf : ¬ g = f := fun e => hf (by rw [← e]; exact hg)
      have := (a5 g hg).2.1
      rcases List.mem_cons.mp hk with e2 | hk
      · simp only [if_pos e2, if_neg gf]; omega
      · have kf : ¬ k = f := fun e => hf (by rw [← e]; exact hk)
        simp only [if_neg gf, if_neg kf]
        exact a6 g hg k hk hgk
  · rw [kd2, if_neg (by omega)]; exact a7 b (by omega)
section model15
variable {w : Wt} {σ : Sg} {m : Nat}
theorem c_init3 {K : Sg → Prop} (hm : kd σ m = 13) (hlt : m < nx σ)
    (hK : ∀ τ A σ', Cs σ τ m mfs A → σ' = sAIs (sFI τ 18 m 0) (A 19) row0 → K σ') : CalV w mX3_init σ [va_rf (some m)] K := by
  refine eX3_init _ (bX3_init_0 _ ?_)
  have C0 : Cs σ σ m [] (fun _ => 0) := ⟨Nat.le_refl _, hm, hlt, fun b _ => ⟨rfl, rfl, rfl, rfl, fun _ => rfl, fun _ _ => rfl⟩, fun f hf => absurd hf List.not_mem_nil, fun f hf => absurd hf List.not_mem_nil, fun _ _ => rfl⟩
  refine ⟨m, rfl, fun n4 h4 _ s5 h5 => ⟨?_, fun s9 h9 n12 h12 _ s13 h13 s16 h16 n19 h19 _ s20 h20 s23 h23 n26 h26 _ s27 h27 s30 h30 n33 h33 _ s34 h34 s37 h37 n40 h40 _ s41 h41 s44 h44 n47 h47 _ s48 h48 s51 h51 s53 h53 => ?_⟩⟩
  · rw [h5, kd_nA, if_neg (by omega)]; exact hm
  obtain ⟨A1, C1⟩ := C0.step h4 h5 h9 (by decide) rfl
  obtain ⟨A2, C2⟩ := C1.step h12 h13 h16 (by decide) rfl
  obtain ⟨A3, C3⟩ := C2.step h19 h20 h23 (by decide) rfl
  obtain ⟨A4, C4⟩ := C3.step h26 h27 h30 (by decide) rfl
  obtain ⟨A5, C5⟩ := C4.step h33 h34 h37 (by decide) rfl
  obtain ⟨A6, C6⟩ := C5.step h40 h41 h44 (by decide) rfl
  obtain ⟨A, C7⟩ := C6.step h47 h48 h51 (by decide) rfl
  clear h4 h5 h9 h12 h13 h16 h19 h20 h23 h26 h27 h30 h33 h34 h37 h40 h41 h44 h47 h48 C0 C1 C2 C3 C4 C5 C6
  have P : ∀ f, f ∈ mfs → f ∈ [30, 29, 28, 23, 21, 20, 19] := by decide
  have C : Cs σ s51 m mfs A := ⟨C7.1, C7.2.1, C7.2.2.1, C7.2.2.2.1, fun f hf => C7.2.2.2.2.1 f (P f hf), fun f hf g hg => C7.2.2.2.2.2.1 f (P f hf) g (P g hg), C7.2.2.2.2.2.2⟩
  obtain ⟨_, _, z3, z4, z5, z6⟩ := C.2.2.2.2.1 19 (by decide)
  subst h53
  have z5 : ln s51 (A 19) = 343 := z5
  have hK := hK s51 A _ C rfl
  simp only [Option.some.injEq, exists_eq_left', exists_eq_left, forall_eq, forall_eq', List.mem_cons, List.not_mem_nil, or_false, or_true, true_or, true_and, and_true, eq_self, Nat.reduceEqDiff, reduceCtorEq, forall_const, true_implies, false_implies, implies_true, not_true_eq_false, not_false_eq_true, false_and, and_false, false_or, if_true, if_false, kd_sFI, ln_sFI, FI_sFI, FR_sFI, AI_sFI, AR_sFI, nx_sFI, kd_sFR, ln_sFR, FI_sFR, FR_sFR, AI_sFR, AR_sFR, nx_sFR, kd_sAI, ln_sAI, FI_sAI, FR_sAI, AI_sAI, AR_sAI, nx_sAI, kd_sAR, ln_sAR, FI_sAR, FR_sAR, AI_sAR, AR_sAR, nx_sAR, kd_sAIs, ln_sAIs, FI_sAIs, FR_sAIs, AR_sAIs, nx_sAIs, kd_sARs, ln_sARs, FI_sARs, FR_sARs, AI_sARs, nx_sARs, kd_nO, ln_nO, FI_nO, FR_nO, AI_nO, AR_nO, nx_nO, kd_nA, ln_nA, FI_nA, FR_nA, AI_nA, AR_nA, nx_nA, z3, z4, z5, v3, cl3, v5, cl5, sAI_eq, sAIs_sAIs, AI_self, z6]
  exact hK
end model15
