/-! printed by tools/drive.py -/
set_option maxRecDepth 100000
set_option maxHeartbeats 4000000 in
theorem bX3_init_0 {w : Wt} {K : Sg → Prop} {rc rs : Nat} {σ : Sg} (l0 : Option Nat) (h : ∃ a1, l0 = some a1 ∧ ∀ n4, n4 = nx σ → kd σ n4 = 0 → ∀ s5, s5 = nA σ 1 343 → kd s5 a1 = 13 ∧ ∀ s9, s9 = sFR s5 19 a1 (some n4) → ∀ n12, n12 = nx s9 → kd s9 n12 = 0 → ∀ s13, s13 = nA s9 1 343 → ∀ s16, s16 = sFR s13 20 a1 (some n12) → ∀ n19, n19 = nx s16 → kd s16 n19 = 0 → ∀ s20, s20 = nA s16 1 1715 → ∀ s23, s23 = sFR s20 21 a1 (some n19) → ∀ n26, n26 = nx s23 → kd s23 n26 = 0 → ∀ s27, s27 = nA s23 1 12 → ∀ s30, s30 = sFR s27 23 a1 (some n26) → ∀ n33, n33 = nx s30 → kd s30 n33 = 0 → ∀ s34, s34 = nA s30 1 10 → ∀ s37, s37 = sFR s34 28 a1 (some n33) → ∀ n40, n40 = nx s37 → kd s37 n40 = 0 → ∀ s41, s41 = nA s37 1 10 → ∀ s44, s44 = sFR s41 29 a1 (some n40) → ∀ n47, n47 = nx s44 → kd s44 n47 = 0 → ∀ s48, s48 = nA s44 1 19 → ∀ s51, s51 = sFR s48 30 a1 (some n47) → ∀ s53, s53 = sFI s51 18 a1 0 → ∃ a55, FR s53 19 a1 = some a55 ∧ kd s53 a55 = 1 ∧ vp_in 3 (ln s53 a55) ∧ ∀ s59, s59 = sAI s53 a55 (3 : Int32).toNatClampNeg (-9) → ∃ a61, FR s59 19 a1 = some a61 ∧ kd s59 a61 = 1 ∧ vp_in 5 (ln s59 a61) ∧ ∀ s65, s65 = sAI s59 a61 (5 : Int32).toNatClampNeg (-9) → K s65) : G w mX3_init (KV K) (rc + 7) (rs + 2452) σ 0 [va_rf l0] [] := by
  refine G_aload_n 1 dX3_init_0 rfl rfl ?_
  obtain ⟨a1, e2, h⟩ := h
  refine G_objInit (b := a1) 4 dX3_init_1 q2130 q85 q86 rfl e2 (Nat.zero_le _) (Nat.le_of_ble_eq_true rfl) (Nat.le_of_ble_eq_true rfl) ?_
  refine G_aload_n 5 dX3_init_4 rfl rfl ?_
  refine G_sipush (v := 343) 8 dX3_init_5 (by decide) rfl ?_
  refine G_newI (N := 343) (rc + 6) (rs + 2109) 10 dX3_init_8 rfl (by decide) rfl (Nat.le_refl _) (Nat.le_refl _) q232 (fun z3 => ?_)
  generalize hn4 : nx σ = n4 at z3 ⊢
  generalize hs5 : nA σ 1 343 = s5
  have x6 : ∀ a, ¬ kd σ a = 0 → kd s5 a = kd σ a := by subst hs5 hn4; exact kdAx z3
  have c7 : kd s5 n4 = 1 := by subst hs5 hn4; exact kdA_self
  have h := h n4 hn4.symm z3 s5 hs5.symm
  obtain ⟨c8, h⟩ := h
  refine G_putR (f := 19) (a := a1) "" 13 dX3_init_10 (Or.inl q2132) (Or.inl rfl) rfl e2 (hp19 c8) (nk19 c8) (Or.inr ⟨rfl, rfl, rfl⟩) (fun y => by cases y <;> rfl) (fun y => by cases y <;> rfl) rfl ?_
  generalize hs9 : sFR s5 19 a1 (some n4) = s9
  have x10 : ∀ a, ¬ kd s5 a = 0 → kd s9 a = kd s5 a := by subst hs9; exact fun a _ => congrFun kd_sFR a
  have h := h s9 hs9.symm
  refine G_aload_n 14 dX3_init_13 rfl rfl ?_
  refine G_sipush (v := 343) 17 dX3_init_14 (by decide) rfl ?_
  refine G_newI (N := 343) (rc + 5) (rs + 1766) 19 dX3_init_17 rfl (by decide) rfl (Nat.le_refl _) (Nat.le_refl _) q232 (fun z11 => ?_)
  generalize hn12 : nx s9 = n12 at z11 ⊢
  generalize hs13 : nA s9 1 343 = s13
  have x14 : ∀ a, ¬ kd s9 a = 0 → kd s13 a = kd s9 a := by subst hs13 hn12; exact kdAx z11
  have c15 : kd s13 n12 = 1 := by subst hs13 hn12; exact kdA_self
  have h := h n12 hn12.symm z11 s13 hs13.symm
  have c8 := kdE x10 c8 (by decide)
  have c8 := kdE x14 c8 (by decide)
  refine G_putR (f := 20) (a := a1) "" 22 dX3_init_19 (Or.inl q2133) (Or.inl rfl) rfl e2 (hp20 c8) (nk20 c8) (Or.inr ⟨rfl, rfl, rfl⟩) (fun y => by cases y <;> rfl) (fun y => by cases y <;> rfl) rfl ?_
  generalize hs16 : sFR s13 20 a1 (some n12) = s16
  have x17 : ∀ a, ¬ kd s13 a = 0 → kd s16 a = kd s13 a := by subst hs16; exact fun a _ => congrFun kd_sFR a
  have h := h s16 hs16.symm
  refine G_aload_n 23 dX3_init_22 rfl rfl ?_
  refine G_sipush (v := 1715) 26 dX3_init_23 (by decide) rfl ?_
  refine G_newI (N := 1715) (rc + 4) (rs + 51) 28 dX3_init_26 rfl (by decide) rfl (Nat.le_refl _) (Nat.le_refl _) q232 (fun z18 => ?_)
  generalize hn19 : nx s16 = n19 at z18 ⊢
  generalize hs20 : nA s16 1 1715 = s20
  have x21 : ∀ a, ¬ kd s16 a = 0 → kd s20 a = kd s16 a := by subst hs20 hn19; exact kdAx z18
  have c22 : kd s20 n19 = 1 := by subst hs20 hn19; exact kdA_self
  have h := h n19 hn19.symm z18 s20 hs20.symm
  have c8 := kdE x17 c8 (by decide)
  have c8 := kdE x21 c8 (by decide)
  refine G_putR (f := 21) (a := a1) "" 31 dX3_init_28 (Or.inl q2134) (Or.inl rfl) rfl e2 (hp21 c8) (nk21 c8) (Or.inr ⟨rfl, rfl, rfl⟩) (fun y => by cases y <;> rfl) (fun y => by cases y <;> rfl) rfl ?_
  generalize hs23 : sFR s20 21 a1 (some n19) = s23
  have x24 : ∀ a, ¬ kd s20 a = 0 → kd s23 a = kd s20 a := by subst hs23; exact fun a _ => congrFun kd_sFR a
  have h := h s23 hs23.symm
  refine G_aload_n 32 dX3_init_31 rfl rfl ?_
  refine G_bipush (v := 12) 34 dX3_init_32 (by decide) rfl ?_
  refine G_newI (N := 12) (rc + 3) (rs + 39) 36 dX3_init_34 rfl (by decide) rfl (Nat.le_refl _) (Nat.le_refl _) q232 (fun z25 => ?_)
  generalize hn26 : nx s23 = n26 at z25 ⊢
  generalize hs27 : nA s23 1 12 = s27
  have x28 : ∀ a, ¬ kd s23 a = 0 → kd s27 a = kd s23 a := by subst hs27 hn26; exact kdAx z25
  have c29 : kd s27 n26 = 1 := by subst hs27 hn26; exact kdA_self
  have h := h n26 hn26.symm z25 s27 hs27.symm
  have c8 := kdE x24 c8 (by decide)
  have c8 := kdE x28 c8 (by decide)
  refine G_putR (f := 23) (a := a1) "" 39 dX3_init_36 (Or.inl q2136) (Or.inl rfl) rfl e2 (hp23 c8) (nk23 c8) (Or.inr ⟨rfl, rfl, rfl⟩) (fun y => by cases y <;> rfl) (fun y => by cases y <;> rfl) rfl ?_
  generalize hs30 : sFR s27 23 a1 (some n26) = s30
  have x31 : ∀ a, ¬ kd s27 a = 0 → kd s30 a = kd s27 a := by subst hs30; exact fun a _ => congrFun kd_sFR a
  have h := h s30 hs30.symm
  refine G_aload_n 40 dX3_init_39 rfl rfl ?_
  refine G_bipush (v := 10) 42 dX3_init_40 (by decide) rfl ?_
  refine G_newI (N := 10) (rc + 2) (rs + 29) 44 dX3_init_42 rfl (by decide) rfl (Nat.le_refl _) (Nat.le_refl _) q232 (fun z32 => ?_)
  generalize hn33 : nx s30 = n33 at z32 ⊢
  generalize hs34 : nA s30 1 10 = s34
  have x35 : ∀ a, ¬ kd s30 a = 0 → kd s34 a = kd s30 a := by subst hs34 hn33; exact kdAx z32
  have c36 : kd s34 n33 = 1 := by subst hs34 hn33; exact kdA_self
  have h := h n33 hn33.symm z32 s34 hs34.symm
  have c8 := kdE x31 c8 (by decide)
  have c8 := kdE x35 c8 (by decide)
  refine G_putR (f := 28) (a := a1) "" 47 dX3_init_44 (Or.inl q2141) (Or.inl rfl) rfl e2 (hp28 c8) (nk28 c8) (Or.inr ⟨rfl, rfl, rfl⟩) (fun y => by cases y <;> rfl) (fun y => by cases y <;> rfl) rfl ?_
  generalize hs37 : sFR s34 28 a1 (some n33) = s37
  have x38 : ∀ a, ¬ kd s34 a = 0 → kd s37 a = kd s34 a := by subst hs37; exact fun a _ => congrFun kd_sFR a
  have h := h s37 hs37.symm
  refine G_aload_n 48 dX3_init_47 rfl rfl ?_
  refine G_bipush (v := 10) 50 dX3_init_48 (by decide) rfl ?_
  refine G_newI (N := 10) (rc + 1) (rs + 19) 52 dX3_init_50 rfl (by decide) rfl (Nat.le_refl _) (Nat.le_refl _) q232 (fun z39 => ?_)
  generalize hn40 : nx s37 = n40 at z39 ⊢
  generalize hs41 : nA s37 1 10 = s41
  have x42 : ∀ a, ¬ kd s37 a = 0 → kd s41 a = kd s37 a := by subst hs41 hn40; exact kdAx z39
  have c43 : kd s41 n40 = 1 := by subst hs41 hn40; exact kdA_self
  have h := h n40 hn40.symm z39 s41 hs41.symm
  have c8 := kdE x38 c8 (by decide)
  have c8 := kdE x42 c8 (by decide)
  refine G_putR (f := 29) (a := a1) "" 55 dX3_init_52 (Or.inl q2142) (Or.inl rfl) rfl e2 (hp29 c8) (nk29 c8) (Or.inr ⟨rfl, rfl, rfl⟩) (fun y => by cases y <;> rfl) (fun y => by cases y <;> rfl) rfl ?_
  generalize hs44 : sFR s41 29 a1 (some n40) = s44
  have x45 : ∀ a, ¬ kd s41 a = 0 → kd s44 a = kd s41 a := by subst hs44; exact fun a _ => congrFun kd_sFR a
  have h := h s44 hs44.symm
  refine G_aload_n 56 dX3_init_55 rfl rfl ?_
  refine G_bipush (v := 19) 58 dX3_init_56 (by decide) rfl ?_
  refine G_newI (N := 19) (rc) (rs) 60 dX3_init_58 rfl (by decide) rfl (Nat.le_refl _) (Nat.le_refl _) q232 (fun z46 => ?_)
  generalize hn47 : nx s44 = n47 at z46 ⊢
  generalize hs48 : nA s44 1 19 = s48
  have x49 : ∀ a, ¬ kd s44 a = 0 → kd s48 a = kd s44 a := by subst hs48 hn47; exact kdAx z46
  have c50 : kd s48 n47 = 1 := by subst hs48 hn47; exact kdA_self
  have h := h n47 hn47.symm z46 s48 hs48.symm
  have c8 := kdE x45 c8 (by decide)
  have c8 := kdE x49 c8 (by decide)
  refine G_putR (f := 30) (a := a1) "" 63 dX3_init_60 (Or.inl q2143) (Or.inl rfl) rfl e2 (hp30 c8) (nk30 c8) (Or.inr ⟨rfl, rfl, rfl⟩) (fun y => by cases y <;> rfl) (fun y => by cases y <;> rfl) rfl ?_
  generalize hs51 : sFR s48 30 a1 (some n47) = s51
  have x52 : ∀ a, ¬ kd s48 a = 0 → kd s51 a = kd s48 a := by subst hs51; exact fun a _ => congrFun kd_sFR a
  have h := h s51 hs51.symm
  refine G_aload_n 64 dX3_init_63 rfl rfl ?_
  refine G_iconst (v := 0) 65 dX3_init_64 (by decide) rfl ?_
  have c8 := kdE x52 c8 (by decide)
  refine G_putI (f := 18) (a := a1) "" 68 dX3_init_65 (Or.inl q2131) (Or.inl rfl) rfl e2 (hp18 c8) (nk18 c8) (Or.inl rfl) rfl rfl rfl ?_
  generalize hs53 : sFI s51 18 a1 0 = s53
  have x54 : ∀ a, ¬ kd s51 a = 0 → kd s53 a = kd s51 a := by subst hs53; exact fun a _ => congrFun kd_sFI a
  have h := h s53 hs53.symm
  refine G_aload_n 69 dX3_init_68 rfl rfl ?_
  have c8 := kdE x54 c8 (by decide)
  refine G_getR (f := 19) (a := a1) "" 72 dX3_init_69 (Or.inl q2132) (Or.inl rfl) rfl e2 (hf19 c8) rfl ?_
  refine G_iconst (v := 3) 73 dX3_init_72 (by decide) rfl ?_
  refine G_bipush (v := (-9)) 75 dX3_init_73 (by decide) rfl ?_
  obtain ⟨a55, e56, h⟩ := h
  obtain ⟨c57, h⟩ := h
  obtain ⟨c58, h⟩ := h
  refine G_iast (a := a55) 76 dX3_init_75 rfl e56 c57 c58 ?_
  generalize hs59 : sAI s53 a55 (3 : Int32).toNatClampNeg (-9) = s59
  have x60 : ∀ a, ¬ kd s53 a = 0 → kd s59 a = kd s53 a := by subst hs59; exact fun a _ => congrFun kd_sAI a
  have h := h s59 hs59.symm
  refine G_aload_n 77 dX3_init_76 rfl rfl ?_
  have c8 := kdE x60 c8 (by decide)
  refine G_getR (f := 19) (a := a1) "" 80 dX3_init_77 (Or.inl q2132) (Or.inl rfl) rfl e2 (hf19 c8) rfl ?_
  refine G_iconst (v := 5) 81 dX3_init_80 (by decide) rfl ?_
  refine G_bipush (v := (-9)) 83 dX3_init_81 (by decide) rfl ?_
  obtain ⟨a61, e62, h⟩ := h
  obtain ⟨c63, h⟩ := h
  obtain ⟨c64, h⟩ := h
  refine G_iast (a := a61) 84 dX3_init_83 rfl e62 c63 c64 ?_
  generalize hs65 : sAI s59 a61 (5 : Int32).toNatClampNeg (-9) = s65
  have x66 : ∀ a, ¬ kd s59 a = 0 → kd s65 a = kd s59 a := by subst hs65; exact fun a _ => congrFun kd_sAI a
  have h := h s65 hs65.symm
  exact G_ret dX3_init_84 rfl ⟨rfl, h⟩
theorem eX3_init {w : Wt} {K : Sg → Prop} {σ : Sg} (l0 : Option Nat) (h : G w mX3_init (KV K) 7 2452 σ 0 [va_rf l0] []) : CalV w mX3_init σ [va_rf l0] K :=
  Cal.start 0 mX3_init_plain (catR cat0) (Nat.le_of_ble_eq_true rfl) rfl h
set_option maxHeartbeats 4000000 in
theorem bX3_cut_0 {w : Wt} {K : Sg → Int32 → Prop} {rc rs : Nat} {σ : Sg} (l0 : Option Nat) (l1 : Int32) (l2 : Int32) (h : ∃ a1, l0 = some a1 ∧ kd σ a1 = 13 ∧ ∀ s4, s4 = sFI σ 18 a1 0 → CalI w mX3_in s4 [.int l1, .int 10, .int 200] (fun s6 x7 => Ext s4 s6 → ((x7 = 0 → K s6 (-1)) ∧ (¬ x7 = 0 → CalI w mX3_in s6 [.int l2, .int 5, .int 30] (fun s11 x12 => Ext s6 s11 → ((¬ x12 = 0 → ∃ a16, FR s11 19 a1 = some a16 ∧ kd s11 a16 ∈ [1, 5] ∧ vp_in 1 (ln s11 a16) ∧ ((¬ AI s11 a16 (1 : Int32).toNatClampNeg = 20 → CalV w mX3_act s11 [va_rf l0] (fun s21 => Ext s11 s21 → ∃ a24, FR s21 19 a1 = some a24 ∧ kd s21 a24 ∈ [1, 5] ∧ vp_in 1 (ln s21 a24) ∧ kd s21 a24 = 1 ∧ ∀ s29, s29 = sAI s21 a24 (1 : Int32).toNatClampNeg ((AI s21 a24 (1 : Int32).toNatClampNeg) + 1) → G w mX3_cut (KI K) (rc) (rs) s29 67 [va_rf l0, .int l1, .int l2, .int (AI s21 a24 (1 : Int32).toNatClampNeg), .int 0] [])) ∧ (AI s11 a16 (1 : Int32).toNatClampNeg = 20 → K s11 (-3)))) ∧ (x12 = 0 → K s11 (-1)))))))) : G w mX3_cut (KI K) (rc) (rs) σ 0 [va_rf l0, .int l1, .int l2, U_, U_] [] := by
  refine G_aload_n 1 dX3_cut_0 rfl rfl ?_
  refine G_iconst (v := 0) 2 dX3_cut_1 (by decide) rfl ?_
  obtain ⟨a1, e2, h⟩ := h
  obtain ⟨c3, h⟩ := h
  refine G_putI (f := 18) (a := a1) "" 5 dX3_cut_2 (Or.inl q2131) (Or.inl rfl) rfl e2 (hp18 c3) (nk18 c3) (Or.inl rfl) rfl rfl rfl ?_
  generalize hs4 : sFI σ 18 a1 0 = s4
  have x5 : ∀ a, ¬ kd σ a = 0 → kd s4 a = kd σ a := by subst hs4; exact fun a _ => congrFun kd_sFI a
  have h := h s4 hs4.symm
  refine G_iload_n 6 dX3_cut_5 rfl rfl ?_
  refine G_bipush (v := 10) 8 dX3_cut_6 (by decide) rfl ?_
  refine G_sipush (v := 200) 11 dX3_cut_8 (by decide) rfl ?_
  refine G_invS (N := mX3_in) (As := [.int l1, .int 10, .int 200]) (st := []) (rc) (rs) "" 14 dX3_cut_11 (Or.inl q2175) q2176 q44 q2177 rfl mX3_in_args ⟨Nat.le_of_ble_eq_true rfl, Nat.le_of_ble_eq_true rfl⟩ rfl (Nat.zero_le _) (le_b mX3_in_c (Nat.le_refl _)) (le_b mX3_in_s (Nat.le_refl _)) rfl (Cal.mono h ?_)
  rintro s6 v ⟨x7, rfl, h⟩ hx8
  have h := h hx8
  have x9 := hx8.x
  show G w mX3_cut (KI K) (rc) (rs) s6 14 [va_rf l0, .int l1, .int l2, U_, U_] [.int x7]
  refine G_if_eq 27 17 dX3_cut_14 (by decide) rfl (fun u10 => ?_) (fun u10 => ?_)
  · have h := h.1 u10
    refine G_iconst (v := (-1)) 28 dX3_cut_27 (by decide) rfl ?_
    exact G_iret dX3_cut_28 rfl ⟨_, rfl, h⟩
  · have h := h.2 u10
    refine G_iload_n 18 dX3_cut_17 rfl rfl ?_
    refine G_iconst (v := 5) 19 dX3_cut_18 (by decide) rfl ?_
    refine G_bipush (v := 30) 21 dX3_cut_19 (by decide) rfl ?_
    refine G_invS (N := mX3_in) (As := [.int l2, .int 5, .int 30]) (st := []) (rc) (rs) "" 24 dX3_cut_21 (Or.inl q2175) q2176 q44 q2177 rfl mX3_in_args ⟨Nat.le_of_ble_eq_true rfl, Nat.le_of_ble_eq_true rfl⟩ rfl (Nat.zero_le _) (le_b mX3_in_c (Nat.le_refl _)) (le_b mX3_in_s (Nat.le_refl _)) rfl (Cal.mono h ?_)
    rintro s11 v ⟨x12, rfl, h⟩ hx13
    have h := h hx13
    have x14 := hx13.x
    show G w mX3_cut (KI K) (rc) (rs) s11 24 [va_rf l0, .int l1, .int l2, U_, U_] [.int x12]
    refine G_if_ne 29 27 dX3_cut_24 (by decide) rfl (fun u15 => ?_) (fun u15 => ?_)
    · have h := h.1 u15
      refine G_aload_n 30 dX3_cut_29 rfl rfl ?_
      have c3 := kdE x5 c3 (by decide)
      have c3 := kdE x9 c3 (by decide)
      have c3 := kdE x14 c3 (by decide)
      refine G_getR (f := 19) (a := a1) "" 33 dX3_cut_30 (Or.inl q2132) (Or.inl rfl) rfl e2 (hf19 c3) rfl ?_
      refine G_iconst (v := 1) 34 dX3_cut_33 (by decide) rfl ?_
      obtain ⟨a16, e17, h⟩ := h
      obtain ⟨c18, h⟩ := h
      obtain ⟨c19, h⟩ := h
      refine G_iald (a := a16) 35 dX3_cut_34 rfl e17 c18 c19 ?_
      refine G_bipush (v := 20) 37 dX3_cut_35 (by decide) rfl ?_
      refine G_icmp_ne 43 40 dX3_cut_37 (by decide) rfl (fun u20 => ?_) (fun u20 => ?_)
      · have h := h.1 u20
        refine G_aload_n 44 dX3_cut_43 rfl rfl ?_
        refine G_invV (N := mX3_act) (As := []) (st := []) (t := l0) (b := a1) (rc) (rs) 47 dX3_cut_44 q2178 q2180 qs16 q44 q2181 rfl rfl mX3_act_args ⟨Nat.le_of_ble_eq_true rfl, Nat.le_of_ble_eq_true rfl⟩ rfl (Nat.zero_le _) e2 (rk13 c3) (le_b mX3_act_c (Nat.le_refl _)) (le_b mX3_act_s (Nat.le_refl _)) rfl (Cal.mono h ?_)
        rintro s21 v ⟨rfl, h⟩ hx22
        have h := h hx22
        have x23 := hx22.x
        show G w mX3_cut (KI K) (rc) (rs) s21 47 [va_rf l0, .int l1, .int l2, U_, U_] []
        refine G_aload_n 48 dX3_cut_47 rfl rfl ?_
        have c3 := kdE x23 c3 (by decide)
        refine G_getR (f := 19) (a := a1) "" 51 dX3_cut_48 (Or.inl q2132) (Or.inl rfl) rfl e2 (hf19 c3) rfl ?_
        refine G_iconst (v := 1) 52 dX3_cut_51 (by decide) rfl ?_
        obtain ⟨a24, e25, h⟩ := h
        obtain ⟨c26, h⟩ := h
        obtain ⟨c27, h⟩ := h
        refine G_iald (a := a24) 53 dX3_cut_52 rfl e25 c26 c27 ?_
        refine G_istore_n 54 [va_rf l0, .int l1, .int l2, .int (AI s21 a24 (1 : Int32).toNatClampNeg), U_] dX3_cut_53 (Nat.le_of_ble_eq_true rfl) rfl rfl ?_
        refine G_aload_n 55 dX3_cut_54 rfl rfl ?_
        refine G_getR (f := 19) (a := a1) "" 58 dX3_cut_55 (Or.inl q2132) (Or.inl rfl) rfl e2 (hf19 c3) rfl ?_
        refine G_iconst (v := 1) 59 dX3_cut_58 (by decide) rfl ?_
        refine G_dup2 60 dX3_cut_59 (rfl) (rf_cat _) rfl ?_
        refine G_iald (a := a24) 61 dX3_cut_60 rfl e25 c26 c27 ?_
        refine G_iconst (v := 1) 62 dX3_cut_61 (by decide) rfl ?_
        refine G_iadd 63 dX3_cut_62 rfl ?_
        obtain ⟨c28, h⟩ := h
        refine G_iast (a := a24) 64 dX3_cut_63 rfl e25 c28 c27 ?_
        generalize hs29 : sAI s21 a24 (1 : Int32).toNatClampNeg ((AI s21 a24 (1 : Int32).toNatClampNeg) + 1) = s29
        have x30 : ∀ a, ¬ kd s21 a = 0 → kd s29 a = kd s21 a := by subst hs29; exact fun a _ => congrFun kd_sAI a
        have h := h s29 hs29.symm
        refine G_iconst (v := 0) 65 dX3_cut_64 (by decide) rfl ?_
        refine G_istore 67 [va_rf l0, .int l1, .int l2, .int (AI s21 a24 (1 : Int32).toNatClampNeg), .int 0] dX3_cut_65 (Nat.le_of_ble_eq_true rfl) rfl rfl ?_
        exact h
      · have h := h.2 u20
        refine G_bipush (v := (-3)) 42 dX3_cut_40 (by decide) rfl ?_
        exact G_iret dX3_cut_42 rfl ⟨_, rfl, h⟩
    · have h := h.2 u15
      refine G_iconst (v := (-1)) 28 dX3_cut_27 (by decide) rfl ?_
      exact G_iret dX3_cut_28 rfl ⟨_, rfl, h⟩
set_option maxHeartbeats 4000000 in
theorem bX3_cut_67 {w : Wt} {K : Sg → Int32 → Prop} {rc rs : Nat} {σ : Sg} (l0 : Option Nat) (l1 : Int32) (l2 : Int32) (l3 : Int32) (l4 : Int32) (h : ((7 ≤ l4 → ∃ a2, l0 = some a2 ∧ kd σ a2 = 13 ∧ CalV w mX3_setPlate σ [va_rf (FR σ 19 a2), .int l3, .int 0, .int l1] (fun s5 => Ext σ s5 → CalV w mX3_setPlate s5 [va_rf (FR s5 19 a2), .int l3, .int 1, .int l2] (fun s8 => Ext s5 s8 → K s8 l3))) ∧ (¬ 7 ≤ l4 → ∃ a11, l0 = some a11 ∧ kd σ a11 = 13 ∧ CalV w mX3_setPlate σ [va_rf (FR σ 19 a11), .int l3, .int l4, .int 0] (fun s14 => Ext σ s14 → G w mX3_cut (KI K) (rc) (rs) s14 67 [va_rf l0, .int l1, .int l2, .int l3, .int (l4 + 1)] [])))) : G w mX3_cut (KI K) (rc) (rs) σ 67 [va_rf l0, .int l1, .int l2, .int l3, .int l4] [] := by
  refine G_iload 69 dX3_cut_67 rfl rfl ?_
  refine G_bipush (v := 7) 71 dX3_cut_69 (by decide) rfl ?_
  refine G_icmp_ge 91 74 dX3_cut_71 (by decide) rfl (fun u1 => ?_) (fun u1 => ?_)
  · have h := h.1 u1
    refine G_aload_n 92 dX3_cut_91 rfl rfl ?_
    obtain ⟨a2, e3, h⟩ := h
    obtain ⟨c4, h⟩ := h
    refine G_getR (f := 19) (a := a2) "" 95 dX3_cut_92 (Or.inl q2132) (Or.inl rfl) rfl e3 (hf19 c4) rfl ?_
    refine G_iload_n 96 dX3_cut_95 rfl rfl ?_
    refine G_iconst (v := 0) 97 dX3_cut_96 (by decide) rfl ?_
    refine G_iload_n 98 dX3_cut_97 rfl rfl ?_
    refine G_invS (N := mX3_setPlate) (As := [va_rf (FR σ 19 a2), .int l3, .int 0, .int l1]) (st := []) (rc) (rs) "" 101 dX3_cut_98 (Or.inl q2182) q2183 q44 q2184 rfl mX3_setPlate_args ⟨Nat.le_of_ble_eq_true rfl, Nat.le_of_ble_eq_true rfl⟩ rfl (Nat.zero_le _) (le_b mX3_setPlate_c (Nat.le_refl _)) (le_b mX3_setPlate_s (Nat.le_refl _)) rfl (Cal.mono h ?_)
    rintro s5 v ⟨rfl, h⟩ hx6
    have h := h hx6
    have x7 := hx6.x
    show G w mX3_cut (KI K) (rc) (rs) s5 101 [va_rf l0, .int l1, .int l2, .int l3, .int l4] []
    refine G_aload_n 102 dX3_cut_101 rfl rfl ?_
    have c4 := kdE x7 c4 (by decide)
    refine G_getR (f := 19) (a := a2) "" 105 dX3_cut_102 (Or.inl q2132) (Or.inl rfl) rfl e3 (hf19 c4) rfl ?_
    refine G_iload_n 106 dX3_cut_105 rfl rfl ?_
    refine G_iconst (v := 1) 107 dX3_cut_106 (by decide) rfl ?_
    refine G_iload_n 108 dX3_cut_107 rfl rfl ?_
    refine G_invS (N := mX3_setPlate) (As := [va_rf (FR s5 19 a2), .int l3, .int 1, .int l2]) (st := []) (rc) (rs) "" 111 dX3_cut_108 (Or.inl q2182) q2183 q44 q2184 rfl mX3_setPlate_args ⟨Nat.le_of_ble_eq_true rfl, Nat.le_of_ble_eq_true rfl⟩ rfl (Nat.zero_le _) (le_b mX3_setPlate_c (Nat.le_refl _)) (le_b mX3_setPlate_s (Nat.le_refl _)) rfl (Cal.mono h ?_)
    rintro s8 v ⟨rfl, h⟩ hx9
    have h := h hx9
    have x10 := hx9.x
    show G w mX3_cut (KI K) (rc) (rs) s8 111 [va_rf l0, .int l1, .int l2, .int l3, .int l4] []
    refine G_iload_n 112 dX3_cut_111 rfl rfl ?_
    exact G_iret dX3_cut_112 rfl ⟨_, rfl, h⟩
  · have h := h.2 u1
    refine G_aload_n 75 dX3_cut_74 rfl rfl ?_
    obtain ⟨a11, e12, h⟩ := h
    obtain ⟨c13, h⟩ := h
    refine G_getR (f := 19) (a := a11) "" 78 dX3_cut_75 (Or.inl q2132) (Or.inl rfl) rfl e12 (hf19 c13) rfl ?_
    refine G_iload_n 79 dX3_cut_78 rfl rfl ?_
    refine G_iload 81 dX3_cut_79 rfl rfl ?_
    refine G_iconst (v := 0) 82 dX3_cut_81 (by decide) rfl ?_
    refine G_invS (N := mX3_setPlate) (As := [va_rf (FR σ 19 a11), .int l3, .int l4, .int 0]) (st := []) (rc) (rs) "" 85 dX3_cut_82 (Or.inl q2182) q2183 q44 q2184 rfl mX3_setPlate_args ⟨Nat.le_of_ble_eq_true rfl, Nat.le_of_ble_eq_true rfl⟩ rfl (Nat.zero_le _) (le_b mX3_setPlate_c (Nat.le_refl _)) (le_b mX3_setPlate_s (Nat.le_refl _)) rfl (Cal.mono h ?_)
    rintro s14 v ⟨rfl, h⟩ hx15
    have h := h hx15
    have x16 := hx15.x
    show G w mX3_cut (KI K) (rc) (rs) s14 85 [va_rf l0, .int l1, .int l2, .int l3, .int l4] []
    refine G_iinc 88 [va_rf l0, .int l1, .int l2, .int l3, .int (l4 + 1)] dX3_cut_85 rfl rfl (Nat.le_of_ble_eq_true rfl) rfl rfl ?_
    refine G_goto 67 dX3_cut_88 (by decide) ?_
    exact h
theorem eX3_cut {w : Wt} {K : Sg → Int32 → Prop} {σ : Sg} (l0 : Option Nat) (l1 : Int32) (l2 : Int32) (h : G w mX3_cut (KI K) 0 0 σ 0 [va_rf l0, .int l1, .int l2, U_, U_] []) : CalI w mX3_cut σ [va_rf l0, .int l1, .int l2] K :=
  Cal.start 2 mX3_cut_plain (catR (catI (catI cat0))) (Nat.le_of_ble_eq_true rfl) rfl h
set_option maxHeartbeats 4000000 in
theorem bX3_in_0 {w : Wt} {K : Sg → Int32 → Prop} {rc rs : Nat} {σ : Sg} (l0 : Int32) (l1 : Int32) (l2 : Int32) (h : ((l0 < l1 → K σ 0) ∧ (¬ l0 < l1 → ((l2 < l0 → K σ 0) ∧ (¬ l2 < l0 → K σ 1))))) : G w mX3_in (KI K) (rc) (rs) σ 0 [.int l0, .int l1, .int l2] [] := by
  refine G_iload_n 1 dX3_in_0 rfl rfl ?_
  refine G_iload_n 2 dX3_in_1 rfl rfl ?_
  refine G_icmp_lt 14 5 dX3_in_2 (by decide) rfl (fun u1 => ?_) (fun u1 => ?_)
  · have h := h.1 u1
    refine G_iconst (v := 0) 15 dX3_in_14 (by decide) rfl ?_
    exact G_zret dX3_in_15 rfl rfl ⟨_, rfl, h⟩
  · have h := h.2 u1
    refine G_iload_n 6 dX3_in_5 rfl rfl ?_
    refine G_iload_n 7 dX3_in_6 rfl rfl ?_
    refine G_icmp_gt 14 10 dX3_in_7 (by decide) rfl (fun u2 => ?_) (fun u2 => ?_)
    · have h := h.1 u2
      refine G_iconst (v := 0) 15 dX3_in_14 (by decide) rfl ?_
      exact G_zret dX3_in_15 rfl rfl ⟨_, rfl, h⟩
    · have h := h.2 u2
      refine G_iconst (v := 1) 11 dX3_in_10 (by decide) rfl ?_
      refine G_goto 15 dX3_in_11 (by decide) ?_
      exact G_zret dX3_in_15 rfl rfl ⟨_, rfl, h⟩
theorem eX3_in {w : Wt} {K : Sg → Int32 → Prop} {σ : Sg} (l0 : Int32) (l1 : Int32) (l2 : Int32) (h : G w mX3_in (KI K) 0 0 σ 0 [.int l0, .int l1, .int l2] []) : CalI w mX3_in σ [.int l0, .int l1, .int l2] K :=
  Cal.start 0 mX3_in_plain (catI (catI (catI cat0))) (Nat.le_of_ble_eq_true rfl) rfl h
set_option maxHeartbeats 4000000 in
theorem bX3_act_0 {w : Wt} {K : Sg → Prop} {rc rs : Nat} {σ : Sg} (l0 : Option Nat) (h : ∃ a1, l0 = some a1 ∧ kd σ a1 = 13 ∧ ((¬ FI σ 22 a1 = 5 → G w mX3_act (KV K) (rc) (rs) σ 51 [va_rf l0, .int 0] []) ∧ (FI σ 22 a1 = 5 → G w mX3_act (KV K) (rc) (rs) σ 10 [va_rf l0, .int 0] []))) : G w mX3_act (KV K) (rc) (rs) σ 0 [va_rf l0, U_] [] := by
  refine G_aload_n 1 dX3_act_0 rfl rfl ?_
  obtain ⟨a1, e2, h⟩ := h
  obtain ⟨c3, h⟩ := h
  refine G_getI (f := 22) (a := a1) "" 4 dX3_act_1 (Or.inl q2135) (Or.inl rfl) rfl e2 (hf22 c3) rfl ?_
  refine G_iconst (v := 5) 5 dX3_act_4 (by decide) rfl ?_
  refine G_icmp_ne 49 8 dX3_act_5 (by decide) rfl (fun u4 => ?_) (fun u4 => ?_)
  · have h := h.1 u4
    refine G_iconst (v := 0) 50 dX3_act_49 (by decide) rfl ?_
    refine G_istore_n 51 [va_rf l0, .int 0] dX3_act_50 (Nat.le_of_ble_eq_true rfl) rfl rfl ?_
    exact h
  · have h := h.2 u4
    refine G_iconst (v := 0) 9 dX3_act_8 (by decide) rfl ?_
    refine G_istore_n 10 [va_rf l0, .int 0] dX3_act_9 (Nat.le_of_ble_eq_true rfl) rfl rfl ?_
    exact h
set_option maxHeartbeats 4000000 in
theorem bX3_act_10 {w : Wt} {K : Sg → Prop} {rc rs : Nat} {σ : Sg} (l0 : Option Nat) (l1 : Int32) (h : ((1372 ≤ l1 → ∃ a2, l0 = some a2 ∧ kd σ a2 = 13 ∧ ∀ s5, s5 = sFI σ 22 a2 ((FI σ 22 a2) - 1) → G w mX3_act (KV K) (rc) (rs) s5 51 [va_rf l0, .int 0] []) ∧ (¬ 1372 ≤ l1 → ∃ a7, l0 = some a7 ∧ kd σ a7 = 13 ∧ ∃ a10, FR σ 21 a7 = some a10 ∧ kd σ a10 ∈ [1, 5] ∧ vp_in (l1 + 343) (ln σ a10) ∧ kd σ a10 = 1 ∧ vp_in l1 (ln σ a10) ∧ ∀ s16, s16 = sAI σ a10 l1.toNatClampNeg (AI σ a10 (l1 + 343).toNatClampNeg) → G w mX3_act (KV K) (rc) (rs) s16 10 [va_rf l0, .int (l1 + 1)] []))) : G w mX3_act (KV K) (rc) (rs) σ 10 [va_rf l0, .int l1] [] := by
  refine G_iload_n 11 dX3_act_10 rfl rfl ?_
  refine G_sipush (v := 1372) 14 dX3_act_11 (by decide) rfl ?_
  refine G_icmp_ge 39 17 dX3_act_14 (by decide) rfl (fun u1 => ?_) (fun u1 => ?_)
  · have h := h.1 u1
    refine G_aload_n 40 dX3_act_39 rfl rfl ?_
    refine G_dup 41 dX3_act_40 (rf_cat _) rfl ?_
    obtain ⟨a2, e3, h⟩ := h
    obtain ⟨c4, h⟩ := h
    refine G_getI (f := 22) (a := a2) "" 44 dX3_act_41 (Or.inl q2135) (Or.inl rfl) rfl e3 (hf22 c4) rfl ?_
    refine G_iconst (v := 1) 45 dX3_act_44 (by decide) rfl ?_
    refine G_isub 46 dX3_act_45 rfl ?_
    refine G_putI (f := 22) (a := a2) "" 49 dX3_act_46 (Or.inl q2135) (Or.inl rfl) rfl e3 (hp22 c4) (nk22 c4) (Or.inl rfl) rfl rfl rfl ?_
    generalize hs5 : sFI σ 22 a2 ((FI σ 22 a2) - 1) = s5
    have x6 : ∀ a, ¬ kd σ a = 0 → kd s5 a = kd σ a := by subst hs5; exact fun a _ => congrFun kd_sFI a
    have h := h s5 hs5.symm
    refine G_iconst (v := 0) 50 dX3_act_49 (by decide) rfl ?_
    refine G_istore_n 51 [va_rf l0, .int 0] dX3_act_50 (Nat.le_of_ble_eq_true rfl) rfl rfl ?_
    exact h
  · have h := h.2 u1
    refine G_aload_n 18 dX3_act_17 rfl rfl ?_
    obtain ⟨a7, e8, h⟩ := h
    obtain ⟨c9, h⟩ := h
    refine G_getR (f := 21) (a := a7) "" 21 dX3_act_18 (Or.inl q2134) (Or.inl rfl) rfl e8 (hf21 c9) rfl ?_
    refine G_iload_n 22 dX3_act_21 rfl rfl ?_
    refine G_aload_n 23 dX3_act_22 rfl rfl ?_
    refine G_getR (f := 21) (a := a7) "" 26 dX3_act_23 (Or.inl q2134) (Or.inl rfl) rfl e8 (hf21 c9) rfl ?_
    refine G_iload_n 27 dX3_act_26 rfl rfl ?_
    refine G_sipush (v := 343) 30 dX3_act_27 (by decide) rfl ?_
    refine G_iadd 31 dX3_act_30 rfl ?_
    obtain ⟨a10, e11, h⟩ := h
    obtain ⟨c12, h⟩ := h
    obtain ⟨c13, h⟩ := h
    refine G_iald (a := a10) 32 dX3_act_31 rfl e11 c12 c13 ?_
    obtain ⟨c14, h⟩ := h
    obtain ⟨c15, h⟩ := h
    refine G_iast (a := a10) 33 dX3_act_32 rfl e11 c14 c15 ?_
    generalize hs16 : sAI σ a10 l1.toNatClampNeg (AI σ a10 (l1 + 343).toNatClampNeg) = s16
    have x17 : ∀ a, ¬ kd σ a = 0 → kd s16 a = kd σ a := by subst hs16; exact fun a _ => congrFun kd_sAI a
    have h := h s16 hs16.symm
    refine G_iinc 36 [va_rf l0, .int (l1 + 1)] dX3_act_33 rfl rfl (Nat.le_of_ble_eq_true rfl) rfl rfl ?_
    refine G_goto 10 dX3_act_36 (by decide) ?_
    exact h
set_option maxHeartbeats 4000000 in
theorem bX3_act_51 {w : Wt} {K : Sg → Prop} {rc rs : Nat} {σ : Sg} (l0 : Option Nat) (l1 : Int32) (h : ((343 ≤ l1 → ∃ a2, l0 = some a2 ∧ kd σ a2 = 13 ∧ ∀ s5, s5 = sFI σ 22 a2 ((FI σ 22 a2) + 1) → K s5) ∧ (¬ 343 ≤ l1 → ∃ a7, l0 = some a7 ∧ kd σ a7 = 13 ∧ ∃ a10, FR σ 19 a7 = some a10 ∧ kd σ a10 ∈ [1, 5] ∧ vp_in l1 (ln σ a10) ∧ ∃ a14, FR σ 21 a7 = some a14 ∧ kd σ a14 = 1 ∧ vp_in ((343 * (FI σ 22 a7)) + l1) (ln σ a14) ∧ ∀ s18, s18 = sAI σ a14 ((343 * (FI σ 22 a7)) + l1).toNatClampNeg (AI σ a10 l1.toNatClampNeg) → G w mX3_act (KV K) (rc) (rs) s18 51 [va_rf l0, .int (l1 + 1)] []))) : G w mX3_act (KV K) (rc) (rs) σ 51 [va_rf l0, .int l1] [] := by
  refine G_iload_n 52 dX3_act_51 rfl rfl ?_
  refine G_sipush (v := 343) 55 dX3_act_52 (by decide) rfl ?_
  refine G_icmp_ge 85 58 dX3_act_55 (by decide) rfl (fun u1 => ?_) (fun u1 => ?_)
  · have h := h.1 u1
    refine G_aload_n 86 dX3_act_85 rfl rfl ?_
    refine G_dup 87 dX3_act_86 (rf_cat _) rfl ?_
    obtain ⟨a2, e3, h⟩ := h
    obtain ⟨c4, h⟩ := h
    refine G_getI (f := 22) (a := a2) "" 90 dX3_act_87 (Or.inl q2135) (Or.inl rfl) rfl e3 (hf22 c4) rfl ?_
    refine G_iconst (v := 1) 91 dX3_act_90 (by decide) rfl ?_
    refine G_iadd 92 dX3_act_91 rfl ?_
    refine G_putI (f := 22) (a := a2) "" 95 dX3_act_92 (Or.inl q2135) (Or.inl rfl) rfl e3 (hp22 c4) (nk22 c4) (Or.inl rfl) rfl rfl rfl ?_
    generalize hs5 : sFI σ 22 a2 ((FI σ 22 a2) + 1) = s5
    have x6 : ∀ a, ¬ kd σ a = 0 → kd s5 a = kd σ a := by subst hs5; exact fun a _ => congrFun kd_sFI a
    have h := h s5 hs5.symm
    exact G_ret dX3_act_95 rfl ⟨rfl, h⟩
  · have h := h.2 u1
    refine G_aload_n 59 dX3_act_58 rfl rfl ?_
    obtain ⟨a7, e8, h⟩ := h
    obtain ⟨c9, h⟩ := h
    refine G_getR (f := 21) (a := a7) "" 62 dX3_act_59 (Or.inl q2134) (Or.inl rfl) rfl e8 (hf21 c9) rfl ?_
    refine G_sipush (v := 343) 65 dX3_act_62 (by decide) rfl ?_
    refine G_aload_n 66 dX3_act_65 rfl rfl ?_
    refine G_getI (f := 22) (a := a7) "" 69 dX3_act_66 (Or.inl q2135) (Or.inl rfl) rfl e8 (hf22 c9) rfl ?_
    refine G_imul 70 dX3_act_69 rfl ?_
    refine G_iload_n 71 dX3_act_70 rfl rfl ?_
    refine G_iadd 72 dX3_act_71 rfl ?_
    refine G_aload_n 73 dX3_act_72 rfl rfl ?_
    refine G_getR (f := 19) (a := a7) "" 76 dX3_act_73 (Or.inl q2132) (Or.inl rfl) rfl e8 (hf19 c9) rfl ?_
    refine G_iload_n 77 dX3_act_76 rfl rfl ?_
    obtain ⟨a10, e11, h⟩ := h
    obtain ⟨c12, h⟩ := h
    obtain ⟨c13, h⟩ := h
    refine G_iald (a := a10) 78 dX3_act_77 rfl e11 c12 c13 ?_
    obtain ⟨a14, e15, h⟩ := h
    obtain ⟨c16, h⟩ := h
    obtain ⟨c17, h⟩ := h
    refine G_iast (a := a14) 79 dX3_act_78 rfl e15 c16 c17 ?_
    generalize hs18 : sAI σ a14 ((343 * (FI σ 22 a7)) + l1).toNatClampNeg (AI σ a10 l1.toNatClampNeg) = s18
    have x19 : ∀ a, ¬ kd σ a = 0 → kd s18 a = kd σ a := by subst hs18; exact fun a _ => congrFun kd_sAI a
    have h := h s18 hs18.symm
    refine G_iinc 82 [va_rf l0, .int (l1 + 1)] dX3_act_79 rfl rfl (Nat.le_of_ble_eq_true rfl) rfl rfl ?_
    refine G_goto 51 dX3_act_82 (by decide) ?_
    exact h
theorem eX3_act {w : Wt} {K : Sg → Prop} {σ : Sg} (l0 : Option Nat) (h : G w mX3_act (KV K) 0 0 σ 0 [va_rf l0, U_] []) : CalV w mX3_act σ [va_rf l0] K :=
  Cal.start 1 mX3_act_plain (catR cat0) (Nat.le_of_ble_eq_true rfl) rfl h
set_option maxHeartbeats 4000000 in
theorem bX3_setPlate_0 {w : Wt} {K : Sg → Prop} {rc rs : Nat} {σ : Sg} (l0 : Option Nat) (l1 : Int32) (l2 : Int32) (l3 : Int32) (h : ∃ a1, l0 = some a1 ∧ kd σ a1 = 1 ∧ vp_in ((10 + (7 * l1)) + l2) (ln σ a1) ∧ ∀ s5, s5 = sAI σ a1 ((10 + (7 * l1)) + l2).toNatClampNeg l3 → K s5) : G w mX3_setPlate (KV K) (rc) (rs) σ 0 [va_rf l0, .int l1, .int l2, .int l3] [] := by
  refine G_aload_n 1 dX3_setPlate_0 rfl rfl ?_
  refine G_bipush (v := 10) 3 dX3_setPlate_1 (by decide) rfl ?_
  refine G_bipush (v := 7) 5 dX3_setPlate_3 (by decide) rfl ?_
  refine G_iload_n 6 dX3_setPlate_5 rfl rfl ?_
  refine G_imul 7 dX3_setPlate_6 rfl ?_
  refine G_iadd 8 dX3_setPlate_7 rfl ?_
  refine G_iload_n 9 dX3_setPlate_8 rfl rfl ?_
  refine G_iadd 10 dX3_setPlate_9 rfl ?_
  refine G_iload_n 11 dX3_setPlate_10 rfl rfl ?_
  obtain ⟨a1, e2, h⟩ := h
  obtain ⟨c3, h⟩ := h
  obtain ⟨c4, h⟩ := h
  refine G_iast (a := a1) 12 dX3_setPlate_11 rfl e2 c3 c4 ?_
  generalize hs5 : sAI σ a1 ((10 + (7 * l1)) + l2).toNatClampNeg l3 = s5
  have x6 : ∀ a, ¬ kd σ a = 0 → kd s5 a = kd σ a := by subst hs5; exact fun a _ => congrFun kd_sAI a
  have h := h s5 hs5.symm
  exact G_ret dX3_setPlate_12 rfl ⟨rfl, h⟩
theorem eX3_setPlate {w : Wt} {K : Sg → Prop} {σ : Sg} (l0 : Option Nat) (l1 : Int32) (l2 : Int32) (l3 : Int32) (h : G w mX3_setPlate (KV K) 0 0 σ 0 [va_rf l0, .int l1, .int l2, .int l3] []) : CalV w mX3_setPlate σ [va_rf l0, .int l1, .int l2, .int l3] K :=
  Cal.start 0 mX3_setPlate_plain (catR (catI (catI (catI cat0)))) (Nat.le_of_ble_eq_true rfl) rfl h
set_option maxHeartbeats 4000000 in
theorem bX3_spoil_0 {w : Wt} {K : Sg → Int32 → Prop} {rc rs : Nat} {σ : Sg} (l0 : Option Nat) (l1 : Int32) (h : ∃ a1, l0 = some a1 ∧ kd σ a1 = 13 ∧ ∀ s4, s4 = sFI σ 18 a1 0 → CalI w mX3_isPlate s4 [va_rf l0, .int l1] (fun s6 x7 => Ext s4 s6 → ((¬ x7 = 0 → CalI w mX3_ofPlate s6 [va_rf (FR s6 19 a1), .int l1, .int 2] (fun s11 x12 => Ext s6 s11 → ((x12 = 0 → CalV w mX3_act s11 [va_rf l0] (fun s16 => Ext s11 s16 → CalV w mX3_setPlate s16 [va_rf (FR s16 19 a1), .int l1, .int 2, .int 3] (fun s19 => Ext s16 s19 → CalI w mX3_platesIn s19 [va_rf (FR s19 19 a1), .int 3] (fun s22 x23 => Ext s19 s22 → K s22 x23)))) ∧ (¬ x12 = 0 → K s11 (-2))))) ∧ (x7 = 0 → K s6 (-1))))) : G w mX3_spoil (KI K) (rc) (rs) σ 0 [va_rf l0, .int l1] [] := by
  refine G_aload_n 1 dX3_spoil_0 rfl rfl ?_
  refine G_iconst (v := 0) 2 dX3_spoil_1 (by decide) rfl ?_
  obtain ⟨a1, e2, h⟩ := h
  obtain ⟨c3, h⟩ := h
  refine G_putI (f := 18) (a := a1) "" 5 dX3_spoil_2 (Or.inl q2131) (Or.inl rfl) rfl e2 (hp18 c3) (nk18 c3) (Or.inl rfl) rfl rfl rfl ?_
  generalize hs4 : sFI σ 18 a1 0 = s4
  have x5 : ∀ a, ¬ kd σ a = 0 → kd s4 a = kd σ a := by subst hs4; exact fun a _ => congrFun kd_sFI a
  have h := h s4 hs4.symm
  refine G_aload_n 6 dX3_spoil_5 rfl rfl ?_
  refine G_iload_n 7 dX3_spoil_6 rfl rfl ?_
  have c3 := kdE x5 c3 (by decide)
  refine G_invV (N := mX3_isPlate) (As := [.int l1]) (st := []) (t := l0) (b := a1) (rc) (rs) 10 dX3_spoil_7 q2189 q2191 qs17 q44 q2192 rfl rfl mX3_isPlate_args ⟨Nat.le_of_ble_eq_true rfl, Nat.le_of_ble_eq_true rfl⟩ rfl (Nat.zero_le _) e2 (rk13 c3) (le_b mX3_isPlate_c (Nat.le_refl _)) (le_b mX3_isPlate_s (Nat.le_refl _)) rfl (Cal.mono h ?_)
  rintro s6 v ⟨x7, rfl, h⟩ hx8
  have h := h hx8
  have x9 := hx8.x
  show G w mX3_spoil (KI K) (rc) (rs) s6 10 [va_rf l0, .int l1] [.int x7]
  refine G_if_ne 15 13 dX3_spoil_10 (by decide) rfl (fun u10 => ?_) (fun u10 => ?_)
  · have h := h.1 u10
    refine G_aload_n 16 dX3_spoil_15 rfl rfl ?_
    have c3 := kdE x9 c3 (by decide)
    refine G_getR (f := 19) (a := a1) "" 19 dX3_spoil_16 (Or.inl q2132) (Or.inl rfl) rfl e2 (hf19 c3) rfl ?_
    refine G_iload_n 20 dX3_spoil_19 rfl rfl ?_
    refine G_iconst (v := 2) 21 dX3_spoil_20 (by decide) rfl ?_
    refine G_invS (N := mX3_ofPlate) (As := [va_rf (FR s6 19 a1), .int l1, .int 2]) (st := []) (rc) (rs) "" 24 dX3_spoil_21 (Or.inl q2193) q2194 q44 q2195 rfl mX3_ofPlate_args ⟨Nat.le_of_ble_eq_true rfl, Nat.le_of_ble_eq_true rfl⟩ rfl (Nat.zero_le _) (le_b mX3_ofPlate_c (Nat.le_refl _)) (le_b mX3_ofPlate_s (Nat.le_refl _)) rfl (Cal.mono h ?_)
    rintro s11 v ⟨x12, rfl, h⟩ hx13
    have h := h hx13
    have x14 := hx13.x
    show G w mX3_spoil (KI K) (rc) (rs) s11 24 [va_rf l0, .int l1] [.int x12]
    refine G_if_eq 30 27 dX3_spoil_24 (by decide) rfl (fun u15 => ?_) (fun u15 => ?_)
    · have h := h.1 u15
      refine G_aload_n 31 dX3_spoil_30 rfl rfl ?_
      have c3 := kdE x14 c3 (by decide)
      refine G_invV (N := mX3_act) (As := []) (st := []) (t := l0) (b := a1) (rc) (rs) 34 dX3_spoil_31 q2178 q2180 qs16 q44 q2181 rfl rfl mX3_act_args ⟨Nat.le_of_ble_eq_true rfl, Nat.le_of_ble_eq_true rfl⟩ rfl (Nat.zero_le _) e2 (rk13 c3) (le_b mX3_act_c (Nat.le_refl _)) (le_b mX3_act_s (Nat.le_refl _)) rfl (Cal.mono h ?_)
      rintro s16 v ⟨rfl, h⟩ hx17
      have h := h hx17
      have x18 := hx17.x
      show G w mX3_spoil (KI K) (rc) (rs) s16 34 [va_rf l0, .int l1] []
      refine G_aload_n 35 dX3_spoil_34 rfl rfl ?_
      have c3 := kdE x18 c3 (by decide)
      refine G_getR (f := 19) (a := a1) "" 38 dX3_spoil_35 (Or.inl q2132) (Or.inl rfl) rfl e2 (hf19 c3) rfl ?_
      refine G_iload_n 39 dX3_spoil_38 rfl rfl ?_
      refine G_iconst (v := 2) 40 dX3_spoil_39 (by decide) rfl ?_
      refine G_iconst (v := 3) 41 dX3_spoil_40 (by decide) rfl ?_
      refine G_invS (N := mX3_setPlate) (As := [va_rf (FR s16 19 a1), .int l1, .int 2, .int 3]) (st := []) (rc) (rs) "" 44 dX3_spoil_41 (Or.inl q2182) q2183 q44 q2184 rfl mX3_setPlate_args ⟨Nat.le_of_ble_eq_true rfl, Nat.le_of_ble_eq_true rfl⟩ rfl (Nat.zero_le _) (le_b mX3_setPlate_c (Nat.le_refl _)) (le_b mX3_setPlate_s (Nat.le_refl _)) rfl (Cal.mono h ?_)
      rintro s19 v ⟨rfl, h⟩ hx20
      have h := h hx20
      have x21 := hx20.x
      show G w mX3_spoil (KI K) (rc) (rs) s19 44 [va_rf l0, .int l1] []
      refine G_aload_n 45 dX3_spoil_44 rfl rfl ?_
      have c3 := kdE x21 c3 (by decide)
      refine G_getR (f := 19) (a := a1) "" 48 dX3_spoil_45 (Or.inl q2132) (Or.inl rfl) rfl e2 (hf19 c3) rfl ?_
      refine G_iconst (v := 3) 49 dX3_spoil_48 (by decide) rfl ?_
      refine G_invS (N := mX3_platesIn) (As := [va_rf (FR s19 19 a1), .int 3]) (st := []) (rc) (rs) "" 52 dX3_spoil_49 (Or.inl q2196) q2197 q44 q2198 rfl mX3_platesIn_args ⟨Nat.le_of_ble_eq_true rfl, Nat.le_of_ble_eq_true rfl⟩ rfl (Nat.zero_le _) (le_b mX3_platesIn_c (Nat.le_refl _)) (le_b mX3_platesIn_s (Nat.le_refl _)) rfl (Cal.mono h ?_)
      rintro s22 v ⟨x23, rfl, h⟩ hx24
      have h := h hx24
      have x25 := hx24.x
      show G w mX3_spoil (KI K) (rc) (rs) s22 52 [va_rf l0, .int l1] [.int x23]
      exact G_iret dX3_spoil_52 rfl ⟨_, rfl, h⟩
    · have h := h.2 u15
      refine G_bipush (v := (-2)) 29 dX3_spoil_27 (by decide) rfl ?_
      exact G_iret dX3_spoil_29 rfl ⟨_, rfl, h⟩
  · have h := h.2 u10
    refine G_iconst (v := (-1)) 14 dX3_spoil_13 (by decide) rfl ?_
    exact G_iret dX3_spoil_14 rfl ⟨_, rfl, h⟩
theorem eX3_spoil {w : Wt} {K : Sg → Int32 → Prop} {σ : Sg} (l0 : Option Nat) (l1 : Int32) (h : G w mX3_spoil (KI K) 0 0 σ 0 [va_rf l0, .int l1] []) : CalI w mX3_spoil σ [va_rf l0, .int l1] K :=
  Cal.start 0 mX3_spoil_plain (catR (catI cat0)) (Nat.le_of_ble_eq_true rfl) rfl h
set_option maxHeartbeats 4000000 in
theorem bX3_isPlate_0 {w : Wt} {K : Sg → Int32 → Prop} {rc rs : Nat} {σ : Sg} (l0 : Option Nat) (l1 : Int32) (h : ∃ a1, l0 = some a1 ∧ kd σ a1 = 13 ∧ ∃ a4, FR σ 19 a1 = some a4 ∧ kd σ a4 ∈ [1, 5] ∧ vp_in 1 (ln σ a4) ∧ CalI w mX3_in σ [.int l1, .int 0, .int ((AI σ a4 (1 : Int32).toNatClampNeg) - 1)] (fun s8 x9 => Ext σ s8 → ((x9 = 0 ∨ x9 = 1) ∧ K s8 x9))) : G w mX3_isPlate (KI K) (rc) (rs) σ 0 [va_rf l0, .int l1] [] := by
  refine G_iload_n 1 dX3_isPlate_0 rfl rfl ?_
  refine G_iconst (v := 0) 2 dX3_isPlate_1 (by decide) rfl ?_
  refine G_aload_n 3 dX3_isPlate_2 rfl rfl ?_
  obtain ⟨a1, e2, h⟩ := h
  obtain ⟨c3, h⟩ := h
  refine G_getR (f := 19) (a := a1) "" 6 dX3_isPlate_3 (Or.inl q2132) (Or.inl rfl) rfl e2 (hf19 c3) rfl ?_
  refine G_iconst (v := 1) 7 dX3_isPlate_6 (by decide) rfl ?_
  obtain ⟨a4, e5, h⟩ := h
  obtain ⟨c6, h⟩ := h
  obtain ⟨c7, h⟩ := h
  refine G_iald (a := a4) 8 dX3_isPlate_7 rfl e5 c6 c7 ?_
  refine G_iconst (v := 1) 9 dX3_isPlate_8 (by decide) rfl ?_
  refine G_isub 10 dX3_isPlate_9 rfl ?_
  refine G_invS (N := mX3_in) (As := [.int l1, .int 0, .int ((AI σ a4 (1 : Int32).toNatClampNeg) - 1)]) (st := []) (rc) (rs) "" 13 dX3_isPlate_10 (Or.inl q2175) q2176 q44 q2177 rfl mX3_in_args ⟨Nat.le_of_ble_eq_true rfl, Nat.le_of_ble_eq_true rfl⟩ rfl (Nat.zero_le _) (le_b mX3_in_c (Nat.le_refl _)) (le_b mX3_in_s (Nat.le_refl _)) rfl (Cal.mono h ?_)
  rintro s8 v ⟨x9, rfl, h⟩ hx10
  have h := h hx10
  have x11 := hx10.x
  show G w mX3_isPlate (KI K) (rc) (rs) s8 13 [va_rf l0, .int l1] [.int x9]
  exact G_zret dX3_isPlate_13 rfl (nar_bz h.1).1 ⟨_, rfl, h.2⟩
theorem eX3_isPlate {w : Wt} {K : Sg → Int32 → Prop} {σ : Sg} (l0 : Option Nat) (l1 : Int32) (h : G w mX3_isPlate (KI K) 0 0 σ 0 [va_rf l0, .int l1] []) : CalI w mX3_isPlate σ [va_rf l0, .int l1] K :=
  Cal.start 0 mX3_isPlate_plain (catR (catI cat0)) (Nat.le_of_ble_eq_true rfl) rfl h
set_option maxHeartbeats 4000000 in
theorem bX3_ofPlate_0 {w : Wt} {K : Sg → Int32 → Prop} {rc rs : Nat} {σ : Sg} (l0 : Option Nat) (l1 : Int32) (l2 : Int32) (h : ∃ a1, l0 = some a1 ∧ kd σ a1 ∈ [1, 5] ∧ vp_in ((10 + (7 * l1)) + l2) (ln σ a1) ∧ K σ (AI σ a1 ((10 + (7 * l1)) + l2).toNatClampNeg)) : G w mX3_ofPlate (KI K) (rc) (rs) σ 0 [va_rf l0, .int l1, .int l2] [] := by
  refine G_aload_n 1 dX3_ofPlate_0 rfl rfl ?_
  refine G_bipush (v := 10) 3 dX3_ofPlate_1 (by decide) rfl ?_
  refine G_bipush (v := 7) 5 dX3_ofPlate_3 (by decide) rfl ?_
  refine G_iload_n 6 dX3_ofPlate_5 rfl rfl ?_
  refine G_imul 7 dX3_ofPlate_6 rfl ?_
  refine G_iadd 8 dX3_ofPlate_7 rfl ?_
  refine G_iload_n 9 dX3_ofPlate_8 rfl rfl ?_
  refine G_iadd 10 dX3_ofPlate_9 rfl ?_
  obtain ⟨a1, e2, h⟩ := h
  obtain ⟨c3, h⟩ := h
  obtain ⟨c4, h⟩ := h
  refine G_iald (a := a1) 11 dX3_ofPlate_10 rfl e2 c3 c4 ?_
  exact G_iret dX3_ofPlate_11 rfl ⟨_, rfl, h⟩
theorem eX3_ofPlate {w : Wt} {K : Sg → Int32 → Prop} {σ : Sg} (l0 : Option Nat) (l1 : Int32) (l2 : Int32) (h : G w mX3_ofPlate (KI K) 0 0 σ 0 [va_rf l0, .int l1, .int l2] []) : CalI w mX3_ofPlate σ [va_rf l0, .int l1, .int l2] K :=
  Cal.start 0 mX3_ofPlate_plain (catR (catI (catI cat0))) (Nat.le_of_ble_eq_true rfl) rfl h
set_option maxHeartbeats 4000000 in
theorem bX3_platesIn_0 {w : Wt} {K : Sg → Int32 → Prop} {rc rs : Nat} {σ : Sg} (l0 : Option Nat) (l1 : Int32) (h : G w mX3_platesIn (KI K) (rc) (rs) σ 4 [va_rf l0, .int l1, .int 0, .int 0] []) : G w mX3_platesIn (KI K) (rc) (rs) σ 0 [va_rf l0, .int l1, U_, U_] [] := by
  refine G_iconst (v := 0) 1 dX3_platesIn_0 (by decide) rfl ?_
  refine G_istore_n 2 [va_rf l0, .int l1, .int 0, U_] dX3_platesIn_1 (Nat.le_of_ble_eq_true rfl) rfl rfl ?_
  refine G_iconst (v := 0) 3 dX3_platesIn_2 (by decide) rfl ?_
  refine G_istore_n 4 [va_rf l0, .int l1, .int 0, .int 0] dX3_platesIn_3 (Nat.le_of_ble_eq_true rfl) rfl rfl ?_
  exact h
set_option maxHeartbeats 4000000 in
theorem bX3_platesIn_4 {w : Wt} {K : Sg → Int32 → Prop} {rc rs : Nat} {σ : Sg} (l0 : Option Nat) (l1 : Int32) (l2 : Int32) (l3 : Int32) (h : ∃ a1, l0 = some a1 ∧ kd σ a1 ∈ [1, 5] ∧ vp_in 1 (ln σ a1) ∧ ((AI σ a1 (1 : Int32).toNatClampNeg ≤ l3 → K σ l2) ∧ (¬ AI σ a1 (1 : Int32).toNatClampNeg ≤ l3 → CalI w mX3_ofPlate σ [va_rf l0, .int l3, .int 2] (fun s6 x7 => Ext σ s6 → ((¬ x7 = l1 → G w mX3_platesIn (KI K) (rc) (rs) s6 4 [va_rf l0, .int l1, .int (l2 + 0), .int (l3 + 1)] []) ∧ (x7 = l1 → G w mX3_platesIn (KI K) (rc) (rs) s6 4 [va_rf l0, .int l1, .int (l2 + 1), .int (l3 + 1)] [])))))) : G w mX3_platesIn (KI K) (rc) (rs) σ 4 [va_rf l0, .int l1, .int l2, .int l3] [] := by
  refine G_iload_n 5 dX3_platesIn_4 rfl rfl ?_
  refine G_aload_n 6 dX3_platesIn_5 rfl rfl ?_
  refine G_iconst (v := 1) 7 dX3_platesIn_6 (by decide) rfl ?_
  obtain ⟨a1, e2, h⟩ := h
  obtain ⟨c3, h⟩ := h
  obtain ⟨c4, h⟩ := h
  refine G_iald (a := a1) 8 dX3_platesIn_7 rfl e2 c3 c4 ?_
  refine G_icmp_ge 35 11 dX3_platesIn_8 (by decide) rfl (fun u5 => ?_) (fun u5 => ?_)
  · have h := h.1 u5
    refine G_iload_n 36 dX3_platesIn_35 rfl rfl ?_
    exact G_iret dX3_platesIn_36 rfl ⟨_, rfl, h⟩
  · have h := h.2 u5
    refine G_iload_n 12 dX3_platesIn_11 rfl rfl ?_
    refine G_aload_n 13 dX3_platesIn_12 rfl rfl ?_
    refine G_iload_n 14 dX3_platesIn_13 rfl rfl ?_
    refine G_iconst (v := 2) 15 dX3_platesIn_14 (by decide) rfl ?_
    refine G_invS (N := mX3_ofPlate) (As := [va_rf l0, .int l3, .int 2]) (st := [.int l2]) (rc) (rs) "" 18 dX3_platesIn_15 (Or.inl q2193) q2194 q44 q2195 rfl mX3_ofPlate_args ⟨Nat.le_of_ble_eq_true rfl, Nat.le_of_ble_eq_true rfl⟩ rfl (Nat.le_trans (w_I w_0) (Nat.le_of_ble_eq_true rfl)) (le_b mX3_ofPlate_c (Nat.le_refl _)) (le_b mX3_ofPlate_s (Nat.le_refl _)) rfl (Cal.mono h ?_)
    rintro s6 v ⟨x7, rfl, h⟩ hx8
    have h := h hx8
    have x9 := hx8.x
    show G w mX3_platesIn (KI K) (rc) (rs) s6 18 [va_rf l0, .int l1, .int l2, .int l3] [.int x7, .int l2]
    refine G_iload_n 19 dX3_platesIn_18 rfl rfl ?_
    refine G_icmp_ne 26 22 dX3_platesIn_19 (by decide) rfl (fun u10 => ?_) (fun u10 => ?_)
    · have h := h.1 u10
      refine G_iconst (v := 0) 27 dX3_platesIn_26 (by decide) rfl ?_
      refine G_iadd 28 dX3_platesIn_27 rfl ?_
      refine G_istore_n 29 [va_rf l0, .int l1, .int (l2 + 0), .int l3] dX3_platesIn_28 (Nat.le_of_ble_eq_true rfl) rfl rfl ?_
      refine G_iinc 32 [va_rf l0, .int l1, .int (l2 + 0), .int (l3 + 1)] dX3_platesIn_29 rfl rfl (Nat.le_of_ble_eq_true rfl) rfl rfl ?_
      refine G_goto 4 dX3_platesIn_32 (by decide) ?_
      exact h
    · have h := h.2 u10
      refine G_iconst (v := 1) 23 dX3_platesIn_22 (by decide) rfl ?_
      refine G_goto 27 dX3_platesIn_23 (by decide) ?_
      refine G_iadd 28 dX3_platesIn_27 rfl ?_
      refine G_istore_n 29 [va_rf l0, .int l1, .int (l2 + 1), .int l3] dX3_platesIn_28 (Nat.le_of_ble_eq_true rfl) rfl rfl ?_
      refine G_iinc 32 [va_rf l0, .int l1, .int (l2 + 1), .int (l3 + 1)] dX3_platesIn_29 rfl rfl (Nat.le_of_ble_eq_true rfl) rfl rfl ?_
      refine G_goto 4 dX3_platesIn_32 (by decide) ?_
      exact h
theorem eX3_platesIn {w : Wt} {K : Sg → Int32 → Prop} {σ : Sg} (l0 : Option Nat) (l1 : Int32) (h : G w mX3_platesIn (KI K) 0 0 σ 0 [va_rf l0, .int l1, U_, U_] []) : CalI w mX3_platesIn σ [va_rf l0, .int l1] K :=
  Cal.start 2 mX3_platesIn_plain (catR (catI cat0)) (Nat.le_of_ble_eq_true rfl) rfl h
set_option maxHeartbeats 4000000 in
theorem bX3_grind_0 {w : Wt} {K : Sg → Int32 → Prop} {rc rs : Nat} {σ : Sg} (l0 : Option Nat) (l1 : Int32) (l2 : Int32) (h : ∃ a1, l0 = some a1 ∧ kd σ a1 = 13 ∧ ∀ s4, s4 = sFI σ 18 a1 0 → CalI w mX3_isPlate s4 [va_rf l0, .int l1] (fun s6 x7 => Ext s4 s6 → ((x7 = 0 → K s6 (-1)) ∧ (¬ x7 = 0 → CalI w mX3_in s6 [.int l2, .int 0, .int 1] (fun s11 x12 => Ext s6 s11 → ((¬ x12 = 0 → CalI w mX3_depthOf s11 [va_rf (FR s11 19 a1), .int l1, .int l2] (fun s16 x17 => Ext s11 s16 → CalI w mX3_ofPlate s16 [va_rf (FR s16 19 a1), .int l1, .int 2] (fun s20 x21 => Ext s16 s20 → ((¬ x21 = 0 → K s20 (-2)) ∧ (x21 = 0 → ((x17 = 0 → K s20 (-2)) ∧ (¬ x17 = 0 → CalI w mX3_leftOver s20 [va_rf (FR s20 19 a1), .int l1, .int l2, .int 0, .int (x17 + 1)] (fun s26 x27 => Ext s20 s26 → ((2 ≤ x27 → CalV w mX3_act s26 [va_rf l0] (fun s31 => Ext s26 s31 → CalV w mX3_grindSide s31 [va_rf (FR s31 19 a1), .int l1, .int l2] (fun s34 => Ext s31 s34 → CalI w mX3_ofPlate s34 [va_rf (FR s34 19 a1), .int l1, .int 1] (fun s37 x38 => Ext s34 s37 → K s37 x38)))) ∧ (¬ 2 ≤ x27 → K s26 (-2))))))))))) ∧ (x12 = 0 → K s11 (-1)))))))) : G w mX3_grind (KI K) (rc) (rs) σ 0 [va_rf l0, .int l1, .int l2, U_] [] := by
  refine G_aload_n 1 dX3_grind_0 rfl rfl ?_
  refine G_iconst (v := 0) 2 dX3_grind_1 (by decide) rfl ?_
  obtain ⟨a1, e2, h⟩ := h
  obtain ⟨c3, h⟩ := h
  refine G_putI (f := 18) (a := a1) "" 5 dX3_grind_2 (Or.inl q2131) (Or.inl rfl) rfl e2 (hp18 c3) (nk18 c3) (Or.inl rfl) rfl rfl rfl ?_
  generalize hs4 : sFI σ 18 a1 0 = s4
  have x5 : ∀ a, ¬ kd σ a = 0 → kd s4 a = kd σ a := by subst hs4; exact fun a _ => congrFun kd_sFI a
  have h := h s4 hs4.symm
  refine G_aload_n 6 dX3_grind_5 rfl rfl ?_
  refine G_iload_n 7 dX3_grind_6 rfl rfl ?_
  have c3 := kdE x5 c3 (by decide)
  refine G_invV (N := mX3_isPlate) (As := [.int l1]) (st := []) (t := l0) (b := a1) (rc) (rs) 10 dX3_grind_7 q2189 q2191 qs17 q44 q2192 rfl rfl mX3_isPlate_args ⟨Nat.le_of_ble_eq_true rfl, Nat.le_of_ble_eq_true rfl⟩ rfl (Nat.zero_le _) e2 (rk13 c3) (le_b mX3_isPlate_c (Nat.le_refl _)) (le_b mX3_isPlate_s (Nat.le_refl _)) rfl (Cal.mono h ?_)
  rintro s6 v ⟨x7, rfl, h⟩ hx8
  have h := h hx8
  have x9 := hx8.x
  show G w mX3_grind (KI K) (rc) (rs) s6 10 [va_rf l0, .int l1, .int l2, U_] [.int x7]
  refine G_if_eq 22 13 dX3_grind_10 (by decide) rfl (fun u10 => ?_) (fun u10 => ?_)
  · have h := h.1 u10
    refine G_iconst (v := (-1)) 23 dX3_grind_22 (by decide) rfl ?_
    exact G_iret dX3_grind_23 rfl ⟨_, rfl, h⟩
  · have h := h.2 u10
    refine G_iload_n 14 dX3_grind_13 rfl rfl ?_
    refine G_iconst (v := 0) 15 dX3_grind_14 (by decide) rfl ?_
    refine G_iconst (v := 1) 16 dX3_grind_15 (by decide) rfl ?_
    refine G_invS (N := mX3_in) (As := [.int l2, .int 0, .int 1]) (st := []) (rc) (rs) "" 19 dX3_grind_16 (Or.inl q2175) q2176 q44 q2177 rfl mX3_in_args ⟨Nat.le_of_ble_eq_true rfl, Nat.le_of_ble_eq_true rfl⟩ rfl (Nat.zero_le _) (le_b mX3_in_c (Nat.le_refl _)) (le_b mX3_in_s (Nat.le_refl _)) rfl (Cal.mono h ?_)
    rintro s11 v ⟨x12, rfl, h⟩ hx13
    have h := h hx13
    have x14 := hx13.x
    show G w mX3_grind (KI K) (rc) (rs) s11 19 [va_rf l0, .int l1, .int l2, U_] [.int x12]
    refine G_if_ne 24 22 dX3_grind_19 (by decide) rfl (fun u15 => ?_) (fun u15 => ?_)
    · have h := h.1 u15
      refine G_aload_n 25 dX3_grind_24 rfl rfl ?_
      have c3 := kdE x9 c3 (by decide)
      have c3 := kdE x14 c3 (by decide)
      refine G_getR (f := 19) (a := a1) "" 28 dX3_grind_25 (Or.inl q2132) (Or.inl rfl) rfl e2 (hf19 c3) rfl ?_
      refine G_iload_n 29 dX3_grind_28 rfl rfl ?_
      refine G_iload_n 30 dX3_grind_29 rfl rfl ?_
      refine G_invS (N := mX3_depthOf) (As := [va_rf (FR s11 19 a1), .int l1, .int l2]) (st := []) (rc) (rs) "" 33 dX3_grind_30 (Or.inl q2203) q2204 q44 q2205 rfl mX3_depthOf_args ⟨Nat.le_of_ble_eq_true rfl, Nat.le_of_ble_eq_true rfl⟩ rfl (Nat.zero_le _) (le_b mX3_depthOf_c (Nat.le_refl _)) (le_b mX3_depthOf_s (Nat.le_refl _)) rfl (Cal.mono h ?_)
      rintro s16 v ⟨x17, rfl, h⟩ hx18
      have h := h hx18
      have x19 := hx18.x
      show G w mX3_grind (KI K) (rc) (rs) s16 33 [va_rf l0, .int l1, .int l2, U_] [.int x17]
      refine G_istore_n 34 [va_rf l0, .int l1, .int l2, .int x17] dX3_grind_33 (Nat.le_of_ble_eq_true rfl) rfl rfl ?_
      refine G_aload_n 35 dX3_grind_34 rfl rfl ?_
      have c3 := kdE x19 c3 (by decide)
      refine G_getR (f := 19) (a := a1) "" 38 dX3_grind_35 (Or.inl q2132) (Or.inl rfl) rfl e2 (hf19 c3) rfl ?_
      refine G_iload_n 39 dX3_grind_38 rfl rfl ?_
      refine G_iconst (v := 2) 40 dX3_grind_39 (by decide) rfl ?_
      refine G_invS (N := mX3_ofPlate) (As := [va_rf (FR s16 19 a1), .int l1, .int 2]) (st := []) (rc) (rs) "" 43 dX3_grind_40 (Or.inl q2193) q2194 q44 q2195 rfl mX3_ofPlate_args ⟨Nat.le_of_ble_eq_true rfl, Nat.le_of_ble_eq_true rfl⟩ rfl (Nat.zero_le _) (le_b mX3_ofPlate_c (Nat.le_refl _)) (le_b mX3_ofPlate_s (Nat.le_refl _)) rfl (Cal.mono h ?_)
      rintro s20 v ⟨x21, rfl, h⟩ hx22
      have h := h hx22
      have x23 := hx22.x
      show G w mX3_grind (KI K) (rc) (rs) s20 43 [va_rf l0, .int l1, .int l2, .int x17] [.int x21]
      refine G_if_ne 67 46 dX3_grind_43 (by decide) rfl (fun u24 => ?_) (fun u24 => ?_)
      · have h := h.1 u24
        refine G_bipush (v := (-2)) 69 dX3_grind_67 (by decide) rfl ?_
        exact G_iret dX3_grind_69 rfl ⟨_, rfl, h⟩
      · have h := h.2 u24
        refine G_iload_n 47 dX3_grind_46 rfl rfl ?_
        refine G_if_eq 67 50 dX3_grind_47 (by decide) rfl (fun u25 => ?_) (fun u25 => ?_)
        · have h := h.1 u25
          refine G_bipush (v := (-2)) 69 dX3_grind_67 (by decide) rfl ?_
          exact G_iret dX3_grind_69 rfl ⟨_, rfl, h⟩
        · have h := h.2 u25
          refine G_aload_n 51 dX3_grind_50 rfl rfl ?_
          have c3 := kdE x23 c3 (by decide)
          refine G_getR (f := 19) (a := a1) "" 54 dX3_grind_51 (Or.inl q2132) (Or.inl rfl) rfl e2 (hf19 c3) rfl ?_
          refine G_iload_n 55 dX3_grind_54 rfl rfl ?_
          refine G_iload_n 56 dX3_grind_55 rfl rfl ?_
          refine G_iconst (v := 0) 57 dX3_grind_56 (by decide) rfl ?_
          refine G_iload_n 58 dX3_grind_57 rfl rfl ?_
          refine G_iconst (v := 1) 59 dX3_grind_58 (by decide) rfl ?_
          refine G_iadd 60 dX3_grind_59 rfl ?_
          refine G_invS (N := mX3_leftOver) (As := [va_rf (FR s20 19 a1), .int l1, .int l2, .int 0, .int (x17 + 1)]) (st := []) (rc) (rs) "" 63 dX3_grind_60 (Or.inl q2206) q2207 q44 q2208 rfl mX3_leftOver_args ⟨Nat.le_of_ble_eq_true rfl, Nat.le_of_ble_eq_true rfl⟩ rfl (Nat.zero_le _) (le_b mX3_leftOver_c (Nat.le_refl _)) (le_b mX3_leftOver_s (Nat.le_refl _)) rfl (Cal.mono h ?_)
          rintro s26 v ⟨x27, rfl, h⟩ hx28
          have h := h hx28
          have x29 := hx28.x
          show G w mX3_grind (KI K) (rc) (rs) s26 63 [va_rf l0, .int l1, .int l2, .int x17] [.int x27]
          refine G_iconst (v := 2) 64 dX3_grind_63 (by decide) rfl ?_
          refine G_icmp_ge 70 67 dX3_grind_64 (by decide) rfl (fun u30 => ?_) (fun u30 => ?_)
          · have h := h.1 u30
            refine G_aload_n 71 dX3_grind_70 rfl rfl ?_
            have c3 := kdE x29 c3 (by decide)
            refine G_invV (N := mX3_act) (As := []) (st := []) (t := l0) (b := a1) (rc) (rs) 74 dX3_grind_71 q2178 q2180 qs16 q44 q2181 rfl rfl mX3_act_args ⟨Nat.le_of_ble_eq_true rfl, Nat.le_of_ble_eq_true rfl⟩ rfl (Nat.zero_le _) e2 (rk13 c3) (le_b mX3_act_c (Nat.le_refl _)) (le_b mX3_act_s (Nat.le_refl _)) rfl (Cal.mono h ?_)
            rintro s31 v ⟨rfl, h⟩ hx32
            have h := h hx32
            have x33 := hx32.x
            show G w mX3_grind (KI K) (rc) (rs) s31 74 [va_rf l0, .int l1, .int l2, .int x17] []
            refine G_aload_n 75 dX3_grind_74 rfl rfl ?_
            have c3 := kdE x33 c3 (by decide)
            refine G_getR (f := 19) (a := a1) "" 78 dX3_grind_75 (Or.inl q2132) (Or.inl rfl) rfl e2 (hf19 c3) rfl ?_
            refine G_iload_n 79 dX3_grind_78 rfl rfl ?_
            refine G_iload_n 80 dX3_grind_79 rfl rfl ?_
            refine G_invS (N := mX3_grindSide) (As := [va_rf (FR s31 19 a1), .int l1, .int l2]) (st := []) (rc) (rs) "" 83 dX3_grind_80 (Or.inl q2209) q2210 q44 q2211 rfl mX3_grindSide_args ⟨Nat.le_of_ble_eq_true rfl, Nat.le_of_ble_eq_true rfl⟩ rfl (Nat.zero_le _) (le_b mX3_grindSide_c (Nat.le_refl _)) (le_b mX3_grindSide_s (Nat.le_refl _)) rfl (Cal.mono h ?_)
            rintro s34 v ⟨rfl, h⟩ hx35
            have h := h hx35
            have x36 := hx35.x
            show G w mX3_grind (KI K) (rc) (rs) s34 83 [va_rf l0, .int l1, .int l2, .int x17] []
            refine G_aload_n 84 dX3_grind_83 rfl rfl ?_
            have c3 := kdE x36 c3 (by decide)
            refine G_getR (f := 19) (a := a1) "" 87 dX3_grind_84 (Or.inl q2132) (Or.inl rfl) rfl e2 (hf19 c3) rfl ?_
            refine G_iload_n 88 dX3_grind_87 rfl rfl ?_
            refine G_iconst (v := 1) 89 dX3_grind_88 (by decide) rfl ?_
            refine G_invS (N := mX3_ofPlate) (As := [va_rf (FR s34 19 a1), .int l1, .int 1]) (st := []) (rc) (rs) "" 92 dX3_grind_89 (Or.inl q2193) q2194 q44 q2195 rfl mX3_ofPlate_args ⟨Nat.le_of_ble_eq_true rfl, Nat.le_of_ble_eq_true rfl⟩ rfl (Nat.zero_le _) (le_b mX3_ofPlate_c (Nat.le_refl _)) (le_b mX3_ofPlate_s (Nat.le_refl _)) rfl (Cal.mono h ?_)
            rintro s37 v ⟨x38, rfl, h⟩ hx39
            have h := h hx39
            have x40 := hx39.x
            show G w mX3_grind (KI K) (rc) (rs) s37 92 [va_rf l0, .int l1, .int l2, .int x17] [.int x38]
            exact G_iret dX3_grind_92 rfl ⟨_, rfl, h⟩
          · have h := h.2 u30
            refine G_bipush (v := (-2)) 69 dX3_grind_67 (by decide) rfl ?_
            exact G_iret dX3_grind_69 rfl ⟨_, rfl, h⟩
    · have h := h.2 u15
      refine G_iconst (v := (-1)) 23 dX3_grind_22 (by decide) rfl ?_
      exact G_iret dX3_grind_23 rfl ⟨_, rfl, h⟩
theorem eX3_grind {w : Wt} {K : Sg → Int32 → Prop} {σ : Sg} (l0 : Option Nat) (l1 : Int32) (l2 : Int32) (h : G w mX3_grind (KI K) 0 0 σ 0 [va_rf l0, .int l1, .int l2, U_] []) : CalI w mX3_grind σ [va_rf l0, .int l1, .int l2] K :=
  Cal.start 1 mX3_grind_plain (catR (catI (catI cat0))) (Nat.le_of_ble_eq_true rfl) rfl h
set_option maxHeartbeats 4000000 in
theorem bX3_depthOf_0 {w : Wt} {K : Sg → Int32 → Prop} {rc rs : Nat} {σ : Sg} (l0 : Option Nat) (l1 : Int32) (l2 : Int32) (h : CalI w mX3_ofPlate σ [va_rf l0, .int l1, .int (3 + l2)] (fun s1 x2 => Ext σ s1 → K s1 x2)) : G w mX3_depthOf (KI K) (rc) (rs) σ 0 [va_rf l0, .int l1, .int l2] [] := by
  refine G_aload_n 1 dX3_depthOf_0 rfl rfl ?_
  refine G_iload_n 2 dX3_depthOf_1 rfl rfl ?_
  refine G_iconst (v := 3) 3 dX3_depthOf_2 (by decide) rfl ?_
  refine G_iload_n 4 dX3_depthOf_3 rfl rfl ?_
  refine G_iadd 5 dX3_depthOf_4 rfl ?_
  refine G_invS (N := mX3_ofPlate) (As := [va_rf l0, .int l1, .int (3 + l2)]) (st := []) (rc) (rs) "" 8 dX3_depthOf_5 (Or.inl q2193) q2194 q44 q2195 rfl mX3_ofPlate_args ⟨Nat.le_of_ble_eq_true rfl, Nat.le_of_ble_eq_true rfl⟩ rfl (Nat.zero_le _) (le_b mX3_ofPlate_c (Nat.le_refl _)) (le_b mX3_ofPlate_s (Nat.le_refl _)) rfl (Cal.mono h ?_)
  rintro s1 v ⟨x2, rfl, h⟩ hx3
  have h := h hx3
  have x4 := hx3.x
  show G w mX3_depthOf (KI K) (rc) (rs) s1 8 [va_rf l0, .int l1, .int l2] [.int x2]
  exact G_iret dX3_depthOf_8 rfl ⟨_, rfl, h⟩
theorem eX3_depthOf {w : Wt} {K : Sg → Int32 → Prop} {σ : Sg} (l0 : Option Nat) (l1 : Int32) (l2 : Int32) (h : G w mX3_depthOf (KI K) 0 0 σ 0 [va_rf l0, .int l1, .int l2] []) : CalI w mX3_depthOf σ [va_rf l0, .int l1, .int l2] K :=
  Cal.start 0 mX3_depthOf_plain (catR (catI (catI cat0))) (Nat.le_of_ble_eq_true rfl) rfl h
set_option maxHeartbeats 4000000 in
theorem bX3_leftOver_0 {w : Wt} {K : Sg → Int32 → Prop} {rc rs : Nat} {σ : Sg} (l0 : Option Nat) (l1 : Int32) (l2 : Int32) (l3 : Int32) (l4 : Int32) (h : CalI w mX3_ofPlate σ [va_rf l0, .int l1, .int 1] (fun s1 x2 => Ext σ s1 → CalI w mX3_depthOf s1 [va_rf l0, .int l1, .int (1 - l2)] (fun s5 x6 => Ext s1 s5 → K s5 (((x2 - l4) - l3) - x6)))) : G w mX3_leftOver (KI K) (rc) (rs) σ 0 [va_rf l0, .int l1, .int l2, .int l3, .int l4] [] := by
  refine G_aload_n 1 dX3_leftOver_0 rfl rfl ?_
  refine G_iload_n 2 dX3_leftOver_1 rfl rfl ?_
  refine G_iconst (v := 1) 3 dX3_leftOver_2 (by decide) rfl ?_
  refine G_invS (N := mX3_ofPlate) (As := [va_rf l0, .int l1, .int 1]) (st := []) (rc) (rs) "" 6 dX3_leftOver_3 (Or.inl q2193) q2194 q44 q2195 rfl mX3_ofPlate_args ⟨Nat.le_of_ble_eq_true rfl, Nat.le_of_ble_eq_true rfl⟩ rfl (Nat.zero_le _) (le_b mX3_ofPlate_c (Nat.le_refl _)) (le_b mX3_ofPlate_s (Nat.le_refl _)) rfl (Cal.mono h ?_)
  rintro s1 v ⟨x2, rfl, h⟩ hx3
  have h := h hx3
  have x4 := hx3.x
  show G w mX3_leftOver (KI K) (rc) (rs) s1 6 [va_rf l0, .int l1, .int l2, .int l3, .int l4] [.int x2]
  refine G_iload 8 dX3_leftOver_6 rfl rfl ?_
  refine G_isub 9 dX3_leftOver_8 rfl ?_
  refine G_iload_n 10 dX3_leftOver_9 rfl rfl ?_
  refine G_isub 11 dX3_leftOver_10 rfl ?_
  refine G_aload_n 12 dX3_leftOver_11 rfl rfl ?_
  refine G_iload_n 13 dX3_leftOver_12 rfl rfl ?_
  refine G_iconst (v := 1) 14 dX3_leftOver_13 (by decide) rfl ?_
  refine G_iload_n 15 dX3_leftOver_14 rfl rfl ?_
  refine G_isub 16 dX3_leftOver_15 rfl ?_
  refine G_invS (N := mX3_depthOf) (As := [va_rf l0, .int l1, .int (1 - l2)]) (st := [.int ((x2 - l4) - l3)]) (rc) (rs) "" 19 dX3_leftOver_16 (Or.inl q2203) q2204 q44 q2205 rfl mX3_depthOf_args ⟨Nat.le_of_ble_eq_true rfl, Nat.le_of_ble_eq_true rfl⟩ rfl (Nat.le_trans (w_I w_0) (Nat.le_of_ble_eq_true rfl)) (le_b mX3_depthOf_c (Nat.le_refl _)) (le_b mX3_depthOf_s (Nat.le_refl _)) rfl (Cal.mono h ?_)
  rintro s5 v ⟨x6, rfl, h⟩ hx7
  have h := h hx7
  have x8 := hx7.x
  show G w mX3_leftOver (KI K) (rc) (rs) s5 19 [va_rf l0, .int l1, .int l2, .int l3, .int l4] [.int x6, .int ((x2 - l4) - l3)]
  refine G_isub 20 dX3_leftOver_19 rfl ?_
  exact G_iret dX3_leftOver_20 rfl ⟨_, rfl, h⟩
theorem eX3_leftOver {w : Wt} {K : Sg → Int32 → Prop} {σ : Sg} (l0 : Option Nat) (l1 : Int32) (l2 : Int32) (l3 : Int32) (l4 : Int32) (h : G w mX3_leftOver (KI K) 0 0 σ 0 [va_rf l0, .int l1, .int l2, .int l3, .int l4] []) : CalI w mX3_leftOver σ [va_rf l0, .int l1, .int l2, .int l3, .int l4] K :=
  Cal.start 0 mX3_leftOver_plain (catR (catI (catI (catI (catI cat0))))) (Nat.le_of_ble_eq_true rfl) rfl h
set_option maxHeartbeats 4000000 in
theorem bX3_grindSide_0 {w : Wt} {K : Sg → Prop} {rc rs : Nat} {σ : Sg} (l0 : Option Nat) (l1 : Int32) (l2 : Int32) (h : CalI w mX3_ofPlate σ [va_rf l0, .int l1, .int 1] (fun s1 x2 => Ext σ s1 → CalI w mX3_depthOf s1 [va_rf l0, .int l1, .int l2] (fun s5 x6 => Ext s1 s5 → CalV w mX3_setPlate s5 [va_rf l0, .int l1, .int 1, .int ((x2 - x6) - 1)] (fun s9 => Ext s5 s9 → CalV w mX3_setPlate s9 [va_rf l0, .int l1, .int (3 + l2), .int 0] (fun s12 => Ext s9 s12 → ∃ a15, l0 = some a15 ∧ kd s12 a15 ∈ [1, 5] ∧ vp_in 9 (ln s12 a15) ∧ kd s12 a15 = 1 ∧ ∀ s20, s20 = sAI s12 a15 (9 : Int32).toNatClampNeg ((AI s12 a15 (9 : Int32).toNatClampNeg) + 1) → K s20))))) : G w mX3_grindSide (KV K) (rc) (rs) σ 0 [va_rf l0, .int l1, .int l2] [] := by
  refine G_aload_n 1 dX3_grindSide_0 rfl rfl ?_
  refine G_iload_n 2 dX3_grindSide_1 rfl rfl ?_
  refine G_iconst (v := 1) 3 dX3_grindSide_2 (by decide) rfl ?_
  refine G_aload_n 4 dX3_grindSide_3 rfl rfl ?_
  refine G_iload_n 5 dX3_grindSide_4 rfl rfl ?_
  refine G_iconst (v := 1) 6 dX3_grindSide_5 (by decide) rfl ?_
  refine G_invS (N := mX3_ofPlate) (As := [va_rf l0, .int l1, .int 1]) (st := [.int 1, .int l1, va_rf l0]) (rc) (rs) "" 9 dX3_grindSide_6 (Or.inl q2193) q2194 q44 q2195 rfl mX3_ofPlate_args ⟨Nat.le_of_ble_eq_true rfl, Nat.le_of_ble_eq_true rfl⟩ rfl (Nat.le_trans (w_I (w_I (w_R w_0))) (Nat.le_of_ble_eq_true rfl)) (le_b mX3_ofPlate_c (Nat.le_refl _)) (le_b mX3_ofPlate_s (Nat.le_refl _)) rfl (Cal.mono h ?_)
  rintro s1 v ⟨x2, rfl, h⟩ hx3
  have h := h hx3
  have x4 := hx3.x
  show G w mX3_grindSide (KV K) (rc) (rs) s1 9 [va_rf l0, .int l1, .int l2] [.int x2, .int 1, .int l1, va_rf l0]
  refine G_aload_n 10 dX3_grindSide_9 rfl rfl ?_
  refine G_iload_n 11 dX3_grindSide_10 rfl rfl ?_
  refine G_iload_n 12 dX3_grindSide_11 rfl rfl ?_
  refine G_invS (N := mX3_depthOf) (As := [va_rf l0, .int l1, .int l2]) (st := [.int x2, .int 1, .int l1, va_rf l0]) (rc) (rs) "" 15 dX3_grindSide_12 (Or.inl q2203) q2204 q44 q2205 rfl mX3_depthOf_args ⟨Nat.le_of_ble_eq_true rfl, Nat.le_of_ble_eq_true rfl⟩ rfl (Nat.le_trans (w_I (w_I (w_I (w_R w_0)))) (Nat.le_of_ble_eq_true rfl)) (le_b mX3_depthOf_c (Nat.le_refl _)) (le_b mX3_depthOf_s (Nat.le_refl _)) rfl (Cal.mono h ?_)
  rintro s5 v ⟨x6, rfl, h⟩ hx7
  have h := h hx7
  have x8 := hx7.x
  show G w mX3_grindSide (KV K) (rc) (rs) s5 15 [va_rf l0, .int l1, .int l2] [.int x6, .int x2, .int 1, .int l1, va_rf l0]
  refine G_isub 16 dX3_grindSide_15 rfl ?_
  refine G_iconst (v := 1) 17 dX3_grindSide_16 (by decide) rfl ?_
  refine G_isub 18 dX3_grindSide_17 rfl ?_
  refine G_invS (N := mX3_setPlate) (As := [va_rf l0, .int l1, .int 1, .int ((x2 - x6) - 1)]) (st := []) (rc) (rs) "" 21 dX3_grindSide_18 (Or.inl q2182) q2183 q44 q2184 rfl mX3_setPlate_args ⟨Nat.le_of_ble_eq_true rfl, Nat.le_of_ble_eq_true rfl⟩ rfl (Nat.zero_le _) (le_b mX3_setPlate_c (Nat.le_refl _)) (le_b mX3_setPlate_s (Nat.le_refl _)) rfl (Cal.mono h ?_)
  rintro s9 v ⟨rfl, h⟩ hx10
  have h := h hx10
  have x11 := hx10.x
  show G w mX3_grindSide (KV K) (rc) (rs) s9 21 [va_rf l0, .int l1, .int l2] []
  refine G_aload_n 22 dX3_grindSide_21 rfl rfl ?_
  refine G_iload_n 23 dX3_grindSide_22 rfl rfl ?_
  refine G_iconst (v := 3) 24 dX3_grindSide_23 (by decide) rfl ?_
  refine G_iload_n 25 dX3_grindSide_24 rfl rfl ?_
  refine G_iadd 26 dX3_grindSide_25 rfl ?_
  refine G_iconst (v := 0) 27 dX3_grindSide_26 (by decide) rfl ?_
  refine G_invS (N := mX3_setPlate) (As := [va_rf l0, .int l1, .int (3 + l2), .int 0]) (st := []) (rc) (rs) "" 30 dX3_grindSide_27 (Or.inl q2182) q2183 q44 q2184 rfl mX3_setPlate_args ⟨Nat.le_of_ble_eq_true rfl, Nat.le_of_ble_eq_true rfl⟩ rfl (Nat.zero_le _) (le_b mX3_setPlate_c (Nat.le_refl _)) (le_b mX3_setPlate_s (Nat.le_refl _)) rfl (Cal.mono h ?_)
  rintro s12 v ⟨rfl, h⟩ hx13
  have h := h hx13
  have x14 := hx13.x
  show G w mX3_grindSide (KV K) (rc) (rs) s12 30 [va_rf l0, .int l1, .int l2] []
  refine G_aload_n 31 dX3_grindSide_30 rfl rfl ?_
  refine G_bipush (v := 9) 33 dX3_grindSide_31 (by decide) rfl ?_
  refine G_dup2 34 dX3_grindSide_33 (rfl) (rf_cat _) rfl ?_
  obtain ⟨a15, e16, h⟩ := h
  obtain ⟨c17, h⟩ := h
  obtain ⟨c18, h⟩ := h
  refine G_iald (a := a15) 35 dX3_grindSide_34 rfl e16 c17 c18 ?_
  refine G_iconst (v := 1) 36 dX3_grindSide_35 (by decide) rfl ?_
  refine G_iadd 37 dX3_grindSide_36 rfl ?_
  obtain ⟨c19, h⟩ := h
  refine G_iast (a := a15) 38 dX3_grindSide_37 rfl e16 c19 c18 ?_
  generalize hs20 : sAI s12 a15 (9 : Int32).toNatClampNeg ((AI s12 a15 (9 : Int32).toNatClampNeg) + 1) = s20
  have x21 : ∀ a, ¬ kd s12 a = 0 → kd s20 a = kd s12 a := by subst hs20; exact fun a _ => congrFun kd_sAI a
  have h := h s20 hs20.symm
  exact G_ret dX3_grindSide_38 rfl ⟨rfl, h⟩
theorem eX3_grindSide {w : Wt} {K : Sg → Prop} {σ : Sg} (l0 : Option Nat) (l1 : Int32) (l2 : Int32) (h : G w mX3_grindSide (KV K) 0 0 σ 0 [va_rf l0, .int l1, .int l2] []) : CalV w mX3_grindSide σ [va_rf l0, .int l1, .int l2] K :=
  Cal.start 0 mX3_grindSide_plain (catR (catI (catI cat0))) (Nat.le_of_ble_eq_true rfl) rfl h
set_option maxHeartbeats 4000000 in
theorem bX3_addShield_0 {w : Wt} {K : Sg → Int32 → Prop} {rc rs : Nat} {σ : Sg} (l0 : Option Nat) (l1 : Int32) (h : ∃ a1, l0 = some a1 ∧ kd σ a1 = 13 ∧ ∀ s4, s4 = sFI σ 18 a1 0 → CalI w mX3_in s4 [.int l1, .int 2, .int 6] (fun s6 x7 => Ext s4 s6 → ((¬ x7 = 0 → ∃ a11, FR s6 19 a1 = some a11 ∧ kd s6 a11 ∈ [1, 5] ∧ vp_in 0 (ln s6 a11) ∧ ((¬ AI s6 a11 (0 : Int32).toNatClampNeg = 3 → CalV w mX3_act s6 [va_rf l0] (fun s16 => Ext s6 s16 → ∃ a19, FR s16 19 a1 = some a19 ∧ kd s16 a19 ∈ [1, 5] ∧ vp_in 0 (ln s16 a19) ∧ kd s16 a19 = 1 ∧ vp_in (150 + (AI s16 a19 (0 : Int32).toNatClampNeg)) (ln s16 a19) ∧ ∀ s25, s25 = sAI s16 a19 (150 + (AI s16 a19 (0 : Int32).toNatClampNeg)).toNatClampNeg l1 → ∃ a27, FR s25 19 a1 = some a27 ∧ kd s25 a27 ∈ [1, 5] ∧ vp_in 0 (ln s25 a27) ∧ kd s25 a27 = 1 ∧ ∀ s32, s32 = sAI s25 a27 (0 : Int32).toNatClampNeg ((AI s25 a27 (0 : Int32).toNatClampNeg) + 1) → ∃ a34, FR s32 19 a1 = some a34 ∧ kd s32 a34 ∈ [1, 5] ∧ vp_in 0 (ln s32 a34) ∧ K s32 ((AI s32 a34 (0 : Int32).toNatClampNeg) - 1))) ∧ (AI s6 a11 (0 : Int32).toNatClampNeg = 3 → K s6 (-3)))) ∧ (x7 = 0 → K s6 (-1))))) : G w mX3_addShield (KI K) (rc) (rs) σ 0 [va_rf l0, .int l1] [] := by
  refine G_aload_n 1 dX3_addShield_0 rfl rfl ?_
  refine G_iconst (v := 0) 2 dX3_addShield_1 (by decide) rfl ?_
  obtain ⟨a1, e2, h⟩ := h
  obtain ⟨c3, h⟩ := h
  refine G_putI (f := 18) (a := a1) "" 5 dX3_addShield_2 (Or.inl q2131) (Or.inl rfl) rfl e2 (hp18 c3) (nk18 c3) (Or.inl rfl) rfl rfl rfl ?_
  generalize hs4 : sFI σ 18 a1 0 = s4
  have x5 : ∀ a, ¬ kd σ a = 0 → kd s4 a = kd σ a := by subst hs4; exact fun a _ => congrFun kd_sFI a
  have h := h s4 hs4.symm
  refine G_iload_n 6 dX3_addShield_5 rfl rfl ?_
  refine G_iconst (v := 2) 7 dX3_addShield_6 (by decide) rfl ?_
  refine G_bipush (v := 6) 9 dX3_addShield_7 (by decide) rfl ?_
  refine G_invS (N := mX3_in) (As := [.int l1, .int 2, .int 6]) (st := []) (rc) (rs) "" 12 dX3_addShield_9 (Or.inl q2175) q2176 q44 q2177 rfl mX3_in_args ⟨Nat.le_of_ble_eq_true rfl, Nat.le_of_ble_eq_true rfl⟩ rfl (Nat.zero_le _) (le_b mX3_in_c (Nat.le_refl _)) (le_b mX3_in_s (Nat.le_refl _)) rfl (Cal.mono h ?_)
  rintro s6 v ⟨x7, rfl, h⟩ hx8
  have h := h hx8
  have x9 := hx8.x
  show G w mX3_addShield (KI K) (rc) (rs) s6 12 [va_rf l0, .int l1] [.int x7]
  refine G_if_ne 17 15 dX3_addShield_12 (by decide) rfl (fun u10 => ?_) (fun u10 => ?_)
  · have h := h.1 u10
    refine G_aload_n 18 dX3_addShield_17 rfl rfl ?_
    have c3 := kdE x5 c3 (by decide)
    have c3 := kdE x9 c3 (by decide)
    refine G_getR (f := 19) (a := a1) "" 21 dX3_addShield_18 (Or.inl q2132) (Or.inl rfl) rfl e2 (hf19 c3) rfl ?_
    refine G_iconst (v := 0) 22 dX3_addShield_21 (by decide) rfl ?_
    obtain ⟨a11, e12, h⟩ := h
    obtain ⟨c13, h⟩ := h
    obtain ⟨c14, h⟩ := h
    refine G_iald (a := a11) 23 dX3_addShield_22 rfl e12 c13 c14 ?_
    refine G_iconst (v := 3) 24 dX3_addShield_23 (by decide) rfl ?_
    refine G_icmp_ne 30 27 dX3_addShield_24 (by decide) rfl (fun u15 => ?_) (fun u15 => ?_)
    · have h := h.1 u15
      refine G_aload_n 31 dX3_addShield_30 rfl rfl ?_
      refine G_invV (N := mX3_act) (As := []) (st := []) (t := l0) (b := a1) (rc) (rs) 34 dX3_addShield_31 q2178 q2180 qs16 q44 q2181 rfl rfl mX3_act_args ⟨Nat.le_of_ble_eq_true rfl, Nat.le_of_ble_eq_true rfl⟩ rfl (Nat.zero_le _) e2 (rk13 c3) (le_b mX3_act_c (Nat.le_refl _)) (le_b mX3_act_s (Nat.le_refl _)) rfl (Cal.mono h ?_)
      rintro s16 v ⟨rfl, h⟩ hx17
      have h := h hx17
      have x18 := hx17.x
      show G w mX3_addShield (KI K) (rc) (rs) s16 34 [va_rf l0, .int l1] []
      refine G_aload_n 35 dX3_addShield_34 rfl rfl ?_
      have c3 := kdE x18 c3 (by decide)
      refine G_getR (f := 19) (a := a1) "" 38 dX3_addShield_35 (Or.inl q2132) (Or.inl rfl) rfl e2 (hf19 c3) rfl ?_
      refine G_sipush (v := 150) 41 dX3_addShield_38 (by decide) rfl ?_
      refine G_aload_n 42 dX3_addShield_41 rfl rfl ?_
      refine G_getR (f := 19) (a := a1) "" 45 dX3_addShield_42 (Or.inl q2132) (Or.inl rfl) rfl e2 (hf19 c3) rfl ?_
      refine G_iconst (v := 0) 46 dX3_addShield_45 (by decide) rfl ?_
      obtain ⟨a19, e20, h⟩ := h
      obtain ⟨c21, h⟩ := h
      obtain ⟨c22, h⟩ := h
      refine G_iald (a := a19) 47 dX3_addShield_46 rfl e20 c21 c22 ?_
      refine G_iadd 48 dX3_addShield_47 rfl ?_
      refine G_iload_n 49 dX3_addShield_48 rfl rfl ?_
      obtain ⟨c23, h⟩ := h
      obtain ⟨c24, h⟩ := h
      refine G_iast (a := a19) 50 dX3_addShield_49 rfl e20 c23 c24 ?_
      generalize hs25 : sAI s16 a19 (150 + (AI s16 a19 (0 : Int32).toNatClampNeg)).toNatClampNeg l1 = s25
      have x26 : ∀ a, ¬ kd s16 a = 0 → kd s25 a = kd s16 a := by subst hs25; exact fun a _ => congrFun kd_sAI a
      have h := h s25 hs25.symm
      refine G_aload_n 51 dX3_addShield_50 rfl rfl ?_
      have c3 := kdE x26 c3 (by decide)
      refine G_getR (f := 19) (a := a1) "" 54 dX3_addShield_51 (Or.inl q2132) (Or.inl rfl) rfl e2 (hf19 c3) rfl ?_
      refine G_iconst (v := 0) 55 dX3_addShield_54 (by decide) rfl ?_
      refine G_dup2 56 dX3_addShield_55 (rfl) (rf_cat _) rfl ?_
      obtain ⟨a27, e28, h⟩ := h
      obtain ⟨c29, h⟩ := h
      obtain ⟨c30, h⟩ := h
      refine G_iald (a := a27) 57 dX3_addShield_56 rfl e28 c29 c30 ?_
      refine G_iconst (v := 1) 58 dX3_addShield_57 (by decide) rfl ?_
      refine G_iadd 59 dX3_addShield_58 rfl ?_
      obtain ⟨c31, h⟩ := h
      refine G_iast (a := a27) 60 dX3_addShield_59 rfl e28 c31 c30 ?_
      generalize hs32 : sAI s25 a27 (0 : Int32).toNatClampNeg ((AI s25 a27 (0 : Int32).toNatClampNeg) + 1) = s32
      have x33 : ∀ a, ¬ kd s25 a = 0 → kd s32 a = kd s25 a := by subst hs32; exact fun a _ => congrFun kd_sAI a
      have h := h s32 hs32.symm
      refine G_aload_n 61 dX3_addShield_60 rfl rfl ?_
      have c3 := kdE x33 c3 (by decide)
      refine G_getR (f := 19) (a := a1) "" 64 dX3_addShield_61 (Or.inl q2132) (Or.inl rfl) rfl e2 (hf19 c3) rfl ?_
      refine G_iconst (v := 0) 65 dX3_addShield_64 (by decide) rfl ?_
      obtain ⟨a34, e35, h⟩ := h
      obtain ⟨c36, h⟩ := h
      obtain ⟨c37, h⟩ := h
      refine G_iald (a := a34) 66 dX3_addShield_65 rfl e35 c36 c37 ?_
      refine G_iconst (v := 1) 67 dX3_addShield_66 (by decide) rfl ?_
      refine G_isub 68 dX3_addShield_67 rfl ?_
      exact G_iret dX3_addShield_68 rfl ⟨_, rfl, h⟩
    · have h := h.2 u15
      refine G_bipush (v := (-3)) 29 dX3_addShield_27 (by decide) rfl ?_
      exact G_iret dX3_addShield_29 rfl ⟨_, rfl, h⟩
  · have h := h.2 u10
    refine G_iconst (v := (-1)) 16 dX3_addShield_15 (by decide) rfl ?_
    exact G_iret dX3_addShield_16 rfl ⟨_, rfl, h⟩
theorem eX3_addShield {w : Wt} {K : Sg → Int32 → Prop} {σ : Sg} (l0 : Option Nat) (l1 : Int32) (h : G w mX3_addShield (KI K) 0 0 σ 0 [va_rf l0, .int l1] []) : CalI w mX3_addShield σ [va_rf l0, .int l1] K :=
  Cal.start 0 mX3_addShield_plain (catR (catI cat0)) (Nat.le_of_ble_eq_true rfl) rfl h
set_option maxHeartbeats 4000000 in
theorem bX3_takeOff_0 {w : Wt} {K : Sg → Int32 → Prop} {rc rs : Nat} {σ : Sg} (l0 : Option Nat) (l1 : Int32) (l2 : Int32) (h : ∃ a1, l0 = some a1 ∧ kd σ a1 = 13 ∧ ∀ s4, s4 = sFI σ 18 a1 0 → CalI w mX3_isShield s4 [va_rf l0, .int l1] (fun s6 x7 => Ext s4 s6 → ((x7 = 0 → K s6 (-1)) ∧ (¬ x7 = 0 → CalI w mX3_isYear s6 [.int l2] (fun s11 x12 => Ext s6 s11 → ((¬ x12 = 0 → CalI w mX3_plateOn s11 [va_rf (FR s11 19 a1), .int l1, .int l2] (fun s16 x17 => Ext s11 s16 → ((¬ x17 = (-9) → CalV w mX3_act s16 [va_rf l0] (fun s21 => Ext s16 s21 → CalV w mX3_setPlate s21 [va_rf (FR s21 19 a1), .int x17, .int 2, .int 0] (fun s24 => Ext s21 s24 → K s24 x17))) ∧ (x17 = (-9) → K s16 (-2))))) ∧ (x12 = 0 → K s11 (-1)))))))) : G w mX3_takeOff (KI K) (rc) (rs) σ 0 [va_rf l0, .int l1, .int l2, U_] [] := by
  refine G_aload_n 1 dX3_takeOff_0 rfl rfl ?_
  refine G_iconst (v := 0) 2 dX3_takeOff_1 (by decide) rfl ?_
  obtain ⟨a1, e2, h⟩ := h
  obtain ⟨c3, h⟩ := h
  refine G_putI (f := 18) (a := a1) "" 5 dX3_takeOff_2 (Or.inl q2131) (Or.inl rfl) rfl e2 (hp18 c3) (nk18 c3) (Or.inl rfl) rfl rfl rfl ?_
  generalize hs4 : sFI σ 18 a1 0 = s4
  have x5 : ∀ a, ¬ kd σ a = 0 → kd s4 a = kd σ a := by subst hs4; exact fun a _ => congrFun kd_sFI a
  have h := h s4 hs4.symm
  refine G_aload_n 6 dX3_takeOff_5 rfl rfl ?_
  refine G_iload_n 7 dX3_takeOff_6 rfl rfl ?_
  have c3 := kdE x5 c3 (by decide)
  refine G_invV (N := mX3_isShield) (As := [.int l1]) (st := []) (t := l0) (b := a1) (rc) (rs) 10 dX3_takeOff_7 q2220 q2222 qs18 q44 q2223 rfl rfl mX3_isShield_args ⟨Nat.le_of_ble_eq_true rfl, Nat.le_of_ble_eq_true rfl⟩ rfl (Nat.zero_le _) e2 (rk13 c3) (le_b mX3_isShield_c (Nat.le_refl _)) (le_b mX3_isShield_s (Nat.le_refl _)) rfl (Cal.mono h ?_)
  rintro s6 v ⟨x7, rfl, h⟩ hx8
  have h := h hx8
  have x9 := hx8.x
  show G w mX3_takeOff (KI K) (rc) (rs) s6 10 [va_rf l0, .int l1, .int l2, U_] [.int x7]
  refine G_if_eq 20 13 dX3_takeOff_10 (by decide) rfl (fun u10 => ?_) (fun u10 => ?_)
  · have h := h.1 u10
    refine G_iconst (v := (-1)) 21 dX3_takeOff_20 (by decide) rfl ?_
    exact G_iret dX3_takeOff_21 rfl ⟨_, rfl, h⟩
  · have h := h.2 u10
    refine G_iload_n 14 dX3_takeOff_13 rfl rfl ?_
    refine G_invS (N := mX3_isYear) (As := [.int l2]) (st := []) (rc) (rs) "" 17 dX3_takeOff_14 (Or.inl q2224) q2225 q44 q2226 rfl mX3_isYear_args ⟨Nat.le_of_ble_eq_true rfl, Nat.le_of_ble_eq_true rfl⟩ rfl (Nat.zero_le _) (le_b mX3_isYear_c (Nat.le_refl _)) (le_b mX3_isYear_s (Nat.le_refl _)) rfl (Cal.mono h ?_)
    rintro s11 v ⟨x12, rfl, h⟩ hx13
    have h := h hx13
    have x14 := hx13.x
    show G w mX3_takeOff (KI K) (rc) (rs) s11 17 [va_rf l0, .int l1, .int l2, U_] [.int x12]
    refine G_if_ne 22 20 dX3_takeOff_17 (by decide) rfl (fun u15 => ?_) (fun u15 => ?_)
    · have h := h.1 u15
      refine G_aload_n 23 dX3_takeOff_22 rfl rfl ?_
      have c3 := kdE x9 c3 (by decide)
      have c3 := kdE x14 c3 (by decide)
      refine G_getR (f := 19) (a := a1) "" 26 dX3_takeOff_23 (Or.inl q2132) (Or.inl rfl) rfl e2 (hf19 c3) rfl ?_
      refine G_iload_n 27 dX3_takeOff_26 rfl rfl ?_
      refine G_iload_n 28 dX3_takeOff_27 rfl rfl ?_
      refine G_invS (N := mX3_plateOn) (As := [va_rf (FR s11 19 a1), .int l1, .int l2]) (st := []) (rc) (rs) "" 31 dX3_takeOff_28 (Or.inl q2227) q2228 q44 q2229 rfl mX3_plateOn_args ⟨Nat.le_of_ble_eq_true rfl, Nat.le_of_ble_eq_true rfl⟩ rfl (Nat.zero_le _) (le_b mX3_plateOn_c (Nat.le_refl _)) (le_b mX3_plateOn_s (Nat.le_refl _)) rfl (Cal.mono h ?_)
      rintro s16 v ⟨x17, rfl, h⟩ hx18
      have h := h hx18
      have x19 := hx18.x
      show G w mX3_takeOff (KI K) (rc) (rs) s16 31 [va_rf l0, .int l1, .int l2, U_] [.int x17]
      refine G_istore_n 32 [va_rf l0, .int l1, .int l2, .int x17] dX3_takeOff_31 (Nat.le_of_ble_eq_true rfl) rfl rfl ?_
      refine G_iload_n 33 dX3_takeOff_32 rfl rfl ?_
      refine G_bipush (v := (-9)) 35 dX3_takeOff_33 (by decide) rfl ?_
      refine G_icmp_ne 41 38 dX3_takeOff_35 (by decide) rfl (fun u20 => ?_) (fun u20 => ?_)
      · have h := h.1 u20
        refine G_aload_n 42 dX3_takeOff_41 rfl rfl ?_
        have c3 := kdE x19 c3 (by decide)
        refine G_invV (N := mX3_act) (As := []) (st := []) (t := l0) (b := a1) (rc) (rs) 45 dX3_takeOff_42 q2178 q2180 qs16 q44 q2181 rfl rfl mX3_act_args ⟨Nat.le_of_ble_eq_true rfl, Nat.le_of_ble_eq_true rfl⟩ rfl (Nat.zero_le _) e2 (rk13 c3) (le_b mX3_act_c (Nat.le_refl _)) (le_b mX3_act_s (Nat.le_refl _)) rfl (Cal.mono h ?_)
        rintro s21 v ⟨rfl, h⟩ hx22
        have h := h hx22
        have x23 := hx22.x
        show G w mX3_takeOff (KI K) (rc) (rs) s21 45 [va_rf l0, .int l1, .int l2, .int x17] []
        refine G_aload_n 46 dX3_takeOff_45 rfl rfl ?_
        have c3 := kdE x23 c3 (by decide)
        refine G_getR (f := 19) (a := a1) "" 49 dX3_takeOff_46 (Or.inl q2132) (Or.inl rfl) rfl e2 (hf19 c3) rfl ?_
        refine G_iload_n 50 dX3_takeOff_49 rfl rfl ?_
        refine G_iconst (v := 2) 51 dX3_takeOff_50 (by decide) rfl ?_
        refine G_iconst (v := 0) 52 dX3_takeOff_51 (by decide) rfl ?_
        refine G_invS (N := mX3_setPlate) (As := [va_rf (FR s21 19 a1), .int x17, .int 2, .int 0]) (st := []) (rc) (rs) "" 55 dX3_takeOff_52 (Or.inl q2182) q2183 q44 q2184 rfl mX3_setPlate_args ⟨Nat.le_of_ble_eq_true rfl, Nat.le_of_ble_eq_true rfl⟩ rfl (Nat.zero_le _) (le_b mX3_setPlate_c (Nat.le_refl _)) (le_b mX3_setPlate_s (Nat.le_refl _)) rfl (Cal.mono h ?_)
        rintro s24 v ⟨rfl, h⟩ hx25
        have h := h hx25
        have x26 := hx25.x
        show G w mX3_takeOff (KI K) (rc) (rs) s24 55 [va_rf l0, .int l1, .int l2, .int x17] []
        refine G_iload_n 56 dX3_takeOff_55 rfl rfl ?_
        exact G_iret dX3_takeOff_56 rfl ⟨_, rfl, h⟩
      · have h := h.2 u20
        refine G_bipush (v := (-2)) 40 dX3_takeOff_38 (by decide) rfl ?_
        exact G_iret dX3_takeOff_40 rfl ⟨_, rfl, h⟩
    · have h := h.2 u15
      refine G_iconst (v := (-1)) 21 dX3_takeOff_20 (by decide) rfl ?_
      exact G_iret dX3_takeOff_21 rfl ⟨_, rfl, h⟩
theorem eX3_takeOff {w : Wt} {K : Sg → Int32 → Prop} {σ : Sg} (l0 : Option Nat) (l1 : Int32) (l2 : Int32) (h : G w mX3_takeOff (KI K) 0 0 σ 0 [va_rf l0, .int l1, .int l2, U_] []) : CalI w mX3_takeOff σ [va_rf l0, .int l1, .int l2] K :=
  Cal.start 1 mX3_takeOff_plain (catR (catI (catI cat0))) (Nat.le_of_ble_eq_true rfl) rfl h
set_option maxHeartbeats 4000000 in
theorem bX3_isShield_0 {w : Wt} {K : Sg → Int32 → Prop} {rc rs : Nat} {σ : Sg} (l0 : Option Nat) (l1 : Int32) (h : ∃ a1, l0 = some a1 ∧ kd σ a1 = 13 ∧ ∃ a4, FR σ 19 a1 = some a4 ∧ kd σ a4 ∈ [1, 5] ∧ vp_in 0 (ln σ a4) ∧ CalI w mX3_in σ [.int l1, .int 0, .int ((AI σ a4 (0 : Int32).toNatClampNeg) - 1)] (fun s8 x9 => Ext σ s8 → ((x9 = 0 ∨ x9 = 1) ∧ K s8 x9))) : G w mX3_isShield (KI K) (rc) (rs) σ 0 [va_rf l0, .int l1] [] := by
  refine G_iload_n 1 dX3_isShield_0 rfl rfl ?_
  refine G_iconst (v := 0) 2 dX3_isShield_1 (by decide) rfl ?_
  refine G_aload_n 3 dX3_isShield_2 rfl rfl ?_
  obtain ⟨a1, e2, h⟩ := h
  obtain ⟨c3, h⟩ := h
  refine G_getR (f := 19) (a := a1) "" 6 dX3_isShield_3 (Or.inl q2132) (Or.inl rfl) rfl e2 (hf19 c3) rfl ?_
  refine G_iconst (v := 0) 7 dX3_isShield_6 (by decide) rfl ?_
  obtain ⟨a4, e5, h⟩ := h
  obtain ⟨c6, h⟩ := h
  obtain ⟨c7, h⟩ := h
  refine G_iald (a := a4) 8 dX3_isShield_7 rfl e5 c6 c7 ?_
  refine G_iconst (v := 1) 9 dX3_isShield_8 (by decide) rfl ?_
  refine G_isub 10 dX3_isShield_9 rfl ?_
  refine G_invS (N := mX3_in) (As := [.int l1, .int 0, .int ((AI σ a4 (0 : Int32).toNatClampNeg) - 1)]) (st := []) (rc) (rs) "" 13 dX3_isShield_10 (Or.inl q2175) q2176 q44 q2177 rfl mX3_in_args ⟨Nat.le_of_ble_eq_true rfl, Nat.le_of_ble_eq_true rfl⟩ rfl (Nat.zero_le _) (le_b mX3_in_c (Nat.le_refl _)) (le_b mX3_in_s (Nat.le_refl _)) rfl (Cal.mono h ?_)
  rintro s8 v ⟨x9, rfl, h⟩ hx10
  have h := h hx10
  have x11 := hx10.x
  show G w mX3_isShield (KI K) (rc) (rs) s8 13 [va_rf l0, .int l1] [.int x9]
  exact G_zret dX3_isShield_13 rfl (nar_bz h.1).1 ⟨_, rfl, h.2⟩
theorem eX3_isShield {w : Wt} {K : Sg → Int32 → Prop} {σ : Sg} (l0 : Option Nat) (l1 : Int32) (h : G w mX3_isShield (KI K) 0 0 σ 0 [va_rf l0, .int l1] []) : CalI w mX3_isShield σ [va_rf l0, .int l1] K :=
  Cal.start 0 mX3_isShield_plain (catR (catI cat0)) (Nat.le_of_ble_eq_true rfl) rfl h
set_option maxHeartbeats 4000000 in
theorem bX3_isYear_0 {w : Wt} {K : Sg → Int32 → Prop} {rc rs : Nat} {σ : Sg} (l0 : Int32) (h : CalI w mX3_in σ [.int l0, .int 1, .int 999] (fun s1 x2 => Ext σ s1 → ((x2 = 0 ∨ x2 = 1) ∧ K s1 x2))) : G w mX3_isYear (KI K) (rc) (rs) σ 0 [.int l0] [] := by
  refine G_iload_n 1 dX3_isYear_0 rfl rfl ?_
  refine G_iconst (v := 1) 2 dX3_isYear_1 (by decide) rfl ?_
  refine G_sipush (v := 999) 5 dX3_isYear_2 (by decide) rfl ?_
  refine G_invS (N := mX3_in) (As := [.int l0, .int 1, .int 999]) (st := []) (rc) (rs) "" 8 dX3_isYear_5 (Or.inl q2175) q2176 q44 q2177 rfl mX3_in_args ⟨Nat.le_of_ble_eq_true rfl, Nat.le_of_ble_eq_true rfl⟩ rfl (Nat.zero_le _) (le_b mX3_in_c (Nat.le_refl _)) (le_b mX3_in_s (Nat.le_refl _)) rfl (Cal.mono h ?_)
  rintro s1 v ⟨x2, rfl, h⟩ hx3
  have h := h hx3
  have x4 := hx3.x
  show G w mX3_isYear (KI K) (rc) (rs) s1 8 [.int l0] [.int x2]
  exact G_zret dX3_isYear_8 rfl (nar_bz h.1).1 ⟨_, rfl, h.2⟩
theorem eX3_isYear {w : Wt} {K : Sg → Int32 → Prop} {σ : Sg} (l0 : Int32) (h : G w mX3_isYear (KI K) 0 0 σ 0 [.int l0] []) : CalI w mX3_isYear σ [.int l0] K :=
  Cal.start 0 mX3_isYear_plain (catI cat0) (Nat.le_of_ble_eq_true rfl) rfl h
set_option maxHeartbeats 4000000 in
theorem bX3_plateOn_0 {w : Wt} {K : Sg → Int32 → Prop} {rc rs : Nat} {σ : Sg} (l0 : Option Nat) (l1 : Int32) (l2 : Int32) (h : G w mX3_plateOn (KI K) (rc) (rs) σ 6 [va_rf l0, .int l1, .int l2, .int (-9), .int 0, U_] []) : G w mX3_plateOn (KI K) (rc) (rs) σ 0 [va_rf l0, .int l1, .int l2, U_, U_, U_] [] := by
  refine G_bipush (v := (-9)) 2 dX3_plateOn_0 (by decide) rfl ?_
  refine G_istore_n 3 [va_rf l0, .int l1, .int l2, .int (-9), U_, U_] dX3_plateOn_2 (Nat.le_of_ble_eq_true rfl) rfl rfl ?_
  refine G_iconst (v := 0) 4 dX3_plateOn_3 (by decide) rfl ?_
  refine G_istore 6 [va_rf l0, .int l1, .int l2, .int (-9), .int 0, U_] dX3_plateOn_4 (Nat.le_of_ble_eq_true rfl) rfl rfl ?_
  exact h
set_option maxHeartbeats 4000000 in
theorem bX3_plateOn_6 {w : Wt} {K : Sg → Int32 → Prop} {rc rs : Nat} {σ : Sg} (l0 : Option Nat) (l1 : Int32) (l2 : Int32) (l3 : Int32) (l4 : Int32) (v5 : Value) (h : ∃ a1, l0 = some a1 ∧ kd σ a1 ∈ [1, 5] ∧ vp_in 1 (ln σ a1) ∧ ((AI σ a1 (1 : Int32).toNatClampNeg ≤ l4 → K σ l3) ∧ (¬ AI σ a1 (1 : Int32).toNatClampNeg ≤ l4 → CalI w mX3_ofPlate σ [va_rf l0, .int l4, .int 2] (fun s6 x7 => Ext σ s6 → ((¬ x7 = 2 → G w mX3_plateOn (KI K) (rc) (rs) s6 6 [va_rf l0, .int l1, .int l2, .int l3, .int (l4 + 1), .int 0] []) ∧ (x7 = 2 → CalI w mX3_ofPlate s6 [va_rf l0, .int l4, .int 5] (fun s11 x12 => Ext s6 s11 → ((¬ x12 = l1 → G w mX3_plateOn (KI K) (rc) (rs) s11 6 [va_rf l0, .int l1, .int l2, .int l3, .int (l4 + 1), .int 0] []) ∧ (x12 = l1 → CalI w mX3_ofPlate s11 [va_rf l0, .int l4, .int 6] (fun s16 x17 => Ext s11 s16 → ((¬ x17 = l2 → G w mX3_plateOn (KI K) (rc) (rs) s16 6 [va_rf l0, .int l1, .int l2, .int l3, .int (l4 + 1), .int 0] []) ∧ (x17 = l2 → G w mX3_plateOn (KI K) (rc) (rs) s16 6 [va_rf l0, .int l1, .int l2, .int l4, .int (l4 + 1), .int 1] [])))))))))))) : G w mX3_plateOn (KI K) (rc) (rs) σ 6 [va_rf l0, .int l1, .int l2, .int l3, .int l4, v5] [] := by
  refine G_iload 8 dX3_plateOn_6 rfl rfl ?_
  refine G_aload_n 9 dX3_plateOn_8 rfl rfl ?_
  refine G_iconst (v := 1) 10 dX3_plateOn_9 (by decide) rfl ?_
  obtain ⟨a1, e2, h⟩ := h
  obtain ⟨c3, h⟩ := h
  obtain ⟨c4, h⟩ := h
  refine G_iald (a := a1) 11 dX3_plateOn_10 rfl e2 c3 c4 ?_
  refine G_icmp_ge 73 14 dX3_plateOn_11 (by decide) rfl (fun u5 => ?_) (fun u5 => ?_)
  · have h := h.1 u5
    refine G_iload_n 74 dX3_plateOn_73 rfl rfl ?_
    exact G_iret dX3_plateOn_74 rfl ⟨_, rfl, h⟩
  · have h := h.2 u5
    refine G_aload_n 15 dX3_plateOn_14 rfl rfl ?_
    refine G_iload 17 dX3_plateOn_15 rfl rfl ?_
    refine G_iconst (v := 2) 18 dX3_plateOn_17 (by decide) rfl ?_
    refine G_invS (N := mX3_ofPlate) (As := [va_rf l0, .int l4, .int 2]) (st := []) (rc) (rs) "" 21 dX3_plateOn_18 (Or.inl q2193) q2194 q44 q2195 rfl mX3_ofPlate_args ⟨Nat.le_of_ble_eq_true rfl, Nat.le_of_ble_eq_true rfl⟩ rfl (Nat.zero_le _) (le_b mX3_ofPlate_c (Nat.le_refl _)) (le_b mX3_ofPlate_s (Nat.le_refl _)) rfl (Cal.mono h ?_)
    rintro s6 v ⟨x7, rfl, h⟩ hx8
    have h := h hx8
    have x9 := hx8.x
    show G w mX3_plateOn (KI K) (rc) (rs) s6 21 [va_rf l0, .int l1, .int l2, .int l3, .int l4, v5] [.int x7]
    refine G_iconst (v := 2) 22 dX3_plateOn_21 (by decide) rfl ?_
    refine G_icmp_ne 52 25 dX3_plateOn_22 (by decide) rfl (fun u10 => ?_) (fun u10 => ?_)
    · have h := h.1 u10
      refine G_iconst (v := 0) 53 dX3_plateOn_52 (by decide) rfl ?_
      refine G_istore 55 [va_rf l0, .int l1, .int l2, .int l3, .int l4, .int 0] dX3_plateOn_53 (Nat.le_of_ble_eq_true rfl) rfl rfl ?_
      refine G_iload 57 dX3_plateOn_55 rfl rfl ?_
      refine G_if_eq 65 60 dX3_plateOn_57 (by decide) rfl (fun _ => ?_) (fun q => absurd q (by decide))
      refine G_iload_n 66 dX3_plateOn_65 rfl rfl ?_
      refine G_istore_n 67 [va_rf l0, .int l1, .int l2, .int l3, .int l4, .int 0] dX3_plateOn_66 (Nat.le_of_ble_eq_true rfl) rfl rfl ?_
      refine G_iinc 70 [va_rf l0, .int l1, .int l2, .int l3, .int (l4 + 1), .int 0] dX3_plateOn_67 rfl rfl (Nat.le_of_ble_eq_true rfl) rfl rfl ?_
      refine G_goto 6 dX3_plateOn_70 (by decide) ?_
      exact h
    · have h := h.2 u10
      refine G_aload_n 26 dX3_plateOn_25 rfl rfl ?_
      refine G_iload 28 dX3_plateOn_26 rfl rfl ?_
      refine G_iconst (v := 5) 29 dX3_plateOn_28 (by decide) rfl ?_
      refine G_invS (N := mX3_ofPlate) (As := [va_rf l0, .int l4, .int 5]) (st := []) (rc) (rs) "" 32 dX3_plateOn_29 (Or.inl q2193) q2194 q44 q2195 rfl mX3_ofPlate_args ⟨Nat.le_of_ble_eq_true rfl, Nat.le_of_ble_eq_true rfl⟩ rfl (Nat.zero_le _) (le_b mX3_ofPlate_c (Nat.le_refl _)) (le_b mX3_ofPlate_s (Nat.le_refl _)) rfl (Cal.mono h ?_)
      rintro s11 v ⟨x12, rfl, h⟩ hx13
      have h := h hx13
      have x14 := hx13.x
      show G w mX3_plateOn (KI K) (rc) (rs) s11 32 [va_rf l0, .int l1, .int l2, .int l3, .int l4, v5] [.int x12]
      refine G_iload_n 33 dX3_plateOn_32 rfl rfl ?_
      refine G_icmp_ne 52 36 dX3_plateOn_33 (by decide) rfl (fun u15 => ?_) (fun u15 => ?_)
      · have h := h.1 u15
        refine G_iconst (v := 0) 53 dX3_plateOn_52 (by decide) rfl ?_
        refine G_istore 55 [va_rf l0, .int l1, .int l2, .int l3, .int l4, .int 0] dX3_plateOn_53 (Nat.le_of_ble_eq_true rfl) rfl rfl ?_
        refine G_iload 57 dX3_plateOn_55 rfl rfl ?_
        refine G_if_eq 65 60 dX3_plateOn_57 (by decide) rfl (fun _ => ?_) (fun q => absurd q (by decide))
        refine G_iload_n 66 dX3_plateOn_65 rfl rfl ?_
        refine G_istore_n 67 [va_rf l0, .int l1, .int l2, .int l3, .int l4, .int 0] dX3_plateOn_66 (Nat.le_of_ble_eq_true rfl) rfl rfl ?_
        refine G_iinc 70 [va_rf l0, .int l1, .int l2, .int l3, .int (l4 + 1), .int 0] dX3_plateOn_67 rfl rfl (Nat.le_of_ble_eq_true rfl) rfl rfl ?_
        refine G_goto 6 dX3_plateOn_70 (by decide) ?_
        exact h
      · have h := h.2 u15
        refine G_aload_n 37 dX3_plateOn_36 rfl rfl ?_
        refine G_iload 39 dX3_plateOn_37 rfl rfl ?_
        refine G_bipush (v := 6) 41 dX3_plateOn_39 (by decide) rfl ?_
        refine G_invS (N := mX3_ofPlate) (As := [va_rf l0, .int l4, .int 6]) (st := []) (rc) (rs) "" 44 dX3_plateOn_41 (Or.inl q2193) q2194 q44 q2195 rfl mX3_ofPlate_args ⟨Nat.le_of_ble_eq_true rfl, Nat.le_of_ble_eq_true rfl⟩ rfl (Nat.zero_le _) (le_b mX3_ofPlate_c (Nat.le_refl _)) (le_b mX3_ofPlate_s (Nat.le_refl _)) rfl (Cal.mono h ?_)
        rintro s16 v ⟨x17, rfl, h⟩ hx18
        have h := h hx18
        have x19 := hx18.x
        show G w mX3_plateOn (KI K) (rc) (rs) s16 44 [va_rf l0, .int l1, .int l2, .int l3, .int l4, v5] [.int x17]
        refine G_iload_n 45 dX3_plateOn_44 rfl rfl ?_
        refine G_icmp_ne 52 48 dX3_plateOn_45 (by decide) rfl (fun u20 => ?_) (fun u20 => ?_)
        · have h := h.1 u20
          refine G_iconst (v := 0) 53 dX3_plateOn_52 (by decide) rfl ?_
          refine G_istore 55 [va_rf l0, .int l1, .int l2, .int l3, .int l4, .int 0] dX3_plateOn_53 (Nat.le_of_ble_eq_true rfl) rfl rfl ?_
          refine G_iload 57 dX3_plateOn_55 rfl rfl ?_
          refine G_if_eq 65 60 dX3_plateOn_57 (by decide) rfl (fun _ => ?_) (fun q => absurd q (by decide))
          refine G_iload_n 66 dX3_plateOn_65 rfl rfl ?_
          refine G_istore_n 67 [va_rf l0, .int l1, .int l2, .int l3, .int l4, .int 0] dX3_plateOn_66 (Nat.le_of_ble_eq_true rfl) rfl rfl ?_
          refine G_iinc 70 [va_rf l0, .int l1, .int l2, .int l3, .int (l4 + 1), .int 0] dX3_plateOn_67 rfl rfl (Nat.le_of_ble_eq_true rfl) rfl rfl ?_
          refine G_goto 6 dX3_plateOn_70 (by decide) ?_
          exact h
        · have h := h.2 u20
          refine G_iconst (v := 1) 49 dX3_plateOn_48 (by decide) rfl ?_
          refine G_goto 53 dX3_plateOn_49 (by decide) ?_
          refine G_istore 55 [va_rf l0, .int l1, .int l2, .int l3, .int l4, .int 1] dX3_plateOn_53 (Nat.le_of_ble_eq_true rfl) rfl rfl ?_
          refine G_iload 57 dX3_plateOn_55 rfl rfl ?_
          refine G_if_eq 65 60 dX3_plateOn_57 (by decide) rfl (fun q => absurd q (by decide)) (fun _ => ?_)
          refine G_iload 62 dX3_plateOn_60 rfl rfl ?_
          refine G_goto 66 dX3_plateOn_62 (by decide) ?_
          refine G_istore_n 67 [va_rf l0, .int l1, .int l2, .int l4, .int l4, .int 1] dX3_plateOn_66 (Nat.le_of_ble_eq_true rfl) rfl rfl ?_
          refine G_iinc 70 [va_rf l0, .int l1, .int l2, .int l4, .int (l4 + 1), .int 1] dX3_plateOn_67 rfl rfl (Nat.le_of_ble_eq_true rfl) rfl rfl ?_
          refine G_goto 6 dX3_plateOn_70 (by decide) ?_
          exact h
theorem eX3_plateOn {w : Wt} {K : Sg → Int32 → Prop} {σ : Sg} (l0 : Option Nat) (l1 : Int32) (l2 : Int32) (h : G w mX3_plateOn (KI K) 0 0 σ 0 [va_rf l0, .int l1, .int l2, U_, U_, U_] []) : CalI w mX3_plateOn σ [va_rf l0, .int l1, .int l2] K :=
  Cal.start 3 mX3_plateOn_plain (catR (catI (catI cat0))) (Nat.le_of_ble_eq_true rfl) rfl h
set_option maxHeartbeats 4000000 in
theorem bX3_append_0 {w : Wt} {K : Sg → Int32 → Prop} {rc rs : Nat} {σ : Sg} (l0 : Option Nat) (l1 : Int32) (h : ∃ a1, l0 = some a1 ∧ kd σ a1 = 13 ∧ ∀ s4, s4 = sFI σ 18 a1 0 → CalI w mX3_in s4 [.int l1, .int 97, .int 122] (fun s6 x7 => Ext s4 s6 → ((¬ x7 = 0 → ((¬ FI s6 24 a1 = 12 → ∃ a12, FR s6 23 a1 = some a12 ∧ kd s6 a12 = 1 ∧ vp_in (FI s6 24 a1) (ln s6 a12) ∧ ∀ s16, s16 = sAI s6 a12 (FI s6 24 a1).toNatClampNeg l1 → ∀ s18, s18 = sFI s16 24 a1 ((FI s16 24 a1) + 1) → K s18 (FI s18 24 a1)) ∧ (FI s6 24 a1 = 12 → K s6 (-3)))) ∧ (x7 = 0 → K s6 (-1))))) : G w mX3_append (KI K) (rc) (rs) σ 0 [va_rf l0, .int l1] [] := by
  refine G_aload_n 1 dX3_append_0 rfl rfl ?_
  refine G_iconst (v := 0) 2 dX3_append_1 (by decide) rfl ?_
  obtain ⟨a1, e2, h⟩ := h
  obtain ⟨c3, h⟩ := h
  refine G_putI (f := 18) (a := a1) "" 5 dX3_append_2 (Or.inl q2131) (Or.inl rfl) rfl e2 (hp18 c3) (nk18 c3) (Or.inl rfl) rfl rfl rfl ?_
  generalize hs4 : sFI σ 18 a1 0 = s4
  have x5 : ∀ a, ¬ kd σ a = 0 → kd s4 a = kd σ a := by subst hs4; exact fun a _ => congrFun kd_sFI a
  have h := h s4 hs4.symm
  refine G_iload_n 6 dX3_append_5 rfl rfl ?_
  refine G_bipush (v := 97) 8 dX3_append_6 (by decide) rfl ?_
  refine G_bipush (v := 122) 10 dX3_append_8 (by decide) rfl ?_
  refine G_invS (N := mX3_in) (As := [.int l1, .int 97, .int 122]) (st := []) (rc) (rs) "" 13 dX3_append_10 (Or.inl q2175) q2176 q44 q2177 rfl mX3_in_args ⟨Nat.le_of_ble_eq_true rfl, Nat.le_of_ble_eq_true rfl⟩ rfl (Nat.zero_le _) (le_b mX3_in_c (Nat.le_refl _)) (le_b mX3_in_s (Nat.le_refl _)) rfl (Cal.mono h ?_)
  rintro s6 v ⟨x7, rfl, h⟩ hx8
  have h := h hx8
  have x9 := hx8.x
  show G w mX3_append (KI K) (rc) (rs) s6 13 [va_rf l0, .int l1] [.int x7]
  refine G_if_ne 18 16 dX3_append_13 (by decide) rfl (fun u10 => ?_) (fun u10 => ?_)
  · have h := h.1 u10
    refine G_aload_n 19 dX3_append_18 rfl rfl ?_
    have c3 := kdE x5 c3 (by decide)
    have c3 := kdE x9 c3 (by decide)
    refine G_getI (f := 24) (a := a1) "" 22 dX3_append_19 (Or.inl q2137) (Or.inl rfl) rfl e2 (hf24 c3) rfl ?_
    refine G_bipush (v := 12) 24 dX3_append_22 (by decide) rfl ?_
    refine G_icmp_ne 30 27 dX3_append_24 (by decide) rfl (fun u11 => ?_) (fun u11 => ?_)
    · have h := h.1 u11
      refine G_aload_n 31 dX3_append_30 rfl rfl ?_
      refine G_getR (f := 23) (a := a1) "" 34 dX3_append_31 (Or.inl q2136) (Or.inl rfl) rfl e2 (hf23 c3) rfl ?_
      refine G_aload_n 35 dX3_append_34 rfl rfl ?_
      refine G_getI (f := 24) (a := a1) "" 38 dX3_append_35 (Or.inl q2137) (Or.inl rfl) rfl e2 (hf24 c3) rfl ?_
      refine G_iload_n 39 dX3_append_38 rfl rfl ?_
      obtain ⟨a12, e13, h⟩ := h
      obtain ⟨c14, h⟩ := h
      obtain ⟨c15, h⟩ := h
      refine G_iast (a := a12) 40 dX3_append_39 rfl e13 c14 c15 ?_
      generalize hs16 : sAI s6 a12 (FI s6 24 a1).toNatClampNeg l1 = s16
      have x17 : ∀ a, ¬ kd s6 a = 0 → kd s16 a = kd s6 a := by subst hs16; exact fun a _ => congrFun kd_sAI a
      have h := h s16 hs16.symm
      refine G_aload_n 41 dX3_append_40 rfl rfl ?_
      refine G_dup 42 dX3_append_41 (rf_cat _) rfl ?_
      have c3 := kdE x17 c3 (by decide)
      refine G_getI (f := 24) (a := a1) "" 45 dX3_append_42 (Or.inl q2137) (Or.inl rfl) rfl e2 (hf24 c3) rfl ?_
      refine G_iconst (v := 1) 46 dX3_append_45 (by decide) rfl ?_
      refine G_iadd 47 dX3_append_46 rfl ?_
      refine G_putI (f := 24) (a := a1) "" 50 dX3_append_47 (Or.inl q2137) (Or.inl rfl) rfl e2 (hp24 c3) (nk24 c3) (Or.inl rfl) rfl rfl rfl ?_
      generalize hs18 : sFI s16 24 a1 ((FI s16 24 a1) + 1) = s18
      have x19 : ∀ a, ¬ kd s16 a = 0 → kd s18 a = kd s16 a := by subst hs18; exact fun a _ => congrFun kd_sFI a
      have h := h s18 hs18.symm
      refine G_aload_n 51 dX3_append_50 rfl rfl ?_
      have c3 := kdE x19 c3 (by decide)
      refine G_getI (f := 24) (a := a1) "" 54 dX3_append_51 (Or.inl q2137) (Or.inl rfl) rfl e2 (hf24 c3) rfl ?_
      exact G_iret dX3_append_54 rfl ⟨_, rfl, h⟩
    · have h := h.2 u11
      refine G_bipush (v := (-3)) 29 dX3_append_27 (by decide) rfl ?_
      exact G_iret dX3_append_29 rfl ⟨_, rfl, h⟩
  · have h := h.2 u10
    refine G_iconst (v := (-1)) 17 dX3_append_16 (by decide) rfl ?_
    exact G_iret dX3_append_17 rfl ⟨_, rfl, h⟩
theorem eX3_append {w : Wt} {K : Sg → Int32 → Prop} {σ : Sg} (l0 : Option Nat) (l1 : Int32) (h : G w mX3_append (KI K) 0 0 σ 0 [va_rf l0, .int l1] []) : CalI w mX3_append σ [va_rf l0, .int l1] K :=
  Cal.start 0 mX3_append_plain (catR (catI cat0)) (Nat.le_of_ble_eq_true rfl) rfl h
set_option maxHeartbeats 4000000 in
theorem bX3_clearText_0 {w : Wt} {K : Sg → Int32 → Prop} {rc rs : Nat} {σ : Sg} (l0 : Option Nat) (h : ∃ a1, l0 = some a1 ∧ kd σ a1 = 13 ∧ ∀ s4, s4 = sFI σ 18 a1 0 → ∀ s6, s6 = sFI s4 24 a1 0 → K s6 (FI s4 24 a1)) : G w mX3_clearText (KI K) (rc) (rs) σ 0 [va_rf l0, U_] [] := by
  refine G_aload_n 1 dX3_clearText_0 rfl rfl ?_
  refine G_iconst (v := 0) 2 dX3_clearText_1 (by decide) rfl ?_
  obtain ⟨a1, e2, h⟩ := h
  obtain ⟨c3, h⟩ := h
  refine G_putI (f := 18) (a := a1) "" 5 dX3_clearText_2 (Or.inl q2131) (Or.inl rfl) rfl e2 (hp18 c3) (nk18 c3) (Or.inl rfl) rfl rfl rfl ?_
  generalize hs4 : sFI σ 18 a1 0 = s4
  have x5 : ∀ a, ¬ kd σ a = 0 → kd s4 a = kd σ a := by subst hs4; exact fun a _ => congrFun kd_sFI a
  have h := h s4 hs4.symm
  refine G_aload_n 6 dX3_clearText_5 rfl rfl ?_
  have c3 := kdE x5 c3 (by decide)
  refine G_getI (f := 24) (a := a1) "" 9 dX3_clearText_6 (Or.inl q2137) (Or.inl rfl) rfl e2 (hf24 c3) rfl ?_
  refine G_istore_n 10 [va_rf l0, .int (FI s4 24 a1)] dX3_clearText_9 (Nat.le_of_ble_eq_true rfl) rfl rfl ?_
  refine G_aload_n 11 dX3_clearText_10 rfl rfl ?_
  refine G_iconst (v := 0) 12 dX3_clearText_11 (by decide) rfl ?_
  refine G_putI (f := 24) (a := a1) "" 15 dX3_clearText_12 (Or.inl q2137) (Or.inl rfl) rfl e2 (hp24 c3) (nk24 c3) (Or.inl rfl) rfl rfl rfl ?_
  generalize hs6 : sFI s4 24 a1 0 = s6
  have x7 : ∀ a, ¬ kd s4 a = 0 → kd s6 a = kd s4 a := by subst hs6; exact fun a _ => congrFun kd_sFI a
  have h := h s6 hs6.symm
  refine G_iload_n 16 dX3_clearText_15 rfl rfl ?_
  exact G_iret dX3_clearText_16 rfl ⟨_, rfl, h⟩
theorem eX3_clearText {w : Wt} {K : Sg → Int32 → Prop} {σ : Sg} (l0 : Option Nat) (h : G w mX3_clearText (KI K) 0 0 σ 0 [va_rf l0, U_] []) : CalI w mX3_clearText σ [va_rf l0] K :=
  Cal.start 1 mX3_clearText_plain (catR cat0) (Nat.le_of_ble_eq_true rfl) rfl h
set_option maxHeartbeats 4000000 in
theorem bX3_order_0 {w : Wt} {K : Sg → Int32 → Prop} {rc rs : Nat} {σ : Sg} (l0 : Option Nat) (l1 : Int32) (l2 : Int32) (l3 : Int32) (l4 : Int32) (l5 : Int32) (h : ∃ a1, l0 = some a1 ∧ kd σ a1 = 13 ∧ ∀ s4, s4 = sFI σ 18 a1 0 → CalI w mX3_isShield s4 [va_rf l0, .int l1] (fun s6 x7 => Ext s4 s6 → ((x7 = 0 → K s6 (-1)) ∧ (¬ x7 = 0 → CalI w mX3_isYear s6 [.int l2] (fun s11 x12 => Ext s6 s11 → ((x12 = 0 → K s11 (-1)) ∧ (¬ x12 = 0 → CalI w mX3_in s11 [.int l3, .int 1, .int 4] (fun s16 x17 => Ext s11 s16 → ((x17 = 0 → K s16 (-1)) ∧ (¬ x17 = 0 → CalI w mX3_in s16 [.int l4, .int 1, .int 5] (fun s21 x22 => Ext s16 s21 → ((x22 = 0 → K s21 (-1)) ∧ (¬ x22 = 0 → CalI w mX3_in s21 [.int l5, .int 0, .int 1] (fun s26 x27 => Ext s21 s26 → ((¬ x27 = 0 → ((FI s26 24 a1 = 0 → K s26 (-2)) ∧ (¬ FI s26 24 a1 = 0 → CalI w mX3_plateOn s26 [va_rf (FR s26 19 a1), .int l1, .int l2] (fun s32 x33 => Ext s26 s32 → ((¬ x33 = (-9) → K s32 (-2)) ∧ (x33 = (-9) → CalI w mX3_isOrdered s32 [va_rf l0, .int l1, .int l2] (fun s37 x38 => Ext s32 s37 → ((x38 = 0 → ∃ a42, FR s37 19 a1 = some a42 ∧ kd s37 a42 ∈ [1, 5] ∧ vp_in 2 (ln s37 a42) ∧ ((¬ AI s37 a42 (2 : Int32).toNatClampNeg = 10 → CalV w mX3_act s37 [va_rf l0] (fun s47 => Ext s37 s47 → ∃ a50, FR s47 30 a1 = some a50 ∧ kd s47 a50 = 1 ∧ vp_in 0 (ln s47 a50) ∧ ∀ s54, s54 = sAI s47 a50 (0 : Int32).toNatClampNeg l1 → ∃ a56, FR s54 30 a1 = some a56 ∧ kd s54 a56 = 1 ∧ vp_in 1 (ln s54 a56) ∧ ∀ s60, s60 = sAI s54 a56 (1 : Int32).toNatClampNeg l2 → ∃ a62, FR s60 30 a1 = some a62 ∧ kd s60 a62 = 1 ∧ vp_in 2 (ln s60 a62) ∧ ∀ s66, s66 = sAI s60 a62 (2 : Int32).toNatClampNeg l3 → ∃ a68, FR s66 30 a1 = some a68 ∧ kd s66 a68 = 1 ∧ vp_in 3 (ln s66 a68) ∧ ∀ s72, s72 = sAI s66 a68 (3 : Int32).toNatClampNeg l4 → ∃ a74, FR s72 30 a1 = some a74 ∧ kd s72 a74 = 1 ∧ vp_in 4 (ln s72 a74) ∧ ∀ s78, s78 = sAI s72 a74 (4 : Int32).toNatClampNeg l5 → ∃ a80, FR s78 30 a1 = some a80 ∧ kd s78 a80 = 1 ∧ vp_in 5 (ln s78 a80) ∧ ∀ s84, s84 = sAI s78 a80 (5 : Int32).toNatClampNeg (FI s78 24 a1) → G w mX3_order (KI K) (rc) (rs) s84 152 [va_rf l0, .int l1, .int l2, .int l3, .int l4, .int l5, .int 0] [])) ∧ (AI s37 a42 (2 : Int32).toNatClampNeg = 10 → K s37 (-3)))) ∧ (¬ x38 = 0 → K s37 (-2)))))))))) ∧ (x27 = 0 → K s26 (-1))))))))))))))))) : G w mX3_order (KI K) (rc) (rs) σ 0 [va_rf l0, .int l1, .int l2, .int l3, .int l4, .int l5, U_] [] := by
  refine G_aload_n 1 dX3_order_0 rfl rfl ?_
  refine G_iconst (v := 0) 2 dX3_order_1 (by decide) rfl ?_
  obtain ⟨a1, e2, h⟩ := h
  obtain ⟨c3, h⟩ := h
  refine G_putI (f := 18) (a := a1) "" 5 dX3_order_2 (Or.inl q2131) (Or.inl rfl) rfl e2 (hp18 c3) (nk18 c3) (Or.inl rfl) rfl rfl rfl ?_
  generalize hs4 : sFI σ 18 a1 0 = s4
  have x5 : ∀ a, ¬ kd σ a = 0 → kd s4 a = kd σ a := by subst hs4; exact fun a _ => congrFun kd_sFI a
  have h := h s4 hs4.symm
  refine G_aload_n 6 dX3_order_5 rfl rfl ?_
  refine G_iload_n 7 dX3_order_6 rfl rfl ?_
  have c3 := kdE x5 c3 (by decide)
  refine G_invV (N := mX3_isShield) (As := [.int l1]) (st := []) (t := l0) (b := a1) (rc) (rs) 10 dX3_order_7 q2220 q2222 qs18 q44 q2223 rfl rfl mX3_isShield_args ⟨Nat.le_of_ble_eq_true rfl, Nat.le_of_ble_eq_true rfl⟩ rfl (Nat.zero_le _) e2 (rk13 c3) (le_b mX3_isShield_c (Nat.le_refl _)) (le_b mX3_isShield_s (Nat.le_refl _)) rfl (Cal.mono h ?_)
  rintro s6 v ⟨x7, rfl, h⟩ hx8
  have h := h hx8
  have x9 := hx8.x
  show G w mX3_order (KI K) (rc) (rs) s6 10 [va_rf l0, .int l1, .int l2, .int l3, .int l4, .int l5, U_] [.int x7]
  refine G_if_eq 49 13 dX3_order_10 (by decide) rfl (fun u10 => ?_) (fun u10 => ?_)
  · have h := h.1 u10
    refine G_iconst (v := (-1)) 50 dX3_order_49 (by decide) rfl ?_
    exact G_iret dX3_order_50 rfl ⟨_, rfl, h⟩
  · have h := h.2 u10
    refine G_iload_n 14 dX3_order_13 rfl rfl ?_
    refine G_invS (N := mX3_isYear) (As := [.int l2]) (st := []) (rc) (rs) "" 17 dX3_order_14 (Or.inl q2224) q2225 q44 q2226 rfl mX3_isYear_args ⟨Nat.le_of_ble_eq_true rfl, Nat.le_of_ble_eq_true rfl⟩ rfl (Nat.zero_le _) (le_b mX3_isYear_c (Nat.le_refl _)) (le_b mX3_isYear_s (Nat.le_refl _)) rfl (Cal.mono h ?_)
    rintro s11 v ⟨x12, rfl, h⟩ hx13
    have h := h hx13
    have x14 := hx13.x
    show G w mX3_order (KI K) (rc) (rs) s11 17 [va_rf l0, .int l1, .int l2, .int l3, .int l4, .int l5, U_] [.int x12]
    refine G_if_eq 49 20 dX3_order_17 (by decide) rfl (fun u15 => ?_) (fun u15 => ?_)
    · have h := h.1 u15
      refine G_iconst (v := (-1)) 50 dX3_order_49 (by decide) rfl ?_
      exact G_iret dX3_order_50 rfl ⟨_, rfl, h⟩
    · have h := h.2 u15
      refine G_iload_n 21 dX3_order_20 rfl rfl ?_
      refine G_iconst (v := 1) 22 dX3_order_21 (by decide) rfl ?_
      refine G_iconst (v := 4) 23 dX3_order_22 (by decide) rfl ?_
      refine G_invS (N := mX3_in) (As := [.int l3, .int 1, .int 4]) (st := []) (rc) (rs) "" 26 dX3_order_23 (Or.inl q2175) q2176 q44 q2177 rfl mX3_in_args ⟨Nat.le_of_ble_eq_true rfl, Nat.le_of_ble_eq_true rfl⟩ rfl (Nat.zero_le _) (le_b mX3_in_c (Nat.le_refl _)) (le_b mX3_in_s (Nat.le_refl _)) rfl (Cal.mono h ?_)
      rintro s16 v ⟨x17, rfl, h⟩ hx18
      have h := h hx18
      have x19 := hx18.x
      show G w mX3_order (KI K) (rc) (rs) s16 26 [va_rf l0, .int l1, .int l2, .int l3, .int l4, .int l5, U_] [.int x17]
      refine G_if_eq 49 29 dX3_order_26 (by decide) rfl (fun u20 => ?_) (fun u20 => ?_)
      · have h := h.1 u20
        refine G_iconst (v := (-1)) 50 dX3_order_49 (by decide) rfl ?_
        exact G_iret dX3_order_50 rfl ⟨_, rfl, h⟩
      · have h := h.2 u20
        refine G_iload 31 dX3_order_29 rfl rfl ?_
        refine G_iconst (v := 1) 32 dX3_order_31 (by decide) rfl ?_
        refine G_iconst (v := 5) 33 dX3_order_32 (by decide) rfl ?_
        refine G_invS (N := mX3_in) (As := [.int l4, .int 1, .int 5]) (st := []) (rc) (rs) "" 36 dX3_order_33 (Or.inl q2175) q2176 q44 q2177 rfl mX3_in_args ⟨Nat.le_of_ble_eq_true rfl, Nat.le_of_ble_eq_true rfl⟩ rfl (Nat.zero_le _) (le_b mX3_in_c (Nat.le_refl _)) (le_b mX3_in_s (Nat.le_refl _)) rfl (Cal.mono h ?_)
        rintro s21 v ⟨x22, rfl, h⟩ hx23
        have h := h hx23
        have x24 := hx23.x
        show G w mX3_order (KI K) (rc) (rs) s21 36 [va_rf l0, .int l1, .int l2, .int l3, .int l4, .int l5, U_] [.int x22]
        refine G_if_eq 49 39 dX3_order_36 (by decide) rfl (fun u25 => ?_) (fun u25 => ?_)
        · have h := h.1 u25
          refine G_iconst (v := (-1)) 50 dX3_order_49 (by decide) rfl ?_
          exact G_iret dX3_order_50 rfl ⟨_, rfl, h⟩
        · have h := h.2 u25
          refine G_iload 41 dX3_order_39 rfl rfl ?_
          refine G_iconst (v := 0) 42 dX3_order_41 (by decide) rfl ?_
          refine G_iconst (v := 1) 43 dX3_order_42 (by decide) rfl ?_
          refine G_invS (N := mX3_in) (As := [.int l5, .int 0, .int 1]) (st := []) (rc) (rs) "" 46 dX3_order_43 (Or.inl q2175) q2176 q44 q2177 rfl mX3_in_args ⟨Nat.le_of_ble_eq_true rfl, Nat.le_of_ble_eq_true rfl⟩ rfl (Nat.zero_le _) (le_b mX3_in_c (Nat.le_refl _)) (le_b mX3_in_s (Nat.le_refl _)) rfl (Cal.mono h ?_)
          rintro s26 v ⟨x27, rfl, h⟩ hx28
          have h := h hx28
          have x29 := hx28.x
          show G w mX3_order (KI K) (rc) (rs) s26 46 [va_rf l0, .int l1, .int l2, .int l3, .int l4, .int l5, U_] [.int x27]
          refine G_if_ne 51 49 dX3_order_46 (by decide) rfl (fun u30 => ?_) (fun u30 => ?_)
          · have h := h.1 u30
            refine G_aload_n 52 dX3_order_51 rfl rfl ?_
            have c3 := kdE x9 c3 (by decide)
            have c3 := kdE x14 c3 (by decide)
            have c3 := kdE x19 c3 (by decide)
            have c3 := kdE x24 c3 (by decide)
            have c3 := kdE x29 c3 (by decide)
            refine G_getI (f := 24) (a := a1) "" 55 dX3_order_52 (Or.inl q2137) (Or.inl rfl) rfl e2 (hf24 c3) rfl ?_
            refine G_if_eq 81 58 dX3_order_55 (by decide) rfl (fun u31 => ?_) (fun u31 => ?_)
            · have h := h.1 u31
              refine G_bipush (v := (-2)) 83 dX3_order_81 (by decide) rfl ?_
              exact G_iret dX3_order_83 rfl ⟨_, rfl, h⟩
            · have h := h.2 u31
              refine G_aload_n 59 dX3_order_58 rfl rfl ?_
              refine G_getR (f := 19) (a := a1) "" 62 dX3_order_59 (Or.inl q2132) (Or.inl rfl) rfl e2 (hf19 c3) rfl ?_
              refine G_iload_n 63 dX3_order_62 rfl rfl ?_
              refine G_iload_n 64 dX3_order_63 rfl rfl ?_
              refine G_invS (N := mX3_plateOn) (As := [va_rf (FR s26 19 a1), .int l1, .int l2]) (st := []) (rc) (rs) "" 67 dX3_order_64 (Or.inl q2227) q2228 q44 q2229 rfl mX3_plateOn_args ⟨Nat.le_of_ble_eq_true rfl, Nat.le_of_ble_eq_true rfl⟩ rfl (Nat.zero_le _) (le_b mX3_plateOn_c (Nat.le_refl _)) (le_b mX3_plateOn_s (Nat.le_refl _)) rfl (Cal.mono h ?_)
              rintro s32 v ⟨x33, rfl, h⟩ hx34
              have h := h hx34
              have x35 := hx34.x
              show G w mX3_order (KI K) (rc) (rs) s32 67 [va_rf l0, .int l1, .int l2, .int l3, .int l4, .int l5, U_] [.int x33]
              refine G_bipush (v := (-9)) 69 dX3_order_67 (by decide) rfl ?_
              refine G_icmp_ne 81 72 dX3_order_69 (by decide) rfl (fun u36 => ?_) (fun u36 => ?_)
              · have h := h.1 u36
                refine G_bipush (v := (-2)) 83 dX3_order_81 (by decide) rfl ?_
                exact G_iret dX3_order_83 rfl ⟨_, rfl, h⟩
              · have h := h.2 u36
                refine G_aload_n 73 dX3_order_72 rfl rfl ?_
                refine G_iload_n 74 dX3_order_73 rfl rfl ?_
                refine G_iload_n 75 dX3_order_74 rfl rfl ?_
                have c3 := kdE x35 c3 (by decide)
                refine G_invV (N := mX3_isOrdered) (As := [.int l1, .int l2]) (st := []) (t := l0) (b := a1) (rc) (rs) 78 dX3_order_75 q2242 q2244 qs19 q44 q2245 rfl rfl mX3_isOrdered_args ⟨Nat.le_of_ble_eq_true rfl, Nat.le_of_ble_eq_true rfl⟩ rfl (Nat.zero_le _) e2 (rk13 c3) (le_b mX3_isOrdered_c (Nat.le_refl _)) (le_b mX3_isOrdered_s (Nat.le_refl _)) rfl (Cal.mono h ?_)
                rintro s37 v ⟨x38, rfl, h⟩ hx39
                have h := h hx39
                have x40 := hx39.x
                show G w mX3_order (KI K) (rc) (rs) s37 78 [va_rf l0, .int l1, .int l2, .int l3, .int l4, .int l5, U_] [.int x38]
                refine G_if_eq 84 81 dX3_order_78 (by decide) rfl (fun u41 => ?_) (fun u41 => ?_)
                · have h := h.1 u41
                  refine G_aload_n 85 dX3_order_84 rfl rfl ?_
                  have c3 := kdE x40 c3 (by decide)
                  refine G_getR (f := 19) (a := a1) "" 88 dX3_order_85 (Or.inl q2132) (Or.inl rfl) rfl e2 (hf19 c3) rfl ?_
                  refine G_iconst (v := 2) 89 dX3_order_88 (by decide) rfl ?_
                  obtain ⟨a42, e43, h⟩ := h
                  obtain ⟨c44, h⟩ := h
                  obtain ⟨c45, h⟩ := h
                  refine G_iald (a := a42) 90 dX3_order_89 rfl e43 c44 c45 ?_
                  refine G_bipush (v := 10) 92 dX3_order_90 (by decide) rfl ?_
                  refine G_icmp_ne 98 95 dX3_order_92 (by decide) rfl (fun u46 => ?_) (fun u46 => ?_)
                  · have h := h.1 u46
                    refine G_aload_n 99 dX3_order_98 rfl rfl ?_
                    refine G_invV (N := mX3_act) (As := []) (st := []) (t := l0) (b := a1) (rc) (rs) 102 dX3_order_99 q2178 q2180 qs16 q44 q2181 rfl rfl mX3_act_args ⟨Nat.le_of_ble_eq_true rfl, Nat.le_of_ble_eq_true rfl⟩ rfl (Nat.zero_le _) e2 (rk13 c3) (le_b mX3_act_c (Nat.le_refl _)) (le_b mX3_act_s (Nat.le_refl _)) rfl (Cal.mono h ?_)
                    rintro s47 v ⟨rfl, h⟩ hx48
                    have h := h hx48
                    have x49 := hx48.x
                    show G w mX3_order (KI K) (rc) (rs) s47 102 [va_rf l0, .int l1, .int l2, .int l3, .int l4, .int l5, U_] []
                    refine G_aload_n 103 dX3_order_102 rfl rfl ?_
                    have c3 := kdE x49 c3 (by decide)
                    refine G_getR (f := 30) (a := a1) "" 106 dX3_order_103 (Or.inl q2143) (Or.inl rfl) rfl e2 (hf30 c3) rfl ?_
                    refine G_iconst (v := 0) 107 dX3_order_106 (by decide) rfl ?_
                    refine G_iload_n 108 dX3_order_107 rfl rfl ?_
                    obtain ⟨a50, e51, h⟩ := h
                    obtain ⟨c52, h⟩ := h
                    obtain ⟨c53, h⟩ := h
                    refine G_iast (a := a50) 109 dX3_order_108 rfl e51 c52 c53 ?_
                    generalize hs54 : sAI s47 a50 (0 : Int32).toNatClampNeg l1 = s54
                    have x55 : ∀ a, ¬ kd s47 a = 0 → kd s54 a = kd s47 a := by subst hs54; exact fun a _ => congrFun kd_sAI a
                    have h := h s54 hs54.symm
                    refine G_aload_n 110 dX3_order_109 rfl rfl ?_
                    have c3 := kdE x55 c3 (by decide)
                    refine G_getR (f := 30) (a := a1) "" 113 dX3_order_110 (Or.inl q2143) (Or.inl rfl) rfl e2 (hf30 c3) rfl ?_
                    refine G_iconst (v := 1) 114 dX3_order_113 (by decide) rfl ?_
                    refine G_iload_n 115 dX3_order_114 rfl rfl ?_
                    obtain ⟨a56, e57, h⟩ := h
                    obtain ⟨c58, h⟩ := h
                    obtain ⟨c59, h⟩ := h
                    refine G_iast (a := a56) 116 dX3_order_115 rfl e57 c58 c59 ?_
                    generalize hs60 : sAI s54 a56 (1 : Int32).toNatClampNeg l2 = s60
                    have x61 : ∀ a, ¬ kd s54 a = 0 → kd s60 a = kd s54 a := by subst hs60; exact fun a _ => congrFun kd_sAI a
                    have h := h s60 hs60.symm
                    refine G_aload_n 117 dX3_order_116 rfl rfl ?_
                    have c3 := kdE x61 c3 (by decide)
                    refine G_getR (f := 30) (a := a1) "" 120 dX3_order_117 (Or.inl q2143) (Or.inl rfl) rfl e2 (hf30 c3) rfl ?_
                    refine G_iconst (v := 2) 121 dX3_order_120 (by decide) rfl ?_
                    refine G_iload_n 122 dX3_order_121 rfl rfl ?_
                    obtain ⟨a62, e63, h⟩ := h
                    obtain ⟨c64, h⟩ := h
                    obtain ⟨c65, h⟩ := h
                    refine G_iast (a := a62) 123 dX3_order_122 rfl e63 c64 c65 ?_
                    generalize hs66 : sAI s60 a62 (2 : Int32).toNatClampNeg l3 = s66
                    have x67 : ∀ a, ¬ kd s60 a = 0 → kd s66 a = kd s60 a := by subst hs66; exact fun a _ => congrFun kd_sAI a
                    have h := h s66 hs66.symm
                    refine G_aload_n 124 dX3_order_123 rfl rfl ?_
                    have c3 := kdE x67 c3 (by decide)
                    refine G_getR (f := 30) (a := a1) "" 127 dX3_order_124 (Or.inl q2143) (Or.inl rfl) rfl e2 (hf30 c3) rfl ?_
                    refine G_iconst (v := 3) 128 dX3_order_127 (by decide) rfl ?_
                    refine G_iload 130 dX3_order_128 rfl rfl ?_
                    obtain ⟨a68, e69, h⟩ := h
                    obtain ⟨c70, h⟩ := h
                    obtain ⟨c71, h⟩ := h
                    refine G_iast (a := a68) 131 dX3_order_130 rfl e69 c70 c71 ?_
                    generalize hs72 : sAI s66 a68 (3 : Int32).toNatClampNeg l4 = s72
                    have x73 : ∀ a, ¬ kd s66 a = 0 → kd s72 a = kd s66 a := by subst hs72; exact fun a _ => congrFun kd_sAI a
                    have h := h s72 hs72.symm
                    refine G_aload_n 132 dX3_order_131 rfl rfl ?_
                    have c3 := kdE x73 c3 (by decide)
                    refine G_getR (f := 30) (a := a1) "" 135 dX3_order_132 (Or.inl q2143) (Or.inl rfl) rfl e2 (hf30 c3) rfl ?_
                    refine G_iconst (v := 4) 136 dX3_order_135 (by decide) rfl ?_
                    refine G_iload 138 dX3_order_136 rfl rfl ?_
                    obtain ⟨a74, e75, h⟩ := h
                    obtain ⟨c76, h⟩ := h
                    obtain ⟨c77, h⟩ := h
                    refine G_iast (a := a74) 139 dX3_order_138 rfl e75 c76 c77 ?_
                    generalize hs78 : sAI s72 a74 (4 : Int32).toNatClampNeg l5 = s78
                    have x79 : ∀ a, ¬ kd s72 a = 0 → kd s78 a = kd s72 a := by subst hs78; exact fun a _ => congrFun kd_sAI a
                    have h := h s78 hs78.symm
                    refine G_aload_n 140 dX3_order_139 rfl rfl ?_
                    have c3 := kdE x79 c3 (by decide)
                    refine G_getR (f := 30) (a := a1) "" 143 dX3_order_140 (Or.inl q2143) (Or.inl rfl) rfl e2 (hf30 c3) rfl ?_
                    refine G_iconst (v := 5) 144 dX3_order_143 (by decide) rfl ?_
                    refine G_aload_n 145 dX3_order_144 rfl rfl ?_
                    refine G_getI (f := 24) (a := a1) "" 148 dX3_order_145 (Or.inl q2137) (Or.inl rfl) rfl e2 (hf24 c3) rfl ?_
                    obtain ⟨a80, e81, h⟩ := h
                    obtain ⟨c82, h⟩ := h
                    obtain ⟨c83, h⟩ := h
                    refine G_iast (a := a80) 149 dX3_order_148 rfl e81 c82 c83 ?_
                    generalize hs84 : sAI s78 a80 (5 : Int32).toNatClampNeg (FI s78 24 a1) = s84
                    have x85 : ∀ a, ¬ kd s78 a = 0 → kd s84 a = kd s78 a := by subst hs84; exact fun a _ => congrFun kd_sAI a
                    have h := h s84 hs84.symm
                    refine G_iconst (v := 0) 150 dX3_order_149 (by decide) rfl ?_
                    refine G_istore 152 [va_rf l0, .int l1, .int l2, .int l3, .int l4, .int l5, .int 0] dX3_order_150 (Nat.le_of_ble_eq_true rfl) rfl rfl ?_
                    exact h
                  · have h := h.2 u46
                    refine G_bipush (v := (-3)) 97 dX3_order_95 (by decide) rfl ?_
                    exact G_iret dX3_order_97 rfl ⟨_, rfl, h⟩
                · have h := h.2 u41
                  refine G_bipush (v := (-2)) 83 dX3_order_81 (by decide) rfl ?_
                  exact G_iret dX3_order_83 rfl ⟨_, rfl, h⟩
          · have h := h.2 u30
            refine G_iconst (v := (-1)) 50 dX3_order_49 (by decide) rfl ?_
            exact G_iret dX3_order_50 rfl ⟨_, rfl, h⟩
set_option maxHeartbeats 4000000 in
theorem bX3_order_152 {w : Wt} {K : Sg → Int32 → Prop} {rc rs : Nat} {σ : Sg} (l0 : Option Nat) (l1 : Int32) (l2 : Int32) (l3 : Int32) (l4 : Int32) (l5 : Int32) (l6 : Int32) (h : ((12 ≤ l6 → ∃ a2, l0 = some a2 ∧ kd σ a2 = 13 ∧ ∃ a5, FR σ 30 a2 = some a5 ∧ kd σ a5 = 1 ∧ vp_in 18 (ln σ a5) ∧ ∀ s9, s9 = sAI σ a5 (18 : Int32).toNatClampNeg 0 → ∀ s11, s11 = sFI s9 24 a2 0 → ((¬ l5 = 1 → ∃ a14, FR s11 19 a2 = some a14 ∧ kd s11 a14 ∈ [1, 5] ∧ vp_in 2 (ln s11 a14) ∧ CalV w mX3_putIn s11 [va_rf l0, va_rf (FR s11 19 a2), .int (AI s11 a14 (2 : Int32).toNatClampNeg)] (fun s18 => Ext s11 s18 → K s18 (AI s11 a14 (2 : Int32).toNatClampNeg))) ∧ (l5 = 1 → CalI w mX3_rushes s11 [va_rf (FR s11 19 a2)] (fun s21 x22 => Ext s11 s21 → CalV w mX3_putIn s21 [va_rf l0, va_rf (FR s21 19 a2), .int x22] (fun s25 => Ext s21 s25 → K s25 x22))))) ∧ (¬ 12 ≤ l6 → ∃ a28, l0 = some a28 ∧ kd σ a28 = 13 ∧ ((FI σ 24 a28 ≤ l6 → ∃ a32, FR σ 30 a28 = some a32 ∧ kd σ a32 = 1 ∧ vp_in (6 + l6) (ln σ a32) ∧ ∀ s36, s36 = sAI σ a32 (6 + l6).toNatClampNeg 0 → G w mX3_order (KI K) (rc) (rs) s36 152 [va_rf l0, .int l1, .int l2, .int l3, .int l4, .int l5, .int (l6 + 1)] []) ∧ (¬ FI σ 24 a28 ≤ l6 → ∃ a38, FR σ 23 a28 = some a38 ∧ kd σ a38 ∈ [1, 5] ∧ vp_in l6 (ln σ a38) ∧ ∃ a42, FR σ 30 a28 = some a42 ∧ kd σ a42 = 1 ∧ vp_in (6 + l6) (ln σ a42) ∧ ∀ s46, s46 = sAI σ a42 (6 + l6).toNatClampNeg (AI σ a38 l6.toNatClampNeg) → G w mX3_order (KI K) (rc) (rs) s46 152 [va_rf l0, .int l1, .int l2, .int l3, .int l4, .int l5, .int (l6 + 1)] []))))) : G w mX3_order (KI K) (rc) (rs) σ 152 [va_rf l0, .int l1, .int l2, .int l3, .int l4, .int l5, .int l6] [] := by
  refine G_iload 154 dX3_order_152 rfl rfl ?_
  refine G_bipush (v := 12) 156 dX3_order_154 (by decide) rfl ?_
  refine G_icmp_ge 195 159 dX3_order_156 (by decide) rfl (fun u1 => ?_) (fun u1 => ?_)
  · have h := h.1 u1
    refine G_aload_n 196 dX3_order_195 rfl rfl ?_
    obtain ⟨a2, e3, h⟩ := h
    obtain ⟨c4, h⟩ := h
    refine G_getR (f := 30) (a := a2) "" 199 dX3_order_196 (Or.inl q2143) (Or.inl rfl) rfl e3 (hf30 c4) rfl ?_
    refine G_bipush (v := 18) 201 dX3_order_199 (by decide) rfl ?_
    refine G_iconst (v := 0) 202 dX3_order_201 (by decide) rfl ?_
    obtain ⟨a5, e6, h⟩ := h
    obtain ⟨c7, h⟩ := h
    obtain ⟨c8, h⟩ := h
    refine G_iast (a := a5) 203 dX3_order_202 rfl e6 c7 c8 ?_
    generalize hs9 : sAI σ a5 (18 : Int32).toNatClampNeg 0 = s9
    have x10 : ∀ a, ¬ kd σ a = 0 → kd s9 a = kd σ a := by subst hs9; exact fun a _ => congrFun kd_sAI a
    have h := h s9 hs9.symm
    refine G_aload_n 204 dX3_order_203 rfl rfl ?_
    refine G_iconst (v := 0) 205 dX3_order_204 (by decide) rfl ?_
    have c4 := kdE x10 c4 (by decide)
    refine G_putI (f := 24) (a := a2) "" 208 dX3_order_205 (Or.inl q2137) (Or.inl rfl) rfl e3 (hp24 c4) (nk24 c4) (Or.inl rfl) rfl rfl rfl ?_
    generalize hs11 : sFI s9 24 a2 0 = s11
    have x12 : ∀ a, ¬ kd s9 a = 0 → kd s11 a = kd s9 a := by subst hs11; exact fun a _ => congrFun kd_sFI a
    have h := h s11 hs11.symm
    refine G_iload 210 dX3_order_208 rfl rfl ?_
    refine G_iconst (v := 1) 211 dX3_order_210 (by decide) rfl ?_
    refine G_icmp_ne 224 214 dX3_order_211 (by decide) rfl (fun u13 => ?_) (fun u13 => ?_)
    · have h := h.1 u13
      refine G_aload_n 225 dX3_order_224 rfl rfl ?_
      have c4 := kdE x12 c4 (by decide)
      refine G_getR (f := 19) (a := a2) "" 228 dX3_order_225 (Or.inl q2132) (Or.inl rfl) rfl e3 (hf19 c4) rfl ?_
      refine G_iconst (v := 2) 229 dX3_order_228 (by decide) rfl ?_
      obtain ⟨a14, e15, h⟩ := h
      obtain ⟨c16, h⟩ := h
      obtain ⟨c17, h⟩ := h
      refine G_iald (a := a14) 230 dX3_order_229 rfl e15 c16 c17 ?_
      refine G_istore 232 [va_rf l0, .int l1, .int l2, .int l3, .int l4, .int l5, .int (AI s11 a14 (2 : Int32).toNatClampNeg)] dX3_order_230 (Nat.le_of_ble_eq_true rfl) rfl rfl ?_
      refine G_aload_n 233 dX3_order_232 rfl rfl ?_
      refine G_aload_n 234 dX3_order_233 rfl rfl ?_
      refine G_getR (f := 19) (a := a2) "" 237 dX3_order_234 (Or.inl q2132) (Or.inl rfl) rfl e3 (hf19 c4) rfl ?_
      refine G_iload 239 dX3_order_237 rfl rfl ?_
      refine G_invV (N := mX3_putIn) (As := [va_rf (FR s11 19 a2), .int (AI s11 a14 (2 : Int32).toNatClampNeg)]) (st := []) (t := l0) (b := a2) (rc) (rs) 242 dX3_order_239 q2252 q2254 qs20 q44 q2255 rfl rfl mX3_putIn_args ⟨Nat.le_of_ble_eq_true rfl, Nat.le_of_ble_eq_true rfl⟩ rfl (Nat.zero_le _) e3 (rk13 c4) (le_b mX3_putIn_c (Nat.le_refl _)) (le_b mX3_putIn_s (Nat.le_refl _)) rfl (Cal.mono h ?_)
      rintro s18 v ⟨rfl, h⟩ hx19
      have h := h hx19
      have x20 := hx19.x
      show G w mX3_order (KI K) (rc) (rs) s18 242 [va_rf l0, .int l1, .int l2, .int l3, .int l4, .int l5, .int (AI s11 a14 (2 : Int32).toNatClampNeg)] []
      refine G_iload 244 dX3_order_242 rfl rfl ?_
      exact G_iret dX3_order_244 rfl ⟨_, rfl, h⟩
    · have h := h.2 u13
      refine G_aload_n 215 dX3_order_214 rfl rfl ?_
      have c4 := kdE x12 c4 (by decide)
      refine G_getR (f := 19) (a := a2) "" 218 dX3_order_215 (Or.inl q2132) (Or.inl rfl) rfl e3 (hf19 c4) rfl ?_
      refine G_invS (N := mX3_rushes) (As := [va_rf (FR s11 19 a2)]) (st := []) (rc) (rs) "" 221 dX3_order_218 (Or.inl q2249) q2250 q44 q2251 rfl mX3_rushes_args ⟨Nat.le_of_ble_eq_true rfl, Nat.le_of_ble_eq_true rfl⟩ rfl (Nat.zero_le _) (le_b mX3_rushes_c (Nat.le_refl _)) (le_b mX3_rushes_s (Nat.le_refl _)) rfl (Cal.mono h ?_)
      rintro s21 v ⟨x22, rfl, h⟩ hx23
      have h := h hx23
      have x24 := hx23.x
      show G w mX3_order (KI K) (rc) (rs) s21 221 [va_rf l0, .int l1, .int l2, .int l3, .int l4, .int l5, .int l6] [.int x22]
      refine G_goto 230 dX3_order_221 (by decide) ?_
      refine G_istore 232 [va_rf l0, .int l1, .int l2, .int l3, .int l4, .int l5, .int x22] dX3_order_230 (Nat.le_of_ble_eq_true rfl) rfl rfl ?_
      refine G_aload_n 233 dX3_order_232 rfl rfl ?_
      refine G_aload_n 234 dX3_order_233 rfl rfl ?_
      have c4 := kdE x24 c4 (by decide)
      refine G_getR (f := 19) (a := a2) "" 237 dX3_order_234 (Or.inl q2132) (Or.inl rfl) rfl e3 (hf19 c4) rfl ?_
      refine G_iload 239 dX3_order_237 rfl rfl ?_
      refine G_invV (N := mX3_putIn) (As := [va_rf (FR s21 19 a2), .int x22]) (st := []) (t := l0) (b := a2) (rc) (rs) 242 dX3_order_239 q2252 q2254 qs20 q44 q2255 rfl rfl mX3_putIn_args ⟨Nat.le_of_ble_eq_true rfl, Nat.le_of_ble_eq_true rfl⟩ rfl (Nat.zero_le _) e3 (rk13 c4) (le_b mX3_putIn_c (Nat.le_refl _)) (le_b mX3_putIn_s (Nat.le_refl _)) rfl (Cal.mono h ?_)
      rintro s25 v ⟨rfl, h⟩ hx26
      have h := h hx26
      have x27 := hx26.x
      show G w mX3_order (KI K) (rc) (rs) s25 242 [va_rf l0, .int l1, .int l2, .int l3, .int l4, .int l5, .int x22] []
      refine G_iload 244 dX3_order_242 rfl rfl ?_
      exact G_iret dX3_order_244 rfl ⟨_, rfl, h⟩
  · have h := h.2 u1
    refine G_aload_n 160 dX3_order_159 rfl rfl ?_
    obtain ⟨a28, e29, h⟩ := h
    obtain ⟨c30, h⟩ := h
    refine G_getR (f := 30) (a := a28) "" 163 dX3_order_160 (Or.inl q2143) (Or.inl rfl) rfl e29 (hf30 c30) rfl ?_
    refine G_bipush (v := 6) 165 dX3_order_163 (by decide) rfl ?_
    refine G_iload 167 dX3_order_165 rfl rfl ?_
    refine G_iadd 168 dX3_order_167 rfl ?_
    refine G_iload 170 dX3_order_168 rfl rfl ?_
    refine G_aload_n 171 dX3_order_170 rfl rfl ?_
    refine G_getI (f := 24) (a := a28) "" 174 dX3_order_171 (Or.inl q2137) (Or.inl rfl) rfl e29 (hf24 c30) rfl ?_
    refine G_icmp_ge 187 177 dX3_order_174 (by decide) rfl (fun u31 => ?_) (fun u31 => ?_)
    · have h := h.1 u31
      refine G_iconst (v := 0) 188 dX3_order_187 (by decide) rfl ?_
      obtain ⟨a32, e33, h⟩ := h
      obtain ⟨c34, h⟩ := h
      obtain ⟨c35, h⟩ := h
      refine G_iast (a := a32) 189 dX3_order_188 rfl e33 c34 c35 ?_
      generalize hs36 : sAI σ a32 (6 + l6).toNatClampNeg 0 = s36
      have x37 : ∀ a, ¬ kd σ a = 0 → kd s36 a = kd σ a := by subst hs36; exact fun a _ => congrFun kd_sAI a
      have h := h s36 hs36.symm
      refine G_iinc 192 [va_rf l0, .int l1, .int l2, .int l3, .int l4, .int l5, .int (l6 + 1)] dX3_order_189 rfl rfl (Nat.le_of_ble_eq_true rfl) rfl rfl ?_
      refine G_goto 152 dX3_order_192 (by decide) ?_
      exact h
    · have h := h.2 u31
      refine G_aload_n 178 dX3_order_177 rfl rfl ?_
      refine G_getR (f := 23) (a := a28) "" 181 dX3_order_178 (Or.inl q2136) (Or.inl rfl) rfl e29 (hf23 c30) rfl ?_
      refine G_iload 183 dX3_order_181 rfl rfl ?_
      obtain ⟨a38, e39, h⟩ := h
      obtain ⟨c40, h⟩ := h
      obtain ⟨c41, h⟩ := h
      refine G_iald (a := a38) 184 dX3_order_183 rfl e39 c40 c41 ?_
      refine G_goto 188 dX3_order_184 (by decide) ?_
      obtain ⟨a42, e43, h⟩ := h
      obtain ⟨c44, h⟩ := h
      obtain ⟨c45, h⟩ := h
      refine G_iast (a := a42) 189 dX3_order_188 rfl e43 c44 c45 ?_
      generalize hs46 : sAI σ a42 (6 + l6).toNatClampNeg (AI σ a38 l6.toNatClampNeg) = s46
      have x47 : ∀ a, ¬ kd σ a = 0 → kd s46 a = kd σ a := by subst hs46; exact fun a _ => congrFun kd_sAI a
      have h := h s46 hs46.symm
      refine G_iinc 192 [va_rf l0, .int l1, .int l2, .int l3, .int l4, .int l5, .int (l6 + 1)] dX3_order_189 rfl rfl (Nat.le_of_ble_eq_true rfl) rfl rfl ?_
      refine G_goto 152 dX3_order_192 (by decide) ?_
      exact h
theorem eX3_order {w : Wt} {K : Sg → Int32 → Prop} {σ : Sg} (l0 : Option Nat) (l1 : Int32) (l2 : Int32) (l3 : Int32) (l4 : Int32) (l5 : Int32) (h : G w mX3_order (KI K) 0 0 σ 0 [va_rf l0, .int l1, .int l2, .int l3, .int l4, .int l5, U_] []) : CalI w mX3_order σ [va_rf l0, .int l1, .int l2, .int l3, .int l4, .int l5] K :=
  Cal.start 1 mX3_order_plain (catR (catI (catI (catI (catI (catI cat0)))))) (Nat.le_of_ble_eq_true rfl) rfl h
set_option maxHeartbeats 4000000 in
theorem bX3_isOrdered_0 {w : Wt} {K : Sg → Int32 → Prop} {rc rs : Nat} {σ : Sg} (l0 : Option Nat) (l1 : Int32) (l2 : Int32) (h : G w mX3_isOrdered (KI K) (rc) (rs) σ 5 [va_rf l0, .int l1, .int l2, .int 0, .int 0] []) : G w mX3_isOrdered (KI K) (rc) (rs) σ 0 [va_rf l0, .int l1, .int l2, U_, U_] [] := by
  refine G_iconst (v := 0) 1 dX3_isOrdered_0 (by decide) rfl ?_
  refine G_istore_n 2 [va_rf l0, .int l1, .int l2, .int 0, U_] dX3_isOrdered_1 (Nat.le_of_ble_eq_true rfl) rfl rfl ?_
  refine G_iconst (v := 0) 3 dX3_isOrdered_2 (by decide) rfl ?_
  refine G_istore 5 [va_rf l0, .int l1, .int l2, .int 0, .int 0] dX3_isOrdered_3 (Nat.le_of_ble_eq_true rfl) rfl rfl ?_
  exact h
set_option maxHeartbeats 4000000 in
theorem bX3_isOrdered_5 {w : Wt} {K : Sg → Int32 → Prop} {rc rs : Nat} {σ : Sg} (l0 : Option Nat) (l1 : Int32) (l2 : Int32) (l3 : Int32) (l4 : Int32) (h : ∃ a1, l0 = some a1 ∧ kd σ a1 = 13 ∧ ∃ a4, FR σ 19 a1 = some a4 ∧ kd σ a4 ∈ [1, 5] ∧ vp_in 2 (ln σ a4) ∧ ((AI σ a4 (2 : Int32).toNatClampNeg ≤ l4 → ((l3 = 0 ∨ l3 = 1) ∧ K σ l3)) ∧ (¬ AI σ a4 (2 : Int32).toNatClampNeg ≤ l4 → ((¬ l3 = 0 → G w mX3_isOrdered (KI K) (rc) (rs) σ 5 [va_rf l0, .int l1, .int l2, .int 1, .int (l4 + 1)] []) ∧ (l3 = 0 → CalI w mX3_of σ [va_rf (FR σ 19 a1), .int l4, .int 0] (fun s10 x11 => Ext σ s10 → ((¬ x11 = l1 → G w mX3_isOrdered (KI K) (rc) (rs) s10 5 [va_rf l0, .int l1, .int l2, .int 0, .int (l4 + 1)] []) ∧ (x11 = l1 → CalI w mX3_of s10 [va_rf (FR s10 19 a1), .int l4, .int 1] (fun s15 x16 => Ext s10 s15 → ((¬ x16 = l2 → G w mX3_isOrdered (KI K) (rc) (rs) s15 5 [va_rf l0, .int l1, .int l2, .int 0, .int (l4 + 1)] []) ∧ (x16 = l2 → G w mX3_isOrdered (KI K) (rc) (rs) s15 5 [va_rf l0, .int l1, .int l2, .int 1, .int (l4 + 1)] []))))))))))) : G w mX3_isOrdered (KI K) (rc) (rs) σ 5 [va_rf l0, .int l1, .int l2, .int l3, .int l4] [] := by
  refine G_iload 7 dX3_isOrdered_5 rfl rfl ?_
  refine G_aload_n 8 dX3_isOrdered_7 rfl rfl ?_
  obtain ⟨a1, e2, h⟩ := h
  obtain ⟨c3, h⟩ := h
  refine G_getR (f := 19) (a := a1) "" 11 dX3_isOrdered_8 (Or.inl q2132) (Or.inl rfl) rfl e2 (hf19 c3) rfl ?_
  refine G_iconst (v := 2) 12 dX3_isOrdered_11 (by decide) rfl ?_
  obtain ⟨a4, e5, h⟩ := h
  obtain ⟨c6, h⟩ := h
  obtain ⟨c7, h⟩ := h
  refine G_iald (a := a4) 13 dX3_isOrdered_12 rfl e5 c6 c7 ?_
  refine G_icmp_ge 60 16 dX3_isOrdered_13 (by decide) rfl (fun u8 => ?_) (fun u8 => ?_)
  · have h := h.1 u8
    refine G_iload_n 61 dX3_isOrdered_60 rfl rfl ?_
    exact G_zret dX3_isOrdered_61 rfl (nar_bz h.1).1 ⟨_, rfl, h.2⟩
  · have h := h.2 u8
    refine G_iload_n 17 dX3_isOrdered_16 rfl rfl ?_
    refine G_if_ne 48 20 dX3_isOrdered_17 (by decide) rfl (fun u9 => ?_) (fun u9 => ?_)
    · have h := h.1 u9
      refine G_iconst (v := 1) 49 dX3_isOrdered_48 (by decide) rfl ?_
      refine G_goto 53 dX3_isOrdered_49 (by decide) ?_
      refine G_istore_n 54 [va_rf l0, .int l1, .int l2, .int 1, .int l4] dX3_isOrdered_53 (Nat.le_of_ble_eq_true rfl) rfl rfl ?_
      refine G_iinc 57 [va_rf l0, .int l1, .int l2, .int 1, .int (l4 + 1)] dX3_isOrdered_54 rfl rfl (Nat.le_of_ble_eq_true rfl) rfl rfl ?_
      refine G_goto 5 dX3_isOrdered_57 (by decide) ?_
      exact h
    · have h := h.2 u9
      refine G_aload_n 21 dX3_isOrdered_20 rfl rfl ?_
      refine G_getR (f := 19) (a := a1) "" 24 dX3_isOrdered_21 (Or.inl q2132) (Or.inl rfl) rfl e2 (hf19 c3) rfl ?_
      refine G_iload 26 dX3_isOrdered_24 rfl rfl ?_
      refine G_iconst (v := 0) 27 dX3_isOrdered_26 (by decide) rfl ?_
      refine G_invS (N := mX3_of) (As := [va_rf (FR σ 19 a1), .int l4, .int 0]) (st := []) (rc) (rs) "" 30 dX3_isOrdered_27 (Or.inl q2246) q2247 q44 q2248 rfl mX3_of_args ⟨Nat.le_of_ble_eq_true rfl, Nat.le_of_ble_eq_true rfl⟩ rfl (Nat.zero_le _) (le_b mX3_of_c (Nat.le_refl _)) (le_b mX3_of_s (Nat.le_refl _)) rfl (Cal.mono h ?_)
      rintro s10 v ⟨x11, rfl, h⟩ hx12
      have h := h hx12
      have x13 := hx12.x
      show G w mX3_isOrdered (KI K) (rc) (rs) s10 30 [va_rf l0, .int l1, .int l2, .int l3, .int l4] [.int x11]
      refine G_iload_n 31 dX3_isOrdered_30 rfl rfl ?_
      refine G_icmp_ne 52 34 dX3_isOrdered_31 (by decide) rfl (fun u14 => ?_) (fun u14 => ?_)
      · have h := h.1 u14
        refine G_iconst (v := 0) 53 dX3_isOrdered_52 (by decide) rfl ?_
        refine G_istore_n 54 [va_rf l0, .int l1, .int l2, .int 0, .int l4] dX3_isOrdered_53 (Nat.le_of_ble_eq_true rfl) rfl rfl ?_
        refine G_iinc 57 [va_rf l0, .int l1, .int l2, .int 0, .int (l4 + 1)] dX3_isOrdered_54 rfl rfl (Nat.le_of_ble_eq_true rfl) rfl rfl ?_
        refine G_goto 5 dX3_isOrdered_57 (by decide) ?_
        exact h
      · have h := h.2 u14
        refine G_aload_n 35 dX3_isOrdered_34 rfl rfl ?_
        have c3 := kdE x13 c3 (by decide)
        refine G_getR (f := 19) (a := a1) "" 38 dX3_isOrdered_35 (Or.inl q2132) (Or.inl rfl) rfl e2 (hf19 c3) rfl ?_
        refine G_iload 40 dX3_isOrdered_38 rfl rfl ?_
        refine G_iconst (v := 1) 41 dX3_isOrdered_40 (by decide) rfl ?_
        refine G_invS (N := mX3_of) (As := [va_rf (FR s10 19 a1), .int l4, .int 1]) (st := []) (rc) (rs) "" 44 dX3_isOrdered_41 (Or.inl q2246) q2247 q44 q2248 rfl mX3_of_args ⟨Nat.le_of_ble_eq_true rfl, Nat.le_of_ble_eq_true rfl⟩ rfl (Nat.zero_le _) (le_b mX3_of_c (Nat.le_refl _)) (le_b mX3_of_s (Nat.le_refl _)) rfl (Cal.mono h ?_)
        rintro s15 v ⟨x16, rfl, h⟩ hx17
        have h := h hx17
        have x18 := hx17.x
        show G w mX3_isOrdered (KI K) (rc) (rs) s15 44 [va_rf l0, .int l1, .int l2, .int l3, .int l4] [.int x16]
        refine G_iload_n 45 dX3_isOrdered_44 rfl rfl ?_
        refine G_icmp_ne 52 48 dX3_isOrdered_45 (by decide) rfl (fun u19 => ?_) (fun u19 => ?_)
        · have h := h.1 u19
          refine G_iconst (v := 0) 53 dX3_isOrdered_52 (by decide) rfl ?_
          refine G_istore_n 54 [va_rf l0, .int l1, .int l2, .int 0, .int l4] dX3_isOrdered_53 (Nat.le_of_ble_eq_true rfl) rfl rfl ?_
          refine G_iinc 57 [va_rf l0, .int l1, .int l2, .int 0, .int (l4 + 1)] dX3_isOrdered_54 rfl rfl (Nat.le_of_ble_eq_true rfl) rfl rfl ?_
          refine G_goto 5 dX3_isOrdered_57 (by decide) ?_
          exact h
        · have h := h.2 u19
          refine G_iconst (v := 1) 49 dX3_isOrdered_48 (by decide) rfl ?_
          refine G_goto 53 dX3_isOrdered_49 (by decide) ?_
          refine G_istore_n 54 [va_rf l0, .int l1, .int l2, .int 1, .int l4] dX3_isOrdered_53 (Nat.le_of_ble_eq_true rfl) rfl rfl ?_
          refine G_iinc 57 [va_rf l0, .int l1, .int l2, .int 1, .int (l4 + 1)] dX3_isOrdered_54 rfl rfl (Nat.le_of_ble_eq_true rfl) rfl rfl ?_
          refine G_goto 5 dX3_isOrdered_57 (by decide) ?_
          exact h
theorem eX3_isOrdered {w : Wt} {K : Sg → Int32 → Prop} {σ : Sg} (l0 : Option Nat) (l1 : Int32) (l2 : Int32) (h : G w mX3_isOrdered (KI K) 0 0 σ 0 [va_rf l0, .int l1, .int l2, U_, U_] []) : CalI w mX3_isOrdered σ [va_rf l0, .int l1, .int l2] K :=
  Cal.start 2 mX3_isOrdered_plain (catR (catI (catI cat0))) (Nat.le_of_ble_eq_true rfl) rfl h
set_option maxHeartbeats 4000000 in
theorem bX3_of_0 {w : Wt} {K : Sg → Int32 → Prop} {rc rs : Nat} {σ : Sg} (l0 : Option Nat) (l1 : Int32) (l2 : Int32) (h : ∃ a1, l0 = some a1 ∧ kd σ a1 ∈ [1, 5] ∧ vp_in ((153 + (19 * l1)) + l2) (ln σ a1) ∧ K σ (AI σ a1 ((153 + (19 * l1)) + l2).toNatClampNeg)) : G w mX3_of (KI K) (rc) (rs) σ 0 [va_rf l0, .int l1, .int l2] [] := by
  refine G_aload_n 1 dX3_of_0 rfl rfl ?_
  refine G_sipush (v := 153) 4 dX3_of_1 (by decide) rfl ?_
  refine G_bipush (v := 19) 6 dX3_of_4 (by decide) rfl ?_
  refine G_iload_n 7 dX3_of_6 rfl rfl ?_
  refine G_imul 8 dX3_of_7 rfl ?_
  refine G_iadd 9 dX3_of_8 rfl ?_
  refine G_iload_n 10 dX3_of_9 rfl rfl ?_
  refine G_iadd 11 dX3_of_10 rfl ?_
  obtain ⟨a1, e2, h⟩ := h
  obtain ⟨c3, h⟩ := h
  obtain ⟨c4, h⟩ := h
  refine G_iald (a := a1) 12 dX3_of_11 rfl e2 c3 c4 ?_
  exact G_iret dX3_of_12 rfl ⟨_, rfl, h⟩
theorem eX3_of {w : Wt} {K : Sg → Int32 → Prop} {σ : Sg} (l0 : Option Nat) (l1 : Int32) (l2 : Int32) (h : G w mX3_of (KI K) 0 0 σ 0 [va_rf l0, .int l1, .int l2] []) : CalI w mX3_of σ [va_rf l0, .int l1, .int l2] K :=
  Cal.start 0 mX3_of_plain (catR (catI (catI cat0))) (Nat.le_of_ble_eq_true rfl) rfl h
set_option maxHeartbeats 4000000 in
theorem bX3_rushes_0 {w : Wt} {K : Sg → Int32 → Prop} {rc rs : Nat} {σ : Sg} (l0 : Option Nat) (h : G w mX3_rushes (KI K) (rc) (rs) σ 4 [va_rf l0, .int 0, .int 0] []) : G w mX3_rushes (KI K) (rc) (rs) σ 0 [va_rf l0, U_, U_] [] := by
  refine G_iconst (v := 0) 1 dX3_rushes_0 (by decide) rfl ?_
  refine G_istore_n 2 [va_rf l0, .int 0, U_] dX3_rushes_1 (Nat.le_of_ble_eq_true rfl) rfl rfl ?_
  refine G_iconst (v := 0) 3 dX3_rushes_2 (by decide) rfl ?_
  refine G_istore_n 4 [va_rf l0, .int 0, .int 0] dX3_rushes_3 (Nat.le_of_ble_eq_true rfl) rfl rfl ?_
  exact h
set_option maxHeartbeats 4000000 in
theorem bX3_rushes_4 {w : Wt} {K : Sg → Int32 → Prop} {rc rs : Nat} {σ : Sg} (l0 : Option Nat) (l1 : Int32) (l2 : Int32) (h : ∃ a1, l0 = some a1 ∧ kd σ a1 ∈ [1, 5] ∧ vp_in 2 (ln σ a1) ∧ ((AI σ a1 (2 : Int32).toNatClampNeg ≤ l2 → K σ l1) ∧ (¬ AI σ a1 (2 : Int32).toNatClampNeg ≤ l2 → CalI w mX3_of σ [va_rf l0, .int l2, .int 4] (fun s6 x7 => Ext σ s6 → G w mX3_rushes (KI K) (rc) (rs) s6 4 [va_rf l0, .int (l1 + x7), .int (l2 + 1)] [])))) : G w mX3_rushes (KI K) (rc) (rs) σ 4 [va_rf l0, .int l1, .int l2] [] := by
  refine G_iload_n 5 dX3_rushes_4 rfl rfl ?_
  refine G_aload_n 6 dX3_rushes_5 rfl rfl ?_
  refine G_iconst (v := 2) 7 dX3_rushes_6 (by decide) rfl ?_
  obtain ⟨a1, e2, h⟩ := h
  obtain ⟨c3, h⟩ := h
  obtain ⟨c4, h⟩ := h
  refine G_iald (a := a1) 8 dX3_rushes_7 rfl e2 c3 c4 ?_
  refine G_icmp_ge 26 11 dX3_rushes_8 (by decide) rfl (fun u5 => ?_) (fun u5 => ?_)
  · have h := h.1 u5
    refine G_iload_n 27 dX3_rushes_26 rfl rfl ?_
    exact G_iret dX3_rushes_27 rfl ⟨_, rfl, h⟩
  · have h := h.2 u5
    refine G_iload_n 12 dX3_rushes_11 rfl rfl ?_
    refine G_aload_n 13 dX3_rushes_12 rfl rfl ?_
    refine G_iload_n 14 dX3_rushes_13 rfl rfl ?_
    refine G_iconst (v := 4) 15 dX3_rushes_14 (by decide) rfl ?_
    refine G_invS (N := mX3_of) (As := [va_rf l0, .int l2, .int 4]) (st := [.int l1]) (rc) (rs) "" 18 dX3_rushes_15 (Or.inl q2246) q2247 q44 q2248 rfl mX3_of_args ⟨Nat.le_of_ble_eq_true rfl, Nat.le_of_ble_eq_true rfl⟩ rfl (Nat.le_trans (w_I w_0) (Nat.le_of_ble_eq_true rfl)) (le_b mX3_of_c (Nat.le_refl _)) (le_b mX3_of_s (Nat.le_refl _)) rfl (Cal.mono h ?_)
    rintro s6 v ⟨x7, rfl, h⟩ hx8
    have h := h hx8
    have x9 := hx8.x
    show G w mX3_rushes (KI K) (rc) (rs) s6 18 [va_rf l0, .int l1, .int l2] [.int x7, .int l1]
    refine G_iadd 19 dX3_rushes_18 rfl ?_
    refine G_istore_n 20 [va_rf l0, .int (l1 + x7), .int l2] dX3_rushes_19 (Nat.le_of_ble_eq_true rfl) rfl rfl ?_
    refine G_iinc 23 [va_rf l0, .int (l1 + x7), .int (l2 + 1)] dX3_rushes_20 rfl rfl (Nat.le_of_ble_eq_true rfl) rfl rfl ?_
    refine G_goto 4 dX3_rushes_23 (by decide) ?_
    exact h
theorem eX3_rushes {w : Wt} {K : Sg → Int32 → Prop} {σ : Sg} (l0 : Option Nat) (h : G w mX3_rushes (KI K) 0 0 σ 0 [va_rf l0, U_, U_] []) : CalI w mX3_rushes σ [va_rf l0] K :=
  Cal.start 2 mX3_rushes_plain (catR cat0) (Nat.le_of_ble_eq_true rfl) rfl h
set_option maxHeartbeats 4000000 in
theorem bX3_putIn_0 {w : Wt} {K : Sg → Prop} {rc rs : Nat} {σ : Sg} (l0 : Option Nat) (l1 : Option Nat) (l2 : Int32) (h : ∃ a1, l1 = some a1 ∧ kd σ a1 ∈ [1, 5] ∧ vp_in 2 (ln σ a1) ∧ G w mX3_putIn (KV K) (rc) (rs) σ 13 [va_rf l0, va_rf l1, .int l2, .int ((153 + (19 * (AI σ a1 (2 : Int32).toNatClampNeg))) - 1)] []) : G w mX3_putIn (KV K) (rc) (rs) σ 0 [va_rf l0, va_rf l1, .int l2, U_] [] := by
  refine G_sipush (v := 153) 3 dX3_putIn_0 (by decide) rfl ?_
  refine G_bipush (v := 19) 5 dX3_putIn_3 (by decide) rfl ?_
  refine G_aload_n 6 dX3_putIn_5 rfl rfl ?_
  refine G_iconst (v := 2) 7 dX3_putIn_6 (by decide) rfl ?_
  obtain ⟨a1, e2, h⟩ := h
  obtain ⟨c3, h⟩ := h
  obtain ⟨c4, h⟩ := h
  refine G_iald (a := a1) 8 dX3_putIn_7 rfl e2 c3 c4 ?_
  refine G_imul 9 dX3_putIn_8 rfl ?_
  refine G_iadd 10 dX3_putIn_9 rfl ?_
  refine G_iconst (v := 1) 11 dX3_putIn_10 (by decide) rfl ?_
  refine G_isub 12 dX3_putIn_11 rfl ?_
  refine G_istore_n 13 [va_rf l0, va_rf l1, .int l2, .int ((153 + (19 * (AI σ a1 (2 : Int32).toNatClampNeg))) - 1)] dX3_putIn_12 (Nat.le_of_ble_eq_true rfl) rfl rfl ?_
  exact h
set_option maxHeartbeats 4000000 in
theorem bX3_putIn_13 {w : Wt} {K : Sg → Prop} {rc rs : Nat} {σ : Sg} (l0 : Option Nat) (l1 : Option Nat) (l2 : Int32) (l3 : Int32) (h : ((l3 < 153 + (19 * l2) → G w mX3_putIn (KV K) (rc) (rs) σ 42 [va_rf l0, va_rf l1, .int l2, .int 0] []) ∧ (¬ l3 < 153 + (19 * l2) → ∃ a2, l1 = some a2 ∧ kd σ a2 ∈ [1, 5] ∧ vp_in l3 (ln σ a2) ∧ kd σ a2 = 1 ∧ vp_in (l3 + 19) (ln σ a2) ∧ ∀ s8, s8 = sAI σ a2 (l3 + 19).toNatClampNeg (AI σ a2 l3.toNatClampNeg) → G w mX3_putIn (KV K) (rc) (rs) s8 13 [va_rf l0, va_rf l1, .int l2, .int (l3 + (-1))] []))) : G w mX3_putIn (KV K) (rc) (rs) σ 13 [va_rf l0, va_rf l1, .int l2, .int l3] [] := by
  refine G_iload_n 14 dX3_putIn_13 rfl rfl ?_
  refine G_sipush (v := 153) 17 dX3_putIn_14 (by decide) rfl ?_
  refine G_bipush (v := 19) 19 dX3_putIn_17 (by decide) rfl ?_
  refine G_iload_n 20 dX3_putIn_19 rfl rfl ?_
  refine G_imul 21 dX3_putIn_20 rfl ?_
  refine G_iadd 22 dX3_putIn_21 rfl ?_
  refine G_icmp_lt 40 25 dX3_putIn_22 (by decide) rfl (fun u1 => ?_) (fun u1 => ?_)
  · have h := h.1 u1
    refine G_iconst (v := 0) 41 dX3_putIn_40 (by decide) rfl ?_
    refine G_istore_n 42 [va_rf l0, va_rf l1, .int l2, .int 0] dX3_putIn_41 (Nat.le_of_ble_eq_true rfl) rfl rfl ?_
    exact h
  · have h := h.2 u1
    refine G_aload_n 26 dX3_putIn_25 rfl rfl ?_
    refine G_iload_n 27 dX3_putIn_26 rfl rfl ?_
    refine G_bipush (v := 19) 29 dX3_putIn_27 (by decide) rfl ?_
    refine G_iadd 30 dX3_putIn_29 rfl ?_
    refine G_aload_n 31 dX3_putIn_30 rfl rfl ?_
    refine G_iload_n 32 dX3_putIn_31 rfl rfl ?_
    obtain ⟨a2, e3, h⟩ := h
    obtain ⟨c4, h⟩ := h
    obtain ⟨c5, h⟩ := h
    refine G_iald (a := a2) 33 dX3_putIn_32 rfl e3 c4 c5 ?_
    obtain ⟨c6, h⟩ := h
    obtain ⟨c7, h⟩ := h
    refine G_iast (a := a2) 34 dX3_putIn_33 rfl e3 c6 c7 ?_
    generalize hs8 : sAI σ a2 (l3 + 19).toNatClampNeg (AI σ a2 l3.toNatClampNeg) = s8
    have x9 : ∀ a, ¬ kd σ a = 0 → kd s8 a = kd σ a := by subst hs8; exact fun a _ => congrFun kd_sAI a
    have h := h s8 hs8.symm
    refine G_iinc 37 [va_rf l0, va_rf l1, .int l2, .int (l3 + (-1))] dX3_putIn_34 rfl rfl (Nat.le_of_ble_eq_true rfl) rfl rfl ?_
    refine G_goto 13 dX3_putIn_37 (by decide) ?_
    exact h
set_option maxHeartbeats 4000000 in
theorem bX3_putIn_42 {w : Wt} {K : Sg → Prop} {rc rs : Nat} {σ : Sg} (l0 : Option Nat) (l1 : Option Nat) (l2 : Int32) (l3 : Int32) (h : ((19 ≤ l3 → ∃ a2, l1 = some a2 ∧ kd σ a2 ∈ [1, 5] ∧ vp_in 2 (ln σ a2) ∧ kd σ a2 = 1 ∧ ∀ s7, s7 = sAI σ a2 (2 : Int32).toNatClampNeg ((AI σ a2 (2 : Int32).toNatClampNeg) + 1) → vp_in 3 (ln s7 a2) ∧ ((AI s7 a2 (3 : Int32).toNatClampNeg < l2 → ∀ s11, s11 = sAI s7 a2 (3 : Int32).toNatClampNeg ((AI s7 a2 (3 : Int32).toNatClampNeg) + 0) → K s11) ∧ (¬ AI s7 a2 (3 : Int32).toNatClampNeg < l2 → ∀ s13, s13 = sAI s7 a2 (3 : Int32).toNatClampNeg ((AI s7 a2 (3 : Int32).toNatClampNeg) + 1) → K s13))) ∧ (¬ 19 ≤ l3 → ∃ a15, l0 = some a15 ∧ kd σ a15 = 13 ∧ ∃ a18, FR σ 30 a15 = some a18 ∧ kd σ a18 ∈ [1, 5] ∧ vp_in l3 (ln σ a18) ∧ ∃ a22, l1 = some a22 ∧ kd σ a22 = 1 ∧ vp_in ((153 + (19 * l2)) + l3) (ln σ a22) ∧ ∀ s26, s26 = sAI σ a22 ((153 + (19 * l2)) + l3).toNatClampNeg (AI σ a18 l3.toNatClampNeg) → G w mX3_putIn (KV K) (rc) (rs) s26 42 [va_rf l0, va_rf l1, .int l2, .int (l3 + 1)] []))) : G w mX3_putIn (KV K) (rc) (rs) σ 42 [va_rf l0, va_rf l1, .int l2, .int l3] [] := by
  refine G_iload_n 43 dX3_putIn_42 rfl rfl ?_
  refine G_bipush (v := 19) 45 dX3_putIn_43 (by decide) rfl ?_
  refine G_icmp_ge 72 48 dX3_putIn_45 (by decide) rfl (fun u1 => ?_) (fun u1 => ?_)
  · have h := h.1 u1
    refine G_aload_n 73 dX3_putIn_72 rfl rfl ?_
    refine G_iconst (v := 2) 74 dX3_putIn_73 (by decide) rfl ?_
    refine G_dup2 75 dX3_putIn_74 (rfl) (rf_cat _) rfl ?_
    obtain ⟨a2, e3, h⟩ := h
    obtain ⟨c4, h⟩ := h
    obtain ⟨c5, h⟩ := h
    refine G_iald (a := a2) 76 dX3_putIn_75 rfl e3 c4 c5 ?_
    refine G_iconst (v := 1) 77 dX3_putIn_76 (by decide) rfl ?_
    refine G_iadd 78 dX3_putIn_77 rfl ?_
    obtain ⟨c6, h⟩ := h
    refine G_iast (a := a2) 79 dX3_putIn_78 rfl e3 c6 c5 ?_
    generalize hs7 : sAI σ a2 (2 : Int32).toNatClampNeg ((AI σ a2 (2 : Int32).toNatClampNeg) + 1) = s7
    have x8 : ∀ a, ¬ kd σ a = 0 → kd s7 a = kd σ a := by subst hs7; exact fun a _ => congrFun kd_sAI a
    have h := h s7 hs7.symm
    refine G_aload_n 80 dX3_putIn_79 rfl rfl ?_
    refine G_iconst (v := 3) 81 dX3_putIn_80 (by decide) rfl ?_
    refine G_dup2 82 dX3_putIn_81 (rfl) (rf_cat _) rfl ?_
    have c6 := kdE x8 c6 (by decide)
    obtain ⟨c9, h⟩ := h
    refine G_iald (a := a2) 83 dX3_putIn_82 rfl e3 (memE c6 (by decide)) c9 ?_
    refine G_aload_n 84 dX3_putIn_83 rfl rfl ?_
    refine G_iconst (v := 3) 85 dX3_putIn_84 (by decide) rfl ?_
    refine G_iald (a := a2) 86 dX3_putIn_85 rfl e3 (memE c6 (by decide)) c9 ?_
    refine G_iload_n 87 dX3_putIn_86 rfl rfl ?_
    refine G_icmp_lt 94 90 dX3_putIn_87 (by decide) rfl (fun u10 => ?_) (fun u10 => ?_)
    · have h := h.1 u10
      refine G_iconst (v := 0) 95 dX3_putIn_94 (by decide) rfl ?_
      refine G_iadd 96 dX3_putIn_95 rfl ?_
      refine G_iast (a := a2) 97 dX3_putIn_96 rfl e3 c6 c9 ?_
      generalize hs11 : sAI s7 a2 (3 : Int32).toNatClampNeg ((AI s7 a2 (3 : Int32).toNatClampNeg) + 0) = s11
      have x12 : ∀ a, ¬ kd s7 a = 0 → kd s11 a = kd s7 a := by subst hs11; exact fun a _ => congrFun kd_sAI a
      have h := h s11 hs11.symm
      exact G_ret dX3_putIn_97 rfl ⟨rfl, h⟩
    · have h := h.2 u10
      refine G_iconst (v := 1) 91 dX3_putIn_90 (by decide) rfl ?_
      refine G_goto 95 dX3_putIn_91 (by decide) ?_
      refine G_iadd 96 dX3_putIn_95 rfl ?_
      refine G_iast (a := a2) 97 dX3_putIn_96 rfl e3 c6 c9 ?_
      generalize hs13 : sAI s7 a2 (3 : Int32).toNatClampNeg ((AI s7 a2 (3 : Int32).toNatClampNeg) + 1) = s13
      have x14 : ∀ a, ¬ kd s7 a = 0 → kd s13 a = kd s7 a := by subst hs13; exact fun a _ => congrFun kd_sAI a
      have h := h s13 hs13.symm
      exact G_ret dX3_putIn_97 rfl ⟨rfl, h⟩
  · have h := h.2 u1
    refine G_aload_n 49 dX3_putIn_48 rfl rfl ?_
    refine G_sipush (v := 153) 52 dX3_putIn_49 (by decide) rfl ?_
    refine G_bipush (v := 19) 54 dX3_putIn_52 (by decide) rfl ?_
    refine G_iload_n 55 dX3_putIn_54 rfl rfl ?_
    refine G_imul 56 dX3_putIn_55 rfl ?_
    refine G_iadd 57 dX3_putIn_56 rfl ?_
    refine G_iload_n 58 dX3_putIn_57 rfl rfl ?_
    refine G_iadd 59 dX3_putIn_58 rfl ?_
    refine G_aload_n 60 dX3_putIn_59 rfl rfl ?_
    obtain ⟨a15, e16, h⟩ := h
    obtain ⟨c17, h⟩ := h
    refine G_getR (f := 30) (a := a15) "" 63 dX3_putIn_60 (Or.inl q2143) (Or.inl rfl) rfl e16 (hf30 c17) rfl ?_
    refine G_iload_n 64 dX3_putIn_63 rfl rfl ?_
    obtain ⟨a18, e19, h⟩ := h
    obtain ⟨c20, h⟩ := h
    obtain ⟨c21, h⟩ := h
    refine G_iald (a := a18) 65 dX3_putIn_64 rfl e19 c20 c21 ?_
    obtain ⟨a22, e23, h⟩ := h
    obtain ⟨c24, h⟩ := h
    obtain ⟨c25, h⟩ := h
    refine G_iast (a := a22) 66 dX3_putIn_65 rfl e23 c24 c25 ?_
    generalize hs26 : sAI σ a22 ((153 + (19 * l2)) + l3).toNatClampNeg (AI σ a18 l3.toNatClampNeg) = s26
    have x27 : ∀ a, ¬ kd σ a = 0 → kd s26 a = kd σ a := by subst hs26; exact fun a _ => congrFun kd_sAI a
    have h := h s26 hs26.symm
    refine G_iinc 69 [va_rf l0, va_rf l1, .int l2, .int (l3 + 1)] dX3_putIn_66 rfl rfl (Nat.le_of_ble_eq_true rfl) rfl rfl ?_
    refine G_goto 42 dX3_putIn_69 (by decide) ?_
    exact h
theorem eX3_putIn {w : Wt} {K : Sg → Prop} {σ : Sg} (l0 : Option Nat) (l1 : Option Nat) (l2 : Int32) (h : G w mX3_putIn (KV K) 0 0 σ 0 [va_rf l0, va_rf l1, .int l2, U_] []) : CalV w mX3_putIn σ [va_rf l0, va_rf l1, .int l2] K :=
  Cal.start 1 mX3_putIn_plain (catR (catR (catI cat0))) (Nat.le_of_ble_eq_true rfl) rfl h
set_option maxHeartbeats 4000000 in
theorem bX3_hurry_0 {w : Wt} {K : Sg → Int32 → Prop} {rc rs : Nat} {σ : Sg} (l0 : Option Nat) (l1 : Int32) (h : ∃ a1, l0 = some a1 ∧ kd σ a1 = 13 ∧ ∀ s4, s4 = sFI σ 18 a1 0 → CalI w mX3_isOrder s4 [va_rf l0, .int l1] (fun s6 x7 => Ext s4 s6 → ((¬ x7 = 0 → CalI w mX3_of s6 [va_rf (FR s6 19 a1), .int l1, .int 4] (fun s11 x12 => Ext s6 s11 → ((¬ x12 = 1 → CalV w mX3_act s11 [va_rf l0] (fun s16 => Ext s11 s16 → CalI w mX3_hurryIn s16 [va_rf l0, va_rf (FR s16 19 a1), .int l1] (fun s19 x20 => Ext s16 s19 → K s19 x20))) ∧ (x12 = 1 → K s11 (-2))))) ∧ (x7 = 0 → K s6 (-1))))) : G w mX3_hurry (KI K) (rc) (rs) σ 0 [va_rf l0, .int l1] [] := by
  refine G_aload_n 1 dX3_hurry_0 rfl rfl ?_
  refine G_iconst (v := 0) 2 dX3_hurry_1 (by decide) rfl ?_
  obtain ⟨a1, e2, h⟩ := h
  obtain ⟨c3, h⟩ := h
  refine G_putI (f := 18) (a := a1) "" 5 dX3_hurry_2 (Or.inl q2131) (Or.inl rfl) rfl e2 (hp18 c3) (nk18 c3) (Or.inl rfl) rfl rfl rfl ?_
  generalize hs4 : sFI σ 18 a1 0 = s4
  have x5 : ∀ a, ¬ kd σ a = 0 → kd s4 a = kd σ a := by subst hs4; exact fun a _ => congrFun kd_sFI a
  have h := h s4 hs4.symm
  refine G_aload_n 6 dX3_hurry_5 rfl rfl ?_
  refine G_iload_n 7 dX3_hurry_6 rfl rfl ?_
  have c3 := kdE x5 c3 (by decide)
  refine G_invV (N := mX3_isOrder) (As := [.int l1]) (st := []) (t := l0) (b := a1) (rc) (rs) 10 dX3_hurry_7 q2260 q2262 qs21 q44 q2263 rfl rfl mX3_isOrder_args ⟨Nat.le_of_ble_eq_true rfl, Nat.le_of_ble_eq_true rfl⟩ rfl (Nat.zero_le _) e2 (rk13 c3) (le_b mX3_isOrder_c (Nat.le_refl _)) (le_b mX3_isOrder_s (Nat.le_refl _)) rfl (Cal.mono h ?_)
  rintro s6 v ⟨x7, rfl, h⟩ hx8
  have h := h hx8
  have x9 := hx8.x
  show G w mX3_hurry (KI K) (rc) (rs) s6 10 [va_rf l0, .int l1] [.int x7]
  refine G_if_ne 15 13 dX3_hurry_10 (by decide) rfl (fun u10 => ?_) (fun u10 => ?_)
  · have h := h.1 u10
    refine G_aload_n 16 dX3_hurry_15 rfl rfl ?_
    have c3 := kdE x9 c3 (by decide)
    refine G_getR (f := 19) (a := a1) "" 19 dX3_hurry_16 (Or.inl q2132) (Or.inl rfl) rfl e2 (hf19 c3) rfl ?_
    refine G_iload_n 20 dX3_hurry_19 rfl rfl ?_
    refine G_iconst (v := 4) 21 dX3_hurry_20 (by decide) rfl ?_
    refine G_invS (N := mX3_of) (As := [va_rf (FR s6 19 a1), .int l1, .int 4]) (st := []) (rc) (rs) "" 24 dX3_hurry_21 (Or.inl q2246) q2247 q44 q2248 rfl mX3_of_args ⟨Nat.le_of_ble_eq_true rfl, Nat.le_of_ble_eq_true rfl⟩ rfl (Nat.zero_le _) (le_b mX3_of_c (Nat.le_refl _)) (le_b mX3_of_s (Nat.le_refl _)) rfl (Cal.mono h ?_)
    rintro s11 v ⟨x12, rfl, h⟩ hx13
    have h := h hx13
    have x14 := hx13.x
    show G w mX3_hurry (KI K) (rc) (rs) s11 24 [va_rf l0, .int l1] [.int x12]
    refine G_iconst (v := 1) 25 dX3_hurry_24 (by decide) rfl ?_
    refine G_icmp_ne 31 28 dX3_hurry_25 (by decide) rfl (fun u15 => ?_) (fun u15 => ?_)
    · have h := h.1 u15
      refine G_aload_n 32 dX3_hurry_31 rfl rfl ?_
      have c3 := kdE x14 c3 (by decide)
      refine G_invV (N := mX3_act) (As := []) (st := []) (t := l0) (b := a1) (rc) (rs) 35 dX3_hurry_32 q2178 q2180 qs16 q44 q2181 rfl rfl mX3_act_args ⟨Nat.le_of_ble_eq_true rfl, Nat.le_of_ble_eq_true rfl⟩ rfl (Nat.zero_le _) e2 (rk13 c3) (le_b mX3_act_c (Nat.le_refl _)) (le_b mX3_act_s (Nat.le_refl _)) rfl (Cal.mono h ?_)
      rintro s16 v ⟨rfl, h⟩ hx17
      have h := h hx17
      have x18 := hx17.x
      show G w mX3_hurry (KI K) (rc) (rs) s16 35 [va_rf l0, .int l1] []
      refine G_aload_n 36 dX3_hurry_35 rfl rfl ?_
      refine G_aload_n 37 dX3_hurry_36 rfl rfl ?_
      have c3 := kdE x18 c3 (by decide)
      refine G_getR (f := 19) (a := a1) "" 40 dX3_hurry_37 (Or.inl q2132) (Or.inl rfl) rfl e2 (hf19 c3) rfl ?_
      refine G_iload_n 41 dX3_hurry_40 rfl rfl ?_
      refine G_invV (N := mX3_hurryIn) (As := [va_rf (FR s16 19 a1), .int l1]) (st := []) (t := l0) (b := a1) (rc) (rs) 44 dX3_hurry_41 q2264 q2266 qs22 q44 q2267 rfl rfl mX3_hurryIn_args ⟨Nat.le_of_ble_eq_true rfl, Nat.le_of_ble_eq_true rfl⟩ rfl (Nat.zero_le _) e2 (rk13 c3) (le_b mX3_hurryIn_c (Nat.le_refl _)) (le_b mX3_hurryIn_s (Nat.le_refl _)) rfl (Cal.mono h ?_)
      rintro s19 v ⟨x20, rfl, h⟩ hx21
      have h := h hx21
      have x22 := hx21.x
      show G w mX3_hurry (KI K) (rc) (rs) s19 44 [va_rf l0, .int l1] [.int x20]
      exact G_iret dX3_hurry_44 rfl ⟨_, rfl, h⟩
    · have h := h.2 u15
      refine G_bipush (v := (-2)) 30 dX3_hurry_28 (by decide) rfl ?_
      exact G_iret dX3_hurry_30 rfl ⟨_, rfl, h⟩
  · have h := h.2 u10
    refine G_iconst (v := (-1)) 14 dX3_hurry_13 (by decide) rfl ?_
    exact G_iret dX3_hurry_14 rfl ⟨_, rfl, h⟩
theorem eX3_hurry {w : Wt} {K : Sg → Int32 → Prop} {σ : Sg} (l0 : Option Nat) (l1 : Int32) (h : G w mX3_hurry (KI K) 0 0 σ 0 [va_rf l0, .int l1] []) : CalI w mX3_hurry σ [va_rf l0, .int l1] K :=
  Cal.start 0 mX3_hurry_plain (catR (catI cat0)) (Nat.le_of_ble_eq_true rfl) rfl h
set_option maxHeartbeats 4000000 in
theorem bX3_isOrder_0 {w : Wt} {K : Sg → Int32 → Prop} {rc rs : Nat} {σ : Sg} (l0 : Option Nat) (l1 : Int32) (h : ∃ a1, l0 = some a1 ∧ kd σ a1 = 13 ∧ ∃ a4, FR σ 19 a1 = some a4 ∧ kd σ a4 ∈ [1, 5] ∧ vp_in 2 (ln σ a4) ∧ CalI w mX3_in σ [.int l1, .int 0, .int ((AI σ a4 (2 : Int32).toNatClampNeg) - 1)] (fun s8 x9 => Ext σ s8 → ((x9 = 0 ∨ x9 = 1) ∧ K s8 x9))) : G w mX3_isOrder (KI K) (rc) (rs) σ 0 [va_rf l0, .int l1] [] := by
  refine G_iload_n 1 dX3_isOrder_0 rfl rfl ?_
  refine G_iconst (v := 0) 2 dX3_isOrder_1 (by decide) rfl ?_
  refine G_aload_n 3 dX3_isOrder_2 rfl rfl ?_
  obtain ⟨a1, e2, h⟩ := h
  obtain ⟨c3, h⟩ := h
  refine G_getR (f := 19) (a := a1) "" 6 dX3_isOrder_3 (Or.inl q2132) (Or.inl rfl) rfl e2 (hf19 c3) rfl ?_
  refine G_iconst (v := 2) 7 dX3_isOrder_6 (by decide) rfl ?_
  obtain ⟨a4, e5, h⟩ := h
  obtain ⟨c6, h⟩ := h
  obtain ⟨c7, h⟩ := h
  refine G_iald (a := a4) 8 dX3_isOrder_7 rfl e5 c6 c7 ?_
  refine G_iconst (v := 1) 9 dX3_isOrder_8 (by decide) rfl ?_
  refine G_isub 10 dX3_isOrder_9 rfl ?_
  refine G_invS (N := mX3_in) (As := [.int l1, .int 0, .int ((AI σ a4 (2 : Int32).toNatClampNeg) - 1)]) (st := []) (rc) (rs) "" 13 dX3_isOrder_10 (Or.inl q2175) q2176 q44 q2177 rfl mX3_in_args ⟨Nat.le_of_ble_eq_true rfl, Nat.le_of_ble_eq_true rfl⟩ rfl (Nat.zero_le _) (le_b mX3_in_c (Nat.le_refl _)) (le_b mX3_in_s (Nat.le_refl _)) rfl (Cal.mono h ?_)
  rintro s8 v ⟨x9, rfl, h⟩ hx10
  have h := h hx10
  have x11 := hx10.x
  show G w mX3_isOrder (KI K) (rc) (rs) s8 13 [va_rf l0, .int l1] [.int x9]
  exact G_zret dX3_isOrder_13 rfl (nar_bz h.1).1 ⟨_, rfl, h.2⟩
theorem eX3_isOrder {w : Wt} {K : Sg → Int32 → Prop} {σ : Sg} (l0 : Option Nat) (l1 : Int32) (h : G w mX3_isOrder (KI K) 0 0 σ 0 [va_rf l0, .int l1] []) : CalI w mX3_isOrder σ [va_rf l0, .int l1] K :=
  Cal.start 0 mX3_isOrder_plain (catR (catI cat0)) (Nat.le_of_ble_eq_true rfl) rfl h
set_option maxHeartbeats 4000000 in
theorem bX3_hurryIn_0 {w : Wt} {K : Sg → Int32 → Prop} {rc rs : Nat} {σ : Sg} (l0 : Option Nat) (l1 : Option Nat) (l2 : Int32) (h : ∃ a1, l1 = some a1 ∧ kd σ a1 ∈ [1, 5] ∧ vp_in 3 (ln σ a1) ∧ ((¬ AI σ a1 (3 : Int32).toNatClampNeg = l2 → CalI w mX3_rushes σ [va_rf l1] (fun s6 x7 => Ext σ s6 → ∃ a10, l0 = some a10 ∧ kd s6 a10 = 13 ∧ CalV w mX3_takeOut s6 [va_rf l0, va_rf l1, .int l2] (fun s12 => Ext s6 s12 → ∃ a16, FR s12 30 a10 = some a16 ∧ kd s12 a16 = 1 ∧ vp_in 4 (ln s12 a16) ∧ ∀ s20, s20 = sAI s12 a16 (4 : Int32).toNatClampNeg 1 → CalV w mX3_putIn s20 [va_rf l0, va_rf l1, .int x7] (fun s22 => Ext s20 s22 → vp_in 3 (ln s22 a1) ∧ kd s22 a1 = 1 ∧ ∀ s27, s27 = sAI s22 a1 (3 : Int32).toNatClampNeg (AI s22 a1 (3 : Int32).toNatClampNeg) → K s27 x7)))) ∧ (AI σ a1 (3 : Int32).toNatClampNeg = l2 → CalI w mX3_rushes σ [va_rf l1] (fun s29 x30 => Ext σ s29 → ∃ a33, l0 = some a33 ∧ kd s29 a33 = 13 ∧ CalV w mX3_takeOut s29 [va_rf l0, va_rf l1, .int l2] (fun s35 => Ext s29 s35 → ∃ a39, FR s35 30 a33 = some a39 ∧ kd s35 a39 = 1 ∧ vp_in 4 (ln s35 a39) ∧ ∀ s43, s43 = sAI s35 a39 (4 : Int32).toNatClampNeg 1 → CalV w mX3_putIn s43 [va_rf l0, va_rf l1, .int x30] (fun s45 => Ext s43 s45 → kd s45 a1 = 1 ∧ vp_in 3 (ln s45 a1) ∧ ∀ s50, s50 = sAI s45 a1 (3 : Int32).toNatClampNeg x30 → K s50 x30)))))) : G w mX3_hurryIn (KI K) (rc) (rs) σ 0 [va_rf l0, va_rf l1, .int l2, U_, U_] [] := by
  refine G_aload_n 1 dX3_hurryIn_0 rfl rfl ?_
  refine G_iconst (v := 3) 2 dX3_hurryIn_1 (by decide) rfl ?_
  obtain ⟨a1, e2, h⟩ := h
  obtain ⟨c3, h⟩ := h
  obtain ⟨c4, h⟩ := h
  refine G_iald (a := a1) 3 dX3_hurryIn_2 rfl e2 c3 c4 ?_
  refine G_iload_n 4 dX3_hurryIn_3 rfl rfl ?_
  refine G_icmp_ne 11 7 dX3_hurryIn_4 (by decide) rfl (fun u5 => ?_) (fun u5 => ?_)
  · have h := h.1 u5
    refine G_iconst (v := 0) 12 dX3_hurryIn_11 (by decide) rfl ?_
    refine G_istore_n 13 [va_rf l0, va_rf l1, .int l2, .int 0, U_] dX3_hurryIn_12 (Nat.le_of_ble_eq_true rfl) rfl rfl ?_
    refine G_aload_n 14 dX3_hurryIn_13 rfl rfl ?_
    refine G_invS (N := mX3_rushes) (As := [va_rf l1]) (st := []) (rc) (rs) "" 17 dX3_hurryIn_14 (Or.inl q2249) q2250 q44 q2251 rfl mX3_rushes_args ⟨Nat.le_of_ble_eq_true rfl, Nat.le_of_ble_eq_true rfl⟩ rfl (Nat.zero_le _) (le_b mX3_rushes_c (Nat.le_refl _)) (le_b mX3_rushes_s (Nat.le_refl _)) rfl (Cal.mono h ?_)
    rintro s6 v ⟨x7, rfl, h⟩ hx8
    have h := h hx8
    have x9 := hx8.x
    show G w mX3_hurryIn (KI K) (rc) (rs) s6 17 [va_rf l0, va_rf l1, .int l2, .int 0, U_] [.int x7]
    refine G_istore 19 [va_rf l0, va_rf l1, .int l2, .int 0, .int x7] dX3_hurryIn_17 (Nat.le_of_ble_eq_true rfl) rfl rfl ?_
    refine G_aload_n 20 dX3_hurryIn_19 rfl rfl ?_
    refine G_aload_n 21 dX3_hurryIn_20 rfl rfl ?_
    refine G_iload_n 22 dX3_hurryIn_21 rfl rfl ?_
    obtain ⟨a10, e11, h⟩ := h
    obtain ⟨c13, h⟩ := h
    refine G_invV (N := mX3_takeOut) (As := [va_rf l1, .int l2]) (st := []) (t := l0) (b := a10) (rc) (rs) 25 dX3_hurryIn_22 q2268 q2270 qs23 q44 q2271 rfl rfl mX3_takeOut_args ⟨Nat.le_of_ble_eq_true rfl, Nat.le_of_ble_eq_true rfl⟩ rfl (Nat.zero_le _) e11 (rk13 c13) (le_b mX3_takeOut_c (Nat.le_refl _)) (le_b mX3_takeOut_s (Nat.le_refl _)) rfl (Cal.mono h ?_)
    rintro s12 v ⟨rfl, h⟩ hx14
    have h := h hx14
    have x15 := hx14.x
    show G w mX3_hurryIn (KI K) (rc) (rs) s12 25 [va_rf l0, va_rf l1, .int l2, .int 0, .int x7] []
    refine G_aload_n 26 dX3_hurryIn_25 rfl rfl ?_
    have c13 := kdE x15 c13 (by decide)
    refine G_getR (f := 30) (a := a10) "" 29 dX3_hurryIn_26 (Or.inl q2143) (Or.inl rfl) rfl e11 (hf30 c13) rfl ?_
    refine G_iconst (v := 4) 30 dX3_hurryIn_29 (by decide) rfl ?_
    refine G_iconst (v := 1) 31 dX3_hurryIn_30 (by decide) rfl ?_
    obtain ⟨a16, e17, h⟩ := h
    obtain ⟨c18, h⟩ := h
    obtain ⟨c19, h⟩ := h
    refine G_iast (a := a16) 32 dX3_hurryIn_31 rfl e17 c18 c19 ?_
    generalize hs20 : sAI s12 a16 (4 : Int32).toNatClampNeg 1 = s20
    have x21 : ∀ a, ¬ kd s12 a = 0 → kd s20 a = kd s12 a := by subst hs20; exact fun a _ => congrFun kd_sAI a
    have h := h s20 hs20.symm
    refine G_aload_n 33 dX3_hurryIn_32 rfl rfl ?_
    refine G_aload_n 34 dX3_hurryIn_33 rfl rfl ?_
    refine G_iload 36 dX3_hurryIn_34 rfl rfl ?_
    have c13 := kdE x21 c13 (by decide)
    refine G_invV (N := mX3_putIn) (As := [va_rf l1, .int x7]) (st := []) (t := l0) (b := a10) (rc) (rs) 39 dX3_hurryIn_36 q2252 q2254 qs20 q44 q2255 rfl rfl mX3_putIn_args ⟨Nat.le_of_ble_eq_true rfl, Nat.le_of_ble_eq_true rfl⟩ rfl (Nat.zero_le _) e11 (rk13 c13) (le_b mX3_putIn_c (Nat.le_refl _)) (le_b mX3_putIn_s (Nat.le_refl _)) rfl (Cal.mono h ?_)
    rintro s22 v ⟨rfl, h⟩ hx23
    have h := h hx23
    have x24 := hx23.x
    show G w mX3_hurryIn (KI K) (rc) (rs) s22 39 [va_rf l0, va_rf l1, .int l2, .int 0, .int x7] []
    refine G_aload_n 40 dX3_hurryIn_39 rfl rfl ?_
    refine G_iconst (v := 3) 41 dX3_hurryIn_40 (by decide) rfl ?_
    refine G_iload_n 42 dX3_hurryIn_41 rfl rfl ?_
    refine G_if_eq 50 45 dX3_hurryIn_42 (by decide) rfl (fun _ => ?_) (fun q => absurd q (by decide))
    refine G_aload_n 51 dX3_hurryIn_50 rfl rfl ?_
    refine G_iconst (v := 3) 52 dX3_hurryIn_51 (by decide) rfl ?_
    have c3 := kdM x9 c3 (by decide)
    have c3 := kdM x15 c3 (by decide)
    have c3 := kdM x21 c3 (by decide)
    have c3 := kdM x24 c3 (by decide)
    obtain ⟨c25, h⟩ := h
    refine G_iald (a := a1) 53 dX3_hurryIn_52 rfl e2 c3 c25 ?_
    obtain ⟨c26, h⟩ := h
    refine G_iast (a := a1) 54 dX3_hurryIn_53 rfl e2 c26 c25 ?_
    generalize hs27 : sAI s22 a1 (3 : Int32).toNatClampNeg (AI s22 a1 (3 : Int32).toNatClampNeg) = s27
    have x28 : ∀ a, ¬ kd s22 a = 0 → kd s27 a = kd s22 a := by subst hs27; exact fun a _ => congrFun kd_sAI a
    have h := h s27 hs27.symm
    refine G_iload 56 dX3_hurryIn_54 rfl rfl ?_
    exact G_iret dX3_hurryIn_56 rfl ⟨_, rfl, h⟩
  · have h := h.2 u5
    refine G_iconst (v := 1) 8 dX3_hurryIn_7 (by decide) rfl ?_
    refine G_goto 12 dX3_hurryIn_8 (by decide) ?_
    refine G_istore_n 13 [va_rf l0, va_rf l1, .int l2, .int 1, U_] dX3_hurryIn_12 (Nat.le_of_ble_eq_true rfl) rfl rfl ?_
    refine G_aload_n 14 dX3_hurryIn_13 rfl rfl ?_
    refine G_invS (N := mX3_rushes) (As := [va_rf l1]) (st := []) (rc) (rs) "" 17 dX3_hurryIn_14 (Or.inl q2249) q2250 q44 q2251 rfl mX3_rushes_args ⟨Nat.le_of_ble_eq_true rfl, Nat.le_of_ble_eq_true rfl⟩ rfl (Nat.zero_le _) (le_b mX3_rushes_c (Nat.le_refl _)) (le_b mX3_rushes_s (Nat.le_refl _)) rfl (Cal.mono h ?_)
    rintro s29 v ⟨x30, rfl, h⟩ hx31
    have h := h hx31
    have x32 := hx31.x
    show G w mX3_hurryIn (KI K) (rc) (rs) s29 17 [va_rf l0, va_rf l1, .int l2, .int 1, U_] [.int x30]
    refine G_istore 19 [va_rf l0, va_rf l1, .int l2, .int 1, .int x30] dX3_hurryIn_17 (Nat.le_of_ble_eq_true rfl) rfl rfl ?_
    refine G_aload_n 20 dX3_hurryIn_19 rfl rfl ?_
    refine G_aload_n 21 dX3_hurryIn_20 rfl rfl ?_
    refine G_iload_n 22 dX3_hurryIn_21 rfl rfl ?_
    obtain ⟨a33, e34, h⟩ := h
    obtain ⟨c36, h⟩ := h
    refine G_invV (N := mX3_takeOut) (As := [va_rf l1, .int l2]) (st := []) (t := l0) (b := a33) (rc) (rs) 25 dX3_hurryIn_22 q2268 q2270 qs23 q44 q2271 rfl rfl mX3_takeOut_args ⟨Nat.le_of_ble_eq_true rfl, Nat.le_of_ble_eq_true rfl⟩ rfl (Nat.zero_le _) e34 (rk13 c36) (le_b mX3_takeOut_c (Nat.le_refl _)) (le_b mX3_takeOut_s (Nat.le_refl _)) rfl (Cal.mono h ?_)
    rintro s35 v ⟨rfl, h⟩ hx37
    have h := h hx37
    have x38 := hx37.x
    show G w mX3_hurryIn (KI K) (rc) (rs) s35 25 [va_rf l0, va_rf l1, .int l2, .int 1, .int x30] []
    refine G_aload_n 26 dX3_hurryIn_25 rfl rfl ?_
    have c36 := kdE x38 c36 (by decide)
    refine G_getR (f := 30) (a := a33) "" 29 dX3_hurryIn_26 (Or.inl q2143) (Or.inl rfl) rfl e34 (hf30 c36) rfl ?_
    refine G_iconst (v := 4) 30 dX3_hurryIn_29 (by decide) rfl ?_
    refine G_iconst (v := 1) 31 dX3_hurryIn_30 (by decide) rfl ?_
    obtain ⟨a39, e40, h⟩ := h
    obtain ⟨c41, h⟩ := h
    obtain ⟨c42, h⟩ := h
    refine G_iast (a := a39) 32 dX3_hurryIn_31 rfl e40 c41 c42 ?_
    generalize hs43 : sAI s35 a39 (4 : Int32).toNatClampNeg 1 = s43
    have x44 : ∀ a, ¬ kd s35 a = 0 → kd s43 a = kd s35 a := by subst hs43; exact fun a _ => congrFun kd_sAI a
    have h := h s43 hs43.symm
    refine G_aload_n 33 dX3_hurryIn_32 rfl rfl ?_
    refine G_aload_n 34 dX3_hurryIn_33 rfl rfl ?_
    refine G_iload 36 dX3_hurryIn_34 rfl rfl ?_
    have c36 := kdE x44 c36 (by decide)
    refine G_invV (N := mX3_putIn) (As := [va_rf l1, .int x30]) (st := []) (t := l0) (b := a33) (rc) (rs) 39 dX3_hurryIn_36 q2252 q2254 qs20 q44 q2255 rfl rfl mX3_putIn_args ⟨Nat.le_of_ble_eq_true rfl, Nat.le_of_ble_eq_true rfl⟩ rfl (Nat.zero_le _) e34 (rk13 c36) (le_b mX3_putIn_c (Nat.le_refl _)) (le_b mX3_putIn_s (Nat.le_refl _)) rfl (Cal.mono h ?_)
    rintro s45 v ⟨rfl, h⟩ hx46
    have h := h hx46
    have x47 := hx46.x
    show G w mX3_hurryIn (KI K) (rc) (rs) s45 39 [va_rf l0, va_rf l1, .int l2, .int 1, .int x30] []
    refine G_aload_n 40 dX3_hurryIn_39 rfl rfl ?_
    refine G_iconst (v := 3) 41 dX3_hurryIn_40 (by decide) rfl ?_
    refine G_iload_n 42 dX3_hurryIn_41 rfl rfl ?_
    refine G_if_eq 50 45 dX3_hurryIn_42 (by decide) rfl (fun q => absurd q (by decide)) (fun _ => ?_)
    refine G_iload 47 dX3_hurryIn_45 rfl rfl ?_
    refine G_goto 53 dX3_hurryIn_47 (by decide) ?_
    obtain ⟨c48, h⟩ := h
    obtain ⟨c49, h⟩ := h
    refine G_iast (a := a1) 54 dX3_hurryIn_53 rfl e2 c48 c49 ?_
    generalize hs50 : sAI s45 a1 (3 : Int32).toNatClampNeg x30 = s50
    have x51 : ∀ a, ¬ kd s45 a = 0 → kd s50 a = kd s45 a := by subst hs50; exact fun a _ => congrFun kd_sAI a
    have h := h s50 hs50.symm
    refine G_iload 56 dX3_hurryIn_54 rfl rfl ?_
    exact G_iret dX3_hurryIn_56 rfl ⟨_, rfl, h⟩
theorem eX3_hurryIn {w : Wt} {K : Sg → Int32 → Prop} {σ : Sg} (l0 : Option Nat) (l1 : Option Nat) (l2 : Int32) (h : G w mX3_hurryIn (KI K) 0 0 σ 0 [va_rf l0, va_rf l1, .int l2, U_, U_] []) : CalI w mX3_hurryIn σ [va_rf l0, va_rf l1, .int l2] K :=
  Cal.start 2 mX3_hurryIn_plain (catR (catR (catI cat0))) (Nat.le_of_ble_eq_true rfl) rfl h
set_option maxHeartbeats 4000000 in
theorem bX3_takeOut_0 {w : Wt} {K : Sg → Prop} {rc rs : Nat} {σ : Sg} (l0 : Option Nat) (l1 : Option Nat) (l2 : Int32) (h : G w mX3_takeOut (KV K) (rc) (rs) σ 2 [va_rf l0, va_rf l1, .int l2, .int 0] []) : G w mX3_takeOut (KV K) (rc) (rs) σ 0 [va_rf l0, va_rf l1, .int l2, U_] [] := by
  refine G_iconst (v := 0) 1 dX3_takeOut_0 (by decide) rfl ?_
  refine G_istore_n 2 [va_rf l0, va_rf l1, .int l2, .int 0] dX3_takeOut_1 (Nat.le_of_ble_eq_true rfl) rfl rfl ?_
  exact h
set_option maxHeartbeats 4000000 in
theorem bX3_takeOut_2 {w : Wt} {K : Sg → Prop} {rc rs : Nat} {σ : Sg} (l0 : Option Nat) (l1 : Option Nat) (l2 : Int32) (l3 : Int32) (h : ((19 ≤ l3 → ∃ a2, l1 = some a2 ∧ kd σ a2 ∈ [1, 5] ∧ vp_in 2 (ln σ a2) ∧ kd σ a2 = 1 ∧ ∀ s7, s7 = sAI σ a2 (2 : Int32).toNatClampNeg ((AI σ a2 (2 : Int32).toNatClampNeg) - 1) → G w mX3_takeOut (KV K) (rc) (rs) s7 42 [va_rf l0, va_rf l1, .int l2, .int (153 + (19 * l2))] []) ∧ (¬ 19 ≤ l3 → ∃ a9, l0 = some a9 ∧ kd σ a9 = 13 ∧ CalI w mX3_of σ [va_rf l1, .int l2, .int l3] (fun s12 x13 => Ext σ s12 → ∃ a16, FR σ 30 a9 = some a16 ∧ kd s12 a16 = 1 ∧ vp_in l3 (ln s12 a16) ∧ ∀ s20, s20 = sAI s12 a16 l3.toNatClampNeg x13 → G w mX3_takeOut (KV K) (rc) (rs) s20 2 [va_rf l0, va_rf l1, .int l2, .int (l3 + 1)] [])))) : G w mX3_takeOut (KV K) (rc) (rs) σ 2 [va_rf l0, va_rf l1, .int l2, .int l3] [] := by
  refine G_iload_n 3 dX3_takeOut_2 rfl rfl ?_
  refine G_bipush (v := 19) 5 dX3_takeOut_3 (by decide) rfl ?_
  refine G_icmp_ge 26 8 dX3_takeOut_5 (by decide) rfl (fun u1 => ?_) (fun u1 => ?_)
  · have h := h.1 u1
    refine G_aload_n 27 dX3_takeOut_26 rfl rfl ?_
    refine G_iconst (v := 2) 28 dX3_takeOut_27 (by decide) rfl ?_
    refine G_dup2 29 dX3_takeOut_28 (rfl) (rf_cat _) rfl ?_
    obtain ⟨a2, e3, h⟩ := h
    obtain ⟨c4, h⟩ := h
    obtain ⟨c5, h⟩ := h
    refine G_iald (a := a2) 30 dX3_takeOut_29 rfl e3 c4 c5 ?_
    refine G_iconst (v := 1) 31 dX3_takeOut_30 (by decide) rfl ?_
    refine G_isub 32 dX3_takeOut_31 rfl ?_
    obtain ⟨c6, h⟩ := h
    refine G_iast (a := a2) 33 dX3_takeOut_32 rfl e3 c6 c5 ?_
    generalize hs7 : sAI σ a2 (2 : Int32).toNatClampNeg ((AI σ a2 (2 : Int32).toNatClampNeg) - 1) = s7
    have x8 : ∀ a, ¬ kd σ a = 0 → kd s7 a = kd σ a := by subst hs7; exact fun a _ => congrFun kd_sAI a
    have h := h s7 hs7.symm
    refine G_sipush (v := 153) 36 dX3_takeOut_33 (by decide) rfl ?_
    refine G_bipush (v := 19) 38 dX3_takeOut_36 (by decide) rfl ?_
    refine G_iload_n 39 dX3_takeOut_38 rfl rfl ?_
    refine G_imul 40 dX3_takeOut_39 rfl ?_
    refine G_iadd 41 dX3_takeOut_40 rfl ?_
    refine G_istore_n 42 [va_rf l0, va_rf l1, .int l2, .int (153 + (19 * l2))] dX3_takeOut_41 (Nat.le_of_ble_eq_true rfl) rfl rfl ?_
    exact h
  · have h := h.2 u1
    refine G_aload_n 9 dX3_takeOut_8 rfl rfl ?_
    obtain ⟨a9, e10, h⟩ := h
    obtain ⟨c11, h⟩ := h
    refine G_getR (f := 30) (a := a9) "" 12 dX3_takeOut_9 (Or.inl q2143) (Or.inl rfl) rfl e10 (hf30 c11) rfl ?_
    refine G_iload_n 13 dX3_takeOut_12 rfl rfl ?_
    refine G_aload_n 14 dX3_takeOut_13 rfl rfl ?_
    refine G_iload_n 15 dX3_takeOut_14 rfl rfl ?_
    refine G_iload_n 16 dX3_takeOut_15 rfl rfl ?_
    refine G_invS (N := mX3_of) (As := [va_rf l1, .int l2, .int l3]) (st := [.int l3, va_rf (FR σ 30 a9)]) (rc) (rs) "" 19 dX3_takeOut_16 (Or.inl q2246) q2247 q44 q2248 rfl mX3_of_args ⟨Nat.le_of_ble_eq_true rfl, Nat.le_of_ble_eq_true rfl⟩ rfl (Nat.le_trans (w_I (w_R w_0)) (Nat.le_of_ble_eq_true rfl)) (le_b mX3_of_c (Nat.le_refl _)) (le_b mX3_of_s (Nat.le_refl _)) rfl (Cal.mono h ?_)
    rintro s12 v ⟨x13, rfl, h⟩ hx14
    have h := h hx14
    have x15 := hx14.x
    show G w mX3_takeOut (KV K) (rc) (rs) s12 19 [va_rf l0, va_rf l1, .int l2, .int l3] [.int x13, .int l3, va_rf (FR σ 30 a9)]
    obtain ⟨a16, e17, h⟩ := h
    obtain ⟨c18, h⟩ := h
    obtain ⟨c19, h⟩ := h
    refine G_iast (a := a16) 20 dX3_takeOut_19 rfl e17 c18 c19 ?_
    generalize hs20 : sAI s12 a16 l3.toNatClampNeg x13 = s20
    have x21 : ∀ a, ¬ kd s12 a = 0 → kd s20 a = kd s12 a := by subst hs20; exact fun a _ => congrFun kd_sAI a
    have h := h s20 hs20.symm
    refine G_iinc 23 [va_rf l0, va_rf l1, .int l2, .int (l3 + 1)] dX3_takeOut_20 rfl rfl (Nat.le_of_ble_eq_true rfl) rfl rfl ?_
    refine G_goto 2 dX3_takeOut_23 (by decide) ?_
    exact h
set_option maxHeartbeats 4000000 in
theorem bX3_takeOut_42 {w : Wt} {K : Sg → Prop} {rc rs : Nat} {σ : Sg} (l0 : Option Nat) (l1 : Option Nat) (l2 : Int32) (l3 : Int32) (h : ∃ a1, l1 = some a1 ∧ kd σ a1 ∈ [1, 5] ∧ vp_in 2 (ln σ a1) ∧ ((153 + (19 * (AI σ a1 (2 : Int32).toNatClampNeg)) ≤ l3 → vp_in 3 (ln σ a1) ∧ ((AI σ a1 (3 : Int32).toNatClampNeg ≤ l2 → kd σ a1 = 1 ∧ ∀ s9, s9 = sAI σ a1 (3 : Int32).toNatClampNeg ((AI σ a1 (3 : Int32).toNatClampNeg) - 0) → K s9) ∧ (¬ AI σ a1 (3 : Int32).toNatClampNeg ≤ l2 → kd σ a1 = 1 ∧ ∀ s12, s12 = sAI σ a1 (3 : Int32).toNatClampNeg ((AI σ a1 (3 : Int32).toNatClampNeg) - 1) → K s12))) ∧ (¬ 153 + (19 * (AI σ a1 (2 : Int32).toNatClampNeg)) ≤ l3 → vp_in (l3 + 19) (ln σ a1) ∧ kd σ a1 = 1 ∧ vp_in l3 (ln σ a1) ∧ ∀ s17, s17 = sAI σ a1 l3.toNatClampNeg (AI σ a1 (l3 + 19).toNatClampNeg) → G w mX3_takeOut (KV K) (rc) (rs) s17 42 [va_rf l0, va_rf l1, .int l2, .int (l3 + 1)] []))) : G w mX3_takeOut (KV K) (rc) (rs) σ 42 [va_rf l0, va_rf l1, .int l2, .int l3] [] := by
  refine G_iload_n 43 dX3_takeOut_42 rfl rfl ?_
  refine G_sipush (v := 153) 46 dX3_takeOut_43 (by decide) rfl ?_
  refine G_bipush (v := 19) 48 dX3_takeOut_46 (by decide) rfl ?_
  refine G_aload_n 49 dX3_takeOut_48 rfl rfl ?_
  refine G_iconst (v := 2) 50 dX3_takeOut_49 (by decide) rfl ?_
  obtain ⟨a1, e2, h⟩ := h
  obtain ⟨c3, h⟩ := h
  obtain ⟨c4, h⟩ := h
  refine G_iald (a := a1) 51 dX3_takeOut_50 rfl e2 c3 c4 ?_
  refine G_imul 52 dX3_takeOut_51 rfl ?_
  refine G_iadd 53 dX3_takeOut_52 rfl ?_
  refine G_icmp_ge 71 56 dX3_takeOut_53 (by decide) rfl (fun u5 => ?_) (fun u5 => ?_)
  · have h := h.1 u5
    refine G_aload_n 72 dX3_takeOut_71 rfl rfl ?_
    refine G_iconst (v := 3) 73 dX3_takeOut_72 (by decide) rfl ?_
    refine G_dup2 74 dX3_takeOut_73 (rfl) (rf_cat _) rfl ?_
    obtain ⟨c6, h⟩ := h
    refine G_iald (a := a1) 75 dX3_takeOut_74 rfl e2 c3 c6 ?_
    refine G_aload_n 76 dX3_takeOut_75 rfl rfl ?_
    refine G_iconst (v := 3) 77 dX3_takeOut_76 (by decide) rfl ?_
    refine G_iald (a := a1) 78 dX3_takeOut_77 rfl e2 c3 c6 ?_
    refine G_iload_n 79 dX3_takeOut_78 rfl rfl ?_
    refine G_icmp_le 86 82 dX3_takeOut_79 (by decide) rfl (fun u7 => ?_) (fun u7 => ?_)
    · have h := h.1 u7
      refine G_iconst (v := 0) 87 dX3_takeOut_86 (by decide) rfl ?_
      refine G_isub 88 dX3_takeOut_87 rfl ?_
      obtain ⟨c8, h⟩ := h
      refine G_iast (a := a1) 89 dX3_takeOut_88 rfl e2 c8 c6 ?_
      generalize hs9 : sAI σ a1 (3 : Int32).toNatClampNeg ((AI σ a1 (3 : Int32).toNatClampNeg) - 0) = s9
      have x10 : ∀ a, ¬ kd σ a = 0 → kd s9 a = kd σ a := by subst hs9; exact fun a _ => congrFun kd_sAI a
      have h := h s9 hs9.symm
      exact G_ret dX3_takeOut_89 rfl ⟨rfl, h⟩
    · have h := h.2 u7
      refine G_iconst (v := 1) 83 dX3_takeOut_82 (by decide) rfl ?_
      refine G_goto 87 dX3_takeOut_83 (by decide) ?_
      refine G_isub 88 dX3_takeOut_87 rfl ?_
      obtain ⟨c11, h⟩ := h
      refine G_iast (a := a1) 89 dX3_takeOut_88 rfl e2 c11 c6 ?_
      generalize hs12 : sAI σ a1 (3 : Int32).toNatClampNeg ((AI σ a1 (3 : Int32).toNatClampNeg) - 1) = s12
      have x13 : ∀ a, ¬ kd σ a = 0 → kd s12 a = kd σ a := by subst hs12; exact fun a _ => congrFun kd_sAI a
      have h := h s12 hs12.symm
      exact G_ret dX3_takeOut_89 rfl ⟨rfl, h⟩
  · have h := h.2 u5
    refine G_aload_n 57 dX3_takeOut_56 rfl rfl ?_
    refine G_iload_n 58 dX3_takeOut_57 rfl rfl ?_
    refine G_aload_n 59 dX3_takeOut_58 rfl rfl ?_
    refine G_iload_n 60 dX3_takeOut_59 rfl rfl ?_
    refine G_bipush (v := 19) 62 dX3_takeOut_60 (by decide) rfl ?_
    refine G_iadd 63 dX3_takeOut_62 rfl ?_
    obtain ⟨c14, h⟩ := h
    refine G_iald (a := a1) 64 dX3_takeOut_63 rfl e2 c3 c14 ?_
    obtain ⟨c15, h⟩ := h
    obtain ⟨c16, h⟩ := h
    refine G_iast (a := a1) 65 dX3_takeOut_64 rfl e2 c15 c16 ?_
    generalize hs17 : sAI σ a1 l3.toNatClampNeg (AI σ a1 (l3 + 19).toNatClampNeg) = s17
    have x18 : ∀ a, ¬ kd σ a = 0 → kd s17 a = kd σ a := by subst hs17; exact fun a _ => congrFun kd_sAI a
    have h := h s17 hs17.symm
    refine G_iinc 68 [va_rf l0, va_rf l1, .int l2, .int (l3 + 1)] dX3_takeOut_65 rfl rfl (Nat.le_of_ble_eq_true rfl) rfl rfl ?_
    refine G_goto 42 dX3_takeOut_68 (by decide) ?_
    exact h
theorem eX3_takeOut {w : Wt} {K : Sg → Prop} {σ : Sg} (l0 : Option Nat) (l1 : Option Nat) (l2 : Int32) (h : G w mX3_takeOut (KV K) 0 0 σ 0 [va_rf l0, va_rf l1, .int l2, U_] []) : CalV w mX3_takeOut σ [va_rf l0, va_rf l1, .int l2] K :=
  Cal.start 1 mX3_takeOut_plain (catR (catR (catI cat0))) (Nat.le_of_ble_eq_true rfl) rfl h
set_option maxHeartbeats 4000000 in
theorem bX3_cancel_0 {w : Wt} {K : Sg → Int32 → Prop} {rc rs : Nat} {σ : Sg} (l0 : Option Nat) (l1 : Int32) (h : ∃ a1, l0 = some a1 ∧ kd σ a1 = 13 ∧ ∀ s4, s4 = sFI σ 18 a1 0 → CalI w mX3_isOrder s4 [va_rf l0, .int l1] (fun s6 x7 => Ext s4 s6 → ((¬ x7 = 0 → CalV w mX3_act s6 [va_rf l0] (fun s11 => Ext s6 s11 → ∃ a14, FR s11 19 a1 = some a14 ∧ kd s11 a14 ∈ [1, 5] ∧ vp_in 3 (ln s11 a14) ∧ ((¬ AI s11 a14 (3 : Int32).toNatClampNeg = l1 → CalV w mX3_takeOut s11 [va_rf l0, va_rf (FR s11 19 a1), .int l1] (fun s19 => Ext s11 s19 → ∃ a22, FR s19 19 a1 = some a22 ∧ kd s19 a22 ∈ [1, 5] ∧ vp_in 2 (ln s19 a22) ∧ K s19 (AI s19 a22 (2 : Int32).toNatClampNeg))) ∧ (AI s11 a14 (3 : Int32).toNatClampNeg = l1 → vp_in 5 (ln s11 a14) ∧ CalV w mX3_setPlate s11 [va_rf (FR s11 19 a1), .int (AI s11 a14 (5 : Int32).toNatClampNeg), .int 2, .int 0] (fun s27 => Ext s11 s27 → CalV w mX3_rest s27 [va_rf (FR s27 19 a1)] (fun s30 => Ext s27 s30 → CalV w mX3_takeOut s30 [va_rf l0, va_rf (FR s30 19 a1), .int l1] (fun s33 => Ext s30 s33 → ∃ a36, FR s33 19 a1 = some a36 ∧ kd s33 a36 ∈ [1, 5] ∧ vp_in 2 (ln s33 a36) ∧ K s33 (AI s33 a36 (2 : Int32).toNatClampNeg)))))))) ∧ (x7 = 0 → K s6 (-1))))) : G w mX3_cancel (KI K) (rc) (rs) σ 0 [va_rf l0, .int l1] [] := by
  refine G_aload_n 1 dX3_cancel_0 rfl rfl ?_
  refine G_iconst (v := 0) 2 dX3_cancel_1 (by decide) rfl ?_
  obtain ⟨a1, e2, h⟩ := h
  obtain ⟨c3, h⟩ := h
  refine G_putI (f := 18) (a := a1) "" 5 dX3_cancel_2 (Or.inl q2131) (Or.inl rfl) rfl e2 (hp18 c3) (nk18 c3) (Or.inl rfl) rfl rfl rfl ?_
  generalize hs4 : sFI σ 18 a1 0 = s4
  have x5 : ∀ a, ¬ kd σ a = 0 → kd s4 a = kd σ a := by subst hs4; exact fun a _ => congrFun kd_sFI a
  have h := h s4 hs4.symm
  refine G_aload_n 6 dX3_cancel_5 rfl rfl ?_
  refine G_iload_n 7 dX3_cancel_6 rfl rfl ?_
  have c3 := kdE x5 c3 (by decide)
  refine G_invV (N := mX3_isOrder) (As := [.int l1]) (st := []) (t := l0) (b := a1) (rc) (rs) 10 dX3_cancel_7 q2260 q2262 qs21 q44 q2263 rfl rfl mX3_isOrder_args ⟨Nat.le_of_ble_eq_true rfl, Nat.le_of_ble_eq_true rfl⟩ rfl (Nat.zero_le _) e2 (rk13 c3) (le_b mX3_isOrder_c (Nat.le_refl _)) (le_b mX3_isOrder_s (Nat.le_refl _)) rfl (Cal.mono h ?_)
  rintro s6 v ⟨x7, rfl, h⟩ hx8
  have h := h hx8
  have x9 := hx8.x
  show G w mX3_cancel (KI K) (rc) (rs) s6 10 [va_rf l0, .int l1] [.int x7]
  refine G_if_ne 15 13 dX3_cancel_10 (by decide) rfl (fun u10 => ?_) (fun u10 => ?_)
  · have h := h.1 u10
    refine G_aload_n 16 dX3_cancel_15 rfl rfl ?_
    have c3 := kdE x9 c3 (by decide)
    refine G_invV (N := mX3_act) (As := []) (st := []) (t := l0) (b := a1) (rc) (rs) 19 dX3_cancel_16 q2178 q2180 qs16 q44 q2181 rfl rfl mX3_act_args ⟨Nat.le_of_ble_eq_true rfl, Nat.le_of_ble_eq_true rfl⟩ rfl (Nat.zero_le _) e2 (rk13 c3) (le_b mX3_act_c (Nat.le_refl _)) (le_b mX3_act_s (Nat.le_refl _)) rfl (Cal.mono h ?_)
    rintro s11 v ⟨rfl, h⟩ hx12
    have h := h hx12
    have x13 := hx12.x
    show G w mX3_cancel (KI K) (rc) (rs) s11 19 [va_rf l0, .int l1] []
    refine G_aload_n 20 dX3_cancel_19 rfl rfl ?_
    have c3 := kdE x13 c3 (by decide)
    refine G_getR (f := 19) (a := a1) "" 23 dX3_cancel_20 (Or.inl q2132) (Or.inl rfl) rfl e2 (hf19 c3) rfl ?_
    refine G_iconst (v := 3) 24 dX3_cancel_23 (by decide) rfl ?_
    obtain ⟨a14, e15, h⟩ := h
    obtain ⟨c16, h⟩ := h
    obtain ⟨c17, h⟩ := h
    refine G_iald (a := a14) 25 dX3_cancel_24 rfl e15 c16 c17 ?_
    refine G_iload_n 26 dX3_cancel_25 rfl rfl ?_
    refine G_icmp_ne 51 29 dX3_cancel_26 (by decide) rfl (fun u18 => ?_) (fun u18 => ?_)
    · have h := h.1 u18
      refine G_aload_n 52 dX3_cancel_51 rfl rfl ?_
      refine G_aload_n 53 dX3_cancel_52 rfl rfl ?_
      refine G_getR (f := 19) (a := a1) "" 56 dX3_cancel_53 (Or.inl q2132) (Or.inl rfl) rfl e2 (hf19 c3) rfl ?_
      refine G_iload_n 57 dX3_cancel_56 rfl rfl ?_
      refine G_invV (N := mX3_takeOut) (As := [va_rf (FR s11 19 a1), .int l1]) (st := []) (t := l0) (b := a1) (rc) (rs) 60 dX3_cancel_57 q2268 q2270 qs23 q44 q2271 rfl rfl mX3_takeOut_args ⟨Nat.le_of_ble_eq_true rfl, Nat.le_of_ble_eq_true rfl⟩ rfl (Nat.zero_le _) e2 (rk13 c3) (le_b mX3_takeOut_c (Nat.le_refl _)) (le_b mX3_takeOut_s (Nat.le_refl _)) rfl (Cal.mono h ?_)
      rintro s19 v ⟨rfl, h⟩ hx20
      have h := h hx20
      have x21 := hx20.x
      show G w mX3_cancel (KI K) (rc) (rs) s19 60 [va_rf l0, .int l1] []
      refine G_aload_n 61 dX3_cancel_60 rfl rfl ?_
      have c3 := kdE x21 c3 (by decide)
      refine G_getR (f := 19) (a := a1) "" 64 dX3_cancel_61 (Or.inl q2132) (Or.inl rfl) rfl e2 (hf19 c3) rfl ?_
      refine G_iconst (v := 2) 65 dX3_cancel_64 (by decide) rfl ?_
      obtain ⟨a22, e23, h⟩ := h
      obtain ⟨c24, h⟩ := h
      obtain ⟨c25, h⟩ := h
      refine G_iald (a := a22) 66 dX3_cancel_65 rfl e23 c24 c25 ?_
      exact G_iret dX3_cancel_66 rfl ⟨_, rfl, h⟩
    · have h := h.2 u18
      refine G_aload_n 30 dX3_cancel_29 rfl rfl ?_
      refine G_getR (f := 19) (a := a1) "" 33 dX3_cancel_30 (Or.inl q2132) (Or.inl rfl) rfl e2 (hf19 c3) rfl ?_
      refine G_aload_n 34 dX3_cancel_33 rfl rfl ?_
      refine G_getR (f := 19) (a := a1) "" 37 dX3_cancel_34 (Or.inl q2132) (Or.inl rfl) rfl e2 (hf19 c3) rfl ?_
      refine G_iconst (v := 5) 38 dX3_cancel_37 (by decide) rfl ?_
      obtain ⟨c26, h⟩ := h
      refine G_iald (a := a14) 39 dX3_cancel_38 rfl e15 c16 c26 ?_
      refine G_iconst (v := 2) 40 dX3_cancel_39 (by decide) rfl ?_
      refine G_iconst (v := 0) 41 dX3_cancel_40 (by decide) rfl ?_
      refine G_invS (N := mX3_setPlate) (As := [va_rf (FR s11 19 a1), .int (AI s11 a14 (5 : Int32).toNatClampNeg), .int 2, .int 0]) (st := []) (rc) (rs) "" 44 dX3_cancel_41 (Or.inl q2182) q2183 q44 q2184 rfl mX3_setPlate_args ⟨Nat.le_of_ble_eq_true rfl, Nat.le_of_ble_eq_true rfl⟩ rfl (Nat.zero_le _) (le_b mX3_setPlate_c (Nat.le_refl _)) (le_b mX3_setPlate_s (Nat.le_refl _)) rfl (Cal.mono h ?_)
      rintro s27 v ⟨rfl, h⟩ hx28
      have h := h hx28
      have x29 := hx28.x
      show G w mX3_cancel (KI K) (rc) (rs) s27 44 [va_rf l0, .int l1] []
      refine G_aload_n 45 dX3_cancel_44 rfl rfl ?_
      have c3 := kdE x29 c3 (by decide)
      refine G_getR (f := 19) (a := a1) "" 48 dX3_cancel_45 (Or.inl q2132) (Or.inl rfl) rfl e2 (hf19 c3) rfl ?_
      refine G_invS (N := mX3_rest) (As := [va_rf (FR s27 19 a1)]) (st := []) (rc) (rs) "" 51 dX3_cancel_48 (Or.inl q2276) q2277 q44 q2278 rfl mX3_rest_args ⟨Nat.le_of_ble_eq_true rfl, Nat.le_of_ble_eq_true rfl⟩ rfl (Nat.zero_le _) (le_b mX3_rest_c (Nat.le_refl _)) (le_b mX3_rest_s (Nat.le_refl _)) rfl (Cal.mono h ?_)
      rintro s30 v ⟨rfl, h⟩ hx31
      have h := h hx31
      have x32 := hx31.x
      show G w mX3_cancel (KI K) (rc) (rs) s30 51 [va_rf l0, .int l1] []
      refine G_aload_n 52 dX3_cancel_51 rfl rfl ?_
      refine G_aload_n 53 dX3_cancel_52 rfl rfl ?_
      have c3 := kdE x32 c3 (by decide)
      refine G_getR (f := 19) (a := a1) "" 56 dX3_cancel_53 (Or.inl q2132) (Or.inl rfl) rfl e2 (hf19 c3) rfl ?_
      refine G_iload_n 57 dX3_cancel_56 rfl rfl ?_
      refine G_invV (N := mX3_takeOut) (As := [va_rf (FR s30 19 a1), .int l1]) (st := []) (t := l0) (b := a1) (rc) (rs) 60 dX3_cancel_57 q2268 q2270 qs23 q44 q2271 rfl rfl mX3_takeOut_args ⟨Nat.le_of_ble_eq_true rfl, Nat.le_of_ble_eq_true rfl⟩ rfl (Nat.zero_le _) e2 (rk13 c3) (le_b mX3_takeOut_c (Nat.le_refl _)) (le_b mX3_takeOut_s (Nat.le_refl _)) rfl (Cal.mono h ?_)
      rintro s33 v ⟨rfl, h⟩ hx34
      have h := h hx34
      have x35 := hx34.x
      show G w mX3_cancel (KI K) (rc) (rs) s33 60 [va_rf l0, .int l1] []
      refine G_aload_n 61 dX3_cancel_60 rfl rfl ?_
      have c3 := kdE x35 c3 (by decide)
      refine G_getR (f := 19) (a := a1) "" 64 dX3_cancel_61 (Or.inl q2132) (Or.inl rfl) rfl e2 (hf19 c3) rfl ?_
      refine G_iconst (v := 2) 65 dX3_cancel_64 (by decide) rfl ?_
      obtain ⟨a36, e37, h⟩ := h
      obtain ⟨c38, h⟩ := h
      obtain ⟨c39, h⟩ := h
      refine G_iald (a := a36) 66 dX3_cancel_65 rfl e37 c38 c39 ?_
      exact G_iret dX3_cancel_66 rfl ⟨_, rfl, h⟩
  · have h := h.2 u10
    refine G_iconst (v := (-1)) 14 dX3_cancel_13 (by decide) rfl ?_
    exact G_iret dX3_cancel_14 rfl ⟨_, rfl, h⟩
theorem eX3_cancel {w : Wt} {K : Sg → Int32 → Prop} {σ : Sg} (l0 : Option Nat) (l1 : Int32) (h : G w mX3_cancel (KI K) 0 0 σ 0 [va_rf l0, .int l1] []) : CalI w mX3_cancel σ [va_rf l0, .int l1] K :=
  Cal.start 0 mX3_cancel_plain (catR (catI cat0)) (Nat.le_of_ble_eq_true rfl) rfl h
set_option maxHeartbeats 4000000 in
theorem bX3_rest_0 {w : Wt} {K : Sg → Prop} {rc rs : Nat} {σ : Sg} (l0 : Option Nat) (h : ∃ a1, l0 = some a1 ∧ kd σ a1 = 1 ∧ vp_in 3 (ln σ a1) ∧ ∀ s5, s5 = sAI σ a1 (3 : Int32).toNatClampNeg (-9) → vp_in 4 (ln s5 a1) ∧ ∀ s8, s8 = sAI s5 a1 (4 : Int32).toNatClampNeg 0 → vp_in 5 (ln s8 a1) ∧ ∀ s11, s11 = sAI s8 a1 (5 : Int32).toNatClampNeg (-9) → vp_in 6 (ln s11 a1) ∧ ∀ s14, s14 = sAI s11 a1 (6 : Int32).toNatClampNeg 0 → K s14) : G w mX3_rest (KV K) (rc) (rs) σ 0 [va_rf l0] [] := by
  refine G_aload_n 1 dX3_rest_0 rfl rfl ?_
  refine G_iconst (v := 3) 2 dX3_rest_1 (by decide) rfl ?_
  refine G_bipush (v := (-9)) 4 dX3_rest_2 (by decide) rfl ?_
  obtain ⟨a1, e2, h⟩ := h
  obtain ⟨c3, h⟩ := h
  obtain ⟨c4, h⟩ := h
  refine G_iast (a := a1) 5 dX3_rest_4 rfl e2 c3 c4 ?_
  generalize hs5 : sAI σ a1 (3 : Int32).toNatClampNeg (-9) = s5
  have x6 : ∀ a, ¬ kd σ a = 0 → kd s5 a = kd σ a := by subst hs5; exact fun a _ => congrFun kd_sAI a
  have h := h s5 hs5.symm
  refine G_aload_n 6 dX3_rest_5 rfl rfl ?_
  refine G_iconst (v := 4) 7 dX3_rest_6 (by decide) rfl ?_
  refine G_iconst (v := 0) 8 dX3_rest_7 (by decide) rfl ?_
  have c3 := kdE x6 c3 (by decide)
  obtain ⟨c7, h⟩ := h
  refine G_iast (a := a1) 9 dX3_rest_8 rfl e2 c3 c7 ?_
  generalize hs8 : sAI s5 a1 (4 : Int32).toNatClampNeg 0 = s8
  have x9 : ∀ a, ¬ kd s5 a = 0 → kd s8 a = kd s5 a := by subst hs8; exact fun a _ => congrFun kd_sAI a
  have h := h s8 hs8.symm
  refine G_aload_n 10 dX3_rest_9 rfl rfl ?_
  refine G_iconst (v := 5) 11 dX3_rest_10 (by decide) rfl ?_
  refine G_bipush (v := (-9)) 13 dX3_rest_11 (by decide) rfl ?_
  have c3 := kdE x9 c3 (by decide)
  obtain ⟨c10, h⟩ := h
  refine G_iast (a := a1) 14 dX3_rest_13 rfl e2 c3 c10 ?_
  generalize hs11 : sAI s8 a1 (5 : Int32).toNatClampNeg (-9) = s11
  have x12 : ∀ a, ¬ kd s8 a = 0 → kd s11 a = kd s8 a := by subst hs11; exact fun a _ => congrFun kd_sAI a
  have h := h s11 hs11.symm
  refine G_aload_n 15 dX3_rest_14 rfl rfl ?_
  refine G_bipush (v := 6) 17 dX3_rest_15 (by decide) rfl ?_
  refine G_iconst (v := 0) 18 dX3_rest_17 (by decide) rfl ?_
  have c3 := kdE x12 c3 (by decide)
  obtain ⟨c13, h⟩ := h
  refine G_iast (a := a1) 19 dX3_rest_18 rfl e2 c3 c13 ?_
  generalize hs14 : sAI s11 a1 (6 : Int32).toNatClampNeg 0 = s14
  have x15 : ∀ a, ¬ kd s11 a = 0 → kd s14 a = kd s11 a := by subst hs14; exact fun a _ => congrFun kd_sAI a
  have h := h s14 hs14.symm
  exact G_ret dX3_rest_19 rfl ⟨rfl, h⟩
theorem eX3_rest {w : Wt} {K : Sg → Prop} {σ : Sg} (l0 : Option Nat) (h : G w mX3_rest (KV K) 0 0 σ 0 [va_rf l0] []) : CalV w mX3_rest σ [va_rf l0] K :=
  Cal.start 0 mX3_rest_plain (catR cat0) (Nat.le_of_ble_eq_true rfl) rfl h
set_option maxHeartbeats 4000000 in
theorem bX3_work_0 {w : Wt} {K : Sg → Int32 → Prop} {rc rs : Nat} {σ : Sg} (l0 : Option Nat) (l1 : Int32) (h : ∃ a1, l0 = some a1 ∧ kd σ a1 = 13 ∧ ∀ s4, s4 = sFI σ 18 a1 0 → CalI w mX3_in s4 [.int l1, .int 1, .int 600] (fun s6 x7 => Ext s4 s6 → ((¬ x7 = 0 → CalV w mX3_act s6 [va_rf l0] (fun s11 => Ext s6 s11 → G w mX3_work (KI K) (rc) (rs) s11 26 [va_rf l0, .int l1, .int l1, .int 0, U_] [])) ∧ (x7 = 0 → K s6 (-1))))) : G w mX3_work (KI K) (rc) (rs) σ 0 [va_rf l0, .int l1, U_, U_, U_] [] := by
  refine G_aload_n 1 dX3_work_0 rfl rfl ?_
  refine G_iconst (v := 0) 2 dX3_work_1 (by decide) rfl ?_
  obtain ⟨a1, e2, h⟩ := h
  obtain ⟨c3, h⟩ := h
  refine G_putI (f := 18) (a := a1) "" 5 dX3_work_2 (Or.inl q2131) (Or.inl rfl) rfl e2 (hp18 c3) (nk18 c3) (Or.inl rfl) rfl rfl rfl ?_
  generalize hs4 : sFI σ 18 a1 0 = s4
  have x5 : ∀ a, ¬ kd σ a = 0 → kd s4 a = kd σ a := by subst hs4; exact fun a _ => congrFun kd_sFI a
  have h := h s4 hs4.symm
  refine G_iload_n 6 dX3_work_5 rfl rfl ?_
  refine G_iconst (v := 1) 7 dX3_work_6 (by decide) rfl ?_
  refine G_sipush (v := 600) 10 dX3_work_7 (by decide) rfl ?_
  refine G_invS (N := mX3_in) (As := [.int l1, .int 1, .int 600]) (st := []) (rc) (rs) "" 13 dX3_work_10 (Or.inl q2175) q2176 q44 q2177 rfl mX3_in_args ⟨Nat.le_of_ble_eq_true rfl, Nat.le_of_ble_eq_true rfl⟩ rfl (Nat.zero_le _) (le_b mX3_in_c (Nat.le_refl _)) (le_b mX3_in_s (Nat.le_refl _)) rfl (Cal.mono h ?_)
  rintro s6 v ⟨x7, rfl, h⟩ hx8
  have h := h hx8
  have x9 := hx8.x
  show G w mX3_work (KI K) (rc) (rs) s6 13 [va_rf l0, .int l1, U_, U_, U_] [.int x7]
  refine G_if_ne 18 16 dX3_work_13 (by decide) rfl (fun u10 => ?_) (fun u10 => ?_)
  · have h := h.1 u10
    refine G_aload_n 19 dX3_work_18 rfl rfl ?_
    have c3 := kdE x5 c3 (by decide)
    have c3 := kdE x9 c3 (by decide)
    refine G_invV (N := mX3_act) (As := []) (st := []) (t := l0) (b := a1) (rc) (rs) 22 dX3_work_19 q2178 q2180 qs16 q44 q2181 rfl rfl mX3_act_args ⟨Nat.le_of_ble_eq_true rfl, Nat.le_of_ble_eq_true rfl⟩ rfl (Nat.zero_le _) e2 (rk13 c3) (le_b mX3_act_c (Nat.le_refl _)) (le_b mX3_act_s (Nat.le_refl _)) rfl (Cal.mono h ?_)
    rintro s11 v ⟨rfl, h⟩ hx12
    have h := h hx12
    have x13 := hx12.x
    show G w mX3_work (KI K) (rc) (rs) s11 22 [va_rf l0, .int l1, U_, U_, U_] []
    refine G_iload_n 23 dX3_work_22 rfl rfl ?_
    refine G_istore_n 24 [va_rf l0, .int l1, .int l1, U_, U_] dX3_work_23 (Nat.le_of_ble_eq_true rfl) rfl rfl ?_
    refine G_iconst (v := 0) 25 dX3_work_24 (by decide) rfl ?_
    refine G_istore_n 26 [va_rf l0, .int l1, .int l1, .int 0, U_] dX3_work_25 (Nat.le_of_ble_eq_true rfl) rfl rfl ?_
    exact h
  · have h := h.2 u10
    refine G_iconst (v := (-1)) 17 dX3_work_16 (by decide) rfl ?_
    exact G_iret dX3_work_17 rfl ⟨_, rfl, h⟩
set_option maxHeartbeats 4000000 in
theorem bX3_work_26 {w : Wt} {K : Sg → Int32 → Prop} {rc rs : Nat} {σ : Sg} (l0 : Option Nat) (l1 : Int32) (l2 : Int32) (l3 : Int32) (v4 : Value) (h : ((l2 ≤ 0 → K σ l3) ∧ (¬ l2 ≤ 0 → ∃ a2, l0 = some a2 ∧ kd σ a2 = 13 ∧ CalI w mX3_goesOn σ [va_rf l0, va_rf (FR σ 19 a2)] (fun s5 x6 => Ext σ s5 → ((x6 = 0 → K s5 l3) ∧ (¬ x6 = 0 → ∃ a10, FR s5 19 a2 = some a10 ∧ kd s5 a10 ∈ [1, 5] ∧ vp_in 4 (ln s5 a10) ∧ ((AI s5 a10 (4 : Int32).toNatClampNeg ≤ l2 → kd s5 a10 = 1 ∧ ∀ s16, s16 = sAI s5 a10 (4 : Int32).toNatClampNeg ((AI s5 a10 (4 : Int32).toNatClampNeg) - (AI s5 a10 (4 : Int32).toNatClampNeg)) → ∃ a18, FR s16 19 a2 = some a18 ∧ kd s16 a18 ∈ [1, 5] ∧ vp_in 4 (ln s16 a18) ∧ ((¬ AI s16 a18 (4 : Int32).toNatClampNeg = 0 → G w mX3_work (KI K) (rc) (rs) s16 26 [va_rf l0, .int l1, .int (l2 - (AI s5 a10 (4 : Int32).toNatClampNeg)), .int l3, .int (AI s5 a10 (4 : Int32).toNatClampNeg)] []) ∧ (AI s16 a18 (4 : Int32).toNatClampNeg = 0 → CalV w mX3_finish s16 [va_rf l0, va_rf (FR s16 19 a2)] (fun s23 => Ext s16 s23 → G w mX3_work (KI K) (rc) (rs) s23 26 [va_rf l0, .int l1, .int (l2 - (AI s5 a10 (4 : Int32).toNatClampNeg)), .int (l3 + 1), .int (AI s5 a10 (4 : Int32).toNatClampNeg)] [])))) ∧ (¬ AI s5 a10 (4 : Int32).toNatClampNeg ≤ l2 → kd s5 a10 = 1 ∧ ∀ s27, s27 = sAI s5 a10 (4 : Int32).toNatClampNeg ((AI s5 a10 (4 : Int32).toNatClampNeg) - l2) → ∃ a29, FR s27 19 a2 = some a29 ∧ kd s27 a29 ∈ [1, 5] ∧ vp_in 4 (ln s27 a29) ∧ ((¬ AI s27 a29 (4 : Int32).toNatClampNeg = 0 → G w mX3_work (KI K) (rc) (rs) s27 26 [va_rf l0, .int l1, .int (l2 - l2), .int l3, .int l2] []) ∧ (AI s27 a29 (4 : Int32).toNatClampNeg = 0 → CalV w mX3_finish s27 [va_rf l0, va_rf (FR s27 19 a2)] (fun s34 => Ext s27 s34 → G w mX3_work (KI K) (rc) (rs) s34 26 [va_rf l0, .int l1, .int (l2 - l2), .int (l3 + 1), .int l2] []))))))))))) : G w mX3_work (KI K) (rc) (rs) σ 26 [va_rf l0, .int l1, .int l2, .int l3, v4] [] := by
  refine G_iload_n 27 dX3_work_26 rfl rfl ?_
  refine G_if_le 102 30 dX3_work_27 (by decide) rfl (fun u1 => ?_) (fun u1 => ?_)
  · have h := h.1 u1
    refine G_iload_n 103 dX3_work_102 rfl rfl ?_
    exact G_iret dX3_work_103 rfl ⟨_, rfl, h⟩
  · have h := h.2 u1
    refine G_aload_n 31 dX3_work_30 rfl rfl ?_
    refine G_aload_n 32 dX3_work_31 rfl rfl ?_
    obtain ⟨a2, e3, h⟩ := h
    obtain ⟨c4, h⟩ := h
    refine G_getR (f := 19) (a := a2) "" 35 dX3_work_32 (Or.inl q2132) (Or.inl rfl) rfl e3 (hf19 c4) rfl ?_
    refine G_invV (N := mX3_goesOn) (As := [va_rf (FR σ 19 a2)]) (st := []) (t := l0) (b := a2) (rc) (rs) 38 dX3_work_35 q2283 q2285 qs24 q44 q2286 rfl rfl mX3_goesOn_args ⟨Nat.le_of_ble_eq_true rfl, Nat.le_of_ble_eq_true rfl⟩ rfl (Nat.zero_le _) e3 (rk13 c4) (le_b mX3_goesOn_c (Nat.le_refl _)) (le_b mX3_goesOn_s (Nat.le_refl _)) rfl (Cal.mono h ?_)
    rintro s5 v ⟨x6, rfl, h⟩ hx7
    have h := h hx7
    have x8 := hx7.x
    show G w mX3_work (KI K) (rc) (rs) s5 38 [va_rf l0, .int l1, .int l2, .int l3, v4] [.int x6]
    refine G_if_eq 102 41 dX3_work_38 (by decide) rfl (fun u9 => ?_) (fun u9 => ?_)
    · have h := h.1 u9
      refine G_iload_n 103 dX3_work_102 rfl rfl ?_
      exact G_iret dX3_work_103 rfl ⟨_, rfl, h⟩
    · have h := h.2 u9
      refine G_iload_n 42 dX3_work_41 rfl rfl ?_
      refine G_aload_n 43 dX3_work_42 rfl rfl ?_
      have c4 := kdE x8 c4 (by decide)
      refine G_getR (f := 19) (a := a2) "" 46 dX3_work_43 (Or.inl q2132) (Or.inl rfl) rfl e3 (hf19 c4) rfl ?_
      refine G_iconst (v := 4) 47 dX3_work_46 (by decide) rfl ?_
      obtain ⟨a10, e11, h⟩ := h
      obtain ⟨c12, h⟩ := h
      obtain ⟨c13, h⟩ := h
      refine G_iald (a := a10) 48 dX3_work_47 rfl e11 c12 c13 ?_
      refine G_icmp_ge 55 51 dX3_work_48 (by decide) rfl (fun u14 => ?_) (fun u14 => ?_)
      · have h := h.1 u14
        refine G_aload_n 56 dX3_work_55 rfl rfl ?_
        refine G_getR (f := 19) (a := a2) "" 59 dX3_work_56 (Or.inl q2132) (Or.inl rfl) rfl e3 (hf19 c4) rfl ?_
        refine G_iconst (v := 4) 60 dX3_work_59 (by decide) rfl ?_
        refine G_iald (a := a10) 61 dX3_work_60 rfl e11 c12 c13 ?_
        refine G_istore 63 [va_rf l0, .int l1, .int l2, .int l3, .int (AI s5 a10 (4 : Int32).toNatClampNeg)] dX3_work_61 (Nat.le_of_ble_eq_true rfl) rfl rfl ?_
        refine G_aload_n 64 dX3_work_63 rfl rfl ?_
        refine G_getR (f := 19) (a := a2) "" 67 dX3_work_64 (Or.inl q2132) (Or.inl rfl) rfl e3 (hf19 c4) rfl ?_
        refine G_iconst (v := 4) 68 dX3_work_67 (by decide) rfl ?_
        refine G_dup2 69 dX3_work_68 (rfl) (rf_cat _) rfl ?_
        refine G_iald (a := a10) 70 dX3_work_69 rfl e11 c12 c13 ?_
        refine G_iload 72 dX3_work_70 rfl rfl ?_
        refine G_isub 73 dX3_work_72 rfl ?_
        obtain ⟨c15, h⟩ := h
        refine G_iast (a := a10) 74 dX3_work_73 rfl e11 c15 c13 ?_
        generalize hs16 : sAI s5 a10 (4 : Int32).toNatClampNeg ((AI s5 a10 (4 : Int32).toNatClampNeg) - (AI s5 a10 (4 : Int32).toNatClampNeg)) = s16
        have x17 : ∀ a, ¬ kd s5 a = 0 → kd s16 a = kd s5 a := by subst hs16; exact fun a _ => congrFun kd_sAI a
        have h := h s16 hs16.symm
        refine G_iload_n 75 dX3_work_74 rfl rfl ?_
        refine G_iload 77 dX3_work_75 rfl rfl ?_
        refine G_isub 78 dX3_work_77 rfl ?_
        refine G_istore_n 79 [va_rf l0, .int l1, .int (l2 - (AI s5 a10 (4 : Int32).toNatClampNeg)), .int l3, .int (AI s5 a10 (4 : Int32).toNatClampNeg)] dX3_work_78 (Nat.le_of_ble_eq_true rfl) rfl rfl ?_
        refine G_aload_n 80 dX3_work_79 rfl rfl ?_
        have c4 := kdE x17 c4 (by decide)
        refine G_getR (f := 19) (a := a2) "" 83 dX3_work_80 (Or.inl q2132) (Or.inl rfl) rfl e3 (hf19 c4) rfl ?_
        refine G_iconst (v := 4) 84 dX3_work_83 (by decide) rfl ?_
        obtain ⟨a18, e19, h⟩ := h
        obtain ⟨c20, h⟩ := h
        obtain ⟨c21, h⟩ := h
        refine G_iald (a := a18) 85 dX3_work_84 rfl e19 c20 c21 ?_
        refine G_if_ne 99 88 dX3_work_85 (by decide) rfl (fun u22 => ?_) (fun u22 => ?_)
        · have h := h.1 u22
          refine G_goto 26 dX3_work_99 (by decide) ?_
          exact h
        · have h := h.2 u22
          refine G_aload_n 89 dX3_work_88 rfl rfl ?_
          refine G_aload_n 90 dX3_work_89 rfl rfl ?_
          refine G_getR (f := 19) (a := a2) "" 93 dX3_work_90 (Or.inl q2132) (Or.inl rfl) rfl e3 (hf19 c4) rfl ?_
          refine G_invV (N := mX3_finish) (As := [va_rf (FR s16 19 a2)]) (st := []) (t := l0) (b := a2) (rc) (rs) 96 dX3_work_93 q2312 q2314 qs26 q44 q2315 rfl rfl mX3_finish_args ⟨Nat.le_of_ble_eq_true rfl, Nat.le_of_ble_eq_true rfl⟩ rfl (Nat.zero_le _) e3 (rk13 c4) (le_b mX3_finish_c (Nat.le_refl _)) (le_b mX3_finish_s (Nat.le_refl _)) rfl (Cal.mono h ?_)
          rintro s23 v ⟨rfl, h⟩ hx24
          have h := h hx24
          have x25 := hx24.x
          show G w mX3_work (KI K) (rc) (rs) s23 96 [va_rf l0, .int l1, .int (l2 - (AI s5 a10 (4 : Int32).toNatClampNeg)), .int l3, .int (AI s5 a10 (4 : Int32).toNatClampNeg)] []
          refine G_iinc 99 [va_rf l0, .int l1, .int (l2 - (AI s5 a10 (4 : Int32).toNatClampNeg)), .int (l3 + 1), .int (AI s5 a10 (4 : Int32).toNatClampNeg)] dX3_work_96 rfl rfl (Nat.le_of_ble_eq_true rfl) rfl rfl ?_
          refine G_goto 26 dX3_work_99 (by decide) ?_
          exact h
      · have h := h.2 u14
        refine G_iload_n 52 dX3_work_51 rfl rfl ?_
        refine G_goto 61 dX3_work_52 (by decide) ?_
        refine G_istore 63 [va_rf l0, .int l1, .int l2, .int l3, .int l2] dX3_work_61 (Nat.le_of_ble_eq_true rfl) rfl rfl ?_
        refine G_aload_n 64 dX3_work_63 rfl rfl ?_
        refine G_getR (f := 19) (a := a2) "" 67 dX3_work_64 (Or.inl q2132) (Or.inl rfl) rfl e3 (hf19 c4) rfl ?_
        refine G_iconst (v := 4) 68 dX3_work_67 (by decide) rfl ?_
        refine G_dup2 69 dX3_work_68 (rfl) (rf_cat _) rfl ?_
        refine G_iald (a := a10) 70 dX3_work_69 rfl e11 c12 c13 ?_
        refine G_iload 72 dX3_work_70 rfl rfl ?_
        refine G_isub 73 dX3_work_72 rfl ?_
        obtain ⟨c26, h⟩ := h
        refine G_iast (a := a10) 74 dX3_work_73 rfl e11 c26 c13 ?_
        generalize hs27 : sAI s5 a10 (4 : Int32).toNatClampNeg ((AI s5 a10 (4 : Int32).toNatClampNeg) - l2) = s27
        have x28 : ∀ a, ¬ kd s5 a = 0 → kd s27 a = kd s5 a := by subst hs27; exact fun a _ => congrFun kd_sAI a
        have h := h s27 hs27.symm
        refine G_iload_n 75 dX3_work_74 rfl rfl ?_
        refine G_iload 77 dX3_work_75 rfl rfl ?_
        refine G_isub 78 dX3_work_77 rfl ?_
        refine G_istore_n 79 [va_rf l0, .int l1, .int (l2 - l2), .int l3, .int l2] dX3_work_78 (Nat.le_of_ble_eq_true rfl) rfl rfl ?_
        refine G_aload_n 80 dX3_work_79 rfl rfl ?_
        have c4 := kdE x28 c4 (by decide)
        refine G_getR (f := 19) (a := a2) "" 83 dX3_work_80 (Or.inl q2132) (Or.inl rfl) rfl e3 (hf19 c4) rfl ?_
        refine G_iconst (v := 4) 84 dX3_work_83 (by decide) rfl ?_
        obtain ⟨a29, e30, h⟩ := h
        obtain ⟨c31, h⟩ := h
        obtain ⟨c32, h⟩ := h
        refine G_iald (a := a29) 85 dX3_work_84 rfl e30 c31 c32 ?_
        refine G_if_ne 99 88 dX3_work_85 (by decide) rfl (fun u33 => ?_) (fun u33 => ?_)
        · have h := h.1 u33
          refine G_goto 26 dX3_work_99 (by decide) ?_
          exact h
        · have h := h.2 u33
          refine G_aload_n 89 dX3_work_88 rfl rfl ?_
          refine G_aload_n 90 dX3_work_89 rfl rfl ?_
          refine G_getR (f := 19) (a := a2) "" 93 dX3_work_90 (Or.inl q2132) (Or.inl rfl) rfl e3 (hf19 c4) rfl ?_
          refine G_invV (N := mX3_finish) (As := [va_rf (FR s27 19 a2)]) (st := []) (t := l0) (b := a2) (rc) (rs) 96 dX3_work_93 q2312 q2314 qs26 q44 q2315 rfl rfl mX3_finish_args ⟨Nat.le_of_ble_eq_true rfl, Nat.le_of_ble_eq_true rfl⟩ rfl (Nat.zero_le _) e3 (rk13 c4) (le_b mX3_finish_c (Nat.le_refl _)) (le_b mX3_finish_s (Nat.le_refl _)) rfl (Cal.mono h ?_)
          rintro s34 v ⟨rfl, h⟩ hx35
          have h := h hx35
          have x36 := hx35.x
          show G w mX3_work (KI K) (rc) (rs) s34 96 [va_rf l0, .int l1, .int (l2 - l2), .int l3, .int l2] []
          refine G_iinc 99 [va_rf l0, .int l1, .int (l2 - l2), .int (l3 + 1), .int l2] dX3_work_96 rfl rfl (Nat.le_of_ble_eq_true rfl) rfl rfl ?_
          refine G_goto 26 dX3_work_99 (by decide) ?_
          exact h
theorem eX3_work {w : Wt} {K : Sg → Int32 → Prop} {σ : Sg} (l0 : Option Nat) (l1 : Int32) (h : G w mX3_work (KI K) 0 0 σ 0 [va_rf l0, .int l1, U_, U_, U_] []) : CalI w mX3_work σ [va_rf l0, .int l1] K :=
  Cal.start 3 mX3_work_plain (catR (catI cat0)) (Nat.le_of_ble_eq_true rfl) rfl h
set_option maxHeartbeats 4000000 in
theorem bX3_goesOn_0 {w : Wt} {K : Sg → Int32 → Prop} {rc rs : Nat} {σ : Sg} (l0 : Option Nat) (l1 : Option Nat) (h : G w mX3_goesOn (KI K) (rc) (rs) σ 2 [va_rf l0, va_rf l1, .int 0] []) : G w mX3_goesOn (KI K) (rc) (rs) σ 0 [va_rf l0, va_rf l1, U_] [] := by
  refine G_iconst (v := 0) 1 dX3_goesOn_0 (by decide) rfl ?_
  refine G_istore_n 2 [va_rf l0, va_rf l1, .int 0] dX3_goesOn_1 (Nat.le_of_ble_eq_true rfl) rfl rfl ?_
  exact h
set_option maxHeartbeats 4000000 in
theorem bX3_goesOn_2 {w : Wt} {K : Sg → Int32 → Prop} {rc rs : Nat} {σ : Sg} (l0 : Option Nat) (l1 : Option Nat) (l2 : Int32) (h : ∃ a1, l1 = some a1 ∧ kd σ a1 ∈ [1, 5] ∧ vp_in 2 (ln σ a1) ∧ ((AI σ a1 (2 : Int32).toNatClampNeg ≤ l2 → vp_in 3 (ln σ a1) ∧ ((AI σ a1 (3 : Int32).toNatClampNeg = (-9) → K σ 0) ∧ (¬ AI σ a1 (3 : Int32).toNatClampNeg = (-9) → K σ 1))) ∧ (¬ AI σ a1 (2 : Int32).toNatClampNeg ≤ l2 → vp_in 3 (ln σ a1) ∧ ((¬ AI σ a1 (3 : Int32).toNatClampNeg = (-9) → ((AI σ a1 (3 : Int32).toNatClampNeg = (-9) → K σ 0) ∧ (¬ AI σ a1 (3 : Int32).toNatClampNeg = (-9) → K σ 1))) ∧ (AI σ a1 (3 : Int32).toNatClampNeg = (-9) → CalI w mX3_nameLength σ [va_rf l1, .int l2] (fun s11 x12 => Ext σ s11 → CalI w mX3_of s11 [va_rf l1, .int l2, .int 3] (fun s15 x16 => Ext s11 s15 → ∃ a19, l0 = some a19 ∧ kd s15 a19 = 13 ∧ CalI w mX3_findPlate s15 [va_rf l0, va_rf l1, .int x12, .int x16] (fun s21 x22 => Ext s15 s21 → ((x22 = 0 → G w mX3_goesOn (KI K) (rc) (rs) s21 2 [va_rf l0, va_rf l1, .int (l2 + 1)] []) ∧ (¬ x22 = 0 → kd s21 a1 = 1 ∧ vp_in 3 (ln s21 a1) ∧ ∀ s29, s29 = sAI s21 a1 (3 : Int32).toNatClampNeg l2 → vp_in 5 (ln s29 a1) ∧ ∀ s32, s32 = sAI s29 a1 (5 : Int32).toNatClampNeg (FI s29 25 a19) → vp_in 6 (ln s32 a1) ∧ ∀ s35, s35 = sAI s32 a1 (6 : Int32).toNatClampNeg (FI s32 26 a19) → CalI w mX3_effort s35 [va_rf l1, .int l2] (fun s37 x38 => Ext s35 s37 → ((FI s37 27 a19 = 0 → vp_in 4 (ln s37 a1) ∧ ∀ s43, s43 = sAI s37 a1 (4 : Int32).toNatClampNeg (x38 + 0) → CalV w mX3_setPlate s43 [va_rf l1, .int (FI s43 25 a19), .int 2, .int 1] (fun s45 => Ext s43 s45 → ((FI s45 27 a19 = 0 → G w mX3_goesOn (KI K) (rc) (rs) s45 2 [va_rf l0, va_rf l1, .int (l2 + 1)] []) ∧ (¬ FI s45 27 a19 = 0 → CalV w mX3_grindSide s45 [va_rf l1, .int (FI s45 25 a19), .int (FI s45 26 a19)] (fun s49 => Ext s45 s49 → G w mX3_goesOn (KI K) (rc) (rs) s49 2 [va_rf l0, va_rf l1, .int (l2 + 1)] []))))) ∧ (¬ FI s37 27 a19 = 0 → vp_in 4 (ln s37 a1) ∧ ∀ s53, s53 = sAI s37 a1 (4 : Int32).toNatClampNeg (x38 + 10) → CalV w mX3_setPlate s53 [va_rf l1, .int (FI s53 25 a19), .int 2, .int 1] (fun s55 => Ext s53 s55 → ((FI s55 27 a19 = 0 → G w mX3_goesOn (KI K) (rc) (rs) s55 2 [va_rf l0, va_rf l1, .int (l2 + 1)] []) ∧ (¬ FI s55 27 a19 = 0 → CalV w mX3_grindSide s55 [va_rf l1, .int (FI s55 25 a19), .int (FI s55 26 a19)] (fun s59 => Ext s55 s59 → G w mX3_goesOn (KI K) (rc) (rs) s59 2 [va_rf l0, va_rf l1, .int (l2 + 1)] []))))))))))))))))) : G w mX3_goesOn (KI K) (rc) (rs) σ 2 [va_rf l0, va_rf l1, .int l2] [] := by
  refine G_iload_n 3 dX3_goesOn_2 rfl rfl ?_
  refine G_aload_n 4 dX3_goesOn_3 rfl rfl ?_
  refine G_iconst (v := 2) 5 dX3_goesOn_4 (by decide) rfl ?_
  obtain ⟨a1, e2, h⟩ := h
  obtain ⟨c3, h⟩ := h
  obtain ⟨c4, h⟩ := h
  refine G_iald (a := a1) 6 dX3_goesOn_5 rfl e2 c3 c4 ?_
  refine G_icmp_ge 112 9 dX3_goesOn_6 (by decide) rfl (fun u5 => ?_) (fun u5 => ?_)
  · have h := h.1 u5
    refine G_aload_n 113 dX3_goesOn_112 rfl rfl ?_
    refine G_iconst (v := 3) 114 dX3_goesOn_113 (by decide) rfl ?_
    obtain ⟨c6, h⟩ := h
    refine G_iald (a := a1) 115 dX3_goesOn_114 rfl e2 c3 c6 ?_
    refine G_bipush (v := (-9)) 117 dX3_goesOn_115 (by decide) rfl ?_
    refine G_icmp_eq 124 120 dX3_goesOn_117 (by decide) rfl (fun u7 => ?_) (fun u7 => ?_)
    · have h := h.1 u7
      refine G_iconst (v := 0) 125 dX3_goesOn_124 (by decide) rfl ?_
      exact G_zret dX3_goesOn_125 rfl rfl ⟨_, rfl, h⟩
    · have h := h.2 u7
      refine G_iconst (v := 1) 121 dX3_goesOn_120 (by decide) rfl ?_
      refine G_goto 125 dX3_goesOn_121 (by decide) ?_
      exact G_zret dX3_goesOn_125 rfl rfl ⟨_, rfl, h⟩
  · have h := h.2 u5
    refine G_aload_n 10 dX3_goesOn_9 rfl rfl ?_
    refine G_iconst (v := 3) 11 dX3_goesOn_10 (by decide) rfl ?_
    obtain ⟨c8, h⟩ := h
    refine G_iald (a := a1) 12 dX3_goesOn_11 rfl e2 c3 c8 ?_
    refine G_bipush (v := (-9)) 14 dX3_goesOn_12 (by decide) rfl ?_
    refine G_icmp_ne 112 17 dX3_goesOn_14 (by decide) rfl (fun u9 => ?_) (fun u9 => ?_)
    · have h := h.1 u9
      refine G_aload_n 113 dX3_goesOn_112 rfl rfl ?_
      refine G_iconst (v := 3) 114 dX3_goesOn_113 (by decide) rfl ?_
      refine G_iald (a := a1) 115 dX3_goesOn_114 rfl e2 c3 c8 ?_
      refine G_bipush (v := (-9)) 117 dX3_goesOn_115 (by decide) rfl ?_
      refine G_icmp_eq 124 120 dX3_goesOn_117 (by decide) rfl (fun u10 => ?_) (fun u10 => ?_)
      · have h := h.1 u10
        refine G_iconst (v := 0) 125 dX3_goesOn_124 (by decide) rfl ?_
        exact G_zret dX3_goesOn_125 rfl rfl ⟨_, rfl, h⟩
      · have h := h.2 u10
        refine G_iconst (v := 1) 121 dX3_goesOn_120 (by decide) rfl ?_
        refine G_goto 125 dX3_goesOn_121 (by decide) ?_
        exact G_zret dX3_goesOn_125 rfl rfl ⟨_, rfl, h⟩
    · have h := h.2 u9
      refine G_aload_n 18 dX3_goesOn_17 rfl rfl ?_
      refine G_aload_n 19 dX3_goesOn_18 rfl rfl ?_
      refine G_aload_n 20 dX3_goesOn_19 rfl rfl ?_
      refine G_iload_n 21 dX3_goesOn_20 rfl rfl ?_
      refine G_invS (N := mX3_nameLength) (As := [va_rf l1, .int l2]) (st := [va_rf l1, va_rf l0]) (rc) (rs) "" 24 dX3_goesOn_21 (Or.inl q2287) q2288 q44 q2289 rfl mX3_nameLength_args ⟨Nat.le_of_ble_eq_true rfl, Nat.le_of_ble_eq_true rfl⟩ rfl (Nat.le_trans (w_R (w_R w_0)) (Nat.le_of_ble_eq_true rfl)) (le_b mX3_nameLength_c (Nat.le_refl _)) (le_b mX3_nameLength_s (Nat.le_refl _)) rfl (Cal.mono h ?_)
      rintro s11 v ⟨x12, rfl, h⟩ hx13
      have h := h hx13
      have x14 := hx13.x
      show G w mX3_goesOn (KI K) (rc) (rs) s11 24 [va_rf l0, va_rf l1, .int l2] [.int x12, va_rf l1, va_rf l0]
      refine G_aload_n 25 dX3_goesOn_24 rfl rfl ?_
      refine G_iload_n 26 dX3_goesOn_25 rfl rfl ?_
      refine G_iconst (v := 3) 27 dX3_goesOn_26 (by decide) rfl ?_
      refine G_invS (N := mX3_of) (As := [va_rf l1, .int l2, .int 3]) (st := [.int x12, va_rf l1, va_rf l0]) (rc) (rs) "" 30 dX3_goesOn_27 (Or.inl q2246) q2247 q44 q2248 rfl mX3_of_args ⟨Nat.le_of_ble_eq_true rfl, Nat.le_of_ble_eq_true rfl⟩ rfl (Nat.le_trans (w_I (w_R (w_R w_0))) (Nat.le_of_ble_eq_true rfl)) (le_b mX3_of_c (Nat.le_refl _)) (le_b mX3_of_s (Nat.le_refl _)) rfl (Cal.mono h ?_)
      rintro s15 v ⟨x16, rfl, h⟩ hx17
      have h := h hx17
      have x18 := hx17.x
      show G w mX3_goesOn (KI K) (rc) (rs) s15 30 [va_rf l0, va_rf l1, .int l2] [.int x16, .int x12, va_rf l1, va_rf l0]
      obtain ⟨a19, e20, h⟩ := h
      obtain ⟨c23, h⟩ := h
      refine G_invV (N := mX3_findPlate) (As := [va_rf l1, .int x12, .int x16]) (st := []) (t := l0) (b := a19) (rc) (rs) 33 dX3_goesOn_30 q2293 q2295 qs25 q44 q2296 rfl rfl mX3_findPlate_args ⟨Nat.le_of_ble_eq_true rfl, Nat.le_of_ble_eq_true rfl⟩ rfl (Nat.zero_le _) e20 (rk13 c23) (le_b mX3_findPlate_c (Nat.le_refl _)) (le_b mX3_findPlate_s (Nat.le_refl _)) rfl (Cal.mono h ?_)
      rintro s21 v ⟨x22, rfl, h⟩ hx24
      have h := h hx24
      have x25 := hx24.x
      show G w mX3_goesOn (KI K) (rc) (rs) s21 33 [va_rf l0, va_rf l1, .int l2] [.int x22]
      refine G_if_eq 106 36 dX3_goesOn_33 (by decide) rfl (fun u26 => ?_) (fun u26 => ?_)
      · have h := h.1 u26
        refine G_iinc 109 [va_rf l0, va_rf l1, .int (l2 + 1)] dX3_goesOn_106 rfl rfl (Nat.le_of_ble_eq_true rfl) rfl rfl ?_
        refine G_goto 2 dX3_goesOn_109 (by decide) ?_
        exact h
      · have h := h.2 u26
        refine G_aload_n 37 dX3_goesOn_36 rfl rfl ?_
        refine G_iconst (v := 3) 38 dX3_goesOn_37 (by decide) rfl ?_
        refine G_iload_n 39 dX3_goesOn_38 rfl rfl ?_
        obtain ⟨c27, h⟩ := h
        obtain ⟨c28, h⟩ := h
        refine G_iast (a := a1) 40 dX3_goesOn_39 rfl e2 c27 c28 ?_
        generalize hs29 : sAI s21 a1 (3 : Int32).toNatClampNeg l2 = s29
        have x30 : ∀ a, ¬ kd s21 a = 0 → kd s29 a = kd s21 a := by subst hs29; exact fun a _ => congrFun kd_sAI a
        have h := h s29 hs29.symm
        refine G_aload_n 41 dX3_goesOn_40 rfl rfl ?_
        refine G_iconst (v := 5) 42 dX3_goesOn_41 (by decide) rfl ?_
        refine G_aload_n 43 dX3_goesOn_42 rfl rfl ?_
        have c23 := kdE x25 c23 (by decide)
        have c23 := kdE x30 c23 (by decide)
        refine G_getI (f := 25) (a := a19) "" 46 dX3_goesOn_43 (Or.inl q2138) (Or.inl rfl) rfl e20 (hf25 c23) rfl ?_
        have c27 := kdE x30 c27 (by decide)
        obtain ⟨c31, h⟩ := h
        refine G_iast (a := a1) 47 dX3_goesOn_46 rfl e2 c27 c31 ?_
        generalize hs32 : sAI s29 a1 (5 : Int32).toNatClampNeg (FI s29 25 a19) = s32
        have x33 : ∀ a, ¬ kd s29 a = 0 → kd s32 a = kd s29 a := by subst hs32; exact fun a _ => congrFun kd_sAI a
        have h := h s32 hs32.symm
        refine G_aload_n 48 dX3_goesOn_47 rfl rfl ?_
        refine G_bipush (v := 6) 50 dX3_goesOn_48 (by decide) rfl ?_
        refine G_aload_n 51 dX3_goesOn_50 rfl rfl ?_
        have c23 := kdE x33 c23 (by decide)
        refine G_getI (f := 26) (a := a19) "" 54 dX3_goesOn_51 (Or.inl q2139) (Or.inl rfl) rfl e20 (hf26 c23) rfl ?_
        have c27 := kdE x33 c27 (by decide)
        obtain ⟨c34, h⟩ := h
        refine G_iast (a := a1) 55 dX3_goesOn_54 rfl e2 c27 c34 ?_
        generalize hs35 : sAI s32 a1 (6 : Int32).toNatClampNeg (FI s32 26 a19) = s35
        have x36 : ∀ a, ¬ kd s32 a = 0 → kd s35 a = kd s32 a := by subst hs35; exact fun a _ => congrFun kd_sAI a
        have h := h s35 hs35.symm
        refine G_aload_n 56 dX3_goesOn_55 rfl rfl ?_
        refine G_iconst (v := 4) 57 dX3_goesOn_56 (by decide) rfl ?_
        refine G_aload_n 58 dX3_goesOn_57 rfl rfl ?_
        refine G_iload_n 59 dX3_goesOn_58 rfl rfl ?_
        refine G_invS (N := mX3_effort) (As := [va_rf l1, .int l2]) (st := [.int 4, va_rf l1]) (rc) (rs) "" 62 dX3_goesOn_59 (Or.inl q2309) q2310 q44 q2311 rfl mX3_effort_args ⟨Nat.le_of_ble_eq_true rfl, Nat.le_of_ble_eq_true rfl⟩ rfl (Nat.le_trans (w_I (w_R w_0)) (Nat.le_of_ble_eq_true rfl)) (le_b mX3_effort_c (Nat.le_refl _)) (le_b mX3_effort_s (Nat.le_refl _)) rfl (Cal.mono h ?_)
        rintro s37 v ⟨x38, rfl, h⟩ hx39
        have h := h hx39
        have x40 := hx39.x
        show G w mX3_goesOn (KI K) (rc) (rs) s37 62 [va_rf l0, va_rf l1, .int l2] [.int x38, .int 4, va_rf l1]
        refine G_aload_n 63 dX3_goesOn_62 rfl rfl ?_
        have c23 := kdE x36 c23 (by decide)
        have c23 := kdE x40 c23 (by decide)
        refine G_getI (f := 27) (a := a19) "" 66 dX3_goesOn_63 (Or.inl q2140) (Or.inl rfl) rfl e20 (hf27 c23) rfl ?_
        refine G_if_eq 74 69 dX3_goesOn_66 (by decide) rfl (fun u41 => ?_) (fun u41 => ?_)
        · have h := h.1 u41
          refine G_iconst (v := 0) 75 dX3_goesOn_74 (by decide) rfl ?_
          refine G_iadd 76 dX3_goesOn_75 rfl ?_
          have c27 := kdE x36 c27 (by decide)
          have c27 := kdE x40 c27 (by decide)
          obtain ⟨c42, h⟩ := h
          refine G_iast (a := a1) 77 dX3_goesOn_76 rfl e2 c27 c42 ?_
          generalize hs43 : sAI s37 a1 (4 : Int32).toNatClampNeg (x38 + 0) = s43
          have x44 : ∀ a, ¬ kd s37 a = 0 → kd s43 a = kd s37 a := by subst hs43; exact fun a _ => congrFun kd_sAI a
          have h := h s43 hs43.symm
          refine G_aload_n 78 dX3_goesOn_77 rfl rfl ?_
          refine G_aload_n 79 dX3_goesOn_78 rfl rfl ?_
          have c23 := kdE x44 c23 (by decide)
          refine G_getI (f := 25) (a := a19) "" 82 dX3_goesOn_79 (Or.inl q2138) (Or.inl rfl) rfl e20 (hf25 c23) rfl ?_
          refine G_iconst (v := 2) 83 dX3_goesOn_82 (by decide) rfl ?_
          refine G_iconst (v := 1) 84 dX3_goesOn_83 (by decide) rfl ?_
          refine G_invS (N := mX3_setPlate) (As := [va_rf l1, .int (FI s43 25 a19), .int 2, .int 1]) (st := []) (rc) (rs) "" 87 dX3_goesOn_84 (Or.inl q2182) q2183 q44 q2184 rfl mX3_setPlate_args ⟨Nat.le_of_ble_eq_true rfl, Nat.le_of_ble_eq_true rfl⟩ rfl (Nat.zero_le _) (le_b mX3_setPlate_c (Nat.le_refl _)) (le_b mX3_setPlate_s (Nat.le_refl _)) rfl (Cal.mono h ?_)
          rintro s45 v ⟨rfl, h⟩ hx46
          have h := h hx46
          have x47 := hx46.x
          show G w mX3_goesOn (KI K) (rc) (rs) s45 87 [va_rf l0, va_rf l1, .int l2] []
          refine G_aload_n 88 dX3_goesOn_87 rfl rfl ?_
          have c23 := kdE x47 c23 (by decide)
          refine G_getI (f := 27) (a := a19) "" 91 dX3_goesOn_88 (Or.inl q2140) (Or.inl rfl) rfl e20 (hf27 c23) rfl ?_
          refine G_if_eq 106 94 dX3_goesOn_91 (by decide) rfl (fun u48 => ?_) (fun u48 => ?_)
          · have h := h.1 u48
            refine G_iinc 109 [va_rf l0, va_rf l1, .int (l2 + 1)] dX3_goesOn_106 rfl rfl (Nat.le_of_ble_eq_true rfl) rfl rfl ?_
            refine G_goto 2 dX3_goesOn_109 (by decide) ?_
            exact h
          · have h := h.2 u48
            refine G_aload_n 95 dX3_goesOn_94 rfl rfl ?_
            refine G_aload_n 96 dX3_goesOn_95 rfl rfl ?_
            refine G_getI (f := 25) (a := a19) "" 99 dX3_goesOn_96 (Or.inl q2138) (Or.inl rfl) rfl e20 (hf25 c23) rfl ?_
            refine G_aload_n 100 dX3_goesOn_99 rfl rfl ?_
            refine G_getI (f := 26) (a := a19) "" 103 dX3_goesOn_100 (Or.inl q2139) (Or.inl rfl) rfl e20 (hf26 c23) rfl ?_
            refine G_invS (N := mX3_grindSide) (As := [va_rf l1, .int (FI s45 25 a19), .int (FI s45 26 a19)]) (st := []) (rc) (rs) "" 106 dX3_goesOn_103 (Or.inl q2209) q2210 q44 q2211 rfl mX3_grindSide_args ⟨Nat.le_of_ble_eq_true rfl, Nat.le_of_ble_eq_true rfl⟩ rfl (Nat.zero_le _) (le_b mX3_grindSide_c (Nat.le_refl _)) (le_b mX3_grindSide_s (Nat.le_refl _)) rfl (Cal.mono h ?_)
            rintro s49 v ⟨rfl, h⟩ hx50
            have h := h hx50
            have x51 := hx50.x
            show G w mX3_goesOn (KI K) (rc) (rs) s49 106 [va_rf l0, va_rf l1, .int l2] []
            refine G_iinc 109 [va_rf l0, va_rf l1, .int (l2 + 1)] dX3_goesOn_106 rfl rfl (Nat.le_of_ble_eq_true rfl) rfl rfl ?_
            refine G_goto 2 dX3_goesOn_109 (by decide) ?_
            exact h
        · have h := h.2 u41
          refine G_bipush (v := 10) 71 dX3_goesOn_69 (by decide) rfl ?_
          refine G_goto 75 dX3_goesOn_71 (by decide) ?_
          refine G_iadd 76 dX3_goesOn_75 rfl ?_
          have c27 := kdE x36 c27 (by decide)
          have c27 := kdE x40 c27 (by decide)
          obtain ⟨c52, h⟩ := h
          refine G_iast (a := a1) 77 dX3_goesOn_76 rfl e2 c27 c52 ?_
          generalize hs53 : sAI s37 a1 (4 : Int32).toNatClampNeg (x38 + 10) = s53
          have x54 : ∀ a, ¬ kd s37 a = 0 → kd s53 a = kd s37 a := by subst hs53; exact fun a _ => congrFun kd_sAI a
          have h := h s53 hs53.symm
          refine G_aload_n 78 dX3_goesOn_77 rfl rfl ?_
          refine G_aload_n 79 dX3_goesOn_78 rfl rfl ?_
          have c23 := kdE x54 c23 (by decide)
          refine G_getI (f := 25) (a := a19) "" 82 dX3_goesOn_79 (Or.inl q2138) (Or.inl rfl) rfl e20 (hf25 c23) rfl ?_
          refine G_iconst (v := 2) 83 dX3_goesOn_82 (by decide) rfl ?_
          refine G_iconst (v := 1) 84 dX3_goesOn_83 (by decide) rfl ?_
          refine G_invS (N := mX3_setPlate) (As := [va_rf l1, .int (FI s53 25 a19), .int 2, .int 1]) (st := []) (rc) (rs) "" 87 dX3_goesOn_84 (Or.inl q2182) q2183 q44 q2184 rfl mX3_setPlate_args ⟨Nat.le_of_ble_eq_true rfl, Nat.le_of_ble_eq_true rfl⟩ rfl (Nat.zero_le _) (le_b mX3_setPlate_c (Nat.le_refl _)) (le_b mX3_setPlate_s (Nat.le_refl _)) rfl (Cal.mono h ?_)
          rintro s55 v ⟨rfl, h⟩ hx56
          have h := h hx56
          have x57 := hx56.x
          show G w mX3_goesOn (KI K) (rc) (rs) s55 87 [va_rf l0, va_rf l1, .int l2] []
          refine G_aload_n 88 dX3_goesOn_87 rfl rfl ?_
          have c23 := kdE x57 c23 (by decide)
          refine G_getI (f := 27) (a := a19) "" 91 dX3_goesOn_88 (Or.inl q2140) (Or.inl rfl) rfl e20 (hf27 c23) rfl ?_
          refine G_if_eq 106 94 dX3_goesOn_91 (by decide) rfl (fun u58 => ?_) (fun u58 => ?_)
          · have h := h.1 u58
            refine G_iinc 109 [va_rf l0, va_rf l1, .int (l2 + 1)] dX3_goesOn_106 rfl rfl (Nat.le_of_ble_eq_true rfl) rfl rfl ?_
            refine G_goto 2 dX3_goesOn_109 (by decide) ?_
            exact h
          · have h := h.2 u58
            refine G_aload_n 95 dX3_goesOn_94 rfl rfl ?_
            refine G_aload_n 96 dX3_goesOn_95 rfl rfl ?_
            refine G_getI (f := 25) (a := a19) "" 99 dX3_goesOn_96 (Or.inl q2138) (Or.inl rfl) rfl e20 (hf25 c23) rfl ?_
            refine G_aload_n 100 dX3_goesOn_99 rfl rfl ?_
            refine G_getI (f := 26) (a := a19) "" 103 dX3_goesOn_100 (Or.inl q2139) (Or.inl rfl) rfl e20 (hf26 c23) rfl ?_
            refine G_invS (N := mX3_grindSide) (As := [va_rf l1, .int (FI s55 25 a19), .int (FI s55 26 a19)]) (st := []) (rc) (rs) "" 106 dX3_goesOn_103 (Or.inl q2209) q2210 q44 q2211 rfl mX3_grindSide_args ⟨Nat.le_of_ble_eq_true rfl, Nat.le_of_ble_eq_true rfl⟩ rfl (Nat.zero_le _) (le_b mX3_grindSide_c (Nat.le_refl _)) (le_b mX3_grindSide_s (Nat.le_refl _)) rfl (Cal.mono h ?_)
            rintro s59 v ⟨rfl, h⟩ hx60
            have h := h hx60
            have x61 := hx60.x
            show G w mX3_goesOn (KI K) (rc) (rs) s59 106 [va_rf l0, va_rf l1, .int l2] []
            refine G_iinc 109 [va_rf l0, va_rf l1, .int (l2 + 1)] dX3_goesOn_106 rfl rfl (Nat.le_of_ble_eq_true rfl) rfl rfl ?_
            refine G_goto 2 dX3_goesOn_109 (by decide) ?_
            exact h
theorem eX3_goesOn {w : Wt} {K : Sg → Int32 → Prop} {σ : Sg} (l0 : Option Nat) (l1 : Option Nat) (h : G w mX3_goesOn (KI K) 0 0 σ 0 [va_rf l0, va_rf l1, U_] []) : CalI w mX3_goesOn σ [va_rf l0, va_rf l1] K :=
  Cal.start 1 mX3_goesOn_plain (catR (catR cat0)) (Nat.le_of_ble_eq_true rfl) rfl h
set_option maxHeartbeats 4000000 in
theorem bX3_nameLength_0 {w : Wt} {K : Sg → Int32 → Prop} {rc rs : Nat} {σ : Sg} (l0 : Option Nat) (l1 : Int32) (h : CalI w mX3_of σ [va_rf l0, .int l1, .int 5] (fun s1 x2 => Ext σ s1 → G w mX3_nameLength (KI K) (rc) (rs) s1 14 [va_rf l0, .int l1, .int x2, .int (x2 - 1), .int 0] [])) : G w mX3_nameLength (KI K) (rc) (rs) σ 0 [va_rf l0, .int l1, U_, U_, U_] [] := by
  refine G_aload_n 1 dX3_nameLength_0 rfl rfl ?_
  refine G_iload_n 2 dX3_nameLength_1 rfl rfl ?_
  refine G_iconst (v := 5) 3 dX3_nameLength_2 (by decide) rfl ?_
  refine G_invS (N := mX3_of) (As := [va_rf l0, .int l1, .int 5]) (st := []) (rc) (rs) "" 6 dX3_nameLength_3 (Or.inl q2246) q2247 q44 q2248 rfl mX3_of_args ⟨Nat.le_of_ble_eq_true rfl, Nat.le_of_ble_eq_true rfl⟩ rfl (Nat.zero_le _) (le_b mX3_of_c (Nat.le_refl _)) (le_b mX3_of_s (Nat.le_refl _)) rfl (Cal.mono h ?_)
  rintro s1 v ⟨x2, rfl, h⟩ hx3
  have h := h hx3
  have x4 := hx3.x
  show G w mX3_nameLength (KI K) (rc) (rs) s1 6 [va_rf l0, .int l1, U_, U_, U_] [.int x2]
  refine G_istore_n 7 [va_rf l0, .int l1, .int x2, U_, U_] dX3_nameLength_6 (Nat.le_of_ble_eq_true rfl) rfl rfl ?_
  refine G_iload_n 8 dX3_nameLength_7 rfl rfl ?_
  refine G_iconst (v := 1) 9 dX3_nameLength_8 (by decide) rfl ?_
  refine G_isub 10 dX3_nameLength_9 rfl ?_
  refine G_istore_n 11 [va_rf l0, .int l1, .int x2, .int (x2 - 1), U_] dX3_nameLength_10 (Nat.le_of_ble_eq_true rfl) rfl rfl ?_
  refine G_iconst (v := 0) 12 dX3_nameLength_11 (by decide) rfl ?_
  refine G_istore 14 [va_rf l0, .int l1, .int x2, .int (x2 - 1), .int 0] dX3_nameLength_12 (Nat.le_of_ble_eq_true rfl) rfl rfl ?_
  exact h
set_option maxHeartbeats 4000000 in
theorem bX3_nameLength_14 {w : Wt} {K : Sg → Int32 → Prop} {rc rs : Nat} {σ : Sg} (l0 : Option Nat) (l1 : Int32) (l2 : Int32) (l3 : Int32) (l4 : Int32) (h : ((l2 ≤ l4 → CalI w mX3_of σ [va_rf l0, .int l1, .int 2] (fun s2 x3 => Ext σ s2 → K s2 (x3 * l3))) ∧ (¬ l2 ≤ l4 → CalI w mX3_of σ [va_rf l0, .int l1, .int (6 + l4)] (fun s6 x7 => Ext σ s6 → CalI w mX3_widthOf s6 [.int x7] (fun s10 x11 => Ext s6 s10 → G w mX3_nameLength (KI K) (rc) (rs) s10 14 [va_rf l0, .int l1, .int l2, .int (l3 + x11), .int (l4 + 1)] []))))) : G w mX3_nameLength (KI K) (rc) (rs) σ 14 [va_rf l0, .int l1, .int l2, .int l3, .int l4] [] := by
  refine G_iload 16 dX3_nameLength_14 rfl rfl ?_
  refine G_iload_n 17 dX3_nameLength_16 rfl rfl ?_
  refine G_icmp_ge 42 20 dX3_nameLength_17 (by decide) rfl (fun u1 => ?_) (fun u1 => ?_)
  · have h := h.1 u1
    refine G_aload_n 43 dX3_nameLength_42 rfl rfl ?_
    refine G_iload_n 44 dX3_nameLength_43 rfl rfl ?_
    refine G_iconst (v := 2) 45 dX3_nameLength_44 (by decide) rfl ?_
    refine G_invS (N := mX3_of) (As := [va_rf l0, .int l1, .int 2]) (st := []) (rc) (rs) "" 48 dX3_nameLength_45 (Or.inl q2246) q2247 q44 q2248 rfl mX3_of_args ⟨Nat.le_of_ble_eq_true rfl, Nat.le_of_ble_eq_true rfl⟩ rfl (Nat.zero_le _) (le_b mX3_of_c (Nat.le_refl _)) (le_b mX3_of_s (Nat.le_refl _)) rfl (Cal.mono h ?_)
    rintro s2 v ⟨x3, rfl, h⟩ hx4
    have h := h hx4
    have x5 := hx4.x
    show G w mX3_nameLength (KI K) (rc) (rs) s2 48 [va_rf l0, .int l1, .int l2, .int l3, .int l4] [.int x3]
    refine G_iload_n 49 dX3_nameLength_48 rfl rfl ?_
    refine G_imul 50 dX3_nameLength_49 rfl ?_
    exact G_iret dX3_nameLength_50 rfl ⟨_, rfl, h⟩
  · have h := h.2 u1
    refine G_iload_n 21 dX3_nameLength_20 rfl rfl ?_
    refine G_aload_n 22 dX3_nameLength_21 rfl rfl ?_
    refine G_iload_n 23 dX3_nameLength_22 rfl rfl ?_
    refine G_bipush (v := 6) 25 dX3_nameLength_23 (by decide) rfl ?_
    refine G_iload 27 dX3_nameLength_25 rfl rfl ?_
    refine G_iadd 28 dX3_nameLength_27 rfl ?_
    refine G_invS (N := mX3_of) (As := [va_rf l0, .int l1, .int (6 + l4)]) (st := [.int l3]) (rc) (rs) "" 31 dX3_nameLength_28 (Or.inl q2246) q2247 q44 q2248 rfl mX3_of_args ⟨Nat.le_of_ble_eq_true rfl, Nat.le_of_ble_eq_true rfl⟩ rfl (Nat.le_trans (w_I w_0) (Nat.le_of_ble_eq_true rfl)) (le_b mX3_of_c (Nat.le_refl _)) (le_b mX3_of_s (Nat.le_refl _)) rfl (Cal.mono h ?_)
    rintro s6 v ⟨x7, rfl, h⟩ hx8
    have h := h hx8
    have x9 := hx8.x
    show G w mX3_nameLength (KI K) (rc) (rs) s6 31 [va_rf l0, .int l1, .int l2, .int l3, .int l4] [.int x7, .int l3]
    refine G_invS (N := mX3_widthOf) (As := [.int x7]) (st := [.int l3]) (rc) (rs) "" 34 dX3_nameLength_31 (Or.inl q2290) q2291 q44 q2292 rfl mX3_widthOf_args ⟨Nat.le_of_ble_eq_true rfl, Nat.le_of_ble_eq_true rfl⟩ rfl (Nat.le_trans (w_I w_0) (Nat.le_of_ble_eq_true rfl)) (le_b mX3_widthOf_c (Nat.le_refl _)) (le_b mX3_widthOf_s (Nat.le_refl _)) rfl (Cal.mono h ?_)
    rintro s10 v ⟨x11, rfl, h⟩ hx12
    have h := h hx12
    have x13 := hx12.x
    show G w mX3_nameLength (KI K) (rc) (rs) s10 34 [va_rf l0, .int l1, .int l2, .int l3, .int l4] [.int x11, .int l3]
    refine G_iadd 35 dX3_nameLength_34 rfl ?_
    refine G_istore_n 36 [va_rf l0, .int l1, .int l2, .int (l3 + x11), .int l4] dX3_nameLength_35 (Nat.le_of_ble_eq_true rfl) rfl rfl ?_
    refine G_iinc 39 [va_rf l0, .int l1, .int l2, .int (l3 + x11), .int (l4 + 1)] dX3_nameLength_36 rfl rfl (Nat.le_of_ble_eq_true rfl) rfl rfl ?_
    refine G_goto 14 dX3_nameLength_39 (by decide) ?_
    exact h
theorem eX3_nameLength {w : Wt} {K : Sg → Int32 → Prop} {σ : Sg} (l0 : Option Nat) (l1 : Int32) (h : G w mX3_nameLength (KI K) 0 0 σ 0 [va_rf l0, .int l1, U_, U_, U_] []) : CalI w mX3_nameLength σ [va_rf l0, .int l1] K :=
  Cal.start 3 mX3_nameLength_plain (catR (catI cat0)) (Nat.le_of_ble_eq_true rfl) rfl h
set_option maxHeartbeats 4000000 in
theorem bX3_widthOf_0 {w : Wt} {K : Sg → Int32 → Prop} {rc rs : Nat} {σ : Sg} (l0 : Int32) (h : (((l0 = 102 ∨ l0 = 105 ∨ l0 = 106 ∨ l0 = 108 ∨ l0 = 114 ∨ l0 = 116) → K σ 2) ∧ ((l0 = 109 ∨ l0 = 119) → K σ 5) ∧ (¬ l0 = 102 ∧ ¬ l0 = 105 ∧ ¬ l0 = 106 ∧ ¬ l0 = 108 ∧ ¬ l0 = 114 ∧ ¬ l0 = 116 ∧ ¬ l0 = 109 ∧ ¬ l0 = 119 → K σ 4))) : G w mX3_widthOf (KI K) (rc) (rs) σ 0 [.int l0] [] := by
  refine G_iload_n 1 dX3_widthOf_0 rfl rfl ?_
  by_cases u1 : l0 = 102 ∨ l0 = 105 ∨ l0 = 106 ∨ l0 = 108 ∨ l0 = 114 ∨ l0 = 116
  · refine G_tableIn (off := 87) 88 dX3_widthOf_1 (by rcases u1 with u1e | u1e | u1e | u1e | u1e | u1e <;> (rw [u1e]; decide)) (by rcases u1 with u1e | u1e | u1e | u1e | u1e | u1e <;> (rw [u1e]; decide)) (by rcases u1 with u1e | u1e | u1e | u1e | u1e | u1e <;> (rw [u1e]; rfl)) (by decide) ?_
    have h := h.1 u1
    refine G_iconst (v := 2) 89 dX3_widthOf_88 (by decide) rfl ?_
    exact G_iret dX3_widthOf_89 rfl ⟨_, rfl, h⟩
  have h := h.2
  rw [not_or, not_or, not_or, not_or, not_or] at u1
  by_cases u2 : l0 = 109 ∨ l0 = 119
  · refine G_tableIn (off := 89) 90 dX3_widthOf_1 (by rcases u2 with u2e | u2e <;> (rw [u2e]; decide)) (by rcases u2 with u2e | u2e <;> (rw [u2e]; decide)) (by rcases u2 with u2e | u2e <;> (rw [u2e]; rfl)) (by decide) ?_
    have h := h.1 u2
    refine G_iconst (v := 5) 91 dX3_widthOf_90 (by decide) rfl ?_
    exact G_iret dX3_widthOf_91 rfl ⟨_, rfl, h⟩
  have h := h.2
  rw [not_or] at u2
  have h := h ⟨u1.1, u1.2.1, u1.2.2.1, u1.2.2.2.1, u1.2.2.2.2.1, u1.2.2.2.2.2, u2.1, u2.2⟩
  by_cases r3 : l0.toInt < 102 ∨ 119 < l0.toInt
  · refine G_tableOut 92 dX3_widthOf_1 r3 (by decide) ?_
    refine G_iconst (v := 4) 93 dX3_widthOf_92 (by decide) rfl ?_
    exact G_iret dX3_widthOf_93 rfl ⟨_, rfl, h⟩
  have := lv_neT (k := 102) (a := 102) u1.1 (by decide)
  have := lv_neT (k := 105) (a := 105) u1.2.1 (by decide)
  have := lv_neT (k := 106) (a := 106) u1.2.2.1 (by decide)
  have := lv_neT (k := 108) (a := 108) u1.2.2.2.1 (by decide)
  have := lv_neT (k := 114) (a := 114) u1.2.2.2.2.1 (by decide)
  have := lv_neT (k := 116) (a := 116) u1.2.2.2.2.2 (by decide)
  have := lv_neT (k := 109) (a := 109) u2.1 (by decide)
  have := lv_neT (k := 119) (a := 119) u2.2 (by decide)
  have r3v : l0.toInt = 103 ∨ l0.toInt = 104 ∨ l0.toInt = 107 ∨ l0.toInt = 110 ∨ l0.toInt = 111 ∨ l0.toInt = 112 ∨ l0.toInt = 113 ∨ l0.toInt = 115 ∨ l0.toInt = 117 ∨ l0.toInt = 118 := by omega
  refine G_tableIn (off := 91) 92 dX3_widthOf_1 (by omega) (by omega) (by rcases r3v with r3w | r3w | r3w | r3w | r3w | r3w | r3w | r3w | r3w | r3w <;> rw [r3w] <;> rfl) (by decide) ?_
  refine G_iconst (v := 4) 93 dX3_widthOf_92 (by decide) rfl ?_
  exact G_iret dX3_widthOf_93 rfl ⟨_, rfl, h⟩
theorem eX3_widthOf {w : Wt} {K : Sg → Int32 → Prop} {σ : Sg} (l0 : Int32) (h : G w mX3_widthOf (KI K) 0 0 σ 0 [.int l0] []) : CalI w mX3_widthOf σ [.int l0] K :=
  Cal.start 0 mX3_widthOf_plain (catI cat0) (Nat.le_of_ble_eq_true rfl) rfl h
set_option maxHeartbeats 4000000 in
theorem bX3_findPlate_0 {w : Wt} {K : Sg → Int32 → Prop} {rc rs : Nat} {σ : Sg} (l0 : Option Nat) (l1 : Option Nat) (l2 : Int32) (l3 : Int32) (h : ∃ a1, l0 = some a1 ∧ kd σ a1 = 13 ∧ ∀ s4, s4 = sFI σ 25 a1 (-9) → G w mX3_findPlate (KI K) (rc) (rs) s4 9 [va_rf l0, va_rf l1, .int l2, .int l3, .int 0, U_, U_, U_] []) : G w mX3_findPlate (KI K) (rc) (rs) σ 0 [va_rf l0, va_rf l1, .int l2, .int l3, U_, U_, U_, U_] [] := by
  refine G_aload_n 1 dX3_findPlate_0 rfl rfl ?_
  refine G_bipush (v := (-9)) 3 dX3_findPlate_1 (by decide) rfl ?_
  obtain ⟨a1, e2, h⟩ := h
  obtain ⟨c3, h⟩ := h
  refine G_putI (f := 25) (a := a1) "" 6 dX3_findPlate_3 (Or.inl q2138) (Or.inl rfl) rfl e2 (hp25 c3) (nk25 c3) (Or.inl rfl) rfl rfl rfl ?_
  generalize hs4 : sFI σ 25 a1 (-9) = s4
  have x5 : ∀ a, ¬ kd σ a = 0 → kd s4 a = kd σ a := by subst hs4; exact fun a _ => congrFun kd_sFI a
  have h := h s4 hs4.symm
  refine G_iconst (v := 0) 7 dX3_findPlate_6 (by decide) rfl ?_
  refine G_istore 9 [va_rf l0, va_rf l1, .int l2, .int l3, .int 0, U_, U_, U_] dX3_findPlate_7 (Nat.le_of_ble_eq_true rfl) rfl rfl ?_
  exact h
set_option maxHeartbeats 4000000 in
theorem bX3_findPlate_9 {w : Wt} {K : Sg → Int32 → Prop} {rc rs : Nat} {σ : Sg} (l0 : Option Nat) (l1 : Option Nat) (l2 : Int32) (l3 : Int32) (l4 : Int32) (v5 : Value) (v6 : Value) (v7 : Value) (h : ((2 ≤ l4 → ∃ a2, l0 = some a2 ∧ kd σ a2 = 13 ∧ ((FI σ 25 a2 = (-9) → K σ 0) ∧ (¬ FI σ 25 a2 = (-9) → K σ 1))) ∧ (¬ 2 ≤ l4 → ∃ a6, l0 = some a6 ∧ kd σ a6 = 13 ∧ ((¬ FI σ 25 a6 = (-9) → ((FI σ 25 a6 = (-9) → K σ 0) ∧ (¬ FI σ 25 a6 = (-9) → K σ 1))) ∧ (FI σ 25 a6 = (-9) → ((¬ l4 = 1 → ∀ s12, s12 = sFI σ 27 a6 0 → G w mX3_findPlate (KI K) (rc) (rs) s12 42 [va_rf l0, va_rf l1, .int l2, .int l3, .int l4, .int 0, v6, v7] []) ∧ (l4 = 1 → ∀ s14, s14 = sFI σ 27 a6 1 → G w mX3_findPlate (KI K) (rc) (rs) s14 42 [va_rf l0, va_rf l1, .int l2, .int l3, .int l4, .int 0, v6, v7] []))))))) : G w mX3_findPlate (KI K) (rc) (rs) σ 9 [va_rf l0, va_rf l1, .int l2, .int l3, .int l4, v5, v6, v7] [] := by
  refine G_iload 11 dX3_findPlate_9 rfl rfl ?_
  refine G_iconst (v := 2) 12 dX3_findPlate_11 (by decide) rfl ?_
  refine G_icmp_ge 175 15 dX3_findPlate_12 (by decide) rfl (fun u1 => ?_) (fun u1 => ?_)
  · have h := h.1 u1
    refine G_aload_n 176 dX3_findPlate_175 rfl rfl ?_
    obtain ⟨a2, e3, h⟩ := h
    obtain ⟨c4, h⟩ := h
    refine G_getI (f := 25) (a := a2) "" 179 dX3_findPlate_176 (Or.inl q2138) (Or.inl rfl) rfl e3 (hf25 c4) rfl ?_
    refine G_bipush (v := (-9)) 181 dX3_findPlate_179 (by decide) rfl ?_
    refine G_icmp_eq 188 184 dX3_findPlate_181 (by decide) rfl (fun u5 => ?_) (fun u5 => ?_)
    · have h := h.1 u5
      refine G_iconst (v := 0) 189 dX3_findPlate_188 (by decide) rfl ?_
      exact G_zret dX3_findPlate_189 rfl rfl ⟨_, rfl, h⟩
    · have h := h.2 u5
      refine G_iconst (v := 1) 185 dX3_findPlate_184 (by decide) rfl ?_
      refine G_goto 189 dX3_findPlate_185 (by decide) ?_
      exact G_zret dX3_findPlate_189 rfl rfl ⟨_, rfl, h⟩
  · have h := h.2 u1
    refine G_aload_n 16 dX3_findPlate_15 rfl rfl ?_
    obtain ⟨a6, e7, h⟩ := h
    obtain ⟨c8, h⟩ := h
    refine G_getI (f := 25) (a := a6) "" 19 dX3_findPlate_16 (Or.inl q2138) (Or.inl rfl) rfl e7 (hf25 c8) rfl ?_
    refine G_bipush (v := (-9)) 21 dX3_findPlate_19 (by decide) rfl ?_
    refine G_icmp_ne 175 24 dX3_findPlate_21 (by decide) rfl (fun u9 => ?_) (fun u9 => ?_)
    · have h := h.1 u9
      refine G_aload_n 176 dX3_findPlate_175 rfl rfl ?_
      refine G_getI (f := 25) (a := a6) "" 179 dX3_findPlate_176 (Or.inl q2138) (Or.inl rfl) rfl e7 (hf25 c8) rfl ?_
      refine G_bipush (v := (-9)) 181 dX3_findPlate_179 (by decide) rfl ?_
      refine G_icmp_eq 188 184 dX3_findPlate_181 (by decide) rfl (fun u10 => ?_) (fun u10 => ?_)
      · have h := h.1 u10
        refine G_iconst (v := 0) 189 dX3_findPlate_188 (by decide) rfl ?_
        exact G_zret dX3_findPlate_189 rfl rfl ⟨_, rfl, h⟩
      · have h := h.2 u10
        refine G_iconst (v := 1) 185 dX3_findPlate_184 (by decide) rfl ?_
        refine G_goto 189 dX3_findPlate_185 (by decide) ?_
        exact G_zret dX3_findPlate_189 rfl rfl ⟨_, rfl, h⟩
    · have h := h.2 u9
      refine G_aload_n 25 dX3_findPlate_24 rfl rfl ?_
      refine G_iload 27 dX3_findPlate_25 rfl rfl ?_
      refine G_iconst (v := 1) 28 dX3_findPlate_27 (by decide) rfl ?_
      refine G_icmp_ne 35 31 dX3_findPlate_28 (by decide) rfl (fun u11 => ?_) (fun u11 => ?_)
      · have h := h.1 u11
        refine G_iconst (v := 0) 36 dX3_findPlate_35 (by decide) rfl ?_
        refine G_putI (f := 27) (a := a6) "" 39 dX3_findPlate_36 (Or.inl q2140) (Or.inl rfl) rfl e7 (hp27 c8) (nk27 c8) (Or.inl rfl) rfl rfl rfl ?_
        generalize hs12 : sFI σ 27 a6 0 = s12
        have x13 : ∀ a, ¬ kd σ a = 0 → kd s12 a = kd σ a := by subst hs12; exact fun a _ => congrFun kd_sFI a
        have h := h s12 hs12.symm
        refine G_iconst (v := 0) 40 dX3_findPlate_39 (by decide) rfl ?_
        refine G_istore 42 [va_rf l0, va_rf l1, .int l2, .int l3, .int l4, .int 0, v6, v7] dX3_findPlate_40 (Nat.le_of_ble_eq_true rfl) rfl rfl ?_
        exact h
      · have h := h.2 u11
        refine G_iconst (v := 1) 32 dX3_findPlate_31 (by decide) rfl ?_
        refine G_goto 36 dX3_findPlate_32 (by decide) ?_
        refine G_putI (f := 27) (a := a6) "" 39 dX3_findPlate_36 (Or.inl q2140) (Or.inl rfl) rfl e7 (hp27 c8) (nk27 c8) (Or.inl rfl) rfl rfl rfl ?_
        generalize hs14 : sFI σ 27 a6 1 = s14
        have x15 : ∀ a, ¬ kd σ a = 0 → kd s14 a = kd σ a := by subst hs14; exact fun a _ => congrFun kd_sFI a
        have h := h s14 hs14.symm
        refine G_iconst (v := 0) 40 dX3_findPlate_39 (by decide) rfl ?_
        refine G_istore 42 [va_rf l0, va_rf l1, .int l2, .int l3, .int l4, .int 0, v6, v7] dX3_findPlate_40 (Nat.le_of_ble_eq_true rfl) rfl rfl ?_
        exact h
set_option maxHeartbeats 4000000 in
theorem bX3_findPlate_42 {w : Wt} {K : Sg → Int32 → Prop} {rc rs : Nat} {σ : Sg} (l0 : Option Nat) (l1 : Option Nat) (l2 : Int32) (l3 : Int32) (l4 : Int32) (l5 : Int32) (v6 : Value) (v7 : Value) (h : ∃ a1, l1 = some a1 ∧ kd σ a1 ∈ [1, 5] ∧ vp_in 1 (ln σ a1) ∧ ((AI σ a1 (1 : Int32).toNatClampNeg ≤ l5 → G w mX3_findPlate (KI K) (rc) (rs) σ 9 [va_rf l0, va_rf l1, .int l2, .int l3, .int (l4 + 1), .int l5, v6, v7] []) ∧ (¬ AI σ a1 (1 : Int32).toNatClampNeg ≤ l5 → CalI w mX3_ofPlate σ [va_rf l1, .int l5, .int 2] (fun s6 x7 => Ext σ s6 → ((¬ x7 = 0 → G w mX3_findPlate (KI K) (rc) (rs) s6 42 [va_rf l0, va_rf l1, .int l2, .int l3, .int l4, .int (l5 + 1), .int 0, .int 0] []) ∧ (x7 = 0 → CalI w mX3_ofPlate s6 [va_rf l1, .int l5, .int 0] (fun s11 x12 => Ext s6 s11 → ((x12 < l2 → G w mX3_findPlate (KI K) (rc) (rs) s11 42 [va_rf l0, va_rf l1, .int l2, .int l3, .int l4, .int (l5 + 1), .int 0, .int 0] []) ∧ (¬ x12 < l2 → ∃ a16, l0 = some a16 ∧ kd s11 a16 = 13 ∧ CalI w mX3_mayTake s11 [va_rf l1, .int l5, .int 0, .int l3, .int (FI s11 27 a16)] (fun s19 x20 => Ext s11 s19 → ((x20 = 0 → CalI w mX3_mayTake s19 [va_rf l1, .int l5, .int 1, .int l3, .int (FI s19 27 a16)] (fun s24 x25 => Ext s19 s24 → ((x25 = 0 → G w mX3_findPlate (KI K) (rc) (rs) s24 42 [va_rf l0, va_rf l1, .int l2, .int l3, .int l4, .int (l5 + 1), .int 1, .int 0] []) ∧ (¬ x25 = 0 → CalI w mX3_isBetter s24 [va_rf l1, .int l5, .int (FI s24 25 a16)] (fun s29 x30 => Ext s24 s29 → ((x30 = 0 → G w mX3_findPlate (KI K) (rc) (rs) s29 42 [va_rf l0, va_rf l1, .int l2, .int l3, .int l4, .int (l5 + 1), .int 1, .int 0] []) ∧ (¬ x30 = 0 → ∀ s34, s34 = sFI s29 25 a16 l5 → ∀ s36, s36 = sFI s34 26 a16 1 → G w mX3_findPlate (KI K) (rc) (rs) s36 42 [va_rf l0, va_rf l1, .int l2, .int l3, .int l4, .int (l5 + 1), .int 1, .int 0] []))))))) ∧ (¬ x20 = 0 → CalI w mX3_isBetter s19 [va_rf l1, .int l5, .int (FI s19 25 a16)] (fun s38 x39 => Ext s19 s38 → ((x39 = 0 → G w mX3_findPlate (KI K) (rc) (rs) s38 42 [va_rf l0, va_rf l1, .int l2, .int l3, .int l4, .int (l5 + 1), .int 1, .int 1] []) ∧ (¬ x39 = 0 → ∀ s43, s43 = sFI s38 25 a16 l5 → ∀ s45, s45 = sFI s43 26 a16 0 → G w mX3_findPlate (KI K) (rc) (rs) s45 42 [va_rf l0, va_rf l1, .int l2, .int l3, .int l4, .int (l5 + 1), .int 1, .int 1] []))))))))))))))) : G w mX3_findPlate (KI K) (rc) (rs) σ 42 [va_rf l0, va_rf l1, .int l2, .int l3, .int l4, .int l5, v6, v7] [] := by
  refine G_iload 44 dX3_findPlate_42 rfl rfl ?_
  refine G_aload_n 45 dX3_findPlate_44 rfl rfl ?_
  refine G_iconst (v := 1) 46 dX3_findPlate_45 (by decide) rfl ?_
  obtain ⟨a1, e2, h⟩ := h
  obtain ⟨c3, h⟩ := h
  obtain ⟨c4, h⟩ := h
  refine G_iald (a := a1) 47 dX3_findPlate_46 rfl e2 c3 c4 ?_
  refine G_icmp_ge 169 50 dX3_findPlate_47 (by decide) rfl (fun u5 => ?_) (fun u5 => ?_)
  · have h := h.1 u5
    refine G_iinc 172 [va_rf l0, va_rf l1, .int l2, .int l3, .int (l4 + 1), .int l5, v6, v7] dX3_findPlate_169 rfl rfl (Nat.le_of_ble_eq_true rfl) rfl rfl ?_
    refine G_goto 9 dX3_findPlate_172 (by decide) ?_
    exact h
  · have h := h.2 u5
    refine G_aload_n 51 dX3_findPlate_50 rfl rfl ?_
    refine G_iload 53 dX3_findPlate_51 rfl rfl ?_
    refine G_iconst (v := 2) 54 dX3_findPlate_53 (by decide) rfl ?_
    refine G_invS (N := mX3_ofPlate) (As := [va_rf l1, .int l5, .int 2]) (st := []) (rc) (rs) "" 57 dX3_findPlate_54 (Or.inl q2193) q2194 q44 q2195 rfl mX3_ofPlate_args ⟨Nat.le_of_ble_eq_true rfl, Nat.le_of_ble_eq_true rfl⟩ rfl (Nat.zero_le _) (le_b mX3_ofPlate_c (Nat.le_refl _)) (le_b mX3_ofPlate_s (Nat.le_refl _)) rfl (Cal.mono h ?_)
    rintro s6 v ⟨x7, rfl, h⟩ hx8
    have h := h hx8
    have x9 := hx8.x
    show G w mX3_findPlate (KI K) (rc) (rs) s6 57 [va_rf l0, va_rf l1, .int l2, .int l3, .int l4, .int l5, v6, v7] [.int x7]
    refine G_if_ne 75 60 dX3_findPlate_57 (by decide) rfl (fun u10 => ?_) (fun u10 => ?_)
    · have h := h.1 u10
      refine G_iconst (v := 0) 76 dX3_findPlate_75 (by decide) rfl ?_
      refine G_istore 78 [va_rf l0, va_rf l1, .int l2, .int l3, .int l4, .int l5, .int 0, v7] dX3_findPlate_76 (Nat.le_of_ble_eq_true rfl) rfl rfl ?_
      refine G_iload 80 dX3_findPlate_78 rfl rfl ?_
      refine G_if_eq 102 83 dX3_findPlate_80 (by decide) rfl (fun _ => ?_) (fun q => absurd q (by decide))
      refine G_iconst (v := 0) 103 dX3_findPlate_102 (by decide) rfl ?_
      refine G_istore 105 [va_rf l0, va_rf l1, .int l2, .int l3, .int l4, .int l5, .int 0, .int 0] dX3_findPlate_103 (Nat.le_of_ble_eq_true rfl) rfl rfl ?_
      refine G_iload 107 dX3_findPlate_105 rfl rfl ?_
      refine G_if_ne 130 110 dX3_findPlate_107 (by decide) rfl (fun q => absurd q (by decide)) (fun _ => ?_)
      refine G_iload 112 dX3_findPlate_110 rfl rfl ?_
      refine G_if_eq 163 115 dX3_findPlate_112 (by decide) rfl (fun _ => ?_) (fun q => absurd q (by decide))
      refine G_iinc 166 [va_rf l0, va_rf l1, .int l2, .int l3, .int l4, .int (l5 + 1), .int 0, .int 0] dX3_findPlate_163 rfl rfl (Nat.le_of_ble_eq_true rfl) rfl rfl ?_
      refine G_goto 42 dX3_findPlate_166 (by decide) ?_
      exact h
    · have h := h.2 u10
      refine G_aload_n 61 dX3_findPlate_60 rfl rfl ?_
      refine G_iload 63 dX3_findPlate_61 rfl rfl ?_
      refine G_iconst (v := 0) 64 dX3_findPlate_63 (by decide) rfl ?_
      refine G_invS (N := mX3_ofPlate) (As := [va_rf l1, .int l5, .int 0]) (st := []) (rc) (rs) "" 67 dX3_findPlate_64 (Or.inl q2193) q2194 q44 q2195 rfl mX3_ofPlate_args ⟨Nat.le_of_ble_eq_true rfl, Nat.le_of_ble_eq_true rfl⟩ rfl (Nat.zero_le _) (le_b mX3_ofPlate_c (Nat.le_refl _)) (le_b mX3_ofPlate_s (Nat.le_refl _)) rfl (Cal.mono h ?_)
      rintro s11 v ⟨x12, rfl, h⟩ hx13
      have h := h hx13
      have x14 := hx13.x
      show G w mX3_findPlate (KI K) (rc) (rs) s11 67 [va_rf l0, va_rf l1, .int l2, .int l3, .int l4, .int l5, v6, v7] [.int x12]
      refine G_iload_n 68 dX3_findPlate_67 rfl rfl ?_
      refine G_icmp_lt 75 71 dX3_findPlate_68 (by decide) rfl (fun u15 => ?_) (fun u15 => ?_)
      · have h := h.1 u15
        refine G_iconst (v := 0) 76 dX3_findPlate_75 (by decide) rfl ?_
        refine G_istore 78 [va_rf l0, va_rf l1, .int l2, .int l3, .int l4, .int l5, .int 0, v7] dX3_findPlate_76 (Nat.le_of_ble_eq_true rfl) rfl rfl ?_
        refine G_iload 80 dX3_findPlate_78 rfl rfl ?_
        refine G_if_eq 102 83 dX3_findPlate_80 (by decide) rfl (fun _ => ?_) (fun q => absurd q (by decide))
        refine G_iconst (v := 0) 103 dX3_findPlate_102 (by decide) rfl ?_
        refine G_istore 105 [va_rf l0, va_rf l1, .int l2, .int l3, .int l4, .int l5, .int 0, .int 0] dX3_findPlate_103 (Nat.le_of_ble_eq_true rfl) rfl rfl ?_
        refine G_iload 107 dX3_findPlate_105 rfl rfl ?_
        refine G_if_ne 130 110 dX3_findPlate_107 (by decide) rfl (fun q => absurd q (by decide)) (fun _ => ?_)
        refine G_iload 112 dX3_findPlate_110 rfl rfl ?_
        refine G_if_eq 163 115 dX3_findPlate_112 (by decide) rfl (fun _ => ?_) (fun q => absurd q (by decide))
        refine G_iinc 166 [va_rf l0, va_rf l1, .int l2, .int l3, .int l4, .int (l5 + 1), .int 0, .int 0] dX3_findPlate_163 rfl rfl (Nat.le_of_ble_eq_true rfl) rfl rfl ?_
        refine G_goto 42 dX3_findPlate_166 (by decide) ?_
        exact h
      · have h := h.2 u15
        refine G_iconst (v := 1) 72 dX3_findPlate_71 (by decide) rfl ?_
        refine G_goto 76 dX3_findPlate_72 (by decide) ?_
        refine G_istore 78 [va_rf l0, va_rf l1, .int l2, .int l3, .int l4, .int l5, .int 1, v7] dX3_findPlate_76 (Nat.le_of_ble_eq_true rfl) rfl rfl ?_
        refine G_iload 80 dX3_findPlate_78 rfl rfl ?_
        refine G_if_eq 102 83 dX3_findPlate_80 (by decide) rfl (fun q => absurd q (by decide)) (fun _ => ?_)
        refine G_aload_n 84 dX3_findPlate_83 rfl rfl ?_
        refine G_iload 86 dX3_findPlate_84 rfl rfl ?_
        refine G_iconst (v := 0) 87 dX3_findPlate_86 (by decide) rfl ?_
        refine G_iload_n 88 dX3_findPlate_87 rfl rfl ?_
        refine G_aload_n 89 dX3_findPlate_88 rfl rfl ?_
        obtain ⟨a16, e17, h⟩ := h
        obtain ⟨c18, h⟩ := h
        refine G_getI (f := 27) (a := a16) "" 92 dX3_findPlate_89 (Or.inl q2140) (Or.inl rfl) rfl e17 (hf27 c18) rfl ?_
        refine G_invS (N := mX3_mayTake) (As := [va_rf l1, .int l5, .int 0, .int l3, .int (FI s11 27 a16)]) (st := []) (rc) (rs) "" 95 dX3_findPlate_92 (Or.inl q2297) q2298 q44 q2299 rfl mX3_mayTake_args ⟨Nat.le_of_ble_eq_true rfl, Nat.le_of_ble_eq_true rfl⟩ rfl (Nat.zero_le _) (le_b mX3_mayTake_c (Nat.le_refl _)) (le_b mX3_mayTake_s (Nat.le_refl _)) rfl (Cal.mono h ?_)
        rintro s19 v ⟨x20, rfl, h⟩ hx21
        have h := h hx21
        have x22 := hx21.x
        show G w mX3_findPlate (KI K) (rc) (rs) s19 95 [va_rf l0, va_rf l1, .int l2, .int l3, .int l4, .int l5, .int 1, v7] [.int x20]
        refine G_if_eq 102 98 dX3_findPlate_95 (by decide) rfl (fun u23 => ?_) (fun u23 => ?_)
        · have h := h.1 u23
          refine G_iconst (v := 0) 103 dX3_findPlate_102 (by decide) rfl ?_
          refine G_istore 105 [va_rf l0, va_rf l1, .int l2, .int l3, .int l4, .int l5, .int 1, .int 0] dX3_findPlate_103 (Nat.le_of_ble_eq_true rfl) rfl rfl ?_
          refine G_iload 107 dX3_findPlate_105 rfl rfl ?_
          refine G_if_ne 130 110 dX3_findPlate_107 (by decide) rfl (fun q => absurd q (by decide)) (fun _ => ?_)
          refine G_iload 112 dX3_findPlate_110 rfl rfl ?_
          refine G_if_eq 163 115 dX3_findPlate_112 (by decide) rfl (fun q => absurd q (by decide)) (fun _ => ?_)
          refine G_aload_n 116 dX3_findPlate_115 rfl rfl ?_
          refine G_iload 118 dX3_findPlate_116 rfl rfl ?_
          refine G_iconst (v := 1) 119 dX3_findPlate_118 (by decide) rfl ?_
          refine G_iload_n 120 dX3_findPlate_119 rfl rfl ?_
          refine G_aload_n 121 dX3_findPlate_120 rfl rfl ?_
          have c18 := kdE x22 c18 (by decide)
          refine G_getI (f := 27) (a := a16) "" 124 dX3_findPlate_121 (Or.inl q2140) (Or.inl rfl) rfl e17 (hf27 c18) rfl ?_
          refine G_invS (N := mX3_mayTake) (As := [va_rf l1, .int l5, .int 1, .int l3, .int (FI s19 27 a16)]) (st := []) (rc) (rs) "" 127 dX3_findPlate_124 (Or.inl q2297) q2298 q44 q2299 rfl mX3_mayTake_args ⟨Nat.le_of_ble_eq_true rfl, Nat.le_of_ble_eq_true rfl⟩ rfl (Nat.zero_le _) (le_b mX3_mayTake_c (Nat.le_refl _)) (le_b mX3_mayTake_s (Nat.le_refl _)) rfl (Cal.mono h ?_)
          rintro s24 v ⟨x25, rfl, h⟩ hx26
          have h := h hx26
          have x27 := hx26.x
          show G w mX3_findPlate (KI K) (rc) (rs) s24 127 [va_rf l0, va_rf l1, .int l2, .int l3, .int l4, .int l5, .int 1, .int 0] [.int x25]
          refine G_if_eq 163 130 dX3_findPlate_127 (by decide) rfl (fun u28 => ?_) (fun u28 => ?_)
          · have h := h.1 u28
            refine G_iinc 166 [va_rf l0, va_rf l1, .int l2, .int l3, .int l4, .int (l5 + 1), .int 1, .int 0] dX3_findPlate_163 rfl rfl (Nat.le_of_ble_eq_true rfl) rfl rfl ?_
            refine G_goto 42 dX3_findPlate_166 (by decide) ?_
            exact h
          · have h := h.2 u28
            refine G_aload_n 131 dX3_findPlate_130 rfl rfl ?_
            refine G_iload 133 dX3_findPlate_131 rfl rfl ?_
            refine G_aload_n 134 dX3_findPlate_133 rfl rfl ?_
            have c18 := kdE x27 c18 (by decide)
            refine G_getI (f := 25) (a := a16) "" 137 dX3_findPlate_134 (Or.inl q2138) (Or.inl rfl) rfl e17 (hf25 c18) rfl ?_
            refine G_invS (N := mX3_isBetter) (As := [va_rf l1, .int l5, .int (FI s24 25 a16)]) (st := []) (rc) (rs) "" 140 dX3_findPlate_137 (Or.inl q2306) q2307 q44 q2308 rfl mX3_isBetter_args ⟨Nat.le_of_ble_eq_true rfl, Nat.le_of_ble_eq_true rfl⟩ rfl (Nat.zero_le _) (le_b mX3_isBetter_c (Nat.le_refl _)) (le_b mX3_isBetter_s (Nat.le_refl _)) rfl (Cal.mono h ?_)
            rintro s29 v ⟨x30, rfl, h⟩ hx31
            have h := h hx31
            have x32 := hx31.x
            show G w mX3_findPlate (KI K) (rc) (rs) s29 140 [va_rf l0, va_rf l1, .int l2, .int l3, .int l4, .int l5, .int 1, .int 0] [.int x30]
            refine G_if_eq 163 143 dX3_findPlate_140 (by decide) rfl (fun u33 => ?_) (fun u33 => ?_)
            · have h := h.1 u33
              refine G_iinc 166 [va_rf l0, va_rf l1, .int l2, .int l3, .int l4, .int (l5 + 1), .int 1, .int 0] dX3_findPlate_163 rfl rfl (Nat.le_of_ble_eq_true rfl) rfl rfl ?_
              refine G_goto 42 dX3_findPlate_166 (by decide) ?_
              exact h
            · have h := h.2 u33
              refine G_aload_n 144 dX3_findPlate_143 rfl rfl ?_
              refine G_iload 146 dX3_findPlate_144 rfl rfl ?_
              have c18 := kdE x32 c18 (by decide)
              refine G_putI (f := 25) (a := a16) "" 149 dX3_findPlate_146 (Or.inl q2138) (Or.inl rfl) rfl e17 (hp25 c18) (nk25 c18) (Or.inl rfl) rfl rfl rfl ?_
              generalize hs34 : sFI s29 25 a16 l5 = s34
              have x35 : ∀ a, ¬ kd s29 a = 0 → kd s34 a = kd s29 a := by subst hs34; exact fun a _ => congrFun kd_sFI a
              have h := h s34 hs34.symm
              refine G_aload_n 150 dX3_findPlate_149 rfl rfl ?_
              refine G_iload 152 dX3_findPlate_150 rfl rfl ?_
              refine G_if_eq 159 155 dX3_findPlate_152 (by decide) rfl (fun _ => ?_) (fun q => absurd q (by decide))
              refine G_iconst (v := 1) 160 dX3_findPlate_159 (by decide) rfl ?_
              have c18 := kdE x35 c18 (by decide)
              refine G_putI (f := 26) (a := a16) "" 163 dX3_findPlate_160 (Or.inl q2139) (Or.inl rfl) rfl e17 (hp26 c18) (nk26 c18) (Or.inl rfl) rfl rfl rfl ?_
              generalize hs36 : sFI s34 26 a16 1 = s36
              have x37 : ∀ a, ¬ kd s34 a = 0 → kd s36 a = kd s34 a := by subst hs36; exact fun a _ => congrFun kd_sFI a
              have h := h s36 hs36.symm
              refine G_iinc 166 [va_rf l0, va_rf l1, .int l2, .int l3, .int l4, .int (l5 + 1), .int 1, .int 0] dX3_findPlate_163 rfl rfl (Nat.le_of_ble_eq_true rfl) rfl rfl ?_
              refine G_goto 42 dX3_findPlate_166 (by decide) ?_
              exact h
        · have h := h.2 u23
          refine G_iconst (v := 1) 99 dX3_findPlate_98 (by decide) rfl ?_
          refine G_goto 103 dX3_findPlate_99 (by decide) ?_
          refine G_istore 105 [va_rf l0, va_rf l1, .int l2, .int l3, .int l4, .int l5, .int 1, .int 1] dX3_findPlate_103 (Nat.le_of_ble_eq_true rfl) rfl rfl ?_
          refine G_iload 107 dX3_findPlate_105 rfl rfl ?_
          refine G_if_ne 130 110 dX3_findPlate_107 (by decide) rfl (fun _ => ?_) (fun q => absurd q (by decide))
          refine G_aload_n 131 dX3_findPlate_130 rfl rfl ?_
          refine G_iload 133 dX3_findPlate_131 rfl rfl ?_
          refine G_aload_n 134 dX3_findPlate_133 rfl rfl ?_
          have c18 := kdE x22 c18 (by decide)
          refine G_getI (f := 25) (a := a16) "" 137 dX3_findPlate_134 (Or.inl q2138) (Or.inl rfl) rfl e17 (hf25 c18) rfl ?_
          refine G_invS (N := mX3_isBetter) (As := [va_rf l1, .int l5, .int (FI s19 25 a16)]) (st := []) (rc) (rs) "" 140 dX3_findPlate_137 (Or.inl q2306) q2307 q44 q2308 rfl mX3_isBetter_args ⟨Nat.le_of_ble_eq_true rfl, Nat.le_of_ble_eq_true rfl⟩ rfl (Nat.zero_le _) (le_b mX3_isBetter_c (Nat.le_refl _)) (le_b mX3_isBetter_s (Nat.le_refl _)) rfl (Cal.mono h ?_)
          rintro s38 v ⟨x39, rfl, h⟩ hx40
          have h := h hx40
          have x41 := hx40.x
          show G w mX3_findPlate (KI K) (rc) (rs) s38 140 [va_rf l0, va_rf l1, .int l2, .int l3, .int l4, .int l5, .int 1, .int 1] [.int x39]
          refine G_if_eq 163 143 dX3_findPlate_140 (by decide) rfl (fun u42 => ?_) (fun u42 => ?_)
          · have h := h.1 u42
            refine G_iinc 166 [va_rf l0, va_rf l1, .int l2, .int l3, .int l4, .int (l5 + 1), .int 1, .int 1] dX3_findPlate_163 rfl rfl (Nat.le_of_ble_eq_true rfl) rfl rfl ?_
            refine G_goto 42 dX3_findPlate_166 (by decide) ?_
            exact h
          · have h := h.2 u42
            refine G_aload_n 144 dX3_findPlate_143 rfl rfl ?_
            refine G_iload 146 dX3_findPlate_144 rfl rfl ?_
            have c18 := kdE x41 c18 (by decide)
            refine G_putI (f := 25) (a := a16) "" 149 dX3_findPlate_146 (Or.inl q2138) (Or.inl rfl) rfl e17 (hp25 c18) (nk25 c18) (Or.inl rfl) rfl rfl rfl ?_
            generalize hs43 : sFI s38 25 a16 l5 = s43
            have x44 : ∀ a, ¬ kd s38 a = 0 → kd s43 a = kd s38 a := by subst hs43; exact fun a _ => congrFun kd_sFI a
            have h := h s43 hs43.symm
            refine G_aload_n 150 dX3_findPlate_149 rfl rfl ?_
            refine G_iload 152 dX3_findPlate_150 rfl rfl ?_
            refine G_if_eq 159 155 dX3_findPlate_152 (by decide) rfl (fun q => absurd q (by decide)) (fun _ => ?_)
            refine G_iconst (v := 0) 156 dX3_findPlate_155 (by decide) rfl ?_
            refine G_goto 160 dX3_findPlate_156 (by decide) ?_
            have c18 := kdE x44 c18 (by decide)
            refine G_putI (f := 26) (a := a16) "" 163 dX3_findPlate_160 (Or.inl q2139) (Or.inl rfl) rfl e17 (hp26 c18) (nk26 c18) (Or.inl rfl) rfl rfl rfl ?_
            generalize hs45 : sFI s43 26 a16 0 = s45
            have x46 : ∀ a, ¬ kd s43 a = 0 → kd s45 a = kd s43 a := by subst hs45; exact fun a _ => congrFun kd_sFI a
            have h := h s45 hs45.symm
            refine G_iinc 166 [va_rf l0, va_rf l1, .int l2, .int l3, .int l4, .int (l5 + 1), .int 1, .int 1] dX3_findPlate_163 rfl rfl (Nat.le_of_ble_eq_true rfl) rfl rfl ?_
            refine G_goto 42 dX3_findPlate_166 (by decide) ?_
            exact h
theorem eX3_findPlate {w : Wt} {K : Sg → Int32 → Prop} {σ : Sg} (l0 : Option Nat) (l1 : Option Nat) (l2 : Int32) (l3 : Int32) (h : G w mX3_findPlate (KI K) 0 0 σ 0 [va_rf l0, va_rf l1, .int l2, .int l3, U_, U_, U_, U_] []) : CalI w mX3_findPlate σ [va_rf l0, va_rf l1, .int l2, .int l3] K :=
  Cal.start 4 mX3_findPlate_plain (catR (catR (catI (catI cat0)))) (Nat.le_of_ble_eq_true rfl) rfl h
set_option maxHeartbeats 4000000 in
theorem bX3_mayTake_0 {w : Wt} {K : Sg → Int32 → Prop} {rc rs : Nat} {σ : Sg} (l0 : Option Nat) (l1 : Int32) (l2 : Int32) (l3 : Int32) (l4 : Int32) (h : ((l4 = 0 → CalI w mX3_isReady σ [va_rf l0, .int l1, .int l2, .int l3] (fun s2 x3 => Ext σ s2 → ((x3 = 0 ∨ x3 = 1) ∧ K s2 x3))) ∧ (¬ l4 = 0 → CalI w mX3_canBeGround σ [va_rf l0, .int l1, .int l2, .int l3] (fun s6 x7 => Ext σ s6 → ((x7 = 0 ∨ x7 = 1) ∧ K s6 x7))))) : G w mX3_mayTake (KI K) (rc) (rs) σ 0 [va_rf l0, .int l1, .int l2, .int l3, .int l4] [] := by
  refine G_iload 2 dX3_mayTake_0 rfl rfl ?_
  refine G_if_eq 15 5 dX3_mayTake_2 (by decide) rfl (fun u1 => ?_) (fun u1 => ?_)
  · have h := h.1 u1
    refine G_aload_n 16 dX3_mayTake_15 rfl rfl ?_
    refine G_iload_n 17 dX3_mayTake_16 rfl rfl ?_
    refine G_iload_n 18 dX3_mayTake_17 rfl rfl ?_
    refine G_iload_n 19 dX3_mayTake_18 rfl rfl ?_
    refine G_invS (N := mX3_isReady) (As := [va_rf l0, .int l1, .int l2, .int l3]) (st := []) (rc) (rs) "" 22 dX3_mayTake_19 (Or.inl q2303) q2304 q44 q2305 rfl mX3_isReady_args ⟨Nat.le_of_ble_eq_true rfl, Nat.le_of_ble_eq_true rfl⟩ rfl (Nat.zero_le _) (le_b mX3_isReady_c (Nat.le_refl _)) (le_b mX3_isReady_s (Nat.le_refl _)) rfl (Cal.mono h ?_)
    rintro s2 v ⟨x3, rfl, h⟩ hx4
    have h := h hx4
    have x5 := hx4.x
    show G w mX3_mayTake (KI K) (rc) (rs) s2 22 [va_rf l0, .int l1, .int l2, .int l3, .int l4] [.int x3]
    exact G_zret dX3_mayTake_22 rfl (nar_bz h.1).1 ⟨_, rfl, h.2⟩
  · have h := h.2 u1
    refine G_aload_n 6 dX3_mayTake_5 rfl rfl ?_
    refine G_iload_n 7 dX3_mayTake_6 rfl rfl ?_
    refine G_iload_n 8 dX3_mayTake_7 rfl rfl ?_
    refine G_iload_n 9 dX3_mayTake_8 rfl rfl ?_
    refine G_invS (N := mX3_canBeGround) (As := [va_rf l0, .int l1, .int l2, .int l3]) (st := []) (rc) (rs) "" 12 dX3_mayTake_9 (Or.inl q2300) q2301 q44 q2302 rfl mX3_canBeGround_args ⟨Nat.le_of_ble_eq_true rfl, Nat.le_of_ble_eq_true rfl⟩ rfl (Nat.zero_le _) (le_b mX3_canBeGround_c (Nat.le_refl _)) (le_b mX3_canBeGround_s (Nat.le_refl _)) rfl (Cal.mono h ?_)
    rintro s6 v ⟨x7, rfl, h⟩ hx8
    have h := h hx8
    have x9 := hx8.x
    show G w mX3_mayTake (KI K) (rc) (rs) s6 12 [va_rf l0, .int l1, .int l2, .int l3, .int l4] [.int x7]
    refine G_goto 22 dX3_mayTake_12 (by decide) ?_
    exact G_zret dX3_mayTake_22 rfl (nar_bz h.1).1 ⟨_, rfl, h.2⟩
theorem eX3_mayTake {w : Wt} {K : Sg → Int32 → Prop} {σ : Sg} (l0 : Option Nat) (l1 : Int32) (l2 : Int32) (l3 : Int32) (l4 : Int32) (h : G w mX3_mayTake (KI K) 0 0 σ 0 [va_rf l0, .int l1, .int l2, .int l3, .int l4] []) : CalI w mX3_mayTake σ [va_rf l0, .int l1, .int l2, .int l3, .int l4] K :=
  Cal.start 0 mX3_mayTake_plain (catR (catI (catI (catI (catI cat0))))) (Nat.le_of_ble_eq_true rfl) rfl h
set_option maxHeartbeats 4000000 in
theorem bX3_canBeGround_0 {w : Wt} {K : Sg → Int32 → Prop} {rc rs : Nat} {σ : Sg} (l0 : Option Nat) (l1 : Int32) (l2 : Int32) (l3 : Int32) (h : CalI w mX3_depthOf σ [va_rf l0, .int l1, .int l2] (fun s1 x2 => Ext σ s1 → ((x2 ≤ 0 → K s1 0) ∧ (¬ x2 ≤ 0 → CalI w mX3_leftOver s1 [va_rf l0, .int l1, .int l2, .int l3, .int (x2 + 1)] (fun s6 x7 => Ext s1 s6 → ((x7 < 2 → K s6 0) ∧ (¬ x7 < 2 → K s6 1))))))) : G w mX3_canBeGround (KI K) (rc) (rs) σ 0 [va_rf l0, .int l1, .int l2, .int l3, U_] [] := by
  refine G_aload_n 1 dX3_canBeGround_0 rfl rfl ?_
  refine G_iload_n 2 dX3_canBeGround_1 rfl rfl ?_
  refine G_iload_n 3 dX3_canBeGround_2 rfl rfl ?_
  refine G_invS (N := mX3_depthOf) (As := [va_rf l0, .int l1, .int l2]) (st := []) (rc) (rs) "" 6 dX3_canBeGround_3 (Or.inl q2203) q2204 q44 q2205 rfl mX3_depthOf_args ⟨Nat.le_of_ble_eq_true rfl, Nat.le_of_ble_eq_true rfl⟩ rfl (Nat.zero_le _) (le_b mX3_depthOf_c (Nat.le_refl _)) (le_b mX3_depthOf_s (Nat.le_refl _)) rfl (Cal.mono h ?_)
  rintro s1 v ⟨x2, rfl, h⟩ hx3
  have h := h hx3
  have x4 := hx3.x
  show G w mX3_canBeGround (KI K) (rc) (rs) s1 6 [va_rf l0, .int l1, .int l2, .int l3, U_] [.int x2]
  refine G_istore 8 [va_rf l0, .int l1, .int l2, .int l3, .int x2] dX3_canBeGround_6 (Nat.le_of_ble_eq_true rfl) rfl rfl ?_
  refine G_iload 10 dX3_canBeGround_8 rfl rfl ?_
  refine G_if_le 32 13 dX3_canBeGround_10 (by decide) rfl (fun u5 => ?_) (fun u5 => ?_)
  · have h := h.1 u5
    refine G_iconst (v := 0) 33 dX3_canBeGround_32 (by decide) rfl ?_
    exact G_zret dX3_canBeGround_33 rfl rfl ⟨_, rfl, h⟩
  · have h := h.2 u5
    refine G_aload_n 14 dX3_canBeGround_13 rfl rfl ?_
    refine G_iload_n 15 dX3_canBeGround_14 rfl rfl ?_
    refine G_iload_n 16 dX3_canBeGround_15 rfl rfl ?_
    refine G_iload_n 17 dX3_canBeGround_16 rfl rfl ?_
    refine G_iload 19 dX3_canBeGround_17 rfl rfl ?_
    refine G_iconst (v := 1) 20 dX3_canBeGround_19 (by decide) rfl ?_
    refine G_iadd 21 dX3_canBeGround_20 rfl ?_
    refine G_invS (N := mX3_leftOver) (As := [va_rf l0, .int l1, .int l2, .int l3, .int (x2 + 1)]) (st := []) (rc) (rs) "" 24 dX3_canBeGround_21 (Or.inl q2206) q2207 q44 q2208 rfl mX3_leftOver_args ⟨Nat.le_of_ble_eq_true rfl, Nat.le_of_ble_eq_true rfl⟩ rfl (Nat.zero_le _) (le_b mX3_leftOver_c (Nat.le_refl _)) (le_b mX3_leftOver_s (Nat.le_refl _)) rfl (Cal.mono h ?_)
    rintro s6 v ⟨x7, rfl, h⟩ hx8
    have h := h hx8
    have x9 := hx8.x
    show G w mX3_canBeGround (KI K) (rc) (rs) s6 24 [va_rf l0, .int l1, .int l2, .int l3, .int x2] [.int x7]
    refine G_iconst (v := 2) 25 dX3_canBeGround_24 (by decide) rfl ?_
    refine G_icmp_lt 32 28 dX3_canBeGround_25 (by decide) rfl (fun u10 => ?_) (fun u10 => ?_)
    · have h := h.1 u10
      refine G_iconst (v := 0) 33 dX3_canBeGround_32 (by decide) rfl ?_
      exact G_zret dX3_canBeGround_33 rfl rfl ⟨_, rfl, h⟩
    · have h := h.2 u10
      refine G_iconst (v := 1) 29 dX3_canBeGround_28 (by decide) rfl ?_
      refine G_goto 33 dX3_canBeGround_29 (by decide) ?_
      exact G_zret dX3_canBeGround_33 rfl rfl ⟨_, rfl, h⟩
theorem eX3_canBeGround {w : Wt} {K : Sg → Int32 → Prop} {σ : Sg} (l0 : Option Nat) (l1 : Int32) (l2 : Int32) (l3 : Int32) (h : G w mX3_canBeGround (KI K) 0 0 σ 0 [va_rf l0, .int l1, .int l2, .int l3, U_] []) : CalI w mX3_canBeGround σ [va_rf l0, .int l1, .int l2, .int l3] K :=
  Cal.start 1 mX3_canBeGround_plain (catR (catI (catI (catI cat0)))) (Nat.le_of_ble_eq_true rfl) rfl h
set_option maxHeartbeats 4000000 in
theorem bX3_isReady_0 {w : Wt} {K : Sg → Int32 → Prop} {rc rs : Nat} {σ : Sg} (l0 : Option Nat) (l1 : Int32) (l2 : Int32) (l3 : Int32) (h : CalI w mX3_depthOf σ [va_rf l0, .int l1, .int l2] (fun s1 x2 => Ext σ s1 → ((¬ x2 = 0 → K s1 0) ∧ (x2 = 0 → CalI w mX3_leftOver s1 [va_rf l0, .int l1, .int l2, .int l3, .int 0] (fun s6 x7 => Ext s1 s6 → ((x7 < 2 → K s6 0) ∧ (¬ x7 < 2 → K s6 1))))))) : G w mX3_isReady (KI K) (rc) (rs) σ 0 [va_rf l0, .int l1, .int l2, .int l3] [] := by
  refine G_aload_n 1 dX3_isReady_0 rfl rfl ?_
  refine G_iload_n 2 dX3_isReady_1 rfl rfl ?_
  refine G_iload_n 3 dX3_isReady_2 rfl rfl ?_
  refine G_invS (N := mX3_depthOf) (As := [va_rf l0, .int l1, .int l2]) (st := []) (rc) (rs) "" 6 dX3_isReady_3 (Or.inl q2203) q2204 q44 q2205 rfl mX3_depthOf_args ⟨Nat.le_of_ble_eq_true rfl, Nat.le_of_ble_eq_true rfl⟩ rfl (Nat.zero_le _) (le_b mX3_depthOf_c (Nat.le_refl _)) (le_b mX3_depthOf_s (Nat.le_refl _)) rfl (Cal.mono h ?_)
  rintro s1 v ⟨x2, rfl, h⟩ hx3
  have h := h hx3
  have x4 := hx3.x
  show G w mX3_isReady (KI K) (rc) (rs) s1 6 [va_rf l0, .int l1, .int l2, .int l3] [.int x2]
  refine G_if_ne 25 9 dX3_isReady_6 (by decide) rfl (fun u5 => ?_) (fun u5 => ?_)
  · have h := h.1 u5
    refine G_iconst (v := 0) 26 dX3_isReady_25 (by decide) rfl ?_
    exact G_zret dX3_isReady_26 rfl rfl ⟨_, rfl, h⟩
  · have h := h.2 u5
    refine G_aload_n 10 dX3_isReady_9 rfl rfl ?_
    refine G_iload_n 11 dX3_isReady_10 rfl rfl ?_
    refine G_iload_n 12 dX3_isReady_11 rfl rfl ?_
    refine G_iload_n 13 dX3_isReady_12 rfl rfl ?_
    refine G_iconst (v := 0) 14 dX3_isReady_13 (by decide) rfl ?_
    refine G_invS (N := mX3_leftOver) (As := [va_rf l0, .int l1, .int l2, .int l3, .int 0]) (st := []) (rc) (rs) "" 17 dX3_isReady_14 (Or.inl q2206) q2207 q44 q2208 rfl mX3_leftOver_args ⟨Nat.le_of_ble_eq_true rfl, Nat.le_of_ble_eq_true rfl⟩ rfl (Nat.zero_le _) (le_b mX3_leftOver_c (Nat.le_refl _)) (le_b mX3_leftOver_s (Nat.le_refl _)) rfl (Cal.mono h ?_)
    rintro s6 v ⟨x7, rfl, h⟩ hx8
    have h := h hx8
    have x9 := hx8.x
    show G w mX3_isReady (KI K) (rc) (rs) s6 17 [va_rf l0, .int l1, .int l2, .int l3] [.int x7]
    refine G_iconst (v := 2) 18 dX3_isReady_17 (by decide) rfl ?_
    refine G_icmp_lt 25 21 dX3_isReady_18 (by decide) rfl (fun u10 => ?_) (fun u10 => ?_)
    · have h := h.1 u10
      refine G_iconst (v := 0) 26 dX3_isReady_25 (by decide) rfl ?_
      exact G_zret dX3_isReady_26 rfl rfl ⟨_, rfl, h⟩
    · have h := h.2 u10
      refine G_iconst (v := 1) 22 dX3_isReady_21 (by decide) rfl ?_
      refine G_goto 26 dX3_isReady_22 (by decide) ?_
      exact G_zret dX3_isReady_26 rfl rfl ⟨_, rfl, h⟩
theorem eX3_isReady {w : Wt} {K : Sg → Int32 → Prop} {σ : Sg} (l0 : Option Nat) (l1 : Int32) (l2 : Int32) (l3 : Int32) (h : G w mX3_isReady (KI K) 0 0 σ 0 [va_rf l0, .int l1, .int l2, .int l3] []) : CalI w mX3_isReady σ [va_rf l0, .int l1, .int l2, .int l3] K :=
  Cal.start 0 mX3_isReady_plain (catR (catI (catI (catI cat0)))) (Nat.le_of_ble_eq_true rfl) rfl h
set_option maxHeartbeats 4000000 in
theorem bX3_isBetter_0 {w : Wt} {K : Sg → Int32 → Prop} {rc rs : Nat} {σ : Sg} (l0 : Option Nat) (l1 : Int32) (l2 : Int32) (h : ((¬ l2 = (-9) → CalI w mX3_ofPlate σ [va_rf l0, .int l1, .int 0] (fun s2 x3 => Ext σ s2 → CalI w mX3_ofPlate s2 [va_rf l0, .int l2, .int 0] (fun s6 x7 => Ext s2 s6 → ((x3 - x7 < 0 → K s6 1) ∧ (¬ x3 - x7 < 0 → ((¬ x3 - x7 = 0 → K s6 0) ∧ (x3 - x7 = 0 → CalI w mX3_ofPlate s6 [va_rf l0, .int l1, .int 1] (fun s12 x13 => Ext s6 s12 → CalI w mX3_ofPlate s12 [va_rf l0, .int l2, .int 1] (fun s16 x17 => Ext s12 s16 → ((x17 ≤ x13 → K s16 0) ∧ (¬ x17 ≤ x13 → K s16 1))))))))))) ∧ (l2 = (-9) → K σ 1))) : G w mX3_isBetter (KI K) (rc) (rs) σ 0 [va_rf l0, .int l1, .int l2, U_] [] := by
  refine G_iload_n 1 dX3_isBetter_0 rfl rfl ?_
  refine G_bipush (v := (-9)) 3 dX3_isBetter_1 (by decide) rfl ?_
  refine G_icmp_ne 8 6 dX3_isBetter_3 (by decide) rfl (fun u1 => ?_) (fun u1 => ?_)
  · have h := h.1 u1
    refine G_aload_n 9 dX3_isBetter_8 rfl rfl ?_
    refine G_iload_n 10 dX3_isBetter_9 rfl rfl ?_
    refine G_iconst (v := 0) 11 dX3_isBetter_10 (by decide) rfl ?_
    refine G_invS (N := mX3_ofPlate) (As := [va_rf l0, .int l1, .int 0]) (st := []) (rc) (rs) "" 14 dX3_isBetter_11 (Or.inl q2193) q2194 q44 q2195 rfl mX3_ofPlate_args ⟨Nat.le_of_ble_eq_true rfl, Nat.le_of_ble_eq_true rfl⟩ rfl (Nat.zero_le _) (le_b mX3_ofPlate_c (Nat.le_refl _)) (le_b mX3_ofPlate_s (Nat.le_refl _)) rfl (Cal.mono h ?_)
    rintro s2 v ⟨x3, rfl, h⟩ hx4
    have h := h hx4
    have x5 := hx4.x
    show G w mX3_isBetter (KI K) (rc) (rs) s2 14 [va_rf l0, .int l1, .int l2, U_] [.int x3]
    refine G_aload_n 15 dX3_isBetter_14 rfl rfl ?_
    refine G_iload_n 16 dX3_isBetter_15 rfl rfl ?_
    refine G_iconst (v := 0) 17 dX3_isBetter_16 (by decide) rfl ?_
    refine G_invS (N := mX3_ofPlate) (As := [va_rf l0, .int l2, .int 0]) (st := [.int x3]) (rc) (rs) "" 20 dX3_isBetter_17 (Or.inl q2193) q2194 q44 q2195 rfl mX3_ofPlate_args ⟨Nat.le_of_ble_eq_true rfl, Nat.le_of_ble_eq_true rfl⟩ rfl (Nat.le_trans (w_I w_0) (Nat.le_of_ble_eq_true rfl)) (le_b mX3_ofPlate_c (Nat.le_refl _)) (le_b mX3_ofPlate_s (Nat.le_refl _)) rfl (Cal.mono h ?_)
    rintro s6 v ⟨x7, rfl, h⟩ hx8
    have h := h hx8
    have x9 := hx8.x
    show G w mX3_isBetter (KI K) (rc) (rs) s6 20 [va_rf l0, .int l1, .int l2, U_] [.int x7, .int x3]
    refine G_isub 21 dX3_isBetter_20 rfl ?_
    refine G_istore_n 22 [va_rf l0, .int l1, .int l2, .int (x3 - x7)] dX3_isBetter_21 (Nat.le_of_ble_eq_true rfl) rfl rfl ?_
    refine G_iload_n 23 dX3_isBetter_22 rfl rfl ?_
    refine G_if_lt 45 26 dX3_isBetter_23 (by decide) rfl (fun u10 => ?_) (fun u10 => ?_)
    · have h := h.1 u10
      refine G_iconst (v := 1) 46 dX3_isBetter_45 (by decide) rfl ?_
      refine G_goto 50 dX3_isBetter_46 (by decide) ?_
      exact G_zret dX3_isBetter_50 rfl rfl ⟨_, rfl, h⟩
    · have h := h.2 u10
      refine G_iload_n 27 dX3_isBetter_26 rfl rfl ?_
      refine G_if_ne 49 30 dX3_isBetter_27 (by decide) rfl (fun u11 => ?_) (fun u11 => ?_)
      · have h := h.1 u11
        refine G_iconst (v := 0) 50 dX3_isBetter_49 (by decide) rfl ?_
        exact G_zret dX3_isBetter_50 rfl rfl ⟨_, rfl, h⟩
      · have h := h.2 u11
        refine G_aload_n 31 dX3_isBetter_30 rfl rfl ?_
        refine G_iload_n 32 dX3_isBetter_31 rfl rfl ?_
        refine G_iconst (v := 1) 33 dX3_isBetter_32 (by decide) rfl ?_
        refine G_invS (N := mX3_ofPlate) (As := [va_rf l0, .int l1, .int 1]) (st := []) (rc) (rs) "" 36 dX3_isBetter_33 (Or.inl q2193) q2194 q44 q2195 rfl mX3_ofPlate_args ⟨Nat.le_of_ble_eq_true rfl, Nat.le_of_ble_eq_true rfl⟩ rfl (Nat.zero_le _) (le_b mX3_ofPlate_c (Nat.le_refl _)) (le_b mX3_ofPlate_s (Nat.le_refl _)) rfl (Cal.mono h ?_)
        rintro s12 v ⟨x13, rfl, h⟩ hx14
        have h := h hx14
        have x15 := hx14.x
        show G w mX3_isBetter (KI K) (rc) (rs) s12 36 [va_rf l0, .int l1, .int l2, .int (x3 - x7)] [.int x13]
        refine G_aload_n 37 dX3_isBetter_36 rfl rfl ?_
        refine G_iload_n 38 dX3_isBetter_37 rfl rfl ?_
        refine G_iconst (v := 1) 39 dX3_isBetter_38 (by decide) rfl ?_
        refine G_invS (N := mX3_ofPlate) (As := [va_rf l0, .int l2, .int 1]) (st := [.int x13]) (rc) (rs) "" 42 dX3_isBetter_39 (Or.inl q2193) q2194 q44 q2195 rfl mX3_ofPlate_args ⟨Nat.le_of_ble_eq_true rfl, Nat.le_of_ble_eq_true rfl⟩ rfl (Nat.le_trans (w_I w_0) (Nat.le_of_ble_eq_true rfl)) (le_b mX3_ofPlate_c (Nat.le_refl _)) (le_b mX3_ofPlate_s (Nat.le_refl _)) rfl (Cal.mono h ?_)
        rintro s16 v ⟨x17, rfl, h⟩ hx18
        have h := h hx18
        have x19 := hx18.x
        show G w mX3_isBetter (KI K) (rc) (rs) s16 42 [va_rf l0, .int l1, .int l2, .int (x3 - x7)] [.int x17, .int x13]
        refine G_icmp_ge 49 45 dX3_isBetter_42 (by decide) rfl (fun u20 => ?_) (fun u20 => ?_)
        · have h := h.1 u20
          refine G_iconst (v := 0) 50 dX3_isBetter_49 (by decide) rfl ?_
          exact G_zret dX3_isBetter_50 rfl rfl ⟨_, rfl, h⟩
        · have h := h.2 u20
          refine G_iconst (v := 1) 46 dX3_isBetter_45 (by decide) rfl ?_
          refine G_goto 50 dX3_isBetter_46 (by decide) ?_
          exact G_zret dX3_isBetter_50 rfl rfl ⟨_, rfl, h⟩
  · have h := h.2 u1
    refine G_iconst (v := 1) 7 dX3_isBetter_6 (by decide) rfl ?_
    exact G_zret dX3_isBetter_7 rfl rfl ⟨_, rfl, h⟩
theorem eX3_isBetter {w : Wt} {K : Sg → Int32 → Prop} {σ : Sg} (l0 : Option Nat) (l1 : Int32) (l2 : Int32) (h : G w mX3_isBetter (KI K) 0 0 σ 0 [va_rf l0, .int l1, .int l2, U_] []) : CalI w mX3_isBetter σ [va_rf l0, .int l1, .int l2] K :=
  Cal.start 1 mX3_isBetter_plain (catR (catI (catI cat0))) (Nat.le_of_ble_eq_true rfl) rfl h
set_option maxHeartbeats 4000000 in
theorem bX3_effort_0 {w : Wt} {K : Sg → Int32 → Prop} {rc rs : Nat} {σ : Sg} (l0 : Option Nat) (l1 : Int32) (h : CalI w mX3_of σ [va_rf l0, .int l1, .int 5] (fun s1 x2 => Ext σ s1 → CalI w mX3_of s1 [va_rf l0, .int l1, .int 2] (fun s5 x6 => Ext s1 s5 → CalI w mX3_of s5 [va_rf l0, .int l1, .int 3] (fun s9 x10 => Ext s5 s9 → K s9 (x2 * (x6 + x10)))))) : G w mX3_effort (KI K) (rc) (rs) σ 0 [va_rf l0, .int l1] [] := by
  refine G_aload_n 1 dX3_effort_0 rfl rfl ?_
  refine G_iload_n 2 dX3_effort_1 rfl rfl ?_
  refine G_iconst (v := 5) 3 dX3_effort_2 (by decide) rfl ?_
  refine G_invS (N := mX3_of) (As := [va_rf l0, .int l1, .int 5]) (st := []) (rc) (rs) "" 6 dX3_effort_3 (Or.inl q2246) q2247 q44 q2248 rfl mX3_of_args ⟨Nat.le_of_ble_eq_true rfl, Nat.le_of_ble_eq_true rfl⟩ rfl (Nat.zero_le _) (le_b mX3_of_c (Nat.le_refl _)) (le_b mX3_of_s (Nat.le_refl _)) rfl (Cal.mono h ?_)
  rintro s1 v ⟨x2, rfl, h⟩ hx3
  have h := h hx3
  have x4 := hx3.x
  show G w mX3_effort (KI K) (rc) (rs) s1 6 [va_rf l0, .int l1] [.int x2]
  refine G_aload_n 7 dX3_effort_6 rfl rfl ?_
  refine G_iload_n 8 dX3_effort_7 rfl rfl ?_
  refine G_iconst (v := 2) 9 dX3_effort_8 (by decide) rfl ?_
  refine G_invS (N := mX3_of) (As := [va_rf l0, .int l1, .int 2]) (st := [.int x2]) (rc) (rs) "" 12 dX3_effort_9 (Or.inl q2246) q2247 q44 q2248 rfl mX3_of_args ⟨Nat.le_of_ble_eq_true rfl, Nat.le_of_ble_eq_true rfl⟩ rfl (Nat.le_trans (w_I w_0) (Nat.le_of_ble_eq_true rfl)) (le_b mX3_of_c (Nat.le_refl _)) (le_b mX3_of_s (Nat.le_refl _)) rfl (Cal.mono h ?_)
  rintro s5 v ⟨x6, rfl, h⟩ hx7
  have h := h hx7
  have x8 := hx7.x
  show G w mX3_effort (KI K) (rc) (rs) s5 12 [va_rf l0, .int l1] [.int x6, .int x2]
  refine G_aload_n 13 dX3_effort_12 rfl rfl ?_
  refine G_iload_n 14 dX3_effort_13 rfl rfl ?_
  refine G_iconst (v := 3) 15 dX3_effort_14 (by decide) rfl ?_
  refine G_invS (N := mX3_of) (As := [va_rf l0, .int l1, .int 3]) (st := [.int x6, .int x2]) (rc) (rs) "" 18 dX3_effort_15 (Or.inl q2246) q2247 q44 q2248 rfl mX3_of_args ⟨Nat.le_of_ble_eq_true rfl, Nat.le_of_ble_eq_true rfl⟩ rfl (Nat.le_trans (w_I (w_I w_0)) (Nat.le_of_ble_eq_true rfl)) (le_b mX3_of_c (Nat.le_refl _)) (le_b mX3_of_s (Nat.le_refl _)) rfl (Cal.mono h ?_)
  rintro s9 v ⟨x10, rfl, h⟩ hx11
  have h := h hx11
  have x12 := hx11.x
  show G w mX3_effort (KI K) (rc) (rs) s9 18 [va_rf l0, .int l1] [.int x10, .int x6, .int x2]
  refine G_iadd 19 dX3_effort_18 rfl ?_
  refine G_imul 20 dX3_effort_19 rfl ?_
  exact G_iret dX3_effort_20 rfl ⟨_, rfl, h⟩
theorem eX3_effort {w : Wt} {K : Sg → Int32 → Prop} {σ : Sg} (l0 : Option Nat) (l1 : Int32) (h : G w mX3_effort (KI K) 0 0 σ 0 [va_rf l0, .int l1] []) : CalI w mX3_effort σ [va_rf l0, .int l1] K :=
  Cal.start 0 mX3_effort_plain (catR (catI cat0)) (Nat.le_of_ble_eq_true rfl) rfl h
set_option maxHeartbeats 4000000 in
theorem bX3_finish_0 {w : Wt} {K : Sg → Prop} {rc rs : Nat} {σ : Sg} (l0 : Option Nat) (l1 : Option Nat) (h : ∃ a1, l1 = some a1 ∧ kd σ a1 ∈ [1, 5] ∧ vp_in 3 (ln σ a1) ∧ vp_in 5 (ln σ a1) ∧ vp_in 6 (ln σ a1) ∧ CalI w mX3_of σ [va_rf l1, .int (AI σ a1 (3 : Int32).toNatClampNeg), .int 3] (fun s7 x8 => Ext σ s7 → CalV w mX3_setPlate s7 [va_rf l1, .int (AI σ a1 (5 : Int32).toNatClampNeg), .int (3 + (AI σ a1 (6 : Int32).toNatClampNeg)), .int x8] (fun s11 => Ext s7 s11 → CalI w mX3_of s11 [va_rf l1, .int (AI σ a1 (3 : Int32).toNatClampNeg), .int 0] (fun s14 x15 => Ext s11 s14 → CalI w mX3_of s14 [va_rf l1, .int (AI σ a1 (3 : Int32).toNatClampNeg), .int 1] (fun s18 x19 => Ext s14 s18 → CalV w mX3_fix s18 [va_rf l1, .int (AI σ a1 (5 : Int32).toNatClampNeg), .int x15, .int x19] (fun s22 => Ext s18 s22 → CalV w mX3_rest s22 [va_rf l1] (fun s25 => Ext s22 s25 → ∃ a28, l0 = some a28 ∧ kd s25 a28 = 13 ∧ CalV w mX3_takeOut s25 [va_rf l0, va_rf l1, .int (AI σ a1 (3 : Int32).toNatClampNeg)] (fun s30 => Ext s25 s30 → vp_in 7 (ln s30 a1) ∧ kd s30 a1 = 1 ∧ ∀ s36, s36 = sAI s30 a1 (7 : Int32).toNatClampNeg ((AI s30 a1 (7 : Int32).toNatClampNeg) + 1) → K s36)))))))) : G w mX3_finish (KV K) (rc) (rs) σ 0 [va_rf l0, va_rf l1, U_, U_] [] := by
  refine G_aload_n 1 dX3_finish_0 rfl rfl ?_
  refine G_iconst (v := 3) 2 dX3_finish_1 (by decide) rfl ?_
  obtain ⟨a1, e2, h⟩ := h
  obtain ⟨c3, h⟩ := h
  obtain ⟨c4, h⟩ := h
  refine G_iald (a := a1) 3 dX3_finish_2 rfl e2 c3 c4 ?_
  refine G_istore_n 4 [va_rf l0, va_rf l1, .int (AI σ a1 (3 : Int32).toNatClampNeg), U_] dX3_finish_3 (Nat.le_of_ble_eq_true rfl) rfl rfl ?_
  refine G_aload_n 5 dX3_finish_4 rfl rfl ?_
  refine G_iconst (v := 5) 6 dX3_finish_5 (by decide) rfl ?_
  obtain ⟨c5, h⟩ := h
  refine G_iald (a := a1) 7 dX3_finish_6 rfl e2 c3 c5 ?_
  refine G_istore_n 8 [va_rf l0, va_rf l1, .int (AI σ a1 (3 : Int32).toNatClampNeg), .int (AI σ a1 (5 : Int32).toNatClampNeg)] dX3_finish_7 (Nat.le_of_ble_eq_true rfl) rfl rfl ?_
  refine G_aload_n 9 dX3_finish_8 rfl rfl ?_
  refine G_iload_n 10 dX3_finish_9 rfl rfl ?_
  refine G_iconst (v := 3) 11 dX3_finish_10 (by decide) rfl ?_
  refine G_aload_n 12 dX3_finish_11 rfl rfl ?_
  refine G_bipush (v := 6) 14 dX3_finish_12 (by decide) rfl ?_
  obtain ⟨c6, h⟩ := h
  refine G_iald (a := a1) 15 dX3_finish_14 rfl e2 c3 c6 ?_
  refine G_iadd 16 dX3_finish_15 rfl ?_
  refine G_aload_n 17 dX3_finish_16 rfl rfl ?_
  refine G_iload_n 18 dX3_finish_17 rfl rfl ?_
  refine G_iconst (v := 3) 19 dX3_finish_18 (by decide) rfl ?_
  refine G_invS (N := mX3_of) (As := [va_rf l1, .int (AI σ a1 (3 : Int32).toNatClampNeg), .int 3]) (st := [.int (3 + (AI σ a1 (6 : Int32).toNatClampNeg)), .int (AI σ a1 (5 : Int32).toNatClampNeg), va_rf l1]) (rc) (rs) "" 22 dX3_finish_19 (Or.inl q2246) q2247 q44 q2248 rfl mX3_of_args ⟨Nat.le_of_ble_eq_true rfl, Nat.le_of_ble_eq_true rfl⟩ rfl (Nat.le_trans (w_I (w_I (w_R w_0))) (Nat.le_of_ble_eq_true rfl)) (le_b mX3_of_c (Nat.le_refl _)) (le_b mX3_of_s (Nat.le_refl _)) rfl (Cal.mono h ?_)
  rintro s7 v ⟨x8, rfl, h⟩ hx9
  have h := h hx9
  have x10 := hx9.x
  show G w mX3_finish (KV K) (rc) (rs) s7 22 [va_rf l0, va_rf l1, .int (AI σ a1 (3 : Int32).toNatClampNeg), .int (AI σ a1 (5 : Int32).toNatClampNeg)] [.int x8, .int (3 + (AI σ a1 (6 : Int32).toNatClampNeg)), .int (AI σ a1 (5 : Int32).toNatClampNeg), va_rf l1]
  refine G_invS (N := mX3_setPlate) (As := [va_rf l1, .int (AI σ a1 (5 : Int32).toNatClampNeg), .int (3 + (AI σ a1 (6 : Int32).toNatClampNeg)), .int x8]) (st := []) (rc) (rs) "" 25 dX3_finish_22 (Or.inl q2182) q2183 q44 q2184 rfl mX3_setPlate_args ⟨Nat.le_of_ble_eq_true rfl, Nat.le_of_ble_eq_true rfl⟩ rfl (Nat.zero_le _) (le_b mX3_setPlate_c (Nat.le_refl _)) (le_b mX3_setPlate_s (Nat.le_refl _)) rfl (Cal.mono h ?_)
  rintro s11 v ⟨rfl, h⟩ hx12
  have h := h hx12
  have x13 := hx12.x
  show G w mX3_finish (KV K) (rc) (rs) s11 25 [va_rf l0, va_rf l1, .int (AI σ a1 (3 : Int32).toNatClampNeg), .int (AI σ a1 (5 : Int32).toNatClampNeg)] []
  refine G_aload_n 26 dX3_finish_25 rfl rfl ?_
  refine G_iload_n 27 dX3_finish_26 rfl rfl ?_
  refine G_aload_n 28 dX3_finish_27 rfl rfl ?_
  refine G_iload_n 29 dX3_finish_28 rfl rfl ?_
  refine G_iconst (v := 0) 30 dX3_finish_29 (by decide) rfl ?_
  refine G_invS (N := mX3_of) (As := [va_rf l1, .int (AI σ a1 (3 : Int32).toNatClampNeg), .int 0]) (st := [.int (AI σ a1 (5 : Int32).toNatClampNeg), va_rf l1]) (rc) (rs) "" 33 dX3_finish_30 (Or.inl q2246) q2247 q44 q2248 rfl mX3_of_args ⟨Nat.le_of_ble_eq_true rfl, Nat.le_of_ble_eq_true rfl⟩ rfl (Nat.le_trans (w_I (w_R w_0)) (Nat.le_of_ble_eq_true rfl)) (le_b mX3_of_c (Nat.le_refl _)) (le_b mX3_of_s (Nat.le_refl _)) rfl (Cal.mono h ?_)
  rintro s14 v ⟨x15, rfl, h⟩ hx16
  have h := h hx16
  have x17 := hx16.x
  show G w mX3_finish (KV K) (rc) (rs) s14 33 [va_rf l0, va_rf l1, .int (AI σ a1 (3 : Int32).toNatClampNeg), .int (AI σ a1 (5 : Int32).toNatClampNeg)] [.int x15, .int (AI σ a1 (5 : Int32).toNatClampNeg), va_rf l1]
  refine G_aload_n 34 dX3_finish_33 rfl rfl ?_
  refine G_iload_n 35 dX3_finish_34 rfl rfl ?_
  refine G_iconst (v := 1) 36 dX3_finish_35 (by decide) rfl ?_
  refine G_invS (N := mX3_of) (As := [va_rf l1, .int (AI σ a1 (3 : Int32).toNatClampNeg), .int 1]) (st := [.int x15, .int (AI σ a1 (5 : Int32).toNatClampNeg), va_rf l1]) (rc) (rs) "" 39 dX3_finish_36 (Or.inl q2246) q2247 q44 q2248 rfl mX3_of_args ⟨Nat.le_of_ble_eq_true rfl, Nat.le_of_ble_eq_true rfl⟩ rfl (Nat.le_trans (w_I (w_I (w_R w_0))) (Nat.le_of_ble_eq_true rfl)) (le_b mX3_of_c (Nat.le_refl _)) (le_b mX3_of_s (Nat.le_refl _)) rfl (Cal.mono h ?_)
  rintro s18 v ⟨x19, rfl, h⟩ hx20
  have h := h hx20
  have x21 := hx20.x
  show G w mX3_finish (KV K) (rc) (rs) s18 39 [va_rf l0, va_rf l1, .int (AI σ a1 (3 : Int32).toNatClampNeg), .int (AI σ a1 (5 : Int32).toNatClampNeg)] [.int x19, .int x15, .int (AI σ a1 (5 : Int32).toNatClampNeg), va_rf l1]
  refine G_invS (N := mX3_fix) (As := [va_rf l1, .int (AI σ a1 (5 : Int32).toNatClampNeg), .int x15, .int x19]) (st := []) (rc) (rs) "" 42 dX3_finish_39 (Or.inl q2316) q2317 q44 q2318 rfl mX3_fix_args ⟨Nat.le_of_ble_eq_true rfl, Nat.le_of_ble_eq_true rfl⟩ rfl (Nat.zero_le _) (le_b mX3_fix_c (Nat.le_refl _)) (le_b mX3_fix_s (Nat.le_refl _)) rfl (Cal.mono h ?_)
  rintro s22 v ⟨rfl, h⟩ hx23
  have h := h hx23
  have x24 := hx23.x
  show G w mX3_finish (KV K) (rc) (rs) s22 42 [va_rf l0, va_rf l1, .int (AI σ a1 (3 : Int32).toNatClampNeg), .int (AI σ a1 (5 : Int32).toNatClampNeg)] []
  refine G_aload_n 43 dX3_finish_42 rfl rfl ?_
  refine G_invS (N := mX3_rest) (As := [va_rf l1]) (st := []) (rc) (rs) "" 46 dX3_finish_43 (Or.inl q2276) q2277 q44 q2278 rfl mX3_rest_args ⟨Nat.le_of_ble_eq_true rfl, Nat.le_of_ble_eq_true rfl⟩ rfl (Nat.zero_le _) (le_b mX3_rest_c (Nat.le_refl _)) (le_b mX3_rest_s (Nat.le_refl _)) rfl (Cal.mono h ?_)
  rintro s25 v ⟨rfl, h⟩ hx26
  have h := h hx26
  have x27 := hx26.x
  show G w mX3_finish (KV K) (rc) (rs) s25 46 [va_rf l0, va_rf l1, .int (AI σ a1 (3 : Int32).toNatClampNeg), .int (AI σ a1 (5 : Int32).toNatClampNeg)] []
  refine G_aload_n 47 dX3_finish_46 rfl rfl ?_
  refine G_aload_n 48 dX3_finish_47 rfl rfl ?_
  refine G_iload_n 49 dX3_finish_48 rfl rfl ?_
  obtain ⟨a28, e29, h⟩ := h
  obtain ⟨c31, h⟩ := h
  refine G_invV (N := mX3_takeOut) (As := [va_rf l1, .int (AI σ a1 (3 : Int32).toNatClampNeg)]) (st := []) (t := l0) (b := a28) (rc) (rs) 52 dX3_finish_49 q2268 q2270 qs23 q44 q2271 rfl rfl mX3_takeOut_args ⟨Nat.le_of_ble_eq_true rfl, Nat.le_of_ble_eq_true rfl⟩ rfl (Nat.zero_le _) e29 (rk13 c31) (le_b mX3_takeOut_c (Nat.le_refl _)) (le_b mX3_takeOut_s (Nat.le_refl _)) rfl (Cal.mono h ?_)
  rintro s30 v ⟨rfl, h⟩ hx32
  have h := h hx32
  have x33 := hx32.x
  show G w mX3_finish (KV K) (rc) (rs) s30 52 [va_rf l0, va_rf l1, .int (AI σ a1 (3 : Int32).toNatClampNeg), .int (AI σ a1 (5 : Int32).toNatClampNeg)] []
  refine G_aload_n 53 dX3_finish_52 rfl rfl ?_
  refine G_bipush (v := 7) 55 dX3_finish_53 (by decide) rfl ?_
  refine G_dup2 56 dX3_finish_55 (rfl) (rf_cat _) rfl ?_
  have c3 := kdM x10 c3 (by decide)
  have c3 := kdM x13 c3 (by decide)
  have c3 := kdM x17 c3 (by decide)
  have c3 := kdM x21 c3 (by decide)
  have c3 := kdM x24 c3 (by decide)
  have c3 := kdM x27 c3 (by decide)
  have c3 := kdM x33 c3 (by decide)
  obtain ⟨c34, h⟩ := h
  refine G_iald (a := a1) 57 dX3_finish_56 rfl e2 c3 c34 ?_
  refine G_iconst (v := 1) 58 dX3_finish_57 (by decide) rfl ?_
  refine G_iadd 59 dX3_finish_58 rfl ?_
  obtain ⟨c35, h⟩ := h
  refine G_iast (a := a1) 60 dX3_finish_59 rfl e2 c35 c34 ?_
  generalize hs36 : sAI s30 a1 (7 : Int32).toNatClampNeg ((AI s30 a1 (7 : Int32).toNatClampNeg) + 1) = s36
  have x37 : ∀ a, ¬ kd s30 a = 0 → kd s36 a = kd s30 a := by subst hs36; exact fun a _ => congrFun kd_sAI a
  have h := h s36 hs36.symm
  exact G_ret dX3_finish_60 rfl ⟨rfl, h⟩
theorem eX3_finish {w : Wt} {K : Sg → Prop} {σ : Sg} (l0 : Option Nat) (l1 : Option Nat) (h : G w mX3_finish (KV K) 0 0 σ 0 [va_rf l0, va_rf l1, U_, U_] []) : CalV w mX3_finish σ [va_rf l0, va_rf l1] K :=
  Cal.start 2 mX3_finish_plain (catR (catR cat0)) (Nat.le_of_ble_eq_true rfl) rfl h
set_option maxHeartbeats 4000000 in
theorem bX3_fix_0 {w : Wt} {K : Sg → Prop} {rc rs : Nat} {σ : Sg} (l0 : Option Nat) (l1 : Int32) (l2 : Int32) (l3 : Int32) (h : CalV w mX3_setPlate σ [va_rf l0, .int l1, .int 2, .int 2] (fun s1 => Ext σ s1 → CalV w mX3_setPlate s1 [va_rf l0, .int l1, .int 5, .int l2] (fun s4 => Ext s1 s4 → CalV w mX3_setPlate s4 [va_rf l0, .int l1, .int 6, .int l3] (fun s7 => Ext s4 s7 → CalI w mX3_platesOn s7 [va_rf l0, .int l2] (fun s10 x11 => Ext s7 s10 → ∃ a14, l0 = some a14 ∧ kd s10 a14 ∈ [1, 5] ∧ vp_in (150 + l2) (ln s10 a14) ∧ ((x11 ≤ AI s10 a14 (150 + l2).toNatClampNeg → K s10) ∧ (¬ x11 ≤ AI s10 a14 (150 + l2).toNatClampNeg → CalI w mX3_yearOn s10 [va_rf l0, .int l2, .int 1] (fun s19 x20 => Ext s10 s19 → CalI w mX3_plateOn s19 [va_rf l0, .int l2, .int x20] (fun s23 x24 => Ext s19 s23 → CalV w mX3_setPlate s23 [va_rf l0, .int x24, .int 2, .int 0] (fun s27 => Ext s23 s27 → K s27)))))))))) : G w mX3_fix (KV K) (rc) (rs) σ 0 [va_rf l0, .int l1, .int l2, .int l3] [] := by
  refine G_aload_n 1 dX3_fix_0 rfl rfl ?_
  refine G_iload_n 2 dX3_fix_1 rfl rfl ?_
  refine G_iconst (v := 2) 3 dX3_fix_2 (by decide) rfl ?_
  refine G_iconst (v := 2) 4 dX3_fix_3 (by decide) rfl ?_
  refine G_invS (N := mX3_setPlate) (As := [va_rf l0, .int l1, .int 2, .int 2]) (st := []) (rc) (rs) "" 7 dX3_fix_4 (Or.inl q2182) q2183 q44 q2184 rfl mX3_setPlate_args ⟨Nat.le_of_ble_eq_true rfl, Nat.le_of_ble_eq_true rfl⟩ rfl (Nat.zero_le _) (le_b mX3_setPlate_c (Nat.le_refl _)) (le_b mX3_setPlate_s (Nat.le_refl _)) rfl (Cal.mono h ?_)
  rintro s1 v ⟨rfl, h⟩ hx2
  have h := h hx2
  have x3 := hx2.x
  show G w mX3_fix (KV K) (rc) (rs) s1 7 [va_rf l0, .int l1, .int l2, .int l3] []
  refine G_aload_n 8 dX3_fix_7 rfl rfl ?_
  refine G_iload_n 9 dX3_fix_8 rfl rfl ?_
  refine G_iconst (v := 5) 10 dX3_fix_9 (by decide) rfl ?_
  refine G_iload_n 11 dX3_fix_10 rfl rfl ?_
  refine G_invS (N := mX3_setPlate) (As := [va_rf l0, .int l1, .int 5, .int l2]) (st := []) (rc) (rs) "" 14 dX3_fix_11 (Or.inl q2182) q2183 q44 q2184 rfl mX3_setPlate_args ⟨Nat.le_of_ble_eq_true rfl, Nat.le_of_ble_eq_true rfl⟩ rfl (Nat.zero_le _) (le_b mX3_setPlate_c (Nat.le_refl _)) (le_b mX3_setPlate_s (Nat.le_refl _)) rfl (Cal.mono h ?_)
  rintro s4 v ⟨rfl, h⟩ hx5
  have h := h hx5
  have x6 := hx5.x
  show G w mX3_fix (KV K) (rc) (rs) s4 14 [va_rf l0, .int l1, .int l2, .int l3] []
  refine G_aload_n 15 dX3_fix_14 rfl rfl ?_
  refine G_iload_n 16 dX3_fix_15 rfl rfl ?_
  refine G_bipush (v := 6) 18 dX3_fix_16 (by decide) rfl ?_
  refine G_iload_n 19 dX3_fix_18 rfl rfl ?_
  refine G_invS (N := mX3_setPlate) (As := [va_rf l0, .int l1, .int 6, .int l3]) (st := []) (rc) (rs) "" 22 dX3_fix_19 (Or.inl q2182) q2183 q44 q2184 rfl mX3_setPlate_args ⟨Nat.le_of_ble_eq_true rfl, Nat.le_of_ble_eq_true rfl⟩ rfl (Nat.zero_le _) (le_b mX3_setPlate_c (Nat.le_refl _)) (le_b mX3_setPlate_s (Nat.le_refl _)) rfl (Cal.mono h ?_)
  rintro s7 v ⟨rfl, h⟩ hx8
  have h := h hx8
  have x9 := hx8.x
  show G w mX3_fix (KV K) (rc) (rs) s7 22 [va_rf l0, .int l1, .int l2, .int l3] []
  refine G_aload_n 23 dX3_fix_22 rfl rfl ?_
  refine G_iload_n 24 dX3_fix_23 rfl rfl ?_
  refine G_invS (N := mX3_platesOn) (As := [va_rf l0, .int l2]) (st := []) (rc) (rs) "" 27 dX3_fix_24 (Or.inl q2319) q2320 q44 q2321 rfl mX3_platesOn_args ⟨Nat.le_of_ble_eq_true rfl, Nat.le_of_ble_eq_true rfl⟩ rfl (Nat.zero_le _) (le_b mX3_platesOn_c (Nat.le_refl _)) (le_b mX3_platesOn_s (Nat.le_refl _)) rfl (Cal.mono h ?_)
  rintro s10 v ⟨x11, rfl, h⟩ hx12
  have h := h hx12
  have x13 := hx12.x
  show G w mX3_fix (KV K) (rc) (rs) s10 27 [va_rf l0, .int l1, .int l2, .int l3] [.int x11]
  refine G_aload_n 28 dX3_fix_27 rfl rfl ?_
  refine G_sipush (v := 150) 31 dX3_fix_28 (by decide) rfl ?_
  refine G_iload_n 32 dX3_fix_31 rfl rfl ?_
  refine G_iadd 33 dX3_fix_32 rfl ?_
  obtain ⟨a14, e15, h⟩ := h
  obtain ⟨c16, h⟩ := h
  obtain ⟨c17, h⟩ := h
  refine G_iald (a := a14) 34 dX3_fix_33 rfl e15 c16 c17 ?_
  refine G_icmp_le 54 37 dX3_fix_34 (by decide) rfl (fun u18 => ?_) (fun u18 => ?_)
  · have h := h.1 u18
    exact G_ret dX3_fix_54 rfl ⟨rfl, h⟩
  · have h := h.2 u18
    refine G_aload_n 38 dX3_fix_37 rfl rfl ?_
    refine G_aload_n 39 dX3_fix_38 rfl rfl ?_
    refine G_iload_n 40 dX3_fix_39 rfl rfl ?_
    refine G_aload_n 41 dX3_fix_40 rfl rfl ?_
    refine G_iload_n 42 dX3_fix_41 rfl rfl ?_
    refine G_iconst (v := 1) 43 dX3_fix_42 (by decide) rfl ?_
    refine G_invS (N := mX3_yearOn) (As := [va_rf l0, .int l2, .int 1]) (st := [.int l2, va_rf l0, va_rf l0]) (rc) (rs) "" 46 dX3_fix_43 (Or.inl q2322) q2323 q44 q2324 rfl mX3_yearOn_args ⟨Nat.le_of_ble_eq_true rfl, Nat.le_of_ble_eq_true rfl⟩ rfl (Nat.le_trans (w_I (w_R (w_R w_0))) (Nat.le_of_ble_eq_true rfl)) (le_b mX3_yearOn_c (Nat.le_refl _)) (le_b mX3_yearOn_s (Nat.le_refl _)) rfl (Cal.mono h ?_)
    rintro s19 v ⟨x20, rfl, h⟩ hx21
    have h := h hx21
    have x22 := hx21.x
    show G w mX3_fix (KV K) (rc) (rs) s19 46 [va_rf l0, .int l1, .int l2, .int l3] [.int x20, .int l2, va_rf l0, va_rf l0]
    refine G_invS (N := mX3_plateOn) (As := [va_rf l0, .int l2, .int x20]) (st := [va_rf l0]) (rc) (rs) "" 49 dX3_fix_46 (Or.inl q2227) q2228 q44 q2229 rfl mX3_plateOn_args ⟨Nat.le_of_ble_eq_true rfl, Nat.le_of_ble_eq_true rfl⟩ rfl (Nat.le_trans (w_R w_0) (Nat.le_of_ble_eq_true rfl)) (le_b mX3_plateOn_c (Nat.le_refl _)) (le_b mX3_plateOn_s (Nat.le_refl _)) rfl (Cal.mono h ?_)
    rintro s23 v ⟨x24, rfl, h⟩ hx25
    have h := h hx25
    have x26 := hx25.x
    show G w mX3_fix (KV K) (rc) (rs) s23 49 [va_rf l0, .int l1, .int l2, .int l3] [.int x24, va_rf l0]
    refine G_iconst (v := 2) 50 dX3_fix_49 (by decide) rfl ?_
    refine G_iconst (v := 0) 51 dX3_fix_50 (by decide) rfl ?_
    refine G_invS (N := mX3_setPlate) (As := [va_rf l0, .int x24, .int 2, .int 0]) (st := []) (rc) (rs) "" 54 dX3_fix_51 (Or.inl q2182) q2183 q44 q2184 rfl mX3_setPlate_args ⟨Nat.le_of_ble_eq_true rfl, Nat.le_of_ble_eq_true rfl⟩ rfl (Nat.zero_le _) (le_b mX3_setPlate_c (Nat.le_refl _)) (le_b mX3_setPlate_s (Nat.le_refl _)) rfl (Cal.mono h ?_)
    rintro s27 v ⟨rfl, h⟩ hx28
    have h := h hx28
    have x29 := hx28.x
    show G w mX3_fix (KV K) (rc) (rs) s27 54 [va_rf l0, .int l1, .int l2, .int l3] []
    exact G_ret dX3_fix_54 rfl ⟨rfl, h⟩
theorem eX3_fix {w : Wt} {K : Sg → Prop} {σ : Sg} (l0 : Option Nat) (l1 : Int32) (l2 : Int32) (l3 : Int32) (h : G w mX3_fix (KV K) 0 0 σ 0 [va_rf l0, .int l1, .int l2, .int l3] []) : CalV w mX3_fix σ [va_rf l0, .int l1, .int l2, .int l3] K :=
  Cal.start 0 mX3_fix_plain (catR (catI (catI (catI cat0)))) (Nat.le_of_ble_eq_true rfl) rfl h
set_option maxHeartbeats 4000000 in
theorem bX3_platesOn_0 {w : Wt} {K : Sg → Int32 → Prop} {rc rs : Nat} {σ : Sg} (l0 : Option Nat) (l1 : Int32) (h : G w mX3_platesOn (KI K) (rc) (rs) σ 4 [va_rf l0, .int l1, .int 0, .int 0] []) : G w mX3_platesOn (KI K) (rc) (rs) σ 0 [va_rf l0, .int l1, U_, U_] [] := by
  refine G_iconst (v := 0) 1 dX3_platesOn_0 (by decide) rfl ?_
  refine G_istore_n 2 [va_rf l0, .int l1, .int 0, U_] dX3_platesOn_1 (Nat.le_of_ble_eq_true rfl) rfl rfl ?_
  refine G_iconst (v := 0) 3 dX3_platesOn_2 (by decide) rfl ?_
  refine G_istore_n 4 [va_rf l0, .int l1, .int 0, .int 0] dX3_platesOn_3 (Nat.le_of_ble_eq_true rfl) rfl rfl ?_
  exact h
set_option maxHeartbeats 4000000 in
theorem bX3_platesOn_4 {w : Wt} {K : Sg → Int32 → Prop} {rc rs : Nat} {σ : Sg} (l0 : Option Nat) (l1 : Int32) (l2 : Int32) (l3 : Int32) (h : ∃ a1, l0 = some a1 ∧ kd σ a1 ∈ [1, 5] ∧ vp_in 1 (ln σ a1) ∧ ((AI σ a1 (1 : Int32).toNatClampNeg ≤ l3 → K σ l2) ∧ (¬ AI σ a1 (1 : Int32).toNatClampNeg ≤ l3 → CalI w mX3_ofPlate σ [va_rf l0, .int l3, .int 2] (fun s6 x7 => Ext σ s6 → ((¬ x7 = 2 → G w mX3_platesOn (KI K) (rc) (rs) s6 4 [va_rf l0, .int l1, .int (l2 + 0), .int (l3 + 1)] []) ∧ (x7 = 2 → CalI w mX3_ofPlate s6 [va_rf l0, .int l3, .int 5] (fun s11 x12 => Ext s6 s11 → ((¬ x12 = l1 → G w mX3_platesOn (KI K) (rc) (rs) s11 4 [va_rf l0, .int l1, .int (l2 + 0), .int (l3 + 1)] []) ∧ (x12 = l1 → G w mX3_platesOn (KI K) (rc) (rs) s11 4 [va_rf l0, .int l1, .int (l2 + 1), .int (l3 + 1)] []))))))))) : G w mX3_platesOn (KI K) (rc) (rs) σ 4 [va_rf l0, .int l1, .int l2, .int l3] [] := by
  refine G_iload_n 5 dX3_platesOn_4 rfl rfl ?_
  refine G_aload_n 6 dX3_platesOn_5 rfl rfl ?_
  refine G_iconst (v := 1) 7 dX3_platesOn_6 (by decide) rfl ?_
  obtain ⟨a1, e2, h⟩ := h
  obtain ⟨c3, h⟩ := h
  obtain ⟨c4, h⟩ := h
  refine G_iald (a := a1) 8 dX3_platesOn_7 rfl e2 c3 c4 ?_
  refine G_icmp_ge 45 11 dX3_platesOn_8 (by decide) rfl (fun u5 => ?_) (fun u5 => ?_)
  · have h := h.1 u5
    refine G_iload_n 46 dX3_platesOn_45 rfl rfl ?_
    exact G_iret dX3_platesOn_46 rfl ⟨_, rfl, h⟩
  · have h := h.2 u5
    refine G_iload_n 12 dX3_platesOn_11 rfl rfl ?_
    refine G_aload_n 13 dX3_platesOn_12 rfl rfl ?_
    refine G_iload_n 14 dX3_platesOn_13 rfl rfl ?_
    refine G_iconst (v := 2) 15 dX3_platesOn_14 (by decide) rfl ?_
    refine G_invS (N := mX3_ofPlate) (As := [va_rf l0, .int l3, .int 2]) (st := [.int l2]) (rc) (rs) "" 18 dX3_platesOn_15 (Or.inl q2193) q2194 q44 q2195 rfl mX3_ofPlate_args ⟨Nat.le_of_ble_eq_true rfl, Nat.le_of_ble_eq_true rfl⟩ rfl (Nat.le_trans (w_I w_0) (Nat.le_of_ble_eq_true rfl)) (le_b mX3_ofPlate_c (Nat.le_refl _)) (le_b mX3_ofPlate_s (Nat.le_refl _)) rfl (Cal.mono h ?_)
    rintro s6 v ⟨x7, rfl, h⟩ hx8
    have h := h hx8
    have x9 := hx8.x
    show G w mX3_platesOn (KI K) (rc) (rs) s6 18 [va_rf l0, .int l1, .int l2, .int l3] [.int x7, .int l2]
    refine G_iconst (v := 2) 19 dX3_platesOn_18 (by decide) rfl ?_
    refine G_icmp_ne 36 22 dX3_platesOn_19 (by decide) rfl (fun u10 => ?_) (fun u10 => ?_)
    · have h := h.1 u10
      refine G_iconst (v := 0) 37 dX3_platesOn_36 (by decide) rfl ?_
      refine G_iadd 38 dX3_platesOn_37 rfl ?_
      refine G_istore_n 39 [va_rf l0, .int l1, .int (l2 + 0), .int l3] dX3_platesOn_38 (Nat.le_of_ble_eq_true rfl) rfl rfl ?_
      refine G_iinc 42 [va_rf l0, .int l1, .int (l2 + 0), .int (l3 + 1)] dX3_platesOn_39 rfl rfl (Nat.le_of_ble_eq_true rfl) rfl rfl ?_
      refine G_goto 4 dX3_platesOn_42 (by decide) ?_
      exact h
    · have h := h.2 u10
      refine G_aload_n 23 dX3_platesOn_22 rfl rfl ?_
      refine G_iload_n 24 dX3_platesOn_23 rfl rfl ?_
      refine G_iconst (v := 5) 25 dX3_platesOn_24 (by decide) rfl ?_
      refine G_invS (N := mX3_ofPlate) (As := [va_rf l0, .int l3, .int 5]) (st := [.int l2]) (rc) (rs) "" 28 dX3_platesOn_25 (Or.inl q2193) q2194 q44 q2195 rfl mX3_ofPlate_args ⟨Nat.le_of_ble_eq_true rfl, Nat.le_of_ble_eq_true rfl⟩ rfl (Nat.le_trans (w_I w_0) (Nat.le_of_ble_eq_true rfl)) (le_b mX3_ofPlate_c (Nat.le_refl _)) (le_b mX3_ofPlate_s (Nat.le_refl _)) rfl (Cal.mono h ?_)
      rintro s11 v ⟨x12, rfl, h⟩ hx13
      have h := h hx13
      have x14 := hx13.x
      show G w mX3_platesOn (KI K) (rc) (rs) s11 28 [va_rf l0, .int l1, .int l2, .int l3] [.int x12, .int l2]
      refine G_iload_n 29 dX3_platesOn_28 rfl rfl ?_
      refine G_icmp_ne 36 32 dX3_platesOn_29 (by decide) rfl (fun u15 => ?_) (fun u15 => ?_)
      · have h := h.1 u15
        refine G_iconst (v := 0) 37 dX3_platesOn_36 (by decide) rfl ?_
        refine G_iadd 38 dX3_platesOn_37 rfl ?_
        refine G_istore_n 39 [va_rf l0, .int l1, .int (l2 + 0), .int l3] dX3_platesOn_38 (Nat.le_of_ble_eq_true rfl) rfl rfl ?_
        refine G_iinc 42 [va_rf l0, .int l1, .int (l2 + 0), .int (l3 + 1)] dX3_platesOn_39 rfl rfl (Nat.le_of_ble_eq_true rfl) rfl rfl ?_
        refine G_goto 4 dX3_platesOn_42 (by decide) ?_
        exact h
      · have h := h.2 u15
        refine G_iconst (v := 1) 33 dX3_platesOn_32 (by decide) rfl ?_
        refine G_goto 37 dX3_platesOn_33 (by decide) ?_
        refine G_iadd 38 dX3_platesOn_37 rfl ?_
        refine G_istore_n 39 [va_rf l0, .int l1, .int (l2 + 1), .int l3] dX3_platesOn_38 (Nat.le_of_ble_eq_true rfl) rfl rfl ?_
        refine G_iinc 42 [va_rf l0, .int l1, .int (l2 + 1), .int (l3 + 1)] dX3_platesOn_39 rfl rfl (Nat.le_of_ble_eq_true rfl) rfl rfl ?_
        refine G_goto 4 dX3_platesOn_42 (by decide) ?_
        exact h
theorem eX3_platesOn {w : Wt} {K : Sg → Int32 → Prop} {σ : Sg} (l0 : Option Nat) (l1 : Int32) (h : G w mX3_platesOn (KI K) 0 0 σ 0 [va_rf l0, .int l1, U_, U_] []) : CalI w mX3_platesOn σ [va_rf l0, .int l1] K :=
  Cal.start 2 mX3_platesOn_plain (catR (catI cat0)) (Nat.le_of_ble_eq_true rfl) rfl h
set_option maxHeartbeats 4000000 in
theorem bX3_yearOn_0 {w : Wt} {K : Sg → Int32 → Prop} {rc rs : Nat} {σ : Sg} (l0 : Option Nat) (l1 : Int32) (l2 : Int32) (h : G w mX3_yearOn (KI K) (rc) (rs) σ 6 [va_rf l0, .int l1, .int l2, .int (-9), .int 0, U_, U_] []) : G w mX3_yearOn (KI K) (rc) (rs) σ 0 [va_rf l0, .int l1, .int l2, U_, U_, U_, U_] [] := by
  refine G_bipush (v := (-9)) 2 dX3_yearOn_0 (by decide) rfl ?_
  refine G_istore_n 3 [va_rf l0, .int l1, .int l2, .int (-9), U_, U_, U_] dX3_yearOn_2 (Nat.le_of_ble_eq_true rfl) rfl rfl ?_
  refine G_iconst (v := 0) 4 dX3_yearOn_3 (by decide) rfl ?_
  refine G_istore 6 [va_rf l0, .int l1, .int l2, .int (-9), .int 0, U_, U_] dX3_yearOn_4 (Nat.le_of_ble_eq_true rfl) rfl rfl ?_
  exact h
set_option maxHeartbeats 4000000 in
theorem bX3_yearOn_6 {w : Wt} {K : Sg → Int32 → Prop} {rc rs : Nat} {σ : Sg} (l0 : Option Nat) (l1 : Int32) (l2 : Int32) (l3 : Int32) (l4 : Int32) (v5 : Value) (v6 : Value) (h : ∃ a1, l0 = some a1 ∧ kd σ a1 ∈ [1, 5] ∧ vp_in 1 (ln σ a1) ∧ ((AI σ a1 (1 : Int32).toNatClampNeg ≤ l4 → K σ l3) ∧ (¬ AI σ a1 (1 : Int32).toNatClampNeg ≤ l4 → CalI w mX3_ofPlate σ [va_rf l0, .int l4, .int 2] (fun s6 x7 => Ext σ s6 → ((¬ x7 = 2 → CalI w mX3_ofPlate s6 [va_rf l0, .int l4, .int 6] (fun s11 x12 => Ext s6 s11 → G w mX3_yearOn (KI K) (rc) (rs) s11 6 [va_rf l0, .int l1, .int l2, .int l3, .int (l4 + 1), .int 0, .int x12] [])) ∧ (x7 = 2 → CalI w mX3_ofPlate s6 [va_rf l0, .int l4, .int 5] (fun s15 x16 => Ext s6 s15 → ((¬ x16 = l1 → CalI w mX3_ofPlate s15 [va_rf l0, .int l4, .int 6] (fun s20 x21 => Ext s15 s20 → G w mX3_yearOn (KI K) (rc) (rs) s20 6 [va_rf l0, .int l1, .int l2, .int l3, .int (l4 + 1), .int 0, .int x21] [])) ∧ (x16 = l1 → CalI w mX3_ofPlate s15 [va_rf l0, .int l4, .int 6] (fun s24 x25 => Ext s15 s24 → ((l3 = (-9) → G w mX3_yearOn (KI K) (rc) (rs) s24 6 [va_rf l0, .int l1, .int l2, .int x25, .int (l4 + 1), .int 1, .int x25] []) ∧ (¬ l3 = (-9) → ((l2 * l3 ≤ l2 * x25 → G w mX3_yearOn (KI K) (rc) (rs) s24 6 [va_rf l0, .int l1, .int l2, .int l3, .int (l4 + 1), .int 1, .int x25] []) ∧ (¬ l2 * l3 ≤ l2 * x25 → G w mX3_yearOn (KI K) (rc) (rs) s24 6 [va_rf l0, .int l1, .int l2, .int x25, .int (l4 + 1), .int 1, .int x25] [])))))))))))))) : G w mX3_yearOn (KI K) (rc) (rs) σ 6 [va_rf l0, .int l1, .int l2, .int l3, .int l4, v5, v6] [] := by
  refine G_iload 8 dX3_yearOn_6 rfl rfl ?_
  refine G_aload_n 9 dX3_yearOn_8 rfl rfl ?_
  refine G_iconst (v := 1) 10 dX3_yearOn_9 (by decide) rfl ?_
  obtain ⟨a1, e2, h⟩ := h
  obtain ⟨c3, h⟩ := h
  obtain ⟨c4, h⟩ := h
  refine G_iald (a := a1) 11 dX3_yearOn_10 rfl e2 c3 c4 ?_
  refine G_icmp_ge 87 14 dX3_yearOn_11 (by decide) rfl (fun u5 => ?_) (fun u5 => ?_)
  · have h := h.1 u5
    refine G_iload_n 88 dX3_yearOn_87 rfl rfl ?_
    exact G_iret dX3_yearOn_88 rfl ⟨_, rfl, h⟩
  · have h := h.2 u5
    refine G_aload_n 15 dX3_yearOn_14 rfl rfl ?_
    refine G_iload 17 dX3_yearOn_15 rfl rfl ?_
    refine G_iconst (v := 2) 18 dX3_yearOn_17 (by decide) rfl ?_
    refine G_invS (N := mX3_ofPlate) (As := [va_rf l0, .int l4, .int 2]) (st := []) (rc) (rs) "" 21 dX3_yearOn_18 (Or.inl q2193) q2194 q44 q2195 rfl mX3_ofPlate_args ⟨Nat.le_of_ble_eq_true rfl, Nat.le_of_ble_eq_true rfl⟩ rfl (Nat.zero_le _) (le_b mX3_ofPlate_c (Nat.le_refl _)) (le_b mX3_ofPlate_s (Nat.le_refl _)) rfl (Cal.mono h ?_)
    rintro s6 v ⟨x7, rfl, h⟩ hx8
    have h := h hx8
    have x9 := hx8.x
    show G w mX3_yearOn (KI K) (rc) (rs) s6 21 [va_rf l0, .int l1, .int l2, .int l3, .int l4, v5, v6] [.int x7]
    refine G_iconst (v := 2) 22 dX3_yearOn_21 (by decide) rfl ?_
    refine G_icmp_ne 40 25 dX3_yearOn_22 (by decide) rfl (fun u10 => ?_) (fun u10 => ?_)
    · have h := h.1 u10
      refine G_iconst (v := 0) 41 dX3_yearOn_40 (by decide) rfl ?_
      refine G_istore 43 [va_rf l0, .int l1, .int l2, .int l3, .int l4, .int 0, v6] dX3_yearOn_41 (Nat.le_of_ble_eq_true rfl) rfl rfl ?_
      refine G_aload_n 44 dX3_yearOn_43 rfl rfl ?_
      refine G_iload 46 dX3_yearOn_44 rfl rfl ?_
      refine G_bipush (v := 6) 48 dX3_yearOn_46 (by decide) rfl ?_
      refine G_invS (N := mX3_ofPlate) (As := [va_rf l0, .int l4, .int 6]) (st := []) (rc) (rs) "" 51 dX3_yearOn_48 (Or.inl q2193) q2194 q44 q2195 rfl mX3_ofPlate_args ⟨Nat.le_of_ble_eq_true rfl, Nat.le_of_ble_eq_true rfl⟩ rfl (Nat.zero_le _) (le_b mX3_ofPlate_c (Nat.le_refl _)) (le_b mX3_ofPlate_s (Nat.le_refl _)) rfl (Cal.mono h ?_)
      rintro s11 v ⟨x12, rfl, h⟩ hx13
      have h := h hx13
      have x14 := hx13.x
      show G w mX3_yearOn (KI K) (rc) (rs) s11 51 [va_rf l0, .int l1, .int l2, .int l3, .int l4, .int 0, v6] [.int x12]
      refine G_istore 53 [va_rf l0, .int l1, .int l2, .int l3, .int l4, .int 0, .int x12] dX3_yearOn_51 (Nat.le_of_ble_eq_true rfl) rfl rfl ?_
      refine G_iload 55 dX3_yearOn_53 rfl rfl ?_
      refine G_if_eq 79 58 dX3_yearOn_55 (by decide) rfl (fun _ => ?_) (fun q => absurd q (by decide))
      refine G_iload_n 80 dX3_yearOn_79 rfl rfl ?_
      refine G_istore_n 81 [va_rf l0, .int l1, .int l2, .int l3, .int l4, .int 0, .int x12] dX3_yearOn_80 (Nat.le_of_ble_eq_true rfl) rfl rfl ?_
      refine G_iinc 84 [va_rf l0, .int l1, .int l2, .int l3, .int (l4 + 1), .int 0, .int x12] dX3_yearOn_81 rfl rfl (Nat.le_of_ble_eq_true rfl) rfl rfl ?_
      refine G_goto 6 dX3_yearOn_84 (by decide) ?_
      exact h
    · have h := h.2 u10
      refine G_aload_n 26 dX3_yearOn_25 rfl rfl ?_
      refine G_iload 28 dX3_yearOn_26 rfl rfl ?_
      refine G_iconst (v := 5) 29 dX3_yearOn_28 (by decide) rfl ?_
      refine G_invS (N := mX3_ofPlate) (As := [va_rf l0, .int l4, .int 5]) (st := []) (rc) (rs) "" 32 dX3_yearOn_29 (Or.inl q2193) q2194 q44 q2195 rfl mX3_ofPlate_args ⟨Nat.le_of_ble_eq_true rfl, Nat.le_of_ble_eq_true rfl⟩ rfl (Nat.zero_le _) (le_b mX3_ofPlate_c (Nat.le_refl _)) (le_b mX3_ofPlate_s (Nat.le_refl _)) rfl (Cal.mono h ?_)
      rintro s15 v ⟨x16, rfl, h⟩ hx17
      have h := h hx17
      have x18 := hx17.x
      show G w mX3_yearOn (KI K) (rc) (rs) s15 32 [va_rf l0, .int l1, .int l2, .int l3, .int l4, v5, v6] [.int x16]
      refine G_iload_n 33 dX3_yearOn_32 rfl rfl ?_
      refine G_icmp_ne 40 36 dX3_yearOn_33 (by decide) rfl (fun u19 => ?_) (fun u19 => ?_)
      · have h := h.1 u19
        refine G_iconst (v := 0) 41 dX3_yearOn_40 (by decide) rfl ?_
        refine G_istore 43 [va_rf l0, .int l1, .int l2, .int l3, .int l4, .int 0, v6] dX3_yearOn_41 (Nat.le_of_ble_eq_true rfl) rfl rfl ?_
        refine G_aload_n 44 dX3_yearOn_43 rfl rfl ?_
        refine G_iload 46 dX3_yearOn_44 rfl rfl ?_
        refine G_bipush (v := 6) 48 dX3_yearOn_46 (by decide) rfl ?_
        refine G_invS (N := mX3_ofPlate) (As := [va_rf l0, .int l4, .int 6]) (st := []) (rc) (rs) "" 51 dX3_yearOn_48 (Or.inl q2193) q2194 q44 q2195 rfl mX3_ofPlate_args ⟨Nat.le_of_ble_eq_true rfl, Nat.le_of_ble_eq_true rfl⟩ rfl (Nat.zero_le _) (le_b mX3_ofPlate_c (Nat.le_refl _)) (le_b mX3_ofPlate_s (Nat.le_refl _)) rfl (Cal.mono h ?_)
        rintro s20 v ⟨x21, rfl, h⟩ hx22
        have h := h hx22
        have x23 := hx22.x
        show G w mX3_yearOn (KI K) (rc) (rs) s20 51 [va_rf l0, .int l1, .int l2, .int l3, .int l4, .int 0, v6] [.int x21]
        refine G_istore 53 [va_rf l0, .int l1, .int l2, .int l3, .int l4, .int 0, .int x21] dX3_yearOn_51 (Nat.le_of_ble_eq_true rfl) rfl rfl ?_
        refine G_iload 55 dX3_yearOn_53 rfl rfl ?_
        refine G_if_eq 79 58 dX3_yearOn_55 (by decide) rfl (fun _ => ?_) (fun q => absurd q (by decide))
        refine G_iload_n 80 dX3_yearOn_79 rfl rfl ?_
        refine G_istore_n 81 [va_rf l0, .int l1, .int l2, .int l3, .int l4, .int 0, .int x21] dX3_yearOn_80 (Nat.le_of_ble_eq_true rfl) rfl rfl ?_
        refine G_iinc 84 [va_rf l0, .int l1, .int l2, .int l3, .int (l4 + 1), .int 0, .int x21] dX3_yearOn_81 rfl rfl (Nat.le_of_ble_eq_true rfl) rfl rfl ?_
        refine G_goto 6 dX3_yearOn_84 (by decide) ?_
        exact h
      · have h := h.2 u19
        refine G_iconst (v := 1) 37 dX3_yearOn_36 (by decide) rfl ?_
        refine G_goto 41 dX3_yearOn_37 (by decide) ?_
        refine G_istore 43 [va_rf l0, .int l1, .int l2, .int l3, .int l4, .int 1, v6] dX3_yearOn_41 (Nat.le_of_ble_eq_true rfl) rfl rfl ?_
        refine G_aload_n 44 dX3_yearOn_43 rfl rfl ?_
        refine G_iload 46 dX3_yearOn_44 rfl rfl ?_
        refine G_bipush (v := 6) 48 dX3_yearOn_46 (by decide) rfl ?_
        refine G_invS (N := mX3_ofPlate) (As := [va_rf l0, .int l4, .int 6]) (st := []) (rc) (rs) "" 51 dX3_yearOn_48 (Or.inl q2193) q2194 q44 q2195 rfl mX3_ofPlate_args ⟨Nat.le_of_ble_eq_true rfl, Nat.le_of_ble_eq_true rfl⟩ rfl (Nat.zero_le _) (le_b mX3_ofPlate_c (Nat.le_refl _)) (le_b mX3_ofPlate_s (Nat.le_refl _)) rfl (Cal.mono h ?_)
        rintro s24 v ⟨x25, rfl, h⟩ hx26
        have h := h hx26
        have x27 := hx26.x
        show G w mX3_yearOn (KI K) (rc) (rs) s24 51 [va_rf l0, .int l1, .int l2, .int l3, .int l4, .int 1, v6] [.int x25]
        refine G_istore 53 [va_rf l0, .int l1, .int l2, .int l3, .int l4, .int 1, .int x25] dX3_yearOn_51 (Nat.le_of_ble_eq_true rfl) rfl rfl ?_
        refine G_iload 55 dX3_yearOn_53 rfl rfl ?_
        refine G_if_eq 79 58 dX3_yearOn_55 (by decide) rfl (fun q => absurd q (by decide)) (fun _ => ?_)
        refine G_iload_n 59 dX3_yearOn_58 rfl rfl ?_
        refine G_bipush (v := (-9)) 61 dX3_yearOn_59 (by decide) rfl ?_
        refine G_icmp_eq 74 64 dX3_yearOn_61 (by decide) rfl (fun u28 => ?_) (fun u28 => ?_)
        · have h := h.1 u28
          refine G_iload 76 dX3_yearOn_74 rfl rfl ?_
          refine G_goto 80 dX3_yearOn_76 (by decide) ?_
          refine G_istore_n 81 [va_rf l0, .int l1, .int l2, .int x25, .int l4, .int 1, .int x25] dX3_yearOn_80 (Nat.le_of_ble_eq_true rfl) rfl rfl ?_
          refine G_iinc 84 [va_rf l0, .int l1, .int l2, .int x25, .int (l4 + 1), .int 1, .int x25] dX3_yearOn_81 rfl rfl (Nat.le_of_ble_eq_true rfl) rfl rfl ?_
          refine G_goto 6 dX3_yearOn_84 (by decide) ?_
          exact h
        · have h := h.2 u28
          refine G_iload_n 65 dX3_yearOn_64 rfl rfl ?_
          refine G_iload 67 dX3_yearOn_65 rfl rfl ?_
          refine G_imul 68 dX3_yearOn_67 rfl ?_
          refine G_iload_n 69 dX3_yearOn_68 rfl rfl ?_
          refine G_iload_n 70 dX3_yearOn_69 rfl rfl ?_
          refine G_imul 71 dX3_yearOn_70 rfl ?_
          refine G_icmp_ge 79 74 dX3_yearOn_71 (by decide) rfl (fun u29 => ?_) (fun u29 => ?_)
          · have h := h.1 u29
            refine G_iload_n 80 dX3_yearOn_79 rfl rfl ?_
            refine G_istore_n 81 [va_rf l0, .int l1, .int l2, .int l3, .int l4, .int 1, .int x25] dX3_yearOn_80 (Nat.le_of_ble_eq_true rfl) rfl rfl ?_
            refine G_iinc 84 [va_rf l0, .int l1, .int l2, .int l3, .int (l4 + 1), .int 1, .int x25] dX3_yearOn_81 rfl rfl (Nat.le_of_ble_eq_true rfl) rfl rfl ?_
            refine G_goto 6 dX3_yearOn_84 (by decide) ?_
            exact h
          · have h := h.2 u29
            refine G_iload 76 dX3_yearOn_74 rfl rfl ?_
            refine G_goto 80 dX3_yearOn_76 (by decide) ?_
            refine G_istore_n 81 [va_rf l0, .int l1, .int l2, .int x25, .int l4, .int 1, .int x25] dX3_yearOn_80 (Nat.le_of_ble_eq_true rfl) rfl rfl ?_
            refine G_iinc 84 [va_rf l0, .int l1, .int l2, .int x25, .int (l4 + 1), .int 1, .int x25] dX3_yearOn_81 rfl rfl (Nat.le_of_ble_eq_true rfl) rfl rfl ?_
            refine G_goto 6 dX3_yearOn_84 (by decide) ?_
            exact h
theorem eX3_yearOn {w : Wt} {K : Sg → Int32 → Prop} {σ : Sg} (l0 : Option Nat) (l1 : Int32) (l2 : Int32) (h : G w mX3_yearOn (KI K) 0 0 σ 0 [va_rf l0, .int l1, .int l2, U_, U_, U_, U_] []) : CalI w mX3_yearOn σ [va_rf l0, .int l1, .int l2] K :=
  Cal.start 4 mX3_yearOn_plain (catR (catI (catI cat0))) (Nat.le_of_ble_eq_true rfl) rfl h
set_option maxHeartbeats 4000000 in
theorem bX3_slip_0 {w : Wt} {K : Sg → Int32 → Prop} {rc rs : Nat} {σ : Sg} (l0 : Option Nat) (h : ∃ a1, l0 = some a1 ∧ kd σ a1 = 13 ∧ ∀ s4, s4 = sFI σ 18 a1 0 → ∃ a6, FR s4 19 a1 = some a6 ∧ kd s4 a6 ∈ [1, 5] ∧ vp_in 3 (ln s4 a6) ∧ ((¬ AI s4 a6 (3 : Int32).toNatClampNeg = (-9) → CalV w mX3_act s4 [va_rf l0] (fun s11 => Ext s4 s11 → ∃ a14, FR s11 19 a1 = some a14 ∧ kd s11 a14 ∈ [1, 5] ∧ vp_in 3 (ln s11 a14) ∧ CalI w mX3_of s11 [va_rf (FR s11 19 a1), .int (AI s11 a14 (3 : Int32).toNatClampNeg), .int 3] (fun s18 x19 => Ext s11 s18 → ∃ a22, FR s18 19 a1 = some a22 ∧ kd s18 a22 ∈ [1, 5] ∧ vp_in 5 (ln s18 a22) ∧ vp_in 6 (ln s18 a22) ∧ CalV w mX3_setPlate s18 [va_rf (FR s18 19 a1), .int (AI s18 a22 (5 : Int32).toNatClampNeg), .int (3 + (AI s18 a22 (6 : Int32).toNatClampNeg)), .int x19] (fun s27 => Ext s18 s27 → ∃ a30, FR s27 19 a1 = some a30 ∧ kd s27 a30 ∈ [1, 5] ∧ vp_in 8 (ln s27 a30) ∧ kd s27 a30 = 1 ∧ ∀ s35, s35 = sAI s27 a30 (8 : Int32).toNatClampNeg ((AI s27 a30 (8 : Int32).toNatClampNeg) + 1) → CalI w mX3_isReady s35 [va_rf (FR s35 19 a1), .int (AI s18 a22 (5 : Int32).toNatClampNeg), .int (1 - (AI s18 a22 (6 : Int32).toNatClampNeg)), .int x19] (fun s37 x38 => Ext s35 s37 → ((x38 = 0 → CalI w mX3_canBeGround s37 [va_rf (FR s37 19 a1), .int (AI s18 a22 (5 : Int32).toNatClampNeg), .int (AI s18 a22 (6 : Int32).toNatClampNeg), .int x19] (fun s42 x43 => Ext s37 s42 → ((x43 = 0 → CalV w mX3_setPlate s42 [va_rf (FR s42 19 a1), .int (AI s18 a22 (5 : Int32).toNatClampNeg), .int 2, .int 3] (fun s47 => Ext s42 s47 → CalV w mX3_rest s47 [va_rf (FR s47 19 a1)] (fun s50 => Ext s47 s50 → K s50 3))) ∧ (¬ x43 = 0 → CalV w mX3_grindSide s42 [va_rf (FR s42 19 a1), .int (AI s18 a22 (5 : Int32).toNatClampNeg), .int (AI s18 a22 (6 : Int32).toNatClampNeg)] (fun s53 => Ext s42 s53 → CalI w mX3_effort s53 [va_rf (FR s53 19 a1), .int (AI s11 a14 (3 : Int32).toNatClampNeg)] (fun s56 x57 => Ext s53 s56 → ∃ a60, FR s53 19 a1 = some a60 ∧ kd s56 a60 = 1 ∧ vp_in 4 (ln s56 a60) ∧ ∀ s64, s64 = sAI s56 a60 (4 : Int32).toNatClampNeg (x57 + 10) → K s64 2)))))) ∧ (¬ x38 = 0 → ∃ a66, FR s37 19 a1 = some a66 ∧ kd s37 a66 = 1 ∧ vp_in 6 (ln s37 a66) ∧ ∀ s70, s70 = sAI s37 a66 (6 : Int32).toNatClampNeg (1 - (AI s18 a22 (6 : Int32).toNatClampNeg)) → CalI w mX3_effort s70 [va_rf (FR s70 19 a1), .int (AI s11 a14 (3 : Int32).toNatClampNeg)] (fun s72 x73 => Ext s70 s72 → ∃ a76, FR s70 19 a1 = some a76 ∧ kd s72 a76 = 1 ∧ vp_in 4 (ln s72 a76) ∧ ∀ s80, s80 = sAI s72 a76 (4 : Int32).toNatClampNeg x73 → K s80 1)))))))) ∧ (AI s4 a6 (3 : Int32).toNatClampNeg = (-9) → K s4 (-2)))) : G w mX3_slip (KI K) (rc) (rs) σ 0 [va_rf l0, U_, U_, U_, U_] [] := by
  refine G_aload_n 1 dX3_slip_0 rfl rfl ?_
  refine G_iconst (v := 0) 2 dX3_slip_1 (by decide) rfl ?_
  obtain ⟨a1, e2, h⟩ := h
  obtain ⟨c3, h⟩ := h
  refine G_putI (f := 18) (a := a1) "" 5 dX3_slip_2 (Or.inl q2131) (Or.inl rfl) rfl e2 (hp18 c3) (nk18 c3) (Or.inl rfl) rfl rfl rfl ?_
  generalize hs4 : sFI σ 18 a1 0 = s4
  have x5 : ∀ a, ¬ kd σ a = 0 → kd s4 a = kd σ a := by subst hs4; exact fun a _ => congrFun kd_sFI a
  have h := h s4 hs4.symm
  refine G_aload_n 6 dX3_slip_5 rfl rfl ?_
  have c3 := kdE x5 c3 (by decide)
  refine G_getR (f := 19) (a := a1) "" 9 dX3_slip_6 (Or.inl q2132) (Or.inl rfl) rfl e2 (hf19 c3) rfl ?_
  refine G_iconst (v := 3) 10 dX3_slip_9 (by decide) rfl ?_
  obtain ⟨a6, e7, h⟩ := h
  obtain ⟨c8, h⟩ := h
  obtain ⟨c9, h⟩ := h
  refine G_iald (a := a6) 11 dX3_slip_10 rfl e7 c8 c9 ?_
  refine G_bipush (v := (-9)) 13 dX3_slip_11 (by decide) rfl ?_
  refine G_icmp_ne 19 16 dX3_slip_13 (by decide) rfl (fun u10 => ?_) (fun u10 => ?_)
  · have h := h.1 u10
    refine G_aload_n 20 dX3_slip_19 rfl rfl ?_
    refine G_invV (N := mX3_act) (As := []) (st := []) (t := l0) (b := a1) (rc) (rs) 23 dX3_slip_20 q2178 q2180 qs16 q44 q2181 rfl rfl mX3_act_args ⟨Nat.le_of_ble_eq_true rfl, Nat.le_of_ble_eq_true rfl⟩ rfl (Nat.zero_le _) e2 (rk13 c3) (le_b mX3_act_c (Nat.le_refl _)) (le_b mX3_act_s (Nat.le_refl _)) rfl (Cal.mono h ?_)
    rintro s11 v ⟨rfl, h⟩ hx12
    have h := h hx12
    have x13 := hx12.x
    show G w mX3_slip (KI K) (rc) (rs) s11 23 [va_rf l0, U_, U_, U_, U_] []
    refine G_aload_n 24 dX3_slip_23 rfl rfl ?_
    have c3 := kdE x13 c3 (by decide)
    refine G_getR (f := 19) (a := a1) "" 27 dX3_slip_24 (Or.inl q2132) (Or.inl rfl) rfl e2 (hf19 c3) rfl ?_
    refine G_iconst (v := 3) 28 dX3_slip_27 (by decide) rfl ?_
    obtain ⟨a14, e15, h⟩ := h
    obtain ⟨c16, h⟩ := h
    obtain ⟨c17, h⟩ := h
    refine G_iald (a := a14) 29 dX3_slip_28 rfl e15 c16 c17 ?_
    refine G_istore_n 30 [va_rf l0, .int (AI s11 a14 (3 : Int32).toNatClampNeg), U_, U_, U_] dX3_slip_29 (Nat.le_of_ble_eq_true rfl) rfl rfl ?_
    refine G_aload_n 31 dX3_slip_30 rfl rfl ?_
    refine G_getR (f := 19) (a := a1) "" 34 dX3_slip_31 (Or.inl q2132) (Or.inl rfl) rfl e2 (hf19 c3) rfl ?_
    refine G_iload_n 35 dX3_slip_34 rfl rfl ?_
    refine G_iconst (v := 3) 36 dX3_slip_35 (by decide) rfl ?_
    refine G_invS (N := mX3_of) (As := [va_rf (FR s11 19 a1), .int (AI s11 a14 (3 : Int32).toNatClampNeg), .int 3]) (st := []) (rc) (rs) "" 39 dX3_slip_36 (Or.inl q2246) q2247 q44 q2248 rfl mX3_of_args ⟨Nat.le_of_ble_eq_true rfl, Nat.le_of_ble_eq_true rfl⟩ rfl (Nat.zero_le _) (le_b mX3_of_c (Nat.le_refl _)) (le_b mX3_of_s (Nat.le_refl _)) rfl (Cal.mono h ?_)
    rintro s18 v ⟨x19, rfl, h⟩ hx20
    have h := h hx20
    have x21 := hx20.x
    show G w mX3_slip (KI K) (rc) (rs) s18 39 [va_rf l0, .int (AI s11 a14 (3 : Int32).toNatClampNeg), U_, U_, U_] [.int x19]
    refine G_istore_n 40 [va_rf l0, .int (AI s11 a14 (3 : Int32).toNatClampNeg), .int x19, U_, U_] dX3_slip_39 (Nat.le_of_ble_eq_true rfl) rfl rfl ?_
    refine G_aload_n 41 dX3_slip_40 rfl rfl ?_
    have c3 := kdE x21 c3 (by decide)
    refine G_getR (f := 19) (a := a1) "" 44 dX3_slip_41 (Or.inl q2132) (Or.inl rfl) rfl e2 (hf19 c3) rfl ?_
    refine G_iconst (v := 5) 45 dX3_slip_44 (by decide) rfl ?_
    obtain ⟨a22, e23, h⟩ := h
    obtain ⟨c24, h⟩ := h
    obtain ⟨c25, h⟩ := h
    refine G_iald (a := a22) 46 dX3_slip_45 rfl e23 c24 c25 ?_
    refine G_istore_n 47 [va_rf l0, .int (AI s11 a14 (3 : Int32).toNatClampNeg), .int x19, .int (AI s18 a22 (5 : Int32).toNatClampNeg), U_] dX3_slip_46 (Nat.le_of_ble_eq_true rfl) rfl rfl ?_
    refine G_aload_n 48 dX3_slip_47 rfl rfl ?_
    refine G_getR (f := 19) (a := a1) "" 51 dX3_slip_48 (Or.inl q2132) (Or.inl rfl) rfl e2 (hf19 c3) rfl ?_
    refine G_bipush (v := 6) 53 dX3_slip_51 (by decide) rfl ?_
    obtain ⟨c26, h⟩ := h
    refine G_iald (a := a22) 54 dX3_slip_53 rfl e23 c24 c26 ?_
    refine G_istore 56 [va_rf l0, .int (AI s11 a14 (3 : Int32).toNatClampNeg), .int x19, .int (AI s18 a22 (5 : Int32).toNatClampNeg), .int (AI s18 a22 (6 : Int32).toNatClampNeg)] dX3_slip_54 (Nat.le_of_ble_eq_true rfl) rfl rfl ?_
    refine G_aload_n 57 dX3_slip_56 rfl rfl ?_
    refine G_getR (f := 19) (a := a1) "" 60 dX3_slip_57 (Or.inl q2132) (Or.inl rfl) rfl e2 (hf19 c3) rfl ?_
    refine G_iload_n 61 dX3_slip_60 rfl rfl ?_
    refine G_iconst (v := 3) 62 dX3_slip_61 (by decide) rfl ?_
    refine G_iload 64 dX3_slip_62 rfl rfl ?_
    refine G_iadd 65 dX3_slip_64 rfl ?_
    refine G_iload_n 66 dX3_slip_65 rfl rfl ?_
    refine G_invS (N := mX3_setPlate) (As := [va_rf (FR s18 19 a1), .int (AI s18 a22 (5 : Int32).toNatClampNeg), .int (3 + (AI s18 a22 (6 : Int32).toNatClampNeg)), .int x19]) (st := []) (rc) (rs) "" 69 dX3_slip_66 (Or.inl q2182) q2183 q44 q2184 rfl mX3_setPlate_args ⟨Nat.le_of_ble_eq_true rfl, Nat.le_of_ble_eq_true rfl⟩ rfl (Nat.zero_le _) (le_b mX3_setPlate_c (Nat.le_refl _)) (le_b mX3_setPlate_s (Nat.le_refl _)) rfl (Cal.mono h ?_)
    rintro s27 v ⟨rfl, h⟩ hx28
    have h := h hx28
    have x29 := hx28.x
    show G w mX3_slip (KI K) (rc) (rs) s27 69 [va_rf l0, .int (AI s11 a14 (3 : Int32).toNatClampNeg), .int x19, .int (AI s18 a22 (5 : Int32).toNatClampNeg), .int (AI s18 a22 (6 : Int32).toNatClampNeg)] []
    refine G_aload_n 70 dX3_slip_69 rfl rfl ?_
    have c3 := kdE x29 c3 (by decide)
    refine G_getR (f := 19) (a := a1) "" 73 dX3_slip_70 (Or.inl q2132) (Or.inl rfl) rfl e2 (hf19 c3) rfl ?_
    refine G_bipush (v := 8) 75 dX3_slip_73 (by decide) rfl ?_
    refine G_dup2 76 dX3_slip_75 (rfl) (rf_cat _) rfl ?_
    obtain ⟨a30, e31, h⟩ := h
    obtain ⟨c32, h⟩ := h
    obtain ⟨c33, h⟩ := h
    refine G_iald (a := a30) 77 dX3_slip_76 rfl e31 c32 c33 ?_
    refine G_iconst (v := 1) 78 dX3_slip_77 (by decide) rfl ?_
    refine G_iadd 79 dX3_slip_78 rfl ?_
    obtain ⟨c34, h⟩ := h
    refine G_iast (a := a30) 80 dX3_slip_79 rfl e31 c34 c33 ?_
    generalize hs35 : sAI s27 a30 (8 : Int32).toNatClampNeg ((AI s27 a30 (8 : Int32).toNatClampNeg) + 1) = s35
    have x36 : ∀ a, ¬ kd s27 a = 0 → kd s35 a = kd s27 a := by subst hs35; exact fun a _ => congrFun kd_sAI a
    have h := h s35 hs35.symm
    refine G_aload_n 81 dX3_slip_80 rfl rfl ?_
    have c3 := kdE x36 c3 (by decide)
    refine G_getR (f := 19) (a := a1) "" 84 dX3_slip_81 (Or.inl q2132) (Or.inl rfl) rfl e2 (hf19 c3) rfl ?_
    refine G_iload_n 85 dX3_slip_84 rfl rfl ?_
    refine G_iconst (v := 1) 86 dX3_slip_85 (by decide) rfl ?_
    refine G_iload 88 dX3_slip_86 rfl rfl ?_
    refine G_isub 89 dX3_slip_88 rfl ?_
    refine G_iload_n 90 dX3_slip_89 rfl rfl ?_
    refine G_invS (N := mX3_isReady) (As := [va_rf (FR s35 19 a1), .int (AI s18 a22 (5 : Int32).toNatClampNeg), .int (1 - (AI s18 a22 (6 : Int32).toNatClampNeg)), .int x19]) (st := []) (rc) (rs) "" 93 dX3_slip_90 (Or.inl q2303) q2304 q44 q2305 rfl mX3_isReady_args ⟨Nat.le_of_ble_eq_true rfl, Nat.le_of_ble_eq_true rfl⟩ rfl (Nat.zero_le _) (le_b mX3_isReady_c (Nat.le_refl _)) (le_b mX3_isReady_s (Nat.le_refl _)) rfl (Cal.mono h ?_)
    rintro s37 v ⟨x38, rfl, h⟩ hx39
    have h := h hx39
    have x40 := hx39.x
    show G w mX3_slip (KI K) (rc) (rs) s37 93 [va_rf l0, .int (AI s11 a14 (3 : Int32).toNatClampNeg), .int x19, .int (AI s18 a22 (5 : Int32).toNatClampNeg), .int (AI s18 a22 (6 : Int32).toNatClampNeg)] [.int x38]
    refine G_if_eq 123 96 dX3_slip_93 (by decide) rfl (fun u41 => ?_) (fun u41 => ?_)
    · have h := h.1 u41
      refine G_aload_n 124 dX3_slip_123 rfl rfl ?_
      have c3 := kdE x40 c3 (by decide)
      refine G_getR (f := 19) (a := a1) "" 127 dX3_slip_124 (Or.inl q2132) (Or.inl rfl) rfl e2 (hf19 c3) rfl ?_
      refine G_iload_n 128 dX3_slip_127 rfl rfl ?_
      refine G_iload 130 dX3_slip_128 rfl rfl ?_
      refine G_iload_n 131 dX3_slip_130 rfl rfl ?_
      refine G_invS (N := mX3_canBeGround) (As := [va_rf (FR s37 19 a1), .int (AI s18 a22 (5 : Int32).toNatClampNeg), .int (AI s18 a22 (6 : Int32).toNatClampNeg), .int x19]) (st := []) (rc) (rs) "" 134 dX3_slip_131 (Or.inl q2300) q2301 q44 q2302 rfl mX3_canBeGround_args ⟨Nat.le_of_ble_eq_true rfl, Nat.le_of_ble_eq_true rfl⟩ rfl (Nat.zero_le _) (le_b mX3_canBeGround_c (Nat.le_refl _)) (le_b mX3_canBeGround_s (Nat.le_refl _)) rfl (Cal.mono h ?_)
      rintro s42 v ⟨x43, rfl, h⟩ hx44
      have h := h hx44
      have x45 := hx44.x
      show G w mX3_slip (KI K) (rc) (rs) s42 134 [va_rf l0, .int (AI s11 a14 (3 : Int32).toNatClampNeg), .int x19, .int (AI s18 a22 (5 : Int32).toNatClampNeg), .int (AI s18 a22 (6 : Int32).toNatClampNeg)] [.int x43]
      refine G_if_eq 166 137 dX3_slip_134 (by decide) rfl (fun u46 => ?_) (fun u46 => ?_)
      · have h := h.1 u46
        refine G_aload_n 167 dX3_slip_166 rfl rfl ?_
        have c3 := kdE x45 c3 (by decide)
        refine G_getR (f := 19) (a := a1) "" 170 dX3_slip_167 (Or.inl q2132) (Or.inl rfl) rfl e2 (hf19 c3) rfl ?_
        refine G_iload_n 171 dX3_slip_170 rfl rfl ?_
        refine G_iconst (v := 2) 172 dX3_slip_171 (by decide) rfl ?_
        refine G_iconst (v := 3) 173 dX3_slip_172 (by decide) rfl ?_
        refine G_invS (N := mX3_setPlate) (As := [va_rf (FR s42 19 a1), .int (AI s18 a22 (5 : Int32).toNatClampNeg), .int 2, .int 3]) (st := []) (rc) (rs) "" 176 dX3_slip_173 (Or.inl q2182) q2183 q44 q2184 rfl mX3_setPlate_args ⟨Nat.le_of_ble_eq_true rfl, Nat.le_of_ble_eq_true rfl⟩ rfl (Nat.zero_le _) (le_b mX3_setPlate_c (Nat.le_refl _)) (le_b mX3_setPlate_s (Nat.le_refl _)) rfl (Cal.mono h ?_)
        rintro s47 v ⟨rfl, h⟩ hx48
        have h := h hx48
        have x49 := hx48.x
        show G w mX3_slip (KI K) (rc) (rs) s47 176 [va_rf l0, .int (AI s11 a14 (3 : Int32).toNatClampNeg), .int x19, .int (AI s18 a22 (5 : Int32).toNatClampNeg), .int (AI s18 a22 (6 : Int32).toNatClampNeg)] []
        refine G_aload_n 177 dX3_slip_176 rfl rfl ?_
        have c3 := kdE x49 c3 (by decide)
        refine G_getR (f := 19) (a := a1) "" 180 dX3_slip_177 (Or.inl q2132) (Or.inl rfl) rfl e2 (hf19 c3) rfl ?_
        refine G_invS (N := mX3_rest) (As := [va_rf (FR s47 19 a1)]) (st := []) (rc) (rs) "" 183 dX3_slip_180 (Or.inl q2276) q2277 q44 q2278 rfl mX3_rest_args ⟨Nat.le_of_ble_eq_true rfl, Nat.le_of_ble_eq_true rfl⟩ rfl (Nat.zero_le _) (le_b mX3_rest_c (Nat.le_refl _)) (le_b mX3_rest_s (Nat.le_refl _)) rfl (Cal.mono h ?_)
        rintro s50 v ⟨rfl, h⟩ hx51
        have h := h hx51
        have x52 := hx51.x
        show G w mX3_slip (KI K) (rc) (rs) s50 183 [va_rf l0, .int (AI s11 a14 (3 : Int32).toNatClampNeg), .int x19, .int (AI s18 a22 (5 : Int32).toNatClampNeg), .int (AI s18 a22 (6 : Int32).toNatClampNeg)] []
        refine G_iconst (v := 3) 184 dX3_slip_183 (by decide) rfl ?_
        exact G_iret dX3_slip_184 rfl ⟨_, rfl, h⟩
      · have h := h.2 u46
        refine G_aload_n 138 dX3_slip_137 rfl rfl ?_
        have c3 := kdE x45 c3 (by decide)
        refine G_getR (f := 19) (a := a1) "" 141 dX3_slip_138 (Or.inl q2132) (Or.inl rfl) rfl e2 (hf19 c3) rfl ?_
        refine G_iload_n 142 dX3_slip_141 rfl rfl ?_
        refine G_iload 144 dX3_slip_142 rfl rfl ?_
        refine G_invS (N := mX3_grindSide) (As := [va_rf (FR s42 19 a1), .int (AI s18 a22 (5 : Int32).toNatClampNeg), .int (AI s18 a22 (6 : Int32).toNatClampNeg)]) (st := []) (rc) (rs) "" 147 dX3_slip_144 (Or.inl q2209) q2210 q44 q2211 rfl mX3_grindSide_args ⟨Nat.le_of_ble_eq_true rfl, Nat.le_of_ble_eq_true rfl⟩ rfl (Nat.zero_le _) (le_b mX3_grindSide_c (Nat.le_refl _)) (le_b mX3_grindSide_s (Nat.le_refl _)) rfl (Cal.mono h ?_)
        rintro s53 v ⟨rfl, h⟩ hx54
        have h := h hx54
        have x55 := hx54.x
        show G w mX3_slip (KI K) (rc) (rs) s53 147 [va_rf l0, .int (AI s11 a14 (3 : Int32).toNatClampNeg), .int x19, .int (AI s18 a22 (5 : Int32).toNatClampNeg), .int (AI s18 a22 (6 : Int32).toNatClampNeg)] []
        refine G_aload_n 148 dX3_slip_147 rfl rfl ?_
        have c3 := kdE x55 c3 (by decide)
        refine G_getR (f := 19) (a := a1) "" 151 dX3_slip_148 (Or.inl q2132) (Or.inl rfl) rfl e2 (hf19 c3) rfl ?_
        refine G_iconst (v := 4) 152 dX3_slip_151 (by decide) rfl ?_
        refine G_aload_n 153 dX3_slip_152 rfl rfl ?_
        refine G_getR (f := 19) (a := a1) "" 156 dX3_slip_153 (Or.inl q2132) (Or.inl rfl) rfl e2 (hf19 c3) rfl ?_
        refine G_iload_n 157 dX3_slip_156 rfl rfl ?_
        refine G_invS (N := mX3_effort) (As := [va_rf (FR s53 19 a1), .int (AI s11 a14 (3 : Int32).toNatClampNeg)]) (st := [.int 4, va_rf (FR s53 19 a1)]) (rc) (rs) "" 160 dX3_slip_157 (Or.inl q2309) q2310 q44 q2311 rfl mX3_effort_args ⟨Nat.le_of_ble_eq_true rfl, Nat.le_of_ble_eq_true rfl⟩ rfl (Nat.le_trans (w_I (w_R w_0)) (Nat.le_of_ble_eq_true rfl)) (le_b mX3_effort_c (Nat.le_refl _)) (le_b mX3_effort_s (Nat.le_refl _)) rfl (Cal.mono h ?_)
        rintro s56 v ⟨x57, rfl, h⟩ hx58
        have h := h hx58
        have x59 := hx58.x
        show G w mX3_slip (KI K) (rc) (rs) s56 160 [va_rf l0, .int (AI s11 a14 (3 : Int32).toNatClampNeg), .int x19, .int (AI s18 a22 (5 : Int32).toNatClampNeg), .int (AI s18 a22 (6 : Int32).toNatClampNeg)] [.int x57, .int 4, va_rf (FR s53 19 a1)]
        refine G_bipush (v := 10) 162 dX3_slip_160 (by decide) rfl ?_
        refine G_iadd 163 dX3_slip_162 rfl ?_
        obtain ⟨a60, e61, h⟩ := h
        obtain ⟨c62, h⟩ := h
        obtain ⟨c63, h⟩ := h
        refine G_iast (a := a60) 164 dX3_slip_163 rfl e61 c62 c63 ?_
        generalize hs64 : sAI s56 a60 (4 : Int32).toNatClampNeg (x57 + 10) = s64
        have x65 : ∀ a, ¬ kd s56 a = 0 → kd s64 a = kd s56 a := by subst hs64; exact fun a _ => congrFun kd_sAI a
        have h := h s64 hs64.symm
        refine G_iconst (v := 2) 165 dX3_slip_164 (by decide) rfl ?_
        exact G_iret dX3_slip_165 rfl ⟨_, rfl, h⟩
    · have h := h.2 u41
      refine G_aload_n 97 dX3_slip_96 rfl rfl ?_
      have c3 := kdE x40 c3 (by decide)
      refine G_getR (f := 19) (a := a1) "" 100 dX3_slip_97 (Or.inl q2132) (Or.inl rfl) rfl e2 (hf19 c3) rfl ?_
      refine G_bipush (v := 6) 102 dX3_slip_100 (by decide) rfl ?_
      refine G_iconst (v := 1) 103 dX3_slip_102 (by decide) rfl ?_
      refine G_iload 105 dX3_slip_103 rfl rfl ?_
      refine G_isub 106 dX3_slip_105 rfl ?_
      obtain ⟨a66, e67, h⟩ := h
      obtain ⟨c68, h⟩ := h
      obtain ⟨c69, h⟩ := h
      refine G_iast (a := a66) 107 dX3_slip_106 rfl e67 c68 c69 ?_
      generalize hs70 : sAI s37 a66 (6 : Int32).toNatClampNeg (1 - (AI s18 a22 (6 : Int32).toNatClampNeg)) = s70
      have x71 : ∀ a, ¬ kd s37 a = 0 → kd s70 a = kd s37 a := by subst hs70; exact fun a _ => congrFun kd_sAI a
      have h := h s70 hs70.symm
      refine G_aload_n 108 dX3_slip_107 rfl rfl ?_
      have c3 := kdE x71 c3 (by decide)
      refine G_getR (f := 19) (a := a1) "" 111 dX3_slip_108 (Or.inl q2132) (Or.inl rfl) rfl e2 (hf19 c3) rfl ?_
      refine G_iconst (v := 4) 112 dX3_slip_111 (by decide) rfl ?_
      refine G_aload_n 113 dX3_slip_112 rfl rfl ?_
      refine G_getR (f := 19) (a := a1) "" 116 dX3_slip_113 (Or.inl q2132) (Or.inl rfl) rfl e2 (hf19 c3) rfl ?_
      refine G_iload_n 117 dX3_slip_116 rfl rfl ?_
      refine G_invS (N := mX3_effort) (As := [va_rf (FR s70 19 a1), .int (AI s11 a14 (3 : Int32).toNatClampNeg)]) (st := [.int 4, va_rf (FR s70 19 a1)]) (rc) (rs) "" 120 dX3_slip_117 (Or.inl q2309) q2310 q44 q2311 rfl mX3_effort_args ⟨Nat.le_of_ble_eq_true rfl, Nat.le_of_ble_eq_true rfl⟩ rfl (Nat.le_trans (w_I (w_R w_0)) (Nat.le_of_ble_eq_true rfl)) (le_b mX3_effort_c (Nat.le_refl _)) (le_b mX3_effort_s (Nat.le_refl _)) rfl (Cal.mono h ?_)
      rintro s72 v ⟨x73, rfl, h⟩ hx74
      have h := h hx74
      have x75 := hx74.x
      show G w mX3_slip (KI K) (rc) (rs) s72 120 [va_rf l0, .int (AI s11 a14 (3 : Int32).toNatClampNeg), .int x19, .int (AI s18 a22 (5 : Int32).toNatClampNeg), .int (AI s18 a22 (6 : Int32).toNatClampNeg)] [.int x73, .int 4, va_rf (FR s70 19 a1)]
      obtain ⟨a76, e77, h⟩ := h
      obtain ⟨c78, h⟩ := h
      obtain ⟨c79, h⟩ := h
      refine G_iast (a := a76) 121 dX3_slip_120 rfl e77 c78 c79 ?_
      generalize hs80 : sAI s72 a76 (4 : Int32).toNatClampNeg x73 = s80
      have x81 : ∀ a, ¬ kd s72 a = 0 → kd s80 a = kd s72 a := by subst hs80; exact fun a _ => congrFun kd_sAI a
      have h := h s80 hs80.symm
      refine G_iconst (v := 1) 122 dX3_slip_121 (by decide) rfl ?_
      exact G_iret dX3_slip_122 rfl ⟨_, rfl, h⟩
  · have h := h.2 u10
    refine G_bipush (v := (-2)) 18 dX3_slip_16 (by decide) rfl ?_
    exact G_iret dX3_slip_18 rfl ⟨_, rfl, h⟩
theorem eX3_slip {w : Wt} {K : Sg → Int32 → Prop} {σ : Sg} (l0 : Option Nat) (h : G w mX3_slip (KI K) 0 0 σ 0 [va_rf l0, U_, U_, U_, U_] []) : CalI w mX3_slip σ [va_rf l0] K :=
  Cal.start 4 mX3_slip_plain (catR cat0) (Nat.le_of_ble_eq_true rfl) rfl h
set_option maxHeartbeats 4000000 in
theorem bX3_undo_0 {w : Wt} {K : Sg → Int32 → Prop} {rc rs : Nat} {σ : Sg} (l0 : Option Nat) (h : ∃ a1, l0 = some a1 ∧ kd σ a1 = 13 ∧ ∀ s4, s4 = sFI σ 18 a1 0 → ((¬ FI s4 22 a1 = 0 → ∀ s7, s7 = sFI s4 22 a1 ((FI s4 22 a1) - 1) → G w mX3_undo (KI K) (rc) (rs) s7 27 [va_rf l0, .int 0] []) ∧ (FI s4 22 a1 = 0 → K s4 (-2)))) : G w mX3_undo (KI K) (rc) (rs) σ 0 [va_rf l0, U_] [] := by
  refine G_aload_n 1 dX3_undo_0 rfl rfl ?_
  refine G_iconst (v := 0) 2 dX3_undo_1 (by decide) rfl ?_
  obtain ⟨a1, e2, h⟩ := h
  obtain ⟨c3, h⟩ := h
  refine G_putI (f := 18) (a := a1) "" 5 dX3_undo_2 (Or.inl q2131) (Or.inl rfl) rfl e2 (hp18 c3) (nk18 c3) (Or.inl rfl) rfl rfl rfl ?_
  generalize hs4 : sFI σ 18 a1 0 = s4
  have x5 : ∀ a, ¬ kd σ a = 0 → kd s4 a = kd σ a := by subst hs4; exact fun a _ => congrFun kd_sFI a
  have h := h s4 hs4.symm
  refine G_aload_n 6 dX3_undo_5 rfl rfl ?_
  have c3 := kdE x5 c3 (by decide)
  refine G_getI (f := 22) (a := a1) "" 9 dX3_undo_6 (Or.inl q2135) (Or.inl rfl) rfl e2 (hf22 c3) rfl ?_
  refine G_if_ne 15 12 dX3_undo_9 (by decide) rfl (fun u6 => ?_) (fun u6 => ?_)
  · have h := h.1 u6
    refine G_aload_n 16 dX3_undo_15 rfl rfl ?_
    refine G_dup 17 dX3_undo_16 (rf_cat _) rfl ?_
    refine G_getI (f := 22) (a := a1) "" 20 dX3_undo_17 (Or.inl q2135) (Or.inl rfl) rfl e2 (hf22 c3) rfl ?_
    refine G_iconst (v := 1) 21 dX3_undo_20 (by decide) rfl ?_
    refine G_isub 22 dX3_undo_21 rfl ?_
    refine G_putI (f := 22) (a := a1) "" 25 dX3_undo_22 (Or.inl q2135) (Or.inl rfl) rfl e2 (hp22 c3) (nk22 c3) (Or.inl rfl) rfl rfl rfl ?_
    generalize hs7 : sFI s4 22 a1 ((FI s4 22 a1) - 1) = s7
    have x8 : ∀ a, ¬ kd s4 a = 0 → kd s7 a = kd s4 a := by subst hs7; exact fun a _ => congrFun kd_sFI a
    have h := h s7 hs7.symm
    refine G_iconst (v := 0) 26 dX3_undo_25 (by decide) rfl ?_
    refine G_istore_n 27 [va_rf l0, .int 0] dX3_undo_26 (Nat.le_of_ble_eq_true rfl) rfl rfl ?_
    exact h
  · have h := h.2 u6
    refine G_bipush (v := (-2)) 14 dX3_undo_12 (by decide) rfl ?_
    exact G_iret dX3_undo_14 rfl ⟨_, rfl, h⟩
set_option maxHeartbeats 4000000 in
theorem bX3_undo_27 {w : Wt} {K : Sg → Int32 → Prop} {rc rs : Nat} {σ : Sg} (l0 : Option Nat) (l1 : Int32) (h : ((343 ≤ l1 → ∃ a2, l0 = some a2 ∧ kd σ a2 = 13 ∧ K σ (FI σ 22 a2)) ∧ (¬ 343 ≤ l1 → ∃ a5, l0 = some a5 ∧ kd σ a5 = 13 ∧ ∃ a8, FR σ 21 a5 = some a8 ∧ kd σ a8 ∈ [1, 5] ∧ vp_in ((343 * (FI σ 22 a5)) + l1) (ln σ a8) ∧ ∃ a12, FR σ 19 a5 = some a12 ∧ kd σ a12 = 1 ∧ vp_in l1 (ln σ a12) ∧ ∀ s16, s16 = sAI σ a12 l1.toNatClampNeg (AI σ a8 ((343 * (FI σ 22 a5)) + l1).toNatClampNeg) → G w mX3_undo (KI K) (rc) (rs) s16 27 [va_rf l0, .int (l1 + 1)] []))) : G w mX3_undo (KI K) (rc) (rs) σ 27 [va_rf l0, .int l1] [] := by
  refine G_iload_n 28 dX3_undo_27 rfl rfl ?_
  refine G_sipush (v := 343) 31 dX3_undo_28 (by decide) rfl ?_
  refine G_icmp_ge 61 34 dX3_undo_31 (by decide) rfl (fun u1 => ?_) (fun u1 => ?_)
  · have h := h.1 u1
    refine G_aload_n 62 dX3_undo_61 rfl rfl ?_
    obtain ⟨a2, e3, h⟩ := h
    obtain ⟨c4, h⟩ := h
    refine G_getI (f := 22) (a := a2) "" 65 dX3_undo_62 (Or.inl q2135) (Or.inl rfl) rfl e3 (hf22 c4) rfl ?_
    exact G_iret dX3_undo_65 rfl ⟨_, rfl, h⟩
  · have h := h.2 u1
    refine G_aload_n 35 dX3_undo_34 rfl rfl ?_
    obtain ⟨a5, e6, h⟩ := h
    obtain ⟨c7, h⟩ := h
    refine G_getR (f := 19) (a := a5) "" 38 dX3_undo_35 (Or.inl q2132) (Or.inl rfl) rfl e6 (hf19 c7) rfl ?_
    refine G_iload_n 39 dX3_undo_38 rfl rfl ?_
    refine G_aload_n 40 dX3_undo_39 rfl rfl ?_
    refine G_getR (f := 21) (a := a5) "" 43 dX3_undo_40 (Or.inl q2134) (Or.inl rfl) rfl e6 (hf21 c7) rfl ?_
    refine G_sipush (v := 343) 46 dX3_undo_43 (by decide) rfl ?_
    refine G_aload_n 47 dX3_undo_46 rfl rfl ?_
    refine G_getI (f := 22) (a := a5) "" 50 dX3_undo_47 (Or.inl q2135) (Or.inl rfl) rfl e6 (hf22 c7) rfl ?_
    refine G_imul 51 dX3_undo_50 rfl ?_
    refine G_iload_n 52 dX3_undo_51 rfl rfl ?_
    refine G_iadd 53 dX3_undo_52 rfl ?_
    obtain ⟨a8, e9, h⟩ := h
    obtain ⟨c10, h⟩ := h
    obtain ⟨c11, h⟩ := h
    refine G_iald (a := a8) 54 dX3_undo_53 rfl e9 c10 c11 ?_
    obtain ⟨a12, e13, h⟩ := h
    obtain ⟨c14, h⟩ := h
    obtain ⟨c15, h⟩ := h
    refine G_iast (a := a12) 55 dX3_undo_54 rfl e13 c14 c15 ?_
    generalize hs16 : sAI σ a12 l1.toNatClampNeg (AI σ a8 ((343 * (FI σ 22 a5)) + l1).toNatClampNeg) = s16
    have x17 : ∀ a, ¬ kd σ a = 0 → kd s16 a = kd σ a := by subst hs16; exact fun a _ => congrFun kd_sAI a
    have h := h s16 hs16.symm
    refine G_iinc 58 [va_rf l0, .int (l1 + 1)] dX3_undo_55 rfl rfl (Nat.le_of_ble_eq_true rfl) rfl rfl ?_
    refine G_goto 27 dX3_undo_58 (by decide) ?_
    exact h
theorem eX3_undo {w : Wt} {K : Sg → Int32 → Prop} {σ : Sg} (l0 : Option Nat) (h : G w mX3_undo (KI K) 0 0 σ 0 [va_rf l0, U_] []) : CalI w mX3_undo σ [va_rf l0] K :=
  Cal.start 1 mX3_undo_plain (catR cat0) (Nat.le_of_ble_eq_true rfl) rfl h
set_option maxHeartbeats 4000000 in
theorem bX3_count_0 {w : Wt} {K : Sg → Int32 → Prop} {rc rs : Nat} {σ : Sg} (l0 : Option Nat) (l1 : Int32) (h : ∃ a1, l0 = some a1 ∧ kd σ a1 = 13 ∧ ∀ s4, s4 = sFI σ 18 a1 0 → ∃ a6, FR s4 19 a1 = some a6 ∧ kd s4 a6 ∈ [1, 5] ∧ vp_in 3 (ln s4 a6) ∧ ((AI s4 a6 (3 : Int32).toNatClampNeg = (-9) → (((l1 = 0 ∨ l1 = 1 ∨ l1 = 2 ∨ l1 = 3) → CalI w mX3_platesIn s4 [va_rf (FR s4 19 a1), .int l1] (fun s11 x12 => Ext s4 s11 → K s11 x12)) ∧ ((l1 = 4) → vp_in 1 (ln s4 a6) ∧ K s4 (AI s4 a6 (1 : Int32).toNatClampNeg)) ∧ ((l1 = 5) → vp_in 0 (ln s4 a6) ∧ K s4 (AI s4 a6 (0 : Int32).toNatClampNeg)) ∧ ((l1 = 6) → vp_in 2 (ln s4 a6) ∧ K s4 (AI s4 a6 (2 : Int32).toNatClampNeg)) ∧ ((l1 = 7) → CalI w mX3_rushes s4 [va_rf (FR s4 19 a1)] (fun s18 x19 => Ext s4 s18 → K s18 x19)) ∧ ((l1 = 8) → K s4 (AI s4 a6 (3 : Int32).toNatClampNeg)) ∧ ((l1 = 9) → K s4 (-9)) ∧ ((l1 = 10) → vp_in 5 (ln s4 a6) ∧ K s4 (AI s4 a6 (5 : Int32).toNatClampNeg)) ∧ ((l1 = 11) → vp_in 7 (ln s4 a6) ∧ K s4 (AI s4 a6 (7 : Int32).toNatClampNeg)) ∧ ((l1 = 12) → vp_in 8 (ln s4 a6) ∧ K s4 (AI s4 a6 (8 : Int32).toNatClampNeg)) ∧ ((l1 = 13) → vp_in 9 (ln s4 a6) ∧ K s4 (AI s4 a6 (9 : Int32).toNatClampNeg)) ∧ ((l1 = 14) → K s4 (FI s4 22 a1)) ∧ ((l1 = 15) → K s4 (FI s4 24 a1)) ∧ (¬ l1 = 0 ∧ ¬ l1 = 1 ∧ ¬ l1 = 2 ∧ ¬ l1 = 3 ∧ ¬ l1 = 4 ∧ ¬ l1 = 5 ∧ ¬ l1 = 6 ∧ ¬ l1 = 7 ∧ ¬ l1 = 8 ∧ ¬ l1 = 9 ∧ ¬ l1 = 10 ∧ ¬ l1 = 11 ∧ ¬ l1 = 12 ∧ ¬ l1 = 13 ∧ ¬ l1 = 14 ∧ ¬ l1 = 15 → K s4 (-1)))) ∧ (¬ AI s4 a6 (3 : Int32).toNatClampNeg = (-9) → (((l1 = 0 ∨ l1 = 1 ∨ l1 = 2 ∨ l1 = 3) → CalI w mX3_platesIn s4 [va_rf (FR s4 19 a1), .int l1] (fun s40 x41 => Ext s4 s40 → K s40 x41)) ∧ ((l1 = 4) → vp_in 1 (ln s4 a6) ∧ K s4 (AI s4 a6 (1 : Int32).toNatClampNeg)) ∧ ((l1 = 5) → vp_in 0 (ln s4 a6) ∧ K s4 (AI s4 a6 (0 : Int32).toNatClampNeg)) ∧ ((l1 = 6) → vp_in 2 (ln s4 a6) ∧ K s4 (AI s4 a6 (2 : Int32).toNatClampNeg)) ∧ ((l1 = 7) → CalI w mX3_rushes s4 [va_rf (FR s4 19 a1)] (fun s47 x48 => Ext s4 s47 → K s47 x48)) ∧ ((l1 = 8) → K s4 (AI s4 a6 (3 : Int32).toNatClampNeg)) ∧ ((l1 = 9) → vp_in 4 (ln s4 a6) ∧ K s4 (AI s4 a6 (4 : Int32).toNatClampNeg)) ∧ ((l1 = 10) → vp_in 5 (ln s4 a6) ∧ K s4 (AI s4 a6 (5 : Int32).toNatClampNeg)) ∧ ((l1 = 11) → vp_in 7 (ln s4 a6) ∧ K s4 (AI s4 a6 (7 : Int32).toNatClampNeg)) ∧ ((l1 = 12) → vp_in 8 (ln s4 a6) ∧ K s4 (AI s4 a6 (8 : Int32).toNatClampNeg)) ∧ ((l1 = 13) → vp_in 9 (ln s4 a6) ∧ K s4 (AI s4 a6 (9 : Int32).toNatClampNeg)) ∧ ((l1 = 14) → K s4 (FI s4 22 a1)) ∧ ((l1 = 15) → K s4 (FI s4 24 a1)) ∧ (¬ l1 = 0 ∧ ¬ l1 = 1 ∧ ¬ l1 = 2 ∧ ¬ l1 = 3 ∧ ¬ l1 = 4 ∧ ¬ l1 = 5 ∧ ¬ l1 = 6 ∧ ¬ l1 = 7 ∧ ¬ l1 = 8 ∧ ¬ l1 = 9 ∧ ¬ l1 = 10 ∧ ¬ l1 = 11 ∧ ¬ l1 = 12 ∧ ¬ l1 = 13 ∧ ¬ l1 = 14 ∧ ¬ l1 = 15 → K s4 (-1)))))) : G w mX3_count (KI K) (rc) (rs) σ 0 [va_rf l0, .int l1, U_] [] := by
  refine G_aload_n 1 dX3_count_0 rfl rfl ?_
  refine G_iconst (v := 0) 2 dX3_count_1 (by decide) rfl ?_
  obtain ⟨a1, e2, h⟩ := h
  obtain ⟨c3, h⟩ := h
  refine G_putI (f := 18) (a := a1) "" 5 dX3_count_2 (Or.inl q2131) (Or.inl rfl) rfl e2 (hp18 c3) (nk18 c3) (Or.inl rfl) rfl rfl rfl ?_
  generalize hs4 : sFI σ 18 a1 0 = s4
  have x5 : ∀ a, ¬ kd σ a = 0 → kd s4 a = kd σ a := by subst hs4; exact fun a _ => congrFun kd_sFI a
  have h := h s4 hs4.symm
  refine G_aload_n 6 dX3_count_5 rfl rfl ?_
  have c3 := kdE x5 c3 (by decide)
  refine G_getR (f := 19) (a := a1) "" 9 dX3_count_6 (Or.inl q2132) (Or.inl rfl) rfl e2 (hf19 c3) rfl ?_
  refine G_iconst (v := 3) 10 dX3_count_9 (by decide) rfl ?_
  obtain ⟨a6, e7, h⟩ := h
  obtain ⟨c8, h⟩ := h
  obtain ⟨c9, h⟩ := h
  refine G_iald (a := a6) 11 dX3_count_10 rfl e7 c8 c9 ?_
  refine G_bipush (v := (-9)) 13 dX3_count_11 (by decide) rfl ?_
  refine G_icmp_eq 20 16 dX3_count_13 (by decide) rfl (fun u10 => ?_) (fun u10 => ?_)
  · have h := h.1 u10
    refine G_iconst (v := 0) 21 dX3_count_20 (by decide) rfl ?_
    refine G_istore_n 22 [va_rf l0, .int l1, .int 0] dX3_count_21 (Nat.le_of_ble_eq_true rfl) rfl rfl ?_
    refine G_iload_n 23 dX3_count_22 rfl rfl ?_
    by_cases u26 : l1 = 0 ∨ l1 = 1 ∨ l1 = 2 ∨ l1 = 3
    · refine G_tableIn (off := 77) 100 dX3_count_23 (by rcases u26 with u26e | u26e | u26e | u26e <;> (rw [u26e]; decide)) (by rcases u26 with u26e | u26e | u26e | u26e <;> (rw [u26e]; decide)) (by rcases u26 with u26e | u26e | u26e | u26e <;> (rw [u26e]; rfl)) (by decide) ?_
      have h := h.1 u26
      refine G_aload_n 101 dX3_count_100 rfl rfl ?_
      refine G_getR (f := 19) (a := a1) "" 104 dX3_count_101 (Or.inl q2132) (Or.inl rfl) rfl e2 (hf19 c3) rfl ?_
      refine G_iload_n 105 dX3_count_104 rfl rfl ?_
      refine G_invS (N := mX3_platesIn) (As := [va_rf (FR s4 19 a1), .int l1]) (st := []) (rc) (rs) "" 108 dX3_count_105 (Or.inl q2196) q2197 q44 q2198 rfl mX3_platesIn_args ⟨Nat.le_of_ble_eq_true rfl, Nat.le_of_ble_eq_true rfl⟩ rfl (Nat.zero_le _) (le_b mX3_platesIn_c (Nat.le_refl _)) (le_b mX3_platesIn_s (Nat.le_refl _)) rfl (Cal.mono h ?_)
      rintro s11 v ⟨x12, rfl, h⟩ hx13
      have h := h hx13
      have x14 := hx13.x
      show G w mX3_count (KI K) (rc) (rs) s11 108 [va_rf l0, .int l1, .int 0] [.int x12]
      exact G_iret dX3_count_108 rfl ⟨_, rfl, h⟩
    have h := h.2
    rw [not_or, not_or, not_or] at u26
    by_cases u27 : l1 = 4
    · refine G_tableIn (off := 86) 109 dX3_count_23 (by have u27e := u27 <;> (rw [u27e]; decide)) (by have u27e := u27 <;> (rw [u27e]; decide)) (by have u27e := u27 <;> (rw [u27e]; rfl)) (by decide) ?_
      have h := h.1 u27
      refine G_aload_n 110 dX3_count_109 rfl rfl ?_
      refine G_getR (f := 19) (a := a1) "" 113 dX3_count_110 (Or.inl q2132) (Or.inl rfl) rfl e2 (hf19 c3) rfl ?_
      refine G_iconst (v := 1) 114 dX3_count_113 (by decide) rfl ?_
      obtain ⟨c15, h⟩ := h
      refine G_iald (a := a6) 115 dX3_count_114 rfl e7 c8 c15 ?_
      exact G_iret dX3_count_115 rfl ⟨_, rfl, h⟩
    have h := h.2
    by_cases u28 : l1 = 5
    · refine G_tableIn (off := 93) 116 dX3_count_23 (by have u28e := u28 <;> (rw [u28e]; decide)) (by have u28e := u28 <;> (rw [u28e]; decide)) (by have u28e := u28 <;> (rw [u28e]; rfl)) (by decide) ?_
      have h := h.1 u28
      refine G_aload_n 117 dX3_count_116 rfl rfl ?_
      refine G_getR (f := 19) (a := a1) "" 120 dX3_count_117 (Or.inl q2132) (Or.inl rfl) rfl e2 (hf19 c3) rfl ?_
      refine G_iconst (v := 0) 121 dX3_count_120 (by decide) rfl ?_
      obtain ⟨c16, h⟩ := h
      refine G_iald (a := a6) 122 dX3_count_121 rfl e7 c8 c16 ?_
      exact G_iret dX3_count_122 rfl ⟨_, rfl, h⟩
    have h := h.2
    by_cases u29 : l1 = 6
    · refine G_tableIn (off := 100) 123 dX3_count_23 (by have u29e := u29 <;> (rw [u29e]; decide)) (by have u29e := u29 <;> (rw [u29e]; decide)) (by have u29e := u29 <;> (rw [u29e]; rfl)) (by decide) ?_
      have h := h.1 u29
      refine G_aload_n 124 dX3_count_123 rfl rfl ?_
      refine G_getR (f := 19) (a := a1) "" 127 dX3_count_124 (Or.inl q2132) (Or.inl rfl) rfl e2 (hf19 c3) rfl ?_
      refine G_iconst (v := 2) 128 dX3_count_127 (by decide) rfl ?_
      obtain ⟨c17, h⟩ := h
      refine G_iald (a := a6) 129 dX3_count_128 rfl e7 c8 c17 ?_
      exact G_iret dX3_count_129 rfl ⟨_, rfl, h⟩
    have h := h.2
    by_cases u30 : l1 = 7
    · refine G_tableIn (off := 107) 130 dX3_count_23 (by have u30e := u30 <;> (rw [u30e]; decide)) (by have u30e := u30 <;> (rw [u30e]; decide)) (by have u30e := u30 <;> (rw [u30e]; rfl)) (by decide) ?_
      have h := h.1 u30
      refine G_aload_n 131 dX3_count_130 rfl rfl ?_
      refine G_getR (f := 19) (a := a1) "" 134 dX3_count_131 (Or.inl q2132) (Or.inl rfl) rfl e2 (hf19 c3) rfl ?_
      refine G_invS (N := mX3_rushes) (As := [va_rf (FR s4 19 a1)]) (st := []) (rc) (rs) "" 137 dX3_count_134 (Or.inl q2249) q2250 q44 q2251 rfl mX3_rushes_args ⟨Nat.le_of_ble_eq_true rfl, Nat.le_of_ble_eq_true rfl⟩ rfl (Nat.zero_le _) (le_b mX3_rushes_c (Nat.le_refl _)) (le_b mX3_rushes_s (Nat.le_refl _)) rfl (Cal.mono h ?_)
      rintro s18 v ⟨x19, rfl, h⟩ hx20
      have h := h hx20
      have x21 := hx20.x
      show G w mX3_count (KI K) (rc) (rs) s18 137 [va_rf l0, .int l1, .int 0] [.int x19]
      exact G_iret dX3_count_137 rfl ⟨_, rfl, h⟩
    have h := h.2
    by_cases u31 : l1 = 8
    · refine G_tableIn (off := 115) 138 dX3_count_23 (by have u31e := u31 <;> (rw [u31e]; decide)) (by have u31e := u31 <;> (rw [u31e]; decide)) (by have u31e := u31 <;> (rw [u31e]; rfl)) (by decide) ?_
      have h := h.1 u31
      refine G_aload_n 139 dX3_count_138 rfl rfl ?_
      refine G_getR (f := 19) (a := a1) "" 142 dX3_count_139 (Or.inl q2132) (Or.inl rfl) rfl e2 (hf19 c3) rfl ?_
      refine G_iconst (v := 3) 143 dX3_count_142 (by decide) rfl ?_
      refine G_iald (a := a6) 144 dX3_count_143 rfl e7 c8 c9 ?_
      exact G_iret dX3_count_144 rfl ⟨_, rfl, h⟩
    have h := h.2
    by_cases u32 : l1 = 9
    · refine G_tableIn (off := 122) 145 dX3_count_23 (by have u32e := u32 <;> (rw [u32e]; decide)) (by have u32e := u32 <;> (rw [u32e]; decide)) (by have u32e := u32 <;> (rw [u32e]; rfl)) (by decide) ?_
      have h := h.1 u32
      refine G_iload_n 146 dX3_count_145 rfl rfl ?_
      refine G_if_eq 158 149 dX3_count_146 (by decide) rfl (fun _ => ?_) (fun q => absurd q (by decide))
      refine G_bipush (v := (-9)) 160 dX3_count_158 (by decide) rfl ?_
      exact G_iret dX3_count_160 rfl ⟨_, rfl, h⟩
    have h := h.2
    by_cases u33 : l1 = 10
    · refine G_tableIn (off := 138) 161 dX3_count_23 (by have u33e := u33 <;> (rw [u33e]; decide)) (by have u33e := u33 <;> (rw [u33e]; decide)) (by have u33e := u33 <;> (rw [u33e]; rfl)) (by decide) ?_
      have h := h.1 u33
      refine G_aload_n 162 dX3_count_161 rfl rfl ?_
      refine G_getR (f := 19) (a := a1) "" 165 dX3_count_162 (Or.inl q2132) (Or.inl rfl) rfl e2 (hf19 c3) rfl ?_
      refine G_iconst (v := 5) 166 dX3_count_165 (by decide) rfl ?_
      obtain ⟨c22, h⟩ := h
      refine G_iald (a := a6) 167 dX3_count_166 rfl e7 c8 c22 ?_
      exact G_iret dX3_count_167 rfl ⟨_, rfl, h⟩
    have h := h.2
    by_cases u34 : l1 = 11
    · refine G_tableIn (off := 145) 168 dX3_count_23 (by have u34e := u34 <;> (rw [u34e]; decide)) (by have u34e := u34 <;> (rw [u34e]; decide)) (by have u34e := u34 <;> (rw [u34e]; rfl)) (by decide) ?_
      have h := h.1 u34
      refine G_aload_n 169 dX3_count_168 rfl rfl ?_
      refine G_getR (f := 19) (a := a1) "" 172 dX3_count_169 (Or.inl q2132) (Or.inl rfl) rfl e2 (hf19 c3) rfl ?_
      refine G_bipush (v := 7) 174 dX3_count_172 (by decide) rfl ?_
      obtain ⟨c23, h⟩ := h
      refine G_iald (a := a6) 175 dX3_count_174 rfl e7 c8 c23 ?_
      exact G_iret dX3_count_175 rfl ⟨_, rfl, h⟩
    have h := h.2
    by_cases u35 : l1 = 12
    · refine G_tableIn (off := 153) 176 dX3_count_23 (by have u35e := u35 <;> (rw [u35e]; decide)) (by have u35e := u35 <;> (rw [u35e]; decide)) (by have u35e := u35 <;> (rw [u35e]; rfl)) (by decide) ?_
      have h := h.1 u35
      refine G_aload_n 177 dX3_count_176 rfl rfl ?_
      refine G_getR (f := 19) (a := a1) "" 180 dX3_count_177 (Or.inl q2132) (Or.inl rfl) rfl e2 (hf19 c3) rfl ?_
      refine G_bipush (v := 8) 182 dX3_count_180 (by decide) rfl ?_
      obtain ⟨c24, h⟩ := h
      refine G_iald (a := a6) 183 dX3_count_182 rfl e7 c8 c24 ?_
      exact G_iret dX3_count_183 rfl ⟨_, rfl, h⟩
    have h := h.2
    by_cases u36 : l1 = 13
    · refine G_tableIn (off := 161) 184 dX3_count_23 (by have u36e := u36 <;> (rw [u36e]; decide)) (by have u36e := u36 <;> (rw [u36e]; decide)) (by have u36e := u36 <;> (rw [u36e]; rfl)) (by decide) ?_
      have h := h.1 u36
      refine G_aload_n 185 dX3_count_184 rfl rfl ?_
      refine G_getR (f := 19) (a := a1) "" 188 dX3_count_185 (Or.inl q2132) (Or.inl rfl) rfl e2 (hf19 c3) rfl ?_
      refine G_bipush (v := 9) 190 dX3_count_188 (by decide) rfl ?_
      obtain ⟨c25, h⟩ := h
      refine G_iald (a := a6) 191 dX3_count_190 rfl e7 c8 c25 ?_
      exact G_iret dX3_count_191 rfl ⟨_, rfl, h⟩
    have h := h.2
    by_cases u37 : l1 = 14
    · refine G_tableIn (off := 169) 192 dX3_count_23 (by have u37e := u37 <;> (rw [u37e]; decide)) (by have u37e := u37 <;> (rw [u37e]; decide)) (by have u37e := u37 <;> (rw [u37e]; rfl)) (by decide) ?_
      have h := h.1 u37
      refine G_aload_n 193 dX3_count_192 rfl rfl ?_
      refine G_getI (f := 22) (a := a1) "" 196 dX3_count_193 (Or.inl q2135) (Or.inl rfl) rfl e2 (hf22 c3) rfl ?_
      exact G_iret dX3_count_196 rfl ⟨_, rfl, h⟩
    have h := h.2
    by_cases u38 : l1 = 15
    · refine G_tableIn (off := 174) 197 dX3_count_23 (by have u38e := u38 <;> (rw [u38e]; decide)) (by have u38e := u38 <;> (rw [u38e]; decide)) (by have u38e := u38 <;> (rw [u38e]; rfl)) (by decide) ?_
      have h := h.1 u38
      refine G_aload_n 198 dX3_count_197 rfl rfl ?_
      refine G_getI (f := 24) (a := a1) "" 201 dX3_count_198 (Or.inl q2137) (Or.inl rfl) rfl e2 (hf24 c3) rfl ?_
      exact G_iret dX3_count_201 rfl ⟨_, rfl, h⟩
    have h := h.2
    have h := h ⟨u26.1, u26.2.1, u26.2.2.1, u26.2.2.2, u27, u28, u29, u30, u31, u32, u33, u34, u35, u36, u37, u38⟩
    by_cases r39 : l1.toInt < 0 ∨ 15 < l1.toInt
    · refine G_tableOut 202 dX3_count_23 r39 (by decide) ?_
      refine G_iconst (v := (-1)) 203 dX3_count_202 (by decide) rfl ?_
      exact G_iret dX3_count_203 rfl ⟨_, rfl, h⟩
    have := lv_neT (k := 0) (a := 0) u26.1 (by decide)
    have := lv_neT (k := 1) (a := 1) u26.2.1 (by decide)
    have := lv_neT (k := 2) (a := 2) u26.2.2.1 (by decide)
    have := lv_neT (k := 3) (a := 3) u26.2.2.2 (by decide)
    have := lv_neT (k := 4) (a := 4) u27 (by decide)
    have := lv_neT (k := 5) (a := 5) u28 (by decide)
    have := lv_neT (k := 6) (a := 6) u29 (by decide)
    have := lv_neT (k := 7) (a := 7) u30 (by decide)
    have := lv_neT (k := 8) (a := 8) u31 (by decide)
    have := lv_neT (k := 9) (a := 9) u32 (by decide)
    have := lv_neT (k := 10) (a := 10) u33 (by decide)
    have := lv_neT (k := 11) (a := 11) u34 (by decide)
    have := lv_neT (k := 12) (a := 12) u35 (by decide)
    have := lv_neT (k := 13) (a := 13) u36 (by decide)
    have := lv_neT (k := 14) (a := 14) u37 (by decide)
    have := lv_neT (k := 15) (a := 15) u38 (by decide)
    omega
  · have h := h.2 u10
    refine G_iconst (v := 1) 17 dX3_count_16 (by decide) rfl ?_
    refine G_goto 21 dX3_count_17 (by decide) ?_
    refine G_istore_n 22 [va_rf l0, .int l1, .int 1] dX3_count_21 (Nat.le_of_ble_eq_true rfl) rfl rfl ?_
    refine G_iload_n 23 dX3_count_22 rfl rfl ?_
    by_cases u56 : l1 = 0 ∨ l1 = 1 ∨ l1 = 2 ∨ l1 = 3
    · refine G_tableIn (off := 77) 100 dX3_count_23 (by rcases u56 with u56e | u56e | u56e | u56e <;> (rw [u56e]; decide)) (by rcases u56 with u56e | u56e | u56e | u56e <;> (rw [u56e]; decide)) (by rcases u56 with u56e | u56e | u56e | u56e <;> (rw [u56e]; rfl)) (by decide) ?_
      have h := h.1 u56
      refine G_aload_n 101 dX3_count_100 rfl rfl ?_
      refine G_getR (f := 19) (a := a1) "" 104 dX3_count_101 (Or.inl q2132) (Or.inl rfl) rfl e2 (hf19 c3) rfl ?_
      refine G_iload_n 105 dX3_count_104 rfl rfl ?_
      refine G_invS (N := mX3_platesIn) (As := [va_rf (FR s4 19 a1), .int l1]) (st := []) (rc) (rs) "" 108 dX3_count_105 (Or.inl q2196) q2197 q44 q2198 rfl mX3_platesIn_args ⟨Nat.le_of_ble_eq_true rfl, Nat.le_of_ble_eq_true rfl⟩ rfl (Nat.zero_le _) (le_b mX3_platesIn_c (Nat.le_refl _)) (le_b mX3_platesIn_s (Nat.le_refl _)) rfl (Cal.mono h ?_)
      rintro s40 v ⟨x41, rfl, h⟩ hx42
      have h := h hx42
      have x43 := hx42.x
      show G w mX3_count (KI K) (rc) (rs) s40 108 [va_rf l0, .int l1, .int 1] [.int x41]
      exact G_iret dX3_count_108 rfl ⟨_, rfl, h⟩
    have h := h.2
    rw [not_or, not_or, not_or] at u56
    by_cases u57 : l1 = 4
    · refine G_tableIn (off := 86) 109 dX3_count_23 (by have u57e := u57 <;> (rw [u57e]; decide)) (by have u57e := u57 <;> (rw [u57e]; decide)) (by have u57e := u57 <;> (rw [u57e]; rfl)) (by decide) ?_
      have h := h.1 u57
      refine G_aload_n 110 dX3_count_109 rfl rfl ?_
      refine G_getR (f := 19) (a := a1) "" 113 dX3_count_110 (Or.inl q2132) (Or.inl rfl) rfl e2 (hf19 c3) rfl ?_
      refine G_iconst (v := 1) 114 dX3_count_113 (by decide) rfl ?_
      obtain ⟨c44, h⟩ := h
      refine G_iald (a := a6) 115 dX3_count_114 rfl e7 c8 c44 ?_
      exact G_iret dX3_count_115 rfl ⟨_, rfl, h⟩
    have h := h.2
    by_cases u58 : l1 = 5
    · refine G_tableIn (off := 93) 116 dX3_count_23 (by have u58e := u58 <;> (rw [u58e]; decide)) (by have u58e := u58 <;> (rw [u58e]; decide)) (by have u58e := u58 <;> (rw [u58e]; rfl)) (by decide) ?_
      have h := h.1 u58
      refine G_aload_n 117 dX3_count_116 rfl rfl ?_
      refine G_getR (f := 19) (a := a1) "" 120 dX3_count_117 (Or.inl q2132) (Or.inl rfl) rfl e2 (hf19 c3) rfl ?_
      refine G_iconst (v := 0) 121 dX3_count_120 (by decide) rfl ?_
      obtain ⟨c45, h⟩ := h
      refine G_iald (a := a6) 122 dX3_count_121 rfl e7 c8 c45 ?_
      exact G_iret dX3_count_122 rfl ⟨_, rfl, h⟩
    have h := h.2
    by_cases u59 : l1 = 6
    · refine G_tableIn (off := 100) 123 dX3_count_23 (by have u59e := u59 <;> (rw [u59e]; decide)) (by have u59e := u59 <;> (rw [u59e]; decide)) (by have u59e := u59 <;> (rw [u59e]; rfl)) (by decide) ?_
      have h := h.1 u59
      refine G_aload_n 124 dX3_count_123 rfl rfl ?_
      refine G_getR (f := 19) (a := a1) "" 127 dX3_count_124 (Or.inl q2132) (Or.inl rfl) rfl e2 (hf19 c3) rfl ?_
      refine G_iconst (v := 2) 128 dX3_count_127 (by decide) rfl ?_
      obtain ⟨c46, h⟩ := h
      refine G_iald (a := a6) 129 dX3_count_128 rfl e7 c8 c46 ?_
      exact G_iret dX3_count_129 rfl ⟨_, rfl, h⟩
    have h := h.2
    by_cases u60 : l1 = 7
    · refine G_tableIn (off := 107) 130 dX3_count_23 (by have u60e := u60 <;> (rw [u60e]; decide)) (by have u60e := u60 <;> (rw [u60e]; decide)) (by have u60e := u60 <;> (rw [u60e]; rfl)) (by decide) ?_
      have h := h.1 u60
      refine G_aload_n 131 dX3_count_130 rfl rfl ?_
      refine G_getR (f := 19) (a := a1) "" 134 dX3_count_131 (Or.inl q2132) (Or.inl rfl) rfl e2 (hf19 c3) rfl ?_
      refine G_invS (N := mX3_rushes) (As := [va_rf (FR s4 19 a1)]) (st := []) (rc) (rs) "" 137 dX3_count_134 (Or.inl q2249) q2250 q44 q2251 rfl mX3_rushes_args ⟨Nat.le_of_ble_eq_true rfl, Nat.le_of_ble_eq_true rfl⟩ rfl (Nat.zero_le _) (le_b mX3_rushes_c (Nat.le_refl _)) (le_b mX3_rushes_s (Nat.le_refl _)) rfl (Cal.mono h ?_)
      rintro s47 v ⟨x48, rfl, h⟩ hx49
      have h := h hx49
      have x50 := hx49.x
      show G w mX3_count (KI K) (rc) (rs) s47 137 [va_rf l0, .int l1, .int 1] [.int x48]
      exact G_iret dX3_count_137 rfl ⟨_, rfl, h⟩
    have h := h.2
    by_cases u61 : l1 = 8
    · refine G_tableIn (off := 115) 138 dX3_count_23 (by have u61e := u61 <;> (rw [u61e]; decide)) (by have u61e := u61 <;> (rw [u61e]; decide)) (by have u61e := u61 <;> (rw [u61e]; rfl)) (by decide) ?_
      have h := h.1 u61
      refine G_aload_n 139 dX3_count_138 rfl rfl ?_
      refine G_getR (f := 19) (a := a1) "" 142 dX3_count_139 (Or.inl q2132) (Or.inl rfl) rfl e2 (hf19 c3) rfl ?_
      refine G_iconst (v := 3) 143 dX3_count_142 (by decide) rfl ?_
      refine G_iald (a := a6) 144 dX3_count_143 rfl e7 c8 c9 ?_
      exact G_iret dX3_count_144 rfl ⟨_, rfl, h⟩
    have h := h.2
    by_cases u62 : l1 = 9
    · refine G_tableIn (off := 122) 145 dX3_count_23 (by have u62e := u62 <;> (rw [u62e]; decide)) (by have u62e := u62 <;> (rw [u62e]; decide)) (by have u62e := u62 <;> (rw [u62e]; rfl)) (by decide) ?_
      have h := h.1 u62
      refine G_iload_n 146 dX3_count_145 rfl rfl ?_
      refine G_if_eq 158 149 dX3_count_146 (by decide) rfl (fun q => absurd q (by decide)) (fun _ => ?_)
      refine G_aload_n 150 dX3_count_149 rfl rfl ?_
      refine G_getR (f := 19) (a := a1) "" 153 dX3_count_150 (Or.inl q2132) (Or.inl rfl) rfl e2 (hf19 c3) rfl ?_
      refine G_iconst (v := 4) 154 dX3_count_153 (by decide) rfl ?_
      obtain ⟨c51, h⟩ := h
      refine G_iald (a := a6) 155 dX3_count_154 rfl e7 c8 c51 ?_
      refine G_goto 160 dX3_count_155 (by decide) ?_
      exact G_iret dX3_count_160 rfl ⟨_, rfl, h⟩
    have h := h.2
    by_cases u63 : l1 = 10
    · refine G_tableIn (off := 138) 161 dX3_count_23 (by have u63e := u63 <;> (rw [u63e]; decide)) (by have u63e := u63 <;> (rw [u63e]; decide)) (by have u63e := u63 <;> (rw [u63e]; rfl)) (by decide) ?_
      have h := h.1 u63
      refine G_aload_n 162 dX3_count_161 rfl rfl ?_
      refine G_getR (f := 19) (a := a1) "" 165 dX3_count_162 (Or.inl q2132) (Or.inl rfl) rfl e2 (hf19 c3) rfl ?_
      refine G_iconst (v := 5) 166 dX3_count_165 (by decide) rfl ?_
      obtain ⟨c52, h⟩ := h
      refine G_iald (a := a6) 167 dX3_count_166 rfl e7 c8 c52 ?_
      exact G_iret dX3_count_167 rfl ⟨_, rfl, h⟩
    have h := h.2
    by_cases u64 : l1 = 11
    · refine G_tableIn (off := 145) 168 dX3_count_23 (by have u64e := u64 <;> (rw [u64e]; decide)) (by have u64e := u64 <;> (rw [u64e]; decide)) (by have u64e := u64 <;> (rw [u64e]; rfl)) (by decide) ?_
      have h := h.1 u64
      refine G_aload_n 169 dX3_count_168 rfl rfl ?_
      refine G_getR (f := 19) (a := a1) "" 172 dX3_count_169 (Or.inl q2132) (Or.inl rfl) rfl e2 (hf19 c3) rfl ?_
      refine G_bipush (v := 7) 174 dX3_count_172 (by decide) rfl ?_
      obtain ⟨c53, h⟩ := h
      refine G_iald (a := a6) 175 dX3_count_174 rfl e7 c8 c53 ?_
      exact G_iret dX3_count_175 rfl ⟨_, rfl, h⟩
    have h := h.2
    by_cases u65 : l1 = 12
    · refine G_tableIn (off := 153) 176 dX3_count_23 (by have u65e := u65 <;> (rw [u65e]; decide)) (by have u65e := u65 <;> (rw [u65e]; decide)) (by have u65e := u65 <;> (rw [u65e]; rfl)) (by decide) ?_
      have h := h.1 u65
      refine G_aload_n 177 dX3_count_176 rfl rfl ?_
      refine G_getR (f := 19) (a := a1) "" 180 dX3_count_177 (Or.inl q2132) (Or.inl rfl) rfl e2 (hf19 c3) rfl ?_
      refine G_bipush (v := 8) 182 dX3_count_180 (by decide) rfl ?_
      obtain ⟨c54, h⟩ := h
      refine G_iald (a := a6) 183 dX3_count_182 rfl e7 c8 c54 ?_
      exact G_iret dX3_count_183 rfl ⟨_, rfl, h⟩
    have h := h.2
    by_cases u66 : l1 = 13
    · refine G_tableIn (off := 161) 184 dX3_count_23 (by have u66e := u66 <;> (rw [u66e]; decide)) (by have u66e := u66 <;> (rw [u66e]; decide)) (by have u66e := u66 <;> (rw [u66e]; rfl)) (by decide) ?_
      have h := h.1 u66
      refine G_aload_n 185 dX3_count_184 rfl rfl ?_
      refine G_getR (f := 19) (a := a1) "" 188 dX3_count_185 (Or.inl q2132) (Or.inl rfl) rfl e2 (hf19 c3) rfl ?_
      refine G_bipush (v := 9) 190 dX3_count_188 (by decide) rfl ?_
      obtain ⟨c55, h⟩ := h
      refine G_iald (a := a6) 191 dX3_count_190 rfl e7 c8 c55 ?_
      exact G_iret dX3_count_191 rfl ⟨_, rfl, h⟩
    have h := h.2
    by_cases u67 : l1 = 14
    · refine G_tableIn (off := 169) 192 dX3_count_23 (by have u67e := u67 <;> (rw [u67e]; decide)) (by have u67e := u67 <;> (rw [u67e]; decide)) (by have u67e := u67 <;> (rw [u67e]; rfl)) (by decide) ?_
      have h := h.1 u67
      refine G_aload_n 193 dX3_count_192 rfl rfl ?_
      refine G_getI (f := 22) (a := a1) "" 196 dX3_count_193 (Or.inl q2135) (Or.inl rfl) rfl e2 (hf22 c3) rfl ?_
      exact G_iret dX3_count_196 rfl ⟨_, rfl, h⟩
    have h := h.2
    by_cases u68 : l1 = 15
    · refine G_tableIn (off := 174) 197 dX3_count_23 (by have u68e := u68 <;> (rw [u68e]; decide)) (by have u68e := u68 <;> (rw [u68e]; decide)) (by have u68e := u68 <;> (rw [u68e]; rfl)) (by decide) ?_
      have h := h.1 u68
      refine G_aload_n 198 dX3_count_197 rfl rfl ?_
      refine G_getI (f := 24) (a := a1) "" 201 dX3_count_198 (Or.inl q2137) (Or.inl rfl) rfl e2 (hf24 c3) rfl ?_
      exact G_iret dX3_count_201 rfl ⟨_, rfl, h⟩
    have h := h.2
    have h := h ⟨u56.1, u56.2.1, u56.2.2.1, u56.2.2.2, u57, u58, u59, u60, u61, u62, u63, u64, u65, u66, u67, u68⟩
    by_cases r69 : l1.toInt < 0 ∨ 15 < l1.toInt
    · refine G_tableOut 202 dX3_count_23 r69 (by decide) ?_
      refine G_iconst (v := (-1)) 203 dX3_count_202 (by decide) rfl ?_
      exact G_iret dX3_count_203 rfl ⟨_, rfl, h⟩
    have := lv_neT (k := 0) (a := 0) u56.1 (by decide)
    have := lv_neT (k := 1) (a := 1) u56.2.1 (by decide)
    have := lv_neT (k := 2) (a := 2) u56.2.2.1 (by decide)
    have := lv_neT (k := 3) (a := 3) u56.2.2.2 (by decide)
    have := lv_neT (k := 4) (a := 4) u57 (by decide)
    have := lv_neT (k := 5) (a := 5) u58 (by decide)
    have := lv_neT (k := 6) (a := 6) u59 (by decide)
    have := lv_neT (k := 7) (a := 7) u60 (by decide)
    have := lv_neT (k := 8) (a := 8) u61 (by decide)
    have := lv_neT (k := 9) (a := 9) u62 (by decide)
    have := lv_neT (k := 10) (a := 10) u63 (by decide)
    have := lv_neT (k := 11) (a := 11) u64 (by decide)
    have := lv_neT (k := 12) (a := 12) u65 (by decide)
    have := lv_neT (k := 13) (a := 13) u66 (by decide)
    have := lv_neT (k := 14) (a := 14) u67 (by decide)
    have := lv_neT (k := 15) (a := 15) u68 (by decide)
    omega
theorem eX3_count {w : Wt} {K : Sg → Int32 → Prop} {σ : Sg} (l0 : Option Nat) (l1 : Int32) (h : G w mX3_count (KI K) 0 0 σ 0 [va_rf l0, .int l1, U_] []) : CalI w mX3_count σ [va_rf l0, .int l1] K :=
  Cal.start 1 mX3_count_plain (catR (catI cat0)) (Nat.le_of_ble_eq_true rfl) rfl h
set_option maxHeartbeats 4000000 in
theorem bX3_plate_0 {w : Wt} {K : Sg → Int32 → Prop} {rc rs : Nat} {σ : Sg} (l0 : Option Nat) (l1 : Int32) (l2 : Int32) (h : ∃ a1, l0 = some a1 ∧ kd σ a1 = 13 ∧ ∀ s4, s4 = sFI σ 18 a1 0 → CalI w mX3_isPlate s4 [va_rf l0, .int l1] (fun s6 x7 => Ext s4 s6 → ((x7 = 0 → K s6 (-1)) ∧ (¬ x7 = 0 → CalI w mX3_in s6 [.int l2, .int 0, .int 6] (fun s11 x12 => Ext s6 s11 → ((¬ x12 = 0 → ((l2 ≤ 4 → CalI w mX3_ofPlate s11 [va_rf (FR s11 19 a1), .int l1, .int l2] (fun s17 x18 => Ext s11 s17 → K s17 x18)) ∧ (¬ l2 ≤ 4 → CalI w mX3_ofPlate s11 [va_rf (FR s11 19 a1), .int l1, .int 2] (fun s21 x22 => Ext s11 s21 → ((x22 = 2 → CalI w mX3_ofPlate s21 [va_rf (FR s21 19 a1), .int l1, .int l2] (fun s26 x27 => Ext s21 s26 → K s26 x27)) ∧ (¬ x22 = 2 → K s21 (-9))))))) ∧ (x12 = 0 → K s11 (-1)))))))) : G w mX3_plate (KI K) (rc) (rs) σ 0 [va_rf l0, .int l1, .int l2] [] := by
  refine G_aload_n 1 dX3_plate_0 rfl rfl ?_
  refine G_iconst (v := 0) 2 dX3_plate_1 (by decide) rfl ?_
  obtain ⟨a1, e2, h⟩ := h
  obtain ⟨c3, h⟩ := h
  refine G_putI (f := 18) (a := a1) "" 5 dX3_plate_2 (Or.inl q2131) (Or.inl rfl) rfl e2 (hp18 c3) (nk18 c3) (Or.inl rfl) rfl rfl rfl ?_
  generalize hs4 : sFI σ 18 a1 0 = s4
  have x5 : ∀ a, ¬ kd σ a = 0 → kd s4 a = kd σ a := by subst hs4; exact fun a _ => congrFun kd_sFI a
  have h := h s4 hs4.symm
  refine G_aload_n 6 dX3_plate_5 rfl rfl ?_
  refine G_iload_n 7 dX3_plate_6 rfl rfl ?_
  have c3 := kdE x5 c3 (by decide)
  refine G_invV (N := mX3_isPlate) (As := [.int l1]) (st := []) (t := l0) (b := a1) (rc) (rs) 10 dX3_plate_7 q2189 q2191 qs17 q44 q2192 rfl rfl mX3_isPlate_args ⟨Nat.le_of_ble_eq_true rfl, Nat.le_of_ble_eq_true rfl⟩ rfl (Nat.zero_le _) e2 (rk13 c3) (le_b mX3_isPlate_c (Nat.le_refl _)) (le_b mX3_isPlate_s (Nat.le_refl _)) rfl (Cal.mono h ?_)
  rintro s6 v ⟨x7, rfl, h⟩ hx8
  have h := h hx8
  have x9 := hx8.x
  show G w mX3_plate (KI K) (rc) (rs) s6 10 [va_rf l0, .int l1, .int l2] [.int x7]
  refine G_if_eq 23 13 dX3_plate_10 (by decide) rfl (fun u10 => ?_) (fun u10 => ?_)
  · have h := h.1 u10
    refine G_iconst (v := (-1)) 24 dX3_plate_23 (by decide) rfl ?_
    exact G_iret dX3_plate_24 rfl ⟨_, rfl, h⟩
  · have h := h.2 u10
    refine G_iload_n 14 dX3_plate_13 rfl rfl ?_
    refine G_iconst (v := 0) 15 dX3_plate_14 (by decide) rfl ?_
    refine G_bipush (v := 6) 17 dX3_plate_15 (by decide) rfl ?_
    refine G_invS (N := mX3_in) (As := [.int l2, .int 0, .int 6]) (st := []) (rc) (rs) "" 20 dX3_plate_17 (Or.inl q2175) q2176 q44 q2177 rfl mX3_in_args ⟨Nat.le_of_ble_eq_true rfl, Nat.le_of_ble_eq_true rfl⟩ rfl (Nat.zero_le _) (le_b mX3_in_c (Nat.le_refl _)) (le_b mX3_in_s (Nat.le_refl _)) rfl (Cal.mono h ?_)
    rintro s11 v ⟨x12, rfl, h⟩ hx13
    have h := h hx13
    have x14 := hx13.x
    show G w mX3_plate (KI K) (rc) (rs) s11 20 [va_rf l0, .int l1, .int l2] [.int x12]
    refine G_if_ne 25 23 dX3_plate_20 (by decide) rfl (fun u15 => ?_) (fun u15 => ?_)
    · have h := h.1 u15
      refine G_iload_n 26 dX3_plate_25 rfl rfl ?_
      refine G_iconst (v := 4) 27 dX3_plate_26 (by decide) rfl ?_
      refine G_icmp_le 48 30 dX3_plate_27 (by decide) rfl (fun u16 => ?_) (fun u16 => ?_)
      · have h := h.1 u16
        refine G_aload_n 49 dX3_plate_48 rfl rfl ?_
        have c3 := kdE x9 c3 (by decide)
        have c3 := kdE x14 c3 (by decide)
        refine G_getR (f := 19) (a := a1) "" 52 dX3_plate_49 (Or.inl q2132) (Or.inl rfl) rfl e2 (hf19 c3) rfl ?_
        refine G_iload_n 53 dX3_plate_52 rfl rfl ?_
        refine G_iload_n 54 dX3_plate_53 rfl rfl ?_
        refine G_invS (N := mX3_ofPlate) (As := [va_rf (FR s11 19 a1), .int l1, .int l2]) (st := []) (rc) (rs) "" 57 dX3_plate_54 (Or.inl q2193) q2194 q44 q2195 rfl mX3_ofPlate_args ⟨Nat.le_of_ble_eq_true rfl, Nat.le_of_ble_eq_true rfl⟩ rfl (Nat.zero_le _) (le_b mX3_ofPlate_c (Nat.le_refl _)) (le_b mX3_ofPlate_s (Nat.le_refl _)) rfl (Cal.mono h ?_)
        rintro s17 v ⟨x18, rfl, h⟩ hx19
        have h := h hx19
        have x20 := hx19.x
        show G w mX3_plate (KI K) (rc) (rs) s17 57 [va_rf l0, .int l1, .int l2] [.int x18]
        exact G_iret dX3_plate_57 rfl ⟨_, rfl, h⟩
      · have h := h.2 u16
        refine G_aload_n 31 dX3_plate_30 rfl rfl ?_
        have c3 := kdE x9 c3 (by decide)
        have c3 := kdE x14 c3 (by decide)
        refine G_getR (f := 19) (a := a1) "" 34 dX3_plate_31 (Or.inl q2132) (Or.inl rfl) rfl e2 (hf19 c3) rfl ?_
        refine G_iload_n 35 dX3_plate_34 rfl rfl ?_
        refine G_iconst (v := 2) 36 dX3_plate_35 (by decide) rfl ?_
        refine G_invS (N := mX3_ofPlate) (As := [va_rf (FR s11 19 a1), .int l1, .int 2]) (st := []) (rc) (rs) "" 39 dX3_plate_36 (Or.inl q2193) q2194 q44 q2195 rfl mX3_ofPlate_args ⟨Nat.le_of_ble_eq_true rfl, Nat.le_of_ble_eq_true rfl⟩ rfl (Nat.zero_le _) (le_b mX3_ofPlate_c (Nat.le_refl _)) (le_b mX3_ofPlate_s (Nat.le_refl _)) rfl (Cal.mono h ?_)
        rintro s21 v ⟨x22, rfl, h⟩ hx23
        have h := h hx23
        have x24 := hx23.x
        show G w mX3_plate (KI K) (rc) (rs) s21 39 [va_rf l0, .int l1, .int l2] [.int x22]
        refine G_iconst (v := 2) 40 dX3_plate_39 (by decide) rfl ?_
        refine G_icmp_eq 48 43 dX3_plate_40 (by decide) rfl (fun u25 => ?_) (fun u25 => ?_)
        · have h := h.1 u25
          refine G_aload_n 49 dX3_plate_48 rfl rfl ?_
          have c3 := kdE x24 c3 (by decide)
          refine G_getR (f := 19) (a := a1) "" 52 dX3_plate_49 (Or.inl q2132) (Or.inl rfl) rfl e2 (hf19 c3) rfl ?_
          refine G_iload_n 53 dX3_plate_52 rfl rfl ?_
          refine G_iload_n 54 dX3_plate_53 rfl rfl ?_
          refine G_invS (N := mX3_ofPlate) (As := [va_rf (FR s21 19 a1), .int l1, .int l2]) (st := []) (rc) (rs) "" 57 dX3_plate_54 (Or.inl q2193) q2194 q44 q2195 rfl mX3_ofPlate_args ⟨Nat.le_of_ble_eq_true rfl, Nat.le_of_ble_eq_true rfl⟩ rfl (Nat.zero_le _) (le_b mX3_ofPlate_c (Nat.le_refl _)) (le_b mX3_ofPlate_s (Nat.le_refl _)) rfl (Cal.mono h ?_)
          rintro s26 v ⟨x27, rfl, h⟩ hx28
          have h := h hx28
          have x29 := hx28.x
          show G w mX3_plate (KI K) (rc) (rs) s26 57 [va_rf l0, .int l1, .int l2] [.int x27]
          exact G_iret dX3_plate_57 rfl ⟨_, rfl, h⟩
        · have h := h.2 u25
          refine G_bipush (v := (-9)) 45 dX3_plate_43 (by decide) rfl ?_
          refine G_goto 57 dX3_plate_45 (by decide) ?_
          exact G_iret dX3_plate_57 rfl ⟨_, rfl, h⟩
    · have h := h.2 u15
      refine G_iconst (v := (-1)) 24 dX3_plate_23 (by decide) rfl ?_
      exact G_iret dX3_plate_24 rfl ⟨_, rfl, h⟩
theorem eX3_plate {w : Wt} {K : Sg → Int32 → Prop} {σ : Sg} (l0 : Option Nat) (l1 : Int32) (l2 : Int32) (h : G w mX3_plate (KI K) 0 0 σ 0 [va_rf l0, .int l1, .int l2] []) : CalI w mX3_plate σ [va_rf l0, .int l1, .int l2] K :=
  Cal.start 0 mX3_plate_plain (catR (catI (catI cat0))) (Nat.le_of_ble_eq_true rfl) rfl h
set_option maxHeartbeats 4000000 in
theorem bX3_shield_0 {w : Wt} {K : Sg → Int32 → Prop} {rc rs : Nat} {σ : Sg} (l0 : Option Nat) (l1 : Int32) (l2 : Int32) (h : ∃ a1, l0 = some a1 ∧ kd σ a1 = 13 ∧ ∀ s4, s4 = sFI σ 18 a1 0 → CalI w mX3_isShield s4 [va_rf l0, .int l1] (fun s6 x7 => Ext s4 s6 → ((x7 = 0 → K s6 (-1)) ∧ (¬ x7 = 0 → CalI w mX3_in s6 [.int l2, .int 0, .int 4] (fun s11 x12 => Ext s6 s11 → ((¬ x12 = 0 → CalI w mX3_platesOn s11 [va_rf (FR s11 19 a1), .int l1] (fun s16 x17 => Ext s11 s16 → CalI w mX3_yearOn s16 [va_rf (FR s16 19 a1), .int l1, .int 1] (fun s20 x21 => Ext s16 s20 → CalI w mX3_yearOn s20 [va_rf (FR s20 19 a1), .int l1, .int (-1)] (fun s24 x25 => Ext s20 s24 → (((l2 = 0) → ∃ a28, FR s24 19 a1 = some a28 ∧ kd s24 a28 ∈ [1, 5] ∧ vp_in (150 + l1) (ln s24 a28) ∧ K s24 (AI s24 a28 (150 + l1).toNatClampNeg)) ∧ ((l2 = 1) → K s24 x17) ∧ ((l2 = 2) → K s24 x21) ∧ ((l2 = 3) → K s24 x25) ∧ (¬ l2 = 0 ∧ ¬ l2 = 1 ∧ ¬ l2 = 2 ∧ ¬ l2 = 3 → ((¬ x17 = 0 → K s24 (((x25 - x21) + 1) - x17)) ∧ (x17 = 0 → K s24 0)))))))) ∧ (x12 = 0 → K s11 (-1)))))))) : G w mX3_shield (KI K) (rc) (rs) σ 0 [va_rf l0, .int l1, .int l2, U_, U_, U_] [] := by
  refine G_aload_n 1 dX3_shield_0 rfl rfl ?_
  refine G_iconst (v := 0) 2 dX3_shield_1 (by decide) rfl ?_
  obtain ⟨a1, e2, h⟩ := h
  obtain ⟨c3, h⟩ := h
  refine G_putI (f := 18) (a := a1) "" 5 dX3_shield_2 (Or.inl q2131) (Or.inl rfl) rfl e2 (hp18 c3) (nk18 c3) (Or.inl rfl) rfl rfl rfl ?_
  generalize hs4 : sFI σ 18 a1 0 = s4
  have x5 : ∀ a, ¬ kd σ a = 0 → kd s4 a = kd σ a := by subst hs4; exact fun a _ => congrFun kd_sFI a
  have h := h s4 hs4.symm
  refine G_aload_n 6 dX3_shield_5 rfl rfl ?_
  refine G_iload_n 7 dX3_shield_6 rfl rfl ?_
  have c3 := kdE x5 c3 (by decide)
  refine G_invV (N := mX3_isShield) (As := [.int l1]) (st := []) (t := l0) (b := a1) (rc) (rs) 10 dX3_shield_7 q2220 q2222 qs18 q44 q2223 rfl rfl mX3_isShield_args ⟨Nat.le_of_ble_eq_true rfl, Nat.le_of_ble_eq_true rfl⟩ rfl (Nat.zero_le _) e2 (rk13 c3) (le_b mX3_isShield_c (Nat.le_refl _)) (le_b mX3_isShield_s (Nat.le_refl _)) rfl (Cal.mono h ?_)
  rintro s6 v ⟨x7, rfl, h⟩ hx8
  have h := h hx8
  have x9 := hx8.x
  show G w mX3_shield (KI K) (rc) (rs) s6 10 [va_rf l0, .int l1, .int l2, U_, U_, U_] [.int x7]
  refine G_if_eq 22 13 dX3_shield_10 (by decide) rfl (fun u10 => ?_) (fun u10 => ?_)
  · have h := h.1 u10
    refine G_iconst (v := (-1)) 23 dX3_shield_22 (by decide) rfl ?_
    exact G_iret dX3_shield_23 rfl ⟨_, rfl, h⟩
  · have h := h.2 u10
    refine G_iload_n 14 dX3_shield_13 rfl rfl ?_
    refine G_iconst (v := 0) 15 dX3_shield_14 (by decide) rfl ?_
    refine G_iconst (v := 4) 16 dX3_shield_15 (by decide) rfl ?_
    refine G_invS (N := mX3_in) (As := [.int l2, .int 0, .int 4]) (st := []) (rc) (rs) "" 19 dX3_shield_16 (Or.inl q2175) q2176 q44 q2177 rfl mX3_in_args ⟨Nat.le_of_ble_eq_true rfl, Nat.le_of_ble_eq_true rfl⟩ rfl (Nat.zero_le _) (le_b mX3_in_c (Nat.le_refl _)) (le_b mX3_in_s (Nat.le_refl _)) rfl (Cal.mono h ?_)
    rintro s11 v ⟨x12, rfl, h⟩ hx13
    have h := h hx13
    have x14 := hx13.x
    show G w mX3_shield (KI K) (rc) (rs) s11 19 [va_rf l0, .int l1, .int l2, U_, U_, U_] [.int x12]
    refine G_if_ne 24 22 dX3_shield_19 (by decide) rfl (fun u15 => ?_) (fun u15 => ?_)
    · have h := h.1 u15
      refine G_aload_n 25 dX3_shield_24 rfl rfl ?_
      have c3 := kdE x9 c3 (by decide)
      have c3 := kdE x14 c3 (by decide)
      refine G_getR (f := 19) (a := a1) "" 28 dX3_shield_25 (Or.inl q2132) (Or.inl rfl) rfl e2 (hf19 c3) rfl ?_
      refine G_iload_n 29 dX3_shield_28 rfl rfl ?_
      refine G_invS (N := mX3_platesOn) (As := [va_rf (FR s11 19 a1), .int l1]) (st := []) (rc) (rs) "" 32 dX3_shield_29 (Or.inl q2319) q2320 q44 q2321 rfl mX3_platesOn_args ⟨Nat.le_of_ble_eq_true rfl, Nat.le_of_ble_eq_true rfl⟩ rfl (Nat.zero_le _) (le_b mX3_platesOn_c (Nat.le_refl _)) (le_b mX3_platesOn_s (Nat.le_refl _)) rfl (Cal.mono h ?_)
      rintro s16 v ⟨x17, rfl, h⟩ hx18
      have h := h hx18
      have x19 := hx18.x
      show G w mX3_shield (KI K) (rc) (rs) s16 32 [va_rf l0, .int l1, .int l2, U_, U_, U_] [.int x17]
      refine G_istore_n 33 [va_rf l0, .int l1, .int l2, .int x17, U_, U_] dX3_shield_32 (Nat.le_of_ble_eq_true rfl) rfl rfl ?_
      refine G_aload_n 34 dX3_shield_33 rfl rfl ?_
      have c3 := kdE x19 c3 (by decide)
      refine G_getR (f := 19) (a := a1) "" 37 dX3_shield_34 (Or.inl q2132) (Or.inl rfl) rfl e2 (hf19 c3) rfl ?_
      refine G_iload_n 38 dX3_shield_37 rfl rfl ?_
      refine G_iconst (v := 1) 39 dX3_shield_38 (by decide) rfl ?_
      refine G_invS (N := mX3_yearOn) (As := [va_rf (FR s16 19 a1), .int l1, .int 1]) (st := []) (rc) (rs) "" 42 dX3_shield_39 (Or.inl q2322) q2323 q44 q2324 rfl mX3_yearOn_args ⟨Nat.le_of_ble_eq_true rfl, Nat.le_of_ble_eq_true rfl⟩ rfl (Nat.zero_le _) (le_b mX3_yearOn_c (Nat.le_refl _)) (le_b mX3_yearOn_s (Nat.le_refl _)) rfl (Cal.mono h ?_)
      rintro s20 v ⟨x21, rfl, h⟩ hx22
      have h := h hx22
      have x23 := hx22.x
      show G w mX3_shield (KI K) (rc) (rs) s20 42 [va_rf l0, .int l1, .int l2, .int x17, U_, U_] [.int x21]
      refine G_istore 44 [va_rf l0, .int l1, .int l2, .int x17, .int x21, U_] dX3_shield_42 (Nat.le_of_ble_eq_true rfl) rfl rfl ?_
      refine G_aload_n 45 dX3_shield_44 rfl rfl ?_
      have c3 := kdE x23 c3 (by decide)
      refine G_getR (f := 19) (a := a1) "" 48 dX3_shield_45 (Or.inl q2132) (Or.inl rfl) rfl e2 (hf19 c3) rfl ?_
      refine G_iload_n 49 dX3_shield_48 rfl rfl ?_
      refine G_iconst (v := (-1)) 50 dX3_shield_49 (by decide) rfl ?_
      refine G_invS (N := mX3_yearOn) (As := [va_rf (FR s20 19 a1), .int l1, .int (-1)]) (st := []) (rc) (rs) "" 53 dX3_shield_50 (Or.inl q2322) q2323 q44 q2324 rfl mX3_yearOn_args ⟨Nat.le_of_ble_eq_true rfl, Nat.le_of_ble_eq_true rfl⟩ rfl (Nat.zero_le _) (le_b mX3_yearOn_c (Nat.le_refl _)) (le_b mX3_yearOn_s (Nat.le_refl _)) rfl (Cal.mono h ?_)
      rintro s24 v ⟨x25, rfl, h⟩ hx26
      have h := h hx26
      have x27 := hx26.x
      show G w mX3_shield (KI K) (rc) (rs) s24 53 [va_rf l0, .int l1, .int l2, .int x17, .int x21, U_] [.int x25]
      refine G_istore 55 [va_rf l0, .int l1, .int l2, .int x17, .int x21, .int x25] dX3_shield_53 (Nat.le_of_ble_eq_true rfl) rfl rfl ?_
      refine G_iload_n 56 dX3_shield_55 rfl rfl ?_
      by_cases u33 : l2 = 0
      · refine G_tableIn (off := 32) 88 dX3_shield_56 (by have u33e := u33 <;> (rw [u33e]; decide)) (by have u33e := u33 <;> (rw [u33e]; decide)) (by have u33e := u33 <;> (rw [u33e]; rfl)) (by decide) ?_
        have h := h.1 u33
        refine G_aload_n 89 dX3_shield_88 rfl rfl ?_
        have c3 := kdE x27 c3 (by decide)
        refine G_getR (f := 19) (a := a1) "" 92 dX3_shield_89 (Or.inl q2132) (Or.inl rfl) rfl e2 (hf19 c3) rfl ?_
        refine G_sipush (v := 150) 95 dX3_shield_92 (by decide) rfl ?_
        refine G_iload_n 96 dX3_shield_95 rfl rfl ?_
        refine G_iadd 97 dX3_shield_96 rfl ?_
        obtain ⟨a28, e29, h⟩ := h
        obtain ⟨c30, h⟩ := h
        obtain ⟨c31, h⟩ := h
        refine G_iald (a := a28) 98 dX3_shield_97 rfl e29 c30 c31 ?_
        exact G_iret dX3_shield_98 rfl ⟨_, rfl, h⟩
      have h := h.2
      by_cases u34 : l2 = 1
      · refine G_tableIn (off := 43) 99 dX3_shield_56 (by have u34e := u34 <;> (rw [u34e]; decide)) (by have u34e := u34 <;> (rw [u34e]; decide)) (by have u34e := u34 <;> (rw [u34e]; rfl)) (by decide) ?_
        have h := h.1 u34
        refine G_iload_n 100 dX3_shield_99 rfl rfl ?_
        exact G_iret dX3_shield_100 rfl ⟨_, rfl, h⟩
      have h := h.2
      by_cases u35 : l2 = 2
      · refine G_tableIn (off := 45) 101 dX3_shield_56 (by have u35e := u35 <;> (rw [u35e]; decide)) (by have u35e := u35 <;> (rw [u35e]; decide)) (by have u35e := u35 <;> (rw [u35e]; rfl)) (by decide) ?_
        have h := h.1 u35
        refine G_iload 103 dX3_shield_101 rfl rfl ?_
        exact G_iret dX3_shield_103 rfl ⟨_, rfl, h⟩
      have h := h.2
      by_cases u36 : l2 = 3
      · refine G_tableIn (off := 48) 104 dX3_shield_56 (by have u36e := u36 <;> (rw [u36e]; decide)) (by have u36e := u36 <;> (rw [u36e]; decide)) (by have u36e := u36 <;> (rw [u36e]; rfl)) (by decide) ?_
        have h := h.1 u36
        refine G_iload 106 dX3_shield_104 rfl rfl ?_
        exact G_iret dX3_shield_106 rfl ⟨_, rfl, h⟩
      have h := h.2
      have h := h ⟨u33, u34, u35, u36⟩
      by_cases r37 : l2.toInt < 0 ∨ 3 < l2.toInt
      · refine G_tableOut 107 dX3_shield_56 r37 (by decide) ?_
        refine G_iload_n 108 dX3_shield_107 rfl rfl ?_
        refine G_if_ne 115 111 dX3_shield_108 (by decide) rfl (fun u32 => ?_) (fun u32 => ?_)
        · have h := h.1 u32
          refine G_iload 117 dX3_shield_115 rfl rfl ?_
          refine G_iload 119 dX3_shield_117 rfl rfl ?_
          refine G_isub 120 dX3_shield_119 rfl ?_
          refine G_iconst (v := 1) 121 dX3_shield_120 (by decide) rfl ?_
          refine G_iadd 122 dX3_shield_121 rfl ?_
          refine G_iload_n 123 dX3_shield_122 rfl rfl ?_
          refine G_isub 124 dX3_shield_123 rfl ?_
          exact G_iret dX3_shield_124 rfl ⟨_, rfl, h⟩
        · have h := h.2 u32
          refine G_iconst (v := 0) 112 dX3_shield_111 (by decide) rfl ?_
          refine G_goto 124 dX3_shield_112 (by decide) ?_
          exact G_iret dX3_shield_124 rfl ⟨_, rfl, h⟩
      have := lv_neT (k := 0) (a := 0) u33 (by decide)
      have := lv_neT (k := 1) (a := 1) u34 (by decide)
      have := lv_neT (k := 2) (a := 2) u35 (by decide)
      have := lv_neT (k := 3) (a := 3) u36 (by decide)
      omega
    · have h := h.2 u15
      refine G_iconst (v := (-1)) 23 dX3_shield_22 (by decide) rfl ?_
      exact G_iret dX3_shield_23 rfl ⟨_, rfl, h⟩
theorem eX3_shield {w : Wt} {K : Sg → Int32 → Prop} {σ : Sg} (l0 : Option Nat) (l1 : Int32) (l2 : Int32) (h : G w mX3_shield (KI K) 0 0 σ 0 [va_rf l0, .int l1, .int l2, U_, U_, U_] []) : CalI w mX3_shield σ [va_rf l0, .int l1, .int l2] K :=
  Cal.start 3 mX3_shield_plain (catR (catI (catI cat0))) (Nat.le_of_ble_eq_true rfl) rfl h
set_option maxHeartbeats 4000000 in
theorem bX3_plateFor_0 {w : Wt} {K : Sg → Int32 → Prop} {rc rs : Nat} {σ : Sg} (l0 : Option Nat) (l1 : Int32) (l2 : Int32) (h : ∃ a1, l0 = some a1 ∧ kd σ a1 = 13 ∧ ∀ s4, s4 = sFI σ 18 a1 0 → CalI w mX3_isShield s4 [va_rf l0, .int l1] (fun s6 x7 => Ext s4 s6 → ((x7 = 0 → K s6 (-1)) ∧ (¬ x7 = 0 → CalI w mX3_isYear s6 [.int l2] (fun s11 x12 => Ext s6 s11 → ((x12 = 0 → K s11 (-1)) ∧ (¬ x12 = 0 → CalI w mX3_plateOn s11 [va_rf (FR s11 19 a1), .int l1, .int l2] (fun s16 x17 => Ext s11 s16 → K s16 x17)))))))) : G w mX3_plateFor (KI K) (rc) (rs) σ 0 [va_rf l0, .int l1, .int l2] [] := by
  refine G_aload_n 1 dX3_plateFor_0 rfl rfl ?_
  refine G_iconst (v := 0) 2 dX3_plateFor_1 (by decide) rfl ?_
  obtain ⟨a1, e2, h⟩ := h
  obtain ⟨c3, h⟩ := h
  refine G_putI (f := 18) (a := a1) "" 5 dX3_plateFor_2 (Or.inl q2131) (Or.inl rfl) rfl e2 (hp18 c3) (nk18 c3) (Or.inl rfl) rfl rfl rfl ?_
  generalize hs4 : sFI σ 18 a1 0 = s4
  have x5 : ∀ a, ¬ kd σ a = 0 → kd s4 a = kd σ a := by subst hs4; exact fun a _ => congrFun kd_sFI a
  have h := h s4 hs4.symm
  refine G_aload_n 6 dX3_plateFor_5 rfl rfl ?_
  refine G_iload_n 7 dX3_plateFor_6 rfl rfl ?_
  have c3 := kdE x5 c3 (by decide)
  refine G_invV (N := mX3_isShield) (As := [.int l1]) (st := []) (t := l0) (b := a1) (rc) (rs) 10 dX3_plateFor_7 q2220 q2222 qs18 q44 q2223 rfl rfl mX3_isShield_args ⟨Nat.le_of_ble_eq_true rfl, Nat.le_of_ble_eq_true rfl⟩ rfl (Nat.zero_le _) e2 (rk13 c3) (le_b mX3_isShield_c (Nat.le_refl _)) (le_b mX3_isShield_s (Nat.le_refl _)) rfl (Cal.mono h ?_)
  rintro s6 v ⟨x7, rfl, h⟩ hx8
  have h := h hx8
  have x9 := hx8.x
  show G w mX3_plateFor (KI K) (rc) (rs) s6 10 [va_rf l0, .int l1, .int l2] [.int x7]
  refine G_if_eq 32 13 dX3_plateFor_10 (by decide) rfl (fun u10 => ?_) (fun u10 => ?_)
  · have h := h.1 u10
    refine G_iconst (v := (-1)) 33 dX3_plateFor_32 (by decide) rfl ?_
    exact G_iret dX3_plateFor_33 rfl ⟨_, rfl, h⟩
  · have h := h.2 u10
    refine G_iload_n 14 dX3_plateFor_13 rfl rfl ?_
    refine G_invS (N := mX3_isYear) (As := [.int l2]) (st := []) (rc) (rs) "" 17 dX3_plateFor_14 (Or.inl q2224) q2225 q44 q2226 rfl mX3_isYear_args ⟨Nat.le_of_ble_eq_true rfl, Nat.le_of_ble_eq_true rfl⟩ rfl (Nat.zero_le _) (le_b mX3_isYear_c (Nat.le_refl _)) (le_b mX3_isYear_s (Nat.le_refl _)) rfl (Cal.mono h ?_)
    rintro s11 v ⟨x12, rfl, h⟩ hx13
    have h := h hx13
    have x14 := hx13.x
    show G w mX3_plateFor (KI K) (rc) (rs) s11 17 [va_rf l0, .int l1, .int l2] [.int x12]
    refine G_if_eq 32 20 dX3_plateFor_17 (by decide) rfl (fun u15 => ?_) (fun u15 => ?_)
    · have h := h.1 u15
      refine G_iconst (v := (-1)) 33 dX3_plateFor_32 (by decide) rfl ?_
      exact G_iret dX3_plateFor_33 rfl ⟨_, rfl, h⟩
    · have h := h.2 u15
      refine G_aload_n 21 dX3_plateFor_20 rfl rfl ?_
      have c3 := kdE x9 c3 (by decide)
      have c3 := kdE x14 c3 (by decide)
      refine G_getR (f := 19) (a := a1) "" 24 dX3_plateFor_21 (Or.inl q2132) (Or.inl rfl) rfl e2 (hf19 c3) rfl ?_
      refine G_iload_n 25 dX3_plateFor_24 rfl rfl ?_
      refine G_iload_n 26 dX3_plateFor_25 rfl rfl ?_
      refine G_invS (N := mX3_plateOn) (As := [va_rf (FR s11 19 a1), .int l1, .int l2]) (st := []) (rc) (rs) "" 29 dX3_plateFor_26 (Or.inl q2227) q2228 q44 q2229 rfl mX3_plateOn_args ⟨Nat.le_of_ble_eq_true rfl, Nat.le_of_ble_eq_true rfl⟩ rfl (Nat.zero_le _) (le_b mX3_plateOn_c (Nat.le_refl _)) (le_b mX3_plateOn_s (Nat.le_refl _)) rfl (Cal.mono h ?_)
      rintro s16 v ⟨x17, rfl, h⟩ hx18
      have h := h hx18
      have x19 := hx18.x
      show G w mX3_plateFor (KI K) (rc) (rs) s16 29 [va_rf l0, .int l1, .int l2] [.int x17]
      refine G_goto 33 dX3_plateFor_29 (by decide) ?_
      exact G_iret dX3_plateFor_33 rfl ⟨_, rfl, h⟩
theorem eX3_plateFor {w : Wt} {K : Sg → Int32 → Prop} {σ : Sg} (l0 : Option Nat) (l1 : Int32) (l2 : Int32) (h : G w mX3_plateFor (KI K) 0 0 σ 0 [va_rf l0, .int l1, .int l2] []) : CalI w mX3_plateFor σ [va_rf l0, .int l1, .int l2] K :=
  Cal.start 0 mX3_plateFor_plain (catR (catI (catI cat0))) (Nat.le_of_ble_eq_true rfl) rfl h
set_option maxHeartbeats 4000000 in
theorem bX3_orderOf_0 {w : Wt} {K : Sg → Int32 → Prop} {rc rs : Nat} {σ : Sg} (l0 : Option Nat) (l1 : Int32) (l2 : Int32) (h : ∃ a1, l0 = some a1 ∧ kd σ a1 = 13 ∧ ∀ s4, s4 = sFI σ 18 a1 0 → CalI w mX3_isOrder s4 [va_rf l0, .int l1] (fun s6 x7 => Ext s4 s6 → ((x7 = 0 → K s6 (-1)) ∧ (¬ x7 = 0 → CalI w mX3_in s6 [.int l2, .int 0, .int 7] (fun s11 x12 => Ext s6 s11 → ((¬ x12 = 0 → ((6 ≤ l2 → ((¬ l2 = 6 → CalI w mX3_effort s11 [va_rf (FR s11 19 a1), .int l1] (fun s18 x19 => Ext s11 s18 → K s18 x19)) ∧ (l2 = 6 → CalI w mX3_nameLength s11 [va_rf (FR s11 19 a1), .int l1] (fun s22 x23 => Ext s11 s22 → K s22 x23)))) ∧ (¬ 6 ≤ l2 → CalI w mX3_of s11 [va_rf (FR s11 19 a1), .int l1, .int l2] (fun s26 x27 => Ext s11 s26 → K s26 x27)))) ∧ (x12 = 0 → K s11 (-1)))))))) : G w mX3_orderOf (KI K) (rc) (rs) σ 0 [va_rf l0, .int l1, .int l2] [] := by
  refine G_aload_n 1 dX3_orderOf_0 rfl rfl ?_
  refine G_iconst (v := 0) 2 dX3_orderOf_1 (by decide) rfl ?_
  obtain ⟨a1, e2, h⟩ := h
  obtain ⟨c3, h⟩ := h
  refine G_putI (f := 18) (a := a1) "" 5 dX3_orderOf_2 (Or.inl q2131) (Or.inl rfl) rfl e2 (hp18 c3) (nk18 c3) (Or.inl rfl) rfl rfl rfl ?_
  generalize hs4 : sFI σ 18 a1 0 = s4
  have x5 : ∀ a, ¬ kd σ a = 0 → kd s4 a = kd σ a := by subst hs4; exact fun a _ => congrFun kd_sFI a
  have h := h s4 hs4.symm
  refine G_aload_n 6 dX3_orderOf_5 rfl rfl ?_
  refine G_iload_n 7 dX3_orderOf_6 rfl rfl ?_
  have c3 := kdE x5 c3 (by decide)
  refine G_invV (N := mX3_isOrder) (As := [.int l1]) (st := []) (t := l0) (b := a1) (rc) (rs) 10 dX3_orderOf_7 q2260 q2262 qs21 q44 q2263 rfl rfl mX3_isOrder_args ⟨Nat.le_of_ble_eq_true rfl, Nat.le_of_ble_eq_true rfl⟩ rfl (Nat.zero_le _) e2 (rk13 c3) (le_b mX3_isOrder_c (Nat.le_refl _)) (le_b mX3_isOrder_s (Nat.le_refl _)) rfl (Cal.mono h ?_)
  rintro s6 v ⟨x7, rfl, h⟩ hx8
  have h := h hx8
  have x9 := hx8.x
  show G w mX3_orderOf (KI K) (rc) (rs) s6 10 [va_rf l0, .int l1, .int l2] [.int x7]
  refine G_if_eq 23 13 dX3_orderOf_10 (by decide) rfl (fun u10 => ?_) (fun u10 => ?_)
  · have h := h.1 u10
    refine G_iconst (v := (-1)) 24 dX3_orderOf_23 (by decide) rfl ?_
    exact G_iret dX3_orderOf_24 rfl ⟨_, rfl, h⟩
  · have h := h.2 u10
    refine G_iload_n 14 dX3_orderOf_13 rfl rfl ?_
    refine G_iconst (v := 0) 15 dX3_orderOf_14 (by decide) rfl ?_
    refine G_bipush (v := 7) 17 dX3_orderOf_15 (by decide) rfl ?_
    refine G_invS (N := mX3_in) (As := [.int l2, .int 0, .int 7]) (st := []) (rc) (rs) "" 20 dX3_orderOf_17 (Or.inl q2175) q2176 q44 q2177 rfl mX3_in_args ⟨Nat.le_of_ble_eq_true rfl, Nat.le_of_ble_eq_true rfl⟩ rfl (Nat.zero_le _) (le_b mX3_in_c (Nat.le_refl _)) (le_b mX3_in_s (Nat.le_refl _)) rfl (Cal.mono h ?_)
    rintro s11 v ⟨x12, rfl, h⟩ hx13
    have h := h hx13
    have x14 := hx13.x
    show G w mX3_orderOf (KI K) (rc) (rs) s11 20 [va_rf l0, .int l1, .int l2] [.int x12]
    refine G_if_ne 25 23 dX3_orderOf_20 (by decide) rfl (fun u15 => ?_) (fun u15 => ?_)
    · have h := h.1 u15
      refine G_iload_n 26 dX3_orderOf_25 rfl rfl ?_
      refine G_bipush (v := 6) 28 dX3_orderOf_26 (by decide) rfl ?_
      refine G_icmp_ge 43 31 dX3_orderOf_28 (by decide) rfl (fun u16 => ?_) (fun u16 => ?_)
      · have h := h.1 u16
        refine G_iload_n 44 dX3_orderOf_43 rfl rfl ?_
        refine G_bipush (v := 6) 46 dX3_orderOf_44 (by decide) rfl ?_
        refine G_icmp_ne 60 49 dX3_orderOf_46 (by decide) rfl (fun u17 => ?_) (fun u17 => ?_)
        · have h := h.1 u17
          refine G_aload_n 61 dX3_orderOf_60 rfl rfl ?_
          have c3 := kdE x9 c3 (by decide)
          have c3 := kdE x14 c3 (by decide)
          refine G_getR (f := 19) (a := a1) "" 64 dX3_orderOf_61 (Or.inl q2132) (Or.inl rfl) rfl e2 (hf19 c3) rfl ?_
          refine G_iload_n 65 dX3_orderOf_64 rfl rfl ?_
          refine G_invS (N := mX3_effort) (As := [va_rf (FR s11 19 a1), .int l1]) (st := []) (rc) (rs) "" 68 dX3_orderOf_65 (Or.inl q2309) q2310 q44 q2311 rfl mX3_effort_args ⟨Nat.le_of_ble_eq_true rfl, Nat.le_of_ble_eq_true rfl⟩ rfl (Nat.zero_le _) (le_b mX3_effort_c (Nat.le_refl _)) (le_b mX3_effort_s (Nat.le_refl _)) rfl (Cal.mono h ?_)
          rintro s18 v ⟨x19, rfl, h⟩ hx20
          have h := h hx20
          have x21 := hx20.x
          show G w mX3_orderOf (KI K) (rc) (rs) s18 68 [va_rf l0, .int l1, .int l2] [.int x19]
          exact G_iret dX3_orderOf_68 rfl ⟨_, rfl, h⟩
        · have h := h.2 u17
          refine G_aload_n 50 dX3_orderOf_49 rfl rfl ?_
          have c3 := kdE x9 c3 (by decide)
          have c3 := kdE x14 c3 (by decide)
          refine G_getR (f := 19) (a := a1) "" 53 dX3_orderOf_50 (Or.inl q2132) (Or.inl rfl) rfl e2 (hf19 c3) rfl ?_
          refine G_iload_n 54 dX3_orderOf_53 rfl rfl ?_
          refine G_invS (N := mX3_nameLength) (As := [va_rf (FR s11 19 a1), .int l1]) (st := []) (rc) (rs) "" 57 dX3_orderOf_54 (Or.inl q2287) q2288 q44 q2289 rfl mX3_nameLength_args ⟨Nat.le_of_ble_eq_true rfl, Nat.le_of_ble_eq_true rfl⟩ rfl (Nat.zero_le _) (le_b mX3_nameLength_c (Nat.le_refl _)) (le_b mX3_nameLength_s (Nat.le_refl _)) rfl (Cal.mono h ?_)
          rintro s22 v ⟨x23, rfl, h⟩ hx24
          have h := h hx24
          have x25 := hx24.x
          show G w mX3_orderOf (KI K) (rc) (rs) s22 57 [va_rf l0, .int l1, .int l2] [.int x23]
          refine G_goto 68 dX3_orderOf_57 (by decide) ?_
          exact G_iret dX3_orderOf_68 rfl ⟨_, rfl, h⟩
      · have h := h.2 u16
        refine G_aload_n 32 dX3_orderOf_31 rfl rfl ?_
        have c3 := kdE x9 c3 (by decide)
        have c3 := kdE x14 c3 (by decide)
        refine G_getR (f := 19) (a := a1) "" 35 dX3_orderOf_32 (Or.inl q2132) (Or.inl rfl) rfl e2 (hf19 c3) rfl ?_
        refine G_iload_n 36 dX3_orderOf_35 rfl rfl ?_
        refine G_iload_n 37 dX3_orderOf_36 rfl rfl ?_
        refine G_invS (N := mX3_of) (As := [va_rf (FR s11 19 a1), .int l1, .int l2]) (st := []) (rc) (rs) "" 40 dX3_orderOf_37 (Or.inl q2246) q2247 q44 q2248 rfl mX3_of_args ⟨Nat.le_of_ble_eq_true rfl, Nat.le_of_ble_eq_true rfl⟩ rfl (Nat.zero_le _) (le_b mX3_of_c (Nat.le_refl _)) (le_b mX3_of_s (Nat.le_refl _)) rfl (Cal.mono h ?_)
        rintro s26 v ⟨x27, rfl, h⟩ hx28
        have h := h hx28
        have x29 := hx28.x
        show G w mX3_orderOf (KI K) (rc) (rs) s26 40 [va_rf l0, .int l1, .int l2] [.int x27]
        refine G_goto 68 dX3_orderOf_40 (by decide) ?_
        exact G_iret dX3_orderOf_68 rfl ⟨_, rfl, h⟩
    · have h := h.2 u15
      refine G_iconst (v := (-1)) 24 dX3_orderOf_23 (by decide) rfl ?_
      exact G_iret dX3_orderOf_24 rfl ⟨_, rfl, h⟩
theorem eX3_orderOf {w : Wt} {K : Sg → Int32 → Prop} {σ : Sg} (l0 : Option Nat) (l1 : Int32) (l2 : Int32) (h : G w mX3_orderOf (KI K) 0 0 σ 0 [va_rf l0, .int l1, .int l2] []) : CalI w mX3_orderOf σ [va_rf l0, .int l1, .int l2] K :=
  Cal.start 0 mX3_orderOf_plain (catR (catI (catI cat0))) (Nat.le_of_ble_eq_true rfl) rfl h
set_option maxHeartbeats 4000000 in
theorem bX3_letter_0 {w : Wt} {K : Sg → Int32 → Prop} {rc rs : Nat} {σ : Sg} (l0 : Option Nat) (l1 : Int32) (l2 : Int32) (h : ∃ a1, l0 = some a1 ∧ kd σ a1 = 13 ∧ ∀ s4, s4 = sFI σ 18 a1 0 → CalI w mX3_isOrder s4 [va_rf l0, .int l1] (fun s6 x7 => Ext s4 s6 → ((x7 = 0 → K s6 (-1)) ∧ (¬ x7 = 0 → ((0 ≤ l2 → CalI w mX3_of s6 [va_rf (FR s6 19 a1), .int l1, .int 5] (fun s12 x13 => Ext s6 s12 → ((x13 ≤ l2 → K s12 (-9)) ∧ (¬ x13 ≤ l2 → CalI w mX3_of s12 [va_rf (FR s12 19 a1), .int l1, .int (6 + l2)] (fun s17 x18 => Ext s12 s17 → K s17 x18))))) ∧ (¬ 0 ≤ l2 → K s6 (-1))))))) : G w mX3_letter (KI K) (rc) (rs) σ 0 [va_rf l0, .int l1, .int l2] [] := by
  refine G_aload_n 1 dX3_letter_0 rfl rfl ?_
  refine G_iconst (v := 0) 2 dX3_letter_1 (by decide) rfl ?_
  obtain ⟨a1, e2, h⟩ := h
  obtain ⟨c3, h⟩ := h
  refine G_putI (f := 18) (a := a1) "" 5 dX3_letter_2 (Or.inl q2131) (Or.inl rfl) rfl e2 (hp18 c3) (nk18 c3) (Or.inl rfl) rfl rfl rfl ?_
  generalize hs4 : sFI σ 18 a1 0 = s4
  have x5 : ∀ a, ¬ kd σ a = 0 → kd s4 a = kd σ a := by subst hs4; exact fun a _ => congrFun kd_sFI a
  have h := h s4 hs4.symm
  refine G_aload_n 6 dX3_letter_5 rfl rfl ?_
  refine G_iload_n 7 dX3_letter_6 rfl rfl ?_
  have c3 := kdE x5 c3 (by decide)
  refine G_invV (N := mX3_isOrder) (As := [.int l1]) (st := []) (t := l0) (b := a1) (rc) (rs) 10 dX3_letter_7 q2260 q2262 qs21 q44 q2263 rfl rfl mX3_isOrder_args ⟨Nat.le_of_ble_eq_true rfl, Nat.le_of_ble_eq_true rfl⟩ rfl (Nat.zero_le _) e2 (rk13 c3) (le_b mX3_isOrder_c (Nat.le_refl _)) (le_b mX3_isOrder_s (Nat.le_refl _)) rfl (Cal.mono h ?_)
  rintro s6 v ⟨x7, rfl, h⟩ hx8
  have h := h hx8
  have x9 := hx8.x
  show G w mX3_letter (KI K) (rc) (rs) s6 10 [va_rf l0, .int l1, .int l2] [.int x7]
  refine G_if_eq 17 13 dX3_letter_10 (by decide) rfl (fun u10 => ?_) (fun u10 => ?_)
  · have h := h.1 u10
    refine G_iconst (v := (-1)) 18 dX3_letter_17 (by decide) rfl ?_
    exact G_iret dX3_letter_18 rfl ⟨_, rfl, h⟩
  · have h := h.2 u10
    refine G_iload_n 14 dX3_letter_13 rfl rfl ?_
    refine G_if_ge 19 17 dX3_letter_14 (by decide) rfl (fun u11 => ?_) (fun u11 => ?_)
    · have h := h.1 u11
      refine G_iload_n 20 dX3_letter_19 rfl rfl ?_
      refine G_aload_n 21 dX3_letter_20 rfl rfl ?_
      have c3 := kdE x9 c3 (by decide)
      refine G_getR (f := 19) (a := a1) "" 24 dX3_letter_21 (Or.inl q2132) (Or.inl rfl) rfl e2 (hf19 c3) rfl ?_
      refine G_iload_n 25 dX3_letter_24 rfl rfl ?_
      refine G_iconst (v := 5) 26 dX3_letter_25 (by decide) rfl ?_
      refine G_invS (N := mX3_of) (As := [va_rf (FR s6 19 a1), .int l1, .int 5]) (st := [.int l2]) (rc) (rs) "" 29 dX3_letter_26 (Or.inl q2246) q2247 q44 q2248 rfl mX3_of_args ⟨Nat.le_of_ble_eq_true rfl, Nat.le_of_ble_eq_true rfl⟩ rfl (Nat.le_trans (w_I w_0) (Nat.le_of_ble_eq_true rfl)) (le_b mX3_of_c (Nat.le_refl _)) (le_b mX3_of_s (Nat.le_refl _)) rfl (Cal.mono h ?_)
      rintro s12 v ⟨x13, rfl, h⟩ hx14
      have h := h hx14
      have x15 := hx14.x
      show G w mX3_letter (KI K) (rc) (rs) s12 29 [va_rf l0, .int l1, .int l2] [.int x13, .int l2]
      refine G_icmp_ge 47 32 dX3_letter_29 (by decide) rfl (fun u16 => ?_) (fun u16 => ?_)
      · have h := h.1 u16
        refine G_bipush (v := (-9)) 49 dX3_letter_47 (by decide) rfl ?_
        exact G_iret dX3_letter_49 rfl ⟨_, rfl, h⟩
      · have h := h.2 u16
        refine G_aload_n 33 dX3_letter_32 rfl rfl ?_
        have c3 := kdE x15 c3 (by decide)
        refine G_getR (f := 19) (a := a1) "" 36 dX3_letter_33 (Or.inl q2132) (Or.inl rfl) rfl e2 (hf19 c3) rfl ?_
        refine G_iload_n 37 dX3_letter_36 rfl rfl ?_
        refine G_bipush (v := 6) 39 dX3_letter_37 (by decide) rfl ?_
        refine G_iload_n 40 dX3_letter_39 rfl rfl ?_
        refine G_iadd 41 dX3_letter_40 rfl ?_
        refine G_invS (N := mX3_of) (As := [va_rf (FR s12 19 a1), .int l1, .int (6 + l2)]) (st := []) (rc) (rs) "" 44 dX3_letter_41 (Or.inl q2246) q2247 q44 q2248 rfl mX3_of_args ⟨Nat.le_of_ble_eq_true rfl, Nat.le_of_ble_eq_true rfl⟩ rfl (Nat.zero_le _) (le_b mX3_of_c (Nat.le_refl _)) (le_b mX3_of_s (Nat.le_refl _)) rfl (Cal.mono h ?_)
        rintro s17 v ⟨x18, rfl, h⟩ hx19
        have h := h hx19
        have x20 := hx19.x
        show G w mX3_letter (KI K) (rc) (rs) s17 44 [va_rf l0, .int l1, .int l2] [.int x18]
        refine G_goto 49 dX3_letter_44 (by decide) ?_
        exact G_iret dX3_letter_49 rfl ⟨_, rfl, h⟩
    · have h := h.2 u11
      refine G_iconst (v := (-1)) 18 dX3_letter_17 (by decide) rfl ?_
      exact G_iret dX3_letter_18 rfl ⟨_, rfl, h⟩
theorem eX3_letter {w : Wt} {K : Sg → Int32 → Prop} {σ : Sg} (l0 : Option Nat) (l1 : Int32) (l2 : Int32) (h : G w mX3_letter (KI K) 0 0 σ 0 [va_rf l0, .int l1, .int l2] []) : CalI w mX3_letter σ [va_rf l0, .int l1, .int l2] K :=
  Cal.start 0 mX3_letter_plain (catR (catI (catI cat0))) (Nat.le_of_ble_eq_true rfl) rfl h
set_option maxHeartbeats 4000000 in
theorem bX3_lengthOf_0 {w : Wt} {K : Sg → Int32 → Prop} {rc rs : Nat} {σ : Sg} (l0 : Option Nat) (l1 : Int32) (h : ∃ a1, l0 = some a1 ∧ kd σ a1 = 13 ∧ ∀ s4, s4 = sFI σ 18 a1 0 → CalI w mX3_in s4 [.int l1, .int 1, .int 4] (fun s6 x7 => Ext s4 s6 → ((x7 = 0 → K s6 (-1)) ∧ (¬ x7 = 0 → CalI w mX3_textLength s6 [va_rf l0, .int l1] (fun s11 x12 => Ext s6 s11 → K s11 x12))))) : G w mX3_lengthOf (KI K) (rc) (rs) σ 0 [va_rf l0, .int l1] [] := by
  refine G_aload_n 1 dX3_lengthOf_0 rfl rfl ?_
  refine G_iconst (v := 0) 2 dX3_lengthOf_1 (by decide) rfl ?_
  obtain ⟨a1, e2, h⟩ := h
  obtain ⟨c3, h⟩ := h
  refine G_putI (f := 18) (a := a1) "" 5 dX3_lengthOf_2 (Or.inl q2131) (Or.inl rfl) rfl e2 (hp18 c3) (nk18 c3) (Or.inl rfl) rfl rfl rfl ?_
  generalize hs4 : sFI σ 18 a1 0 = s4
  have x5 : ∀ a, ¬ kd σ a = 0 → kd s4 a = kd σ a := by subst hs4; exact fun a _ => congrFun kd_sFI a
  have h := h s4 hs4.symm
  refine G_iload_n 6 dX3_lengthOf_5 rfl rfl ?_
  refine G_iconst (v := 1) 7 dX3_lengthOf_6 (by decide) rfl ?_
  refine G_iconst (v := 4) 8 dX3_lengthOf_7 (by decide) rfl ?_
  refine G_invS (N := mX3_in) (As := [.int l1, .int 1, .int 4]) (st := []) (rc) (rs) "" 11 dX3_lengthOf_8 (Or.inl q2175) q2176 q44 q2177 rfl mX3_in_args ⟨Nat.le_of_ble_eq_true rfl, Nat.le_of_ble_eq_true rfl⟩ rfl (Nat.zero_le _) (le_b mX3_in_c (Nat.le_refl _)) (le_b mX3_in_s (Nat.le_refl _)) rfl (Cal.mono h ?_)
  rintro s6 v ⟨x7, rfl, h⟩ hx8
  have h := h hx8
  have x9 := hx8.x
  show G w mX3_lengthOf (KI K) (rc) (rs) s6 11 [va_rf l0, .int l1] [.int x7]
  refine G_if_eq 22 14 dX3_lengthOf_11 (by decide) rfl (fun u10 => ?_) (fun u10 => ?_)
  · have h := h.1 u10
    refine G_iconst (v := (-1)) 23 dX3_lengthOf_22 (by decide) rfl ?_
    exact G_iret dX3_lengthOf_23 rfl ⟨_, rfl, h⟩
  · have h := h.2 u10
    refine G_aload_n 15 dX3_lengthOf_14 rfl rfl ?_
    refine G_iload_n 16 dX3_lengthOf_15 rfl rfl ?_
    have c3 := kdE x5 c3 (by decide)
    have c3 := kdE x9 c3 (by decide)
    refine G_invV (N := mX3_textLength) (As := [.int l1]) (st := []) (t := l0) (b := a1) (rc) (rs) 19 dX3_lengthOf_16 q2361 q2363 qs27 q44 q2364 rfl rfl mX3_textLength_args ⟨Nat.le_of_ble_eq_true rfl, Nat.le_of_ble_eq_true rfl⟩ rfl (Nat.zero_le _) e2 (rk13 c3) (le_b mX3_textLength_c (Nat.le_refl _)) (le_b mX3_textLength_s (Nat.le_refl _)) rfl (Cal.mono h ?_)
    rintro s11 v ⟨x12, rfl, h⟩ hx13
    have h := h hx13
    have x14 := hx13.x
    show G w mX3_lengthOf (KI K) (rc) (rs) s11 19 [va_rf l0, .int l1] [.int x12]
    refine G_goto 23 dX3_lengthOf_19 (by decide) ?_
    exact G_iret dX3_lengthOf_23 rfl ⟨_, rfl, h⟩
theorem eX3_lengthOf {w : Wt} {K : Sg → Int32 → Prop} {σ : Sg} (l0 : Option Nat) (l1 : Int32) (h : G w mX3_lengthOf (KI K) 0 0 σ 0 [va_rf l0, .int l1] []) : CalI w mX3_lengthOf σ [va_rf l0, .int l1] K :=
  Cal.start 0 mX3_lengthOf_plain (catR (catI cat0)) (Nat.le_of_ble_eq_true rfl) rfl h
set_option maxHeartbeats 4000000 in
theorem bX3_textLength_0 {w : Wt} {K : Sg → Int32 → Prop} {rc rs : Nat} {σ : Sg} (l0 : Option Nat) (l1 : Int32) (h : ∃ a1, l0 = some a1 ∧ kd σ a1 = 13 ∧ ((¬ FI σ 24 a1 = 0 → G w mX3_textLength (KI K) (rc) (rs) σ 20 [va_rf l0, .int l1, .int ((FI σ 24 a1) - 1), .int 0] []) ∧ (FI σ 24 a1 = 0 → G w mX3_textLength (KI K) (rc) (rs) σ 20 [va_rf l0, .int l1, .int 0, .int 0] []))) : G w mX3_textLength (KI K) (rc) (rs) σ 0 [va_rf l0, .int l1, U_, U_] [] := by
  refine G_aload_n 1 dX3_textLength_0 rfl rfl ?_
  obtain ⟨a1, e2, h⟩ := h
  obtain ⟨c3, h⟩ := h
  refine G_getI (f := 24) (a := a1) "" 4 dX3_textLength_1 (Or.inl q2137) (Or.inl rfl) rfl e2 (hf24 c3) rfl ?_
  refine G_if_ne 11 7 dX3_textLength_4 (by decide) rfl (fun u4 => ?_) (fun u4 => ?_)
  · have h := h.1 u4
    refine G_aload_n 12 dX3_textLength_11 rfl rfl ?_
    refine G_getI (f := 24) (a := a1) "" 15 dX3_textLength_12 (Or.inl q2137) (Or.inl rfl) rfl e2 (hf24 c3) rfl ?_
    refine G_iconst (v := 1) 16 dX3_textLength_15 (by decide) rfl ?_
    refine G_isub 17 dX3_textLength_16 rfl ?_
    refine G_istore_n 18 [va_rf l0, .int l1, .int ((FI σ 24 a1) - 1), U_] dX3_textLength_17 (Nat.le_of_ble_eq_true rfl) rfl rfl ?_
    refine G_iconst (v := 0) 19 dX3_textLength_18 (by decide) rfl ?_
    refine G_istore_n 20 [va_rf l0, .int l1, .int ((FI σ 24 a1) - 1), .int 0] dX3_textLength_19 (Nat.le_of_ble_eq_true rfl) rfl rfl ?_
    exact h
  · have h := h.2 u4
    refine G_iconst (v := 0) 8 dX3_textLength_7 (by decide) rfl ?_
    refine G_goto 17 dX3_textLength_8 (by decide) ?_
    refine G_istore_n 18 [va_rf l0, .int l1, .int 0, U_] dX3_textLength_17 (Nat.le_of_ble_eq_true rfl) rfl rfl ?_
    refine G_iconst (v := 0) 19 dX3_textLength_18 (by decide) rfl ?_
    refine G_istore_n 20 [va_rf l0, .int l1, .int 0, .int 0] dX3_textLength_19 (Nat.le_of_ble_eq_true rfl) rfl rfl ?_
    exact h
set_option maxHeartbeats 4000000 in
theorem bX3_textLength_20 {w : Wt} {K : Sg → Int32 → Prop} {rc rs : Nat} {σ : Sg} (l0 : Option Nat) (l1 : Int32) (l2 : Int32) (l3 : Int32) (h : ∃ a1, l0 = some a1 ∧ kd σ a1 = 13 ∧ ((FI σ 24 a1 ≤ l3 → K σ (l1 * l2)) ∧ (¬ FI σ 24 a1 ≤ l3 → ∃ a5, FR σ 23 a1 = some a5 ∧ kd σ a5 ∈ [1, 5] ∧ vp_in l3 (ln σ a5) ∧ CalI w mX3_widthOf σ [.int (AI σ a5 l3.toNatClampNeg)] (fun s9 x10 => Ext σ s9 → G w mX3_textLength (KI K) (rc) (rs) s9 20 [va_rf l0, .int l1, .int (l2 + x10), .int (l3 + 1)] [])))) : G w mX3_textLength (KI K) (rc) (rs) σ 20 [va_rf l0, .int l1, .int l2, .int l3] [] := by
  refine G_iload_n 21 dX3_textLength_20 rfl rfl ?_
  refine G_aload_n 22 dX3_textLength_21 rfl rfl ?_
  obtain ⟨a1, e2, h⟩ := h
  obtain ⟨c3, h⟩ := h
  refine G_getI (f := 24) (a := a1) "" 25 dX3_textLength_22 (Or.inl q2137) (Or.inl rfl) rfl e2 (hf24 c3) rfl ?_
  refine G_icmp_ge 46 28 dX3_textLength_25 (by decide) rfl (fun u4 => ?_) (fun u4 => ?_)
  · have h := h.1 u4
    refine G_iload_n 47 dX3_textLength_46 rfl rfl ?_
    refine G_iload_n 48 dX3_textLength_47 rfl rfl ?_
    refine G_imul 49 dX3_textLength_48 rfl ?_
    exact G_iret dX3_textLength_49 rfl ⟨_, rfl, h⟩
  · have h := h.2 u4
    refine G_iload_n 29 dX3_textLength_28 rfl rfl ?_
    refine G_aload_n 30 dX3_textLength_29 rfl rfl ?_
    refine G_getR (f := 23) (a := a1) "" 33 dX3_textLength_30 (Or.inl q2136) (Or.inl rfl) rfl e2 (hf23 c3) rfl ?_
    refine G_iload_n 34 dX3_textLength_33 rfl rfl ?_
    obtain ⟨a5, e6, h⟩ := h
    obtain ⟨c7, h⟩ := h
    obtain ⟨c8, h⟩ := h
    refine G_iald (a := a5) 35 dX3_textLength_34 rfl e6 c7 c8 ?_
    refine G_invS (N := mX3_widthOf) (As := [.int (AI σ a5 l3.toNatClampNeg)]) (st := [.int l2]) (rc) (rs) "" 38 dX3_textLength_35 (Or.inl q2290) q2291 q44 q2292 rfl mX3_widthOf_args ⟨Nat.le_of_ble_eq_true rfl, Nat.le_of_ble_eq_true rfl⟩ rfl (Nat.le_trans (w_I w_0) (Nat.le_of_ble_eq_true rfl)) (le_b mX3_widthOf_c (Nat.le_refl _)) (le_b mX3_widthOf_s (Nat.le_refl _)) rfl (Cal.mono h ?_)
    rintro s9 v ⟨x10, rfl, h⟩ hx11
    have h := h hx11
    have x12 := hx11.x
    show G w mX3_textLength (KI K) (rc) (rs) s9 38 [va_rf l0, .int l1, .int l2, .int l3] [.int x10, .int l2]
    refine G_iadd 39 dX3_textLength_38 rfl ?_
    refine G_istore_n 40 [va_rf l0, .int l1, .int (l2 + x10), .int l3] dX3_textLength_39 (Nat.le_of_ble_eq_true rfl) rfl rfl ?_
    refine G_iinc 43 [va_rf l0, .int l1, .int (l2 + x10), .int (l3 + 1)] dX3_textLength_40 rfl rfl (Nat.le_of_ble_eq_true rfl) rfl rfl ?_
    refine G_goto 20 dX3_textLength_43 (by decide) ?_
    exact h
theorem eX3_textLength {w : Wt} {K : Sg → Int32 → Prop} {σ : Sg} (l0 : Option Nat) (l1 : Int32) (h : G w mX3_textLength (KI K) 0 0 σ 0 [va_rf l0, .int l1, U_, U_] []) : CalI w mX3_textLength σ [va_rf l0, .int l1] K :=
  Cal.start 2 mX3_textLength_plain (catR (catI cat0)) (Nat.le_of_ble_eq_true rfl) rfl h
set_option maxHeartbeats 4000000 in
theorem bX3_plateFound_0 {w : Wt} {K : Sg → Int32 → Prop} {rc rs : Nat} {σ : Sg} (l0 : Option Nat) (l1 : Int32) (l2 : Int32) (l3 : Int32) (h : ∃ a1, l0 = some a1 ∧ kd σ a1 = 13 ∧ ∀ s4, s4 = sFI σ 18 a1 0 → CalI w mX3_in s4 [.int l1, .int 1, .int 4] (fun s6 x7 => Ext s4 s6 → ((x7 = 0 → K s6 (-1)) ∧ (¬ x7 = 0 → CalI w mX3_in s6 [.int l2, .int 1, .int 5] (fun s11 x12 => Ext s6 s11 → ((x12 = 0 → K s11 (-1)) ∧ (¬ x12 = 0 → CalI w mX3_in s11 [.int l3, .int 0, .int 2] (fun s16 x17 => Ext s11 s16 → ((¬ x17 = 0 → ((¬ FI s16 24 a1 = 0 → CalI w mX3_textLength s16 [va_rf l0, .int l1] (fun s22 x23 => Ext s16 s22 → CalI w mX3_findPlate s22 [va_rf l0, va_rf (FR s16 19 a1), .int x23, .int l2] (fun s26 x27 => Ext s22 s26 → ((¬ x27 = 0 → ((¬ l3 = 0 → ((¬ l3 = 1 → ((FI s26 27 a1 = 0 → K s26 0) ∧ (¬ FI s26 27 a1 = 0 → K s26 1))) ∧ (l3 = 1 → K s26 (FI s26 26 a1)))) ∧ (l3 = 0 → K s26 (FI s26 25 a1)))) ∧ (x27 = 0 → K s26 (-9)))))) ∧ (FI s16 24 a1 = 0 → K s16 (-2)))) ∧ (x17 = 0 → K s16 (-1))))))))))) : G w mX3_plateFound (KI K) (rc) (rs) σ 0 [va_rf l0, .int l1, .int l2, .int l3] [] := by
  refine G_aload_n 1 dX3_plateFound_0 rfl rfl ?_
  refine G_iconst (v := 0) 2 dX3_plateFound_1 (by decide) rfl ?_
  obtain ⟨a1, e2, h⟩ := h
  obtain ⟨c3, h⟩ := h
  refine G_putI (f := 18) (a := a1) "" 5 dX3_plateFound_2 (Or.inl q2131) (Or.inl rfl) rfl e2 (hp18 c3) (nk18 c3) (Or.inl rfl) rfl rfl rfl ?_
  generalize hs4 : sFI σ 18 a1 0 = s4
  have x5 : ∀ a, ¬ kd σ a = 0 → kd s4 a = kd σ a := by subst hs4; exact fun a _ => congrFun kd_sFI a
  have h := h s4 hs4.symm
  refine G_iload_n 6 dX3_plateFound_5 rfl rfl ?_
  refine G_iconst (v := 1) 7 dX3_plateFound_6 (by decide) rfl ?_
  refine G_iconst (v := 4) 8 dX3_plateFound_7 (by decide) rfl ?_
  refine G_invS (N := mX3_in) (As := [.int l1, .int 1, .int 4]) (st := []) (rc) (rs) "" 11 dX3_plateFound_8 (Or.inl q2175) q2176 q44 q2177 rfl mX3_in_args ⟨Nat.le_of_ble_eq_true rfl, Nat.le_of_ble_eq_true rfl⟩ rfl (Nat.zero_le _) (le_b mX3_in_c (Nat.le_refl _)) (le_b mX3_in_s (Nat.le_refl _)) rfl (Cal.mono h ?_)
  rintro s6 v ⟨x7, rfl, h⟩ hx8
  have h := h hx8
  have x9 := hx8.x
  show G w mX3_plateFound (KI K) (rc) (rs) s6 11 [va_rf l0, .int l1, .int l2, .int l3] [.int x7]
  refine G_if_eq 32 14 dX3_plateFound_11 (by decide) rfl (fun u10 => ?_) (fun u10 => ?_)
  · have h := h.1 u10
    refine G_iconst (v := (-1)) 33 dX3_plateFound_32 (by decide) rfl ?_
    exact G_iret dX3_plateFound_33 rfl ⟨_, rfl, h⟩
  · have h := h.2 u10
    refine G_iload_n 15 dX3_plateFound_14 rfl rfl ?_
    refine G_iconst (v := 1) 16 dX3_plateFound_15 (by decide) rfl ?_
    refine G_iconst (v := 5) 17 dX3_plateFound_16 (by decide) rfl ?_
    refine G_invS (N := mX3_in) (As := [.int l2, .int 1, .int 5]) (st := []) (rc) (rs) "" 20 dX3_plateFound_17 (Or.inl q2175) q2176 q44 q2177 rfl mX3_in_args ⟨Nat.le_of_ble_eq_true rfl, Nat.le_of_ble_eq_true rfl⟩ rfl (Nat.zero_le _) (le_b mX3_in_c (Nat.le_refl _)) (le_b mX3_in_s (Nat.le_refl _)) rfl (Cal.mono h ?_)
    rintro s11 v ⟨x12, rfl, h⟩ hx13
    have h := h hx13
    have x14 := hx13.x
    show G w mX3_plateFound (KI K) (rc) (rs) s11 20 [va_rf l0, .int l1, .int l2, .int l3] [.int x12]
    refine G_if_eq 32 23 dX3_plateFound_20 (by decide) rfl (fun u15 => ?_) (fun u15 => ?_)
    · have h := h.1 u15
      refine G_iconst (v := (-1)) 33 dX3_plateFound_32 (by decide) rfl ?_
      exact G_iret dX3_plateFound_33 rfl ⟨_, rfl, h⟩
    · have h := h.2 u15
      refine G_iload_n 24 dX3_plateFound_23 rfl rfl ?_
      refine G_iconst (v := 0) 25 dX3_plateFound_24 (by decide) rfl ?_
      refine G_iconst (v := 2) 26 dX3_plateFound_25 (by decide) rfl ?_
      refine G_invS (N := mX3_in) (As := [.int l3, .int 0, .int 2]) (st := []) (rc) (rs) "" 29 dX3_plateFound_26 (Or.inl q2175) q2176 q44 q2177 rfl mX3_in_args ⟨Nat.le_of_ble_eq_true rfl, Nat.le_of_ble_eq_true rfl⟩ rfl (Nat.zero_le _) (le_b mX3_in_c (Nat.le_refl _)) (le_b mX3_in_s (Nat.le_refl _)) rfl (Cal.mono h ?_)
      rintro s16 v ⟨x17, rfl, h⟩ hx18
      have h := h hx18
      have x19 := hx18.x
      show G w mX3_plateFound (KI K) (rc) (rs) s16 29 [va_rf l0, .int l1, .int l2, .int l3] [.int x17]
      refine G_if_ne 34 32 dX3_plateFound_29 (by decide) rfl (fun u20 => ?_) (fun u20 => ?_)
      · have h := h.1 u20
        refine G_aload_n 35 dX3_plateFound_34 rfl rfl ?_
        have c3 := kdE x5 c3 (by decide)
        have c3 := kdE x9 c3 (by decide)
        have c3 := kdE x14 c3 (by decide)
        have c3 := kdE x19 c3 (by decide)
        refine G_getI (f := 24) (a := a1) "" 38 dX3_plateFound_35 (Or.inl q2137) (Or.inl rfl) rfl e2 (hf24 c3) rfl ?_
        refine G_if_ne 44 41 dX3_plateFound_38 (by decide) rfl (fun u21 => ?_) (fun u21 => ?_)
        · have h := h.1 u21
          refine G_aload_n 45 dX3_plateFound_44 rfl rfl ?_
          refine G_aload_n 46 dX3_plateFound_45 rfl rfl ?_
          refine G_getR (f := 19) (a := a1) "" 49 dX3_plateFound_46 (Or.inl q2132) (Or.inl rfl) rfl e2 (hf19 c3) rfl ?_
          refine G_aload_n 50 dX3_plateFound_49 rfl rfl ?_
          refine G_iload_n 51 dX3_plateFound_50 rfl rfl ?_
          refine G_invV (N := mX3_textLength) (As := [.int l1]) (st := [va_rf (FR s16 19 a1), va_rf l0]) (t := l0) (b := a1) (rc) (rs) 54 dX3_plateFound_51 q2361 q2363 qs27 q44 q2364 rfl rfl mX3_textLength_args ⟨Nat.le_of_ble_eq_true rfl, Nat.le_of_ble_eq_true rfl⟩ rfl (Nat.le_trans (w_R (w_R w_0)) (Nat.le_of_ble_eq_true rfl)) e2 (rk13 c3) (le_b mX3_textLength_c (Nat.le_refl _)) (le_b mX3_textLength_s (Nat.le_refl _)) rfl (Cal.mono h ?_)
          rintro s22 v ⟨x23, rfl, h⟩ hx24
          have h := h hx24
          have x25 := hx24.x
          show G w mX3_plateFound (KI K) (rc) (rs) s22 54 [va_rf l0, .int l1, .int l2, .int l3] [.int x23, va_rf (FR s16 19 a1), va_rf l0]
          refine G_iload_n 55 dX3_plateFound_54 rfl rfl ?_
          have c3 := kdE x25 c3 (by decide)
          refine G_invV (N := mX3_findPlate) (As := [va_rf (FR s16 19 a1), .int x23, .int l2]) (st := []) (t := l0) (b := a1) (rc) (rs) 58 dX3_plateFound_55 q2293 q2295 qs25 q44 q2296 rfl rfl mX3_findPlate_args ⟨Nat.le_of_ble_eq_true rfl, Nat.le_of_ble_eq_true rfl⟩ rfl (Nat.zero_le _) e2 (rk13 c3) (le_b mX3_findPlate_c (Nat.le_refl _)) (le_b mX3_findPlate_s (Nat.le_refl _)) rfl (Cal.mono h ?_)
          rintro s26 v ⟨x27, rfl, h⟩ hx28
          have h := h hx28
          have x29 := hx28.x
          show G w mX3_plateFound (KI K) (rc) (rs) s26 58 [va_rf l0, .int l1, .int l2, .int l3] [.int x27]
          refine G_if_ne 64 61 dX3_plateFound_58 (by decide) rfl (fun u30 => ?_) (fun u30 => ?_)
          · have h := h.1 u30
            refine G_iload_n 65 dX3_plateFound_64 rfl rfl ?_
            refine G_if_ne 75 68 dX3_plateFound_65 (by decide) rfl (fun u31 => ?_) (fun u31 => ?_)
            · have h := h.1 u31
              refine G_iload_n 76 dX3_plateFound_75 rfl rfl ?_
              refine G_iconst (v := 1) 77 dX3_plateFound_76 (by decide) rfl ?_
              refine G_icmp_ne 87 80 dX3_plateFound_77 (by decide) rfl (fun u32 => ?_) (fun u32 => ?_)
              · have h := h.1 u32
                refine G_aload_n 88 dX3_plateFound_87 rfl rfl ?_
                have c3 := kdE x29 c3 (by decide)
                refine G_getI (f := 27) (a := a1) "" 91 dX3_plateFound_88 (Or.inl q2140) (Or.inl rfl) rfl e2 (hf27 c3) rfl ?_
                refine G_if_eq 98 94 dX3_plateFound_91 (by decide) rfl (fun u33 => ?_) (fun u33 => ?_)
                · have h := h.1 u33
                  refine G_iconst (v := 0) 99 dX3_plateFound_98 (by decide) rfl ?_
                  exact G_iret dX3_plateFound_99 rfl ⟨_, rfl, h⟩
                · have h := h.2 u33
                  refine G_iconst (v := 1) 95 dX3_plateFound_94 (by decide) rfl ?_
                  refine G_goto 99 dX3_plateFound_95 (by decide) ?_
                  exact G_iret dX3_plateFound_99 rfl ⟨_, rfl, h⟩
              · have h := h.2 u32
                refine G_aload_n 81 dX3_plateFound_80 rfl rfl ?_
                have c3 := kdE x29 c3 (by decide)
                refine G_getI (f := 26) (a := a1) "" 84 dX3_plateFound_81 (Or.inl q2139) (Or.inl rfl) rfl e2 (hf26 c3) rfl ?_
                refine G_goto 99 dX3_plateFound_84 (by decide) ?_
                exact G_iret dX3_plateFound_99 rfl ⟨_, rfl, h⟩
            · have h := h.2 u31
              refine G_aload_n 69 dX3_plateFound_68 rfl rfl ?_
              have c3 := kdE x29 c3 (by decide)
              refine G_getI (f := 25) (a := a1) "" 72 dX3_plateFound_69 (Or.inl q2138) (Or.inl rfl) rfl e2 (hf25 c3) rfl ?_
              refine G_goto 99 dX3_plateFound_72 (by decide) ?_
              exact G_iret dX3_plateFound_99 rfl ⟨_, rfl, h⟩
          · have h := h.2 u30
            refine G_bipush (v := (-9)) 63 dX3_plateFound_61 (by decide) rfl ?_
            exact G_iret dX3_plateFound_63 rfl ⟨_, rfl, h⟩
        · have h := h.2 u21
          refine G_bipush (v := (-2)) 43 dX3_plateFound_41 (by decide) rfl ?_
          exact G_iret dX3_plateFound_43 rfl ⟨_, rfl, h⟩
      · have h := h.2 u20
        refine G_iconst (v := (-1)) 33 dX3_plateFound_32 (by decide) rfl ?_
        exact G_iret dX3_plateFound_33 rfl ⟨_, rfl, h⟩
theorem eX3_plateFound {w : Wt} {K : Sg → Int32 → Prop} {σ : Sg} (l0 : Option Nat) (l1 : Int32) (l2 : Int32) (l3 : Int32) (h : G w mX3_plateFound (KI K) 0 0 σ 0 [va_rf l0, .int l1, .int l2, .int l3] []) : CalI w mX3_plateFound σ [va_rf l0, .int l1, .int l2, .int l3] K :=
  Cal.start 0 mX3_plateFound_plain (catR (catI (catI (catI cat0)))) (Nat.le_of_ble_eq_true rfl) rfl h
set_option maxHeartbeats 4000000 in
theorem bX3_doneIn_0 {w : Wt} {K : Sg → Int32 → Prop} {rc rs : Nat} {σ : Sg} (l0 : Option Nat) (l1 : Int32) (h : ∃ a1, l0 = some a1 ∧ kd σ a1 = 13 ∧ ∀ s4, s4 = sFI σ 18 a1 0 → CalI w mX3_isOrder s4 [va_rf l0, .int l1] (fun s6 x7 => Ext s4 s6 → ((¬ x7 = 0 → CalV w mX3_tryNow s6 [va_rf l0] (fun s11 => Ext s6 s11 → CalV w mX3_workOn s11 [va_rf l0, va_rf (FR s11 28 a1)] (fun s14 => Ext s11 s14 → ∃ a17, FR s14 28 a1 = some a17 ∧ kd s14 a17 ∈ [1, 5] ∧ vp_in l1 (ln s14 a17) ∧ K s14 (AI s14 a17 l1.toNatClampNeg)))) ∧ (x7 = 0 → K s6 (-1))))) : G w mX3_doneIn (KI K) (rc) (rs) σ 0 [va_rf l0, .int l1] [] := by
  refine G_aload_n 1 dX3_doneIn_0 rfl rfl ?_
  refine G_iconst (v := 0) 2 dX3_doneIn_1 (by decide) rfl ?_
  obtain ⟨a1, e2, h⟩ := h
  obtain ⟨c3, h⟩ := h
  refine G_putI (f := 18) (a := a1) "" 5 dX3_doneIn_2 (Or.inl q2131) (Or.inl rfl) rfl e2 (hp18 c3) (nk18 c3) (Or.inl rfl) rfl rfl rfl ?_
  generalize hs4 : sFI σ 18 a1 0 = s4
  have x5 : ∀ a, ¬ kd σ a = 0 → kd s4 a = kd σ a := by subst hs4; exact fun a _ => congrFun kd_sFI a
  have h := h s4 hs4.symm
  refine G_aload_n 6 dX3_doneIn_5 rfl rfl ?_
  refine G_iload_n 7 dX3_doneIn_6 rfl rfl ?_
  have c3 := kdE x5 c3 (by decide)
  refine G_invV (N := mX3_isOrder) (As := [.int l1]) (st := []) (t := l0) (b := a1) (rc) (rs) 10 dX3_doneIn_7 q2260 q2262 qs21 q44 q2263 rfl rfl mX3_isOrder_args ⟨Nat.le_of_ble_eq_true rfl, Nat.le_of_ble_eq_true rfl⟩ rfl (Nat.zero_le _) e2 (rk13 c3) (le_b mX3_isOrder_c (Nat.le_refl _)) (le_b mX3_isOrder_s (Nat.le_refl _)) rfl (Cal.mono h ?_)
  rintro s6 v ⟨x7, rfl, h⟩ hx8
  have h := h hx8
  have x9 := hx8.x
  show G w mX3_doneIn (KI K) (rc) (rs) s6 10 [va_rf l0, .int l1] [.int x7]
  refine G_if_ne 15 13 dX3_doneIn_10 (by decide) rfl (fun u10 => ?_) (fun u10 => ?_)
  · have h := h.1 u10
    refine G_aload_n 16 dX3_doneIn_15 rfl rfl ?_
    have c3 := kdE x9 c3 (by decide)
    refine G_invV (N := mX3_tryNow) (As := []) (st := []) (t := l0) (b := a1) (rc) (rs) 19 dX3_doneIn_16 q2373 q2375 qs28 q44 q2376 rfl rfl mX3_tryNow_args ⟨Nat.le_of_ble_eq_true rfl, Nat.le_of_ble_eq_true rfl⟩ rfl (Nat.zero_le _) e2 (rk13 c3) (le_b mX3_tryNow_c (Nat.le_refl _)) (le_b mX3_tryNow_s (Nat.le_refl _)) rfl (Cal.mono h ?_)
    rintro s11 v ⟨rfl, h⟩ hx12
    have h := h hx12
    have x13 := hx12.x
    show G w mX3_doneIn (KI K) (rc) (rs) s11 19 [va_rf l0, .int l1] []
    refine G_aload_n 20 dX3_doneIn_19 rfl rfl ?_
    refine G_aload_n 21 dX3_doneIn_20 rfl rfl ?_
    have c3 := kdE x13 c3 (by decide)
    refine G_getR (f := 28) (a := a1) "" 24 dX3_doneIn_21 (Or.inl q2141) (Or.inl rfl) rfl e2 (hf28 c3) rfl ?_
    refine G_invV (N := mX3_workOn) (As := [va_rf (FR s11 28 a1)]) (st := []) (t := l0) (b := a1) (rc) (rs) 27 dX3_doneIn_24 q2377 q2379 qs29 q44 q2380 rfl rfl mX3_workOn_args ⟨Nat.le_of_ble_eq_true rfl, Nat.le_of_ble_eq_true rfl⟩ rfl (Nat.zero_le _) e2 (rk13 c3) (le_b mX3_workOn_c (Nat.le_refl _)) (le_b mX3_workOn_s (Nat.le_refl _)) rfl (Cal.mono h ?_)
    rintro s14 v ⟨rfl, h⟩ hx15
    have h := h hx15
    have x16 := hx15.x
    show G w mX3_doneIn (KI K) (rc) (rs) s14 27 [va_rf l0, .int l1] []
    refine G_aload_n 28 dX3_doneIn_27 rfl rfl ?_
    have c3 := kdE x16 c3 (by decide)
    refine G_getR (f := 28) (a := a1) "" 31 dX3_doneIn_28 (Or.inl q2141) (Or.inl rfl) rfl e2 (hf28 c3) rfl ?_
    refine G_iload_n 32 dX3_doneIn_31 rfl rfl ?_
    obtain ⟨a17, e18, h⟩ := h
    obtain ⟨c19, h⟩ := h
    obtain ⟨c20, h⟩ := h
    refine G_iald (a := a17) 33 dX3_doneIn_32 rfl e18 c19 c20 ?_
    exact G_iret dX3_doneIn_33 rfl ⟨_, rfl, h⟩
  · have h := h.2 u10
    refine G_iconst (v := (-1)) 14 dX3_doneIn_13 (by decide) rfl ?_
    exact G_iret dX3_doneIn_14 rfl ⟨_, rfl, h⟩
theorem eX3_doneIn {w : Wt} {K : Sg → Int32 → Prop} {σ : Sg} (l0 : Option Nat) (l1 : Int32) (h : G w mX3_doneIn (KI K) 0 0 σ 0 [va_rf l0, .int l1] []) : CalI w mX3_doneIn σ [va_rf l0, .int l1] K :=
  Cal.start 0 mX3_doneIn_plain (catR (catI cat0)) (Nat.le_of_ble_eq_true rfl) rfl h
set_option maxHeartbeats 4000000 in
theorem bX3_tryNow_0 {w : Wt} {K : Sg → Prop} {rc rs : Nat} {σ : Sg} (l0 : Option Nat) (h : G w mX3_tryNow (KV K) (rc) (rs) σ 2 [va_rf l0, .int 0] []) : G w mX3_tryNow (KV K) (rc) (rs) σ 0 [va_rf l0, U_] [] := by
  refine G_iconst (v := 0) 1 dX3_tryNow_0 (by decide) rfl ?_
  refine G_istore_n 2 [va_rf l0, .int 0] dX3_tryNow_1 (Nat.le_of_ble_eq_true rfl) rfl rfl ?_
  exact h
set_option maxHeartbeats 4000000 in
theorem bX3_tryNow_2 {w : Wt} {K : Sg → Prop} {rc rs : Nat} {σ : Sg} (l0 : Option Nat) (l1 : Int32) (h : ((343 ≤ l1 → G w mX3_tryNow (KV K) (rc) (rs) σ 29 [va_rf l0, .int 0] []) ∧ (¬ 343 ≤ l1 → ∃ a2, l0 = some a2 ∧ kd σ a2 = 13 ∧ ∃ a5, FR σ 19 a2 = some a5 ∧ kd σ a5 ∈ [1, 5] ∧ vp_in l1 (ln σ a5) ∧ ∃ a9, FR σ 20 a2 = some a9 ∧ kd σ a9 = 1 ∧ vp_in l1 (ln σ a9) ∧ ∀ s13, s13 = sAI σ a9 l1.toNatClampNeg (AI σ a5 l1.toNatClampNeg) → G w mX3_tryNow (KV K) (rc) (rs) s13 2 [va_rf l0, .int (l1 + 1)] []))) : G w mX3_tryNow (KV K) (rc) (rs) σ 2 [va_rf l0, .int l1] [] := by
  refine G_iload_n 3 dX3_tryNow_2 rfl rfl ?_
  refine G_sipush (v := 343) 6 dX3_tryNow_3 (by decide) rfl ?_
  refine G_icmp_ge 27 9 dX3_tryNow_6 (by decide) rfl (fun u1 => ?_) (fun u1 => ?_)
  · have h := h.1 u1
    refine G_iconst (v := 0) 28 dX3_tryNow_27 (by decide) rfl ?_
    refine G_istore_n 29 [va_rf l0, .int 0] dX3_tryNow_28 (Nat.le_of_ble_eq_true rfl) rfl rfl ?_
    exact h
  · have h := h.2 u1
    refine G_aload_n 10 dX3_tryNow_9 rfl rfl ?_
    obtain ⟨a2, e3, h⟩ := h
    obtain ⟨c4, h⟩ := h
    refine G_getR (f := 20) (a := a2) "" 13 dX3_tryNow_10 (Or.inl q2133) (Or.inl rfl) rfl e3 (hf20 c4) rfl ?_
    refine G_iload_n 14 dX3_tryNow_13 rfl rfl ?_
    refine G_aload_n 15 dX3_tryNow_14 rfl rfl ?_
    refine G_getR (f := 19) (a := a2) "" 18 dX3_tryNow_15 (Or.inl q2132) (Or.inl rfl) rfl e3 (hf19 c4) rfl ?_
    refine G_iload_n 19 dX3_tryNow_18 rfl rfl ?_
    obtain ⟨a5, e6, h⟩ := h
    obtain ⟨c7, h⟩ := h
    obtain ⟨c8, h⟩ := h
    refine G_iald (a := a5) 20 dX3_tryNow_19 rfl e6 c7 c8 ?_
    obtain ⟨a9, e10, h⟩ := h
    obtain ⟨c11, h⟩ := h
    obtain ⟨c12, h⟩ := h
    refine G_iast (a := a9) 21 dX3_tryNow_20 rfl e10 c11 c12 ?_
    generalize hs13 : sAI σ a9 l1.toNatClampNeg (AI σ a5 l1.toNatClampNeg) = s13
    have x14 : ∀ a, ¬ kd σ a = 0 → kd s13 a = kd σ a := by subst hs13; exact fun a _ => congrFun kd_sAI a
    have h := h s13 hs13.symm
    refine G_iinc 24 [va_rf l0, .int (l1 + 1)] dX3_tryNow_21 rfl rfl (Nat.le_of_ble_eq_true rfl) rfl rfl ?_
    refine G_goto 2 dX3_tryNow_24 (by decide) ?_
    exact h
set_option maxHeartbeats 4000000 in
theorem bX3_tryNow_29 {w : Wt} {K : Sg → Prop} {rc rs : Nat} {σ : Sg} (l0 : Option Nat) (l1 : Int32) (h : ∃ a1, l0 = some a1 ∧ kd σ a1 = 13 ∧ ∃ a4, FR σ 20 a1 = some a4 ∧ kd σ a4 ∈ [1, 5] ∧ vp_in 2 (ln σ a4) ∧ ((AI σ a4 (2 : Int32).toNatClampNeg ≤ l1 → K σ) ∧ (¬ AI σ a4 (2 : Int32).toNatClampNeg ≤ l1 → kd σ a4 = 1 ∧ vp_in ((153 + (19 * l1)) + 18) (ln σ a4) ∧ ∀ s11, s11 = sAI σ a4 ((153 + (19 * l1)) + 18).toNatClampNeg l1 → G w mX3_tryNow (KV K) (rc) (rs) s11 29 [va_rf l0, .int (l1 + 1)] []))) : G w mX3_tryNow (KV K) (rc) (rs) σ 29 [va_rf l0, .int l1] [] := by
  refine G_iload_n 30 dX3_tryNow_29 rfl rfl ?_
  refine G_aload_n 31 dX3_tryNow_30 rfl rfl ?_
  obtain ⟨a1, e2, h⟩ := h
  obtain ⟨c3, h⟩ := h
  refine G_getR (f := 20) (a := a1) "" 34 dX3_tryNow_31 (Or.inl q2133) (Or.inl rfl) rfl e2 (hf20 c3) rfl ?_
  refine G_iconst (v := 2) 35 dX3_tryNow_34 (by decide) rfl ?_
  obtain ⟨a4, e5, h⟩ := h
  obtain ⟨c6, h⟩ := h
  obtain ⟨c7, h⟩ := h
  refine G_iald (a := a4) 36 dX3_tryNow_35 rfl e5 c6 c7 ?_
  refine G_icmp_ge 62 39 dX3_tryNow_36 (by decide) rfl (fun u8 => ?_) (fun u8 => ?_)
  · have h := h.1 u8
    exact G_ret dX3_tryNow_62 rfl ⟨rfl, h⟩
  · have h := h.2 u8
    refine G_aload_n 40 dX3_tryNow_39 rfl rfl ?_
    refine G_getR (f := 20) (a := a1) "" 43 dX3_tryNow_40 (Or.inl q2133) (Or.inl rfl) rfl e2 (hf20 c3) rfl ?_
    refine G_sipush (v := 153) 46 dX3_tryNow_43 (by decide) rfl ?_
    refine G_bipush (v := 19) 48 dX3_tryNow_46 (by decide) rfl ?_
    refine G_iload_n 49 dX3_tryNow_48 rfl rfl ?_
    refine G_imul 50 dX3_tryNow_49 rfl ?_
    refine G_iadd 51 dX3_tryNow_50 rfl ?_
    refine G_bipush (v := 18) 53 dX3_tryNow_51 (by decide) rfl ?_
    refine G_iadd 54 dX3_tryNow_53 rfl ?_
    refine G_iload_n 55 dX3_tryNow_54 rfl rfl ?_
    obtain ⟨c9, h⟩ := h
    obtain ⟨c10, h⟩ := h
    refine G_iast (a := a4) 56 dX3_tryNow_55 rfl e5 c9 c10 ?_
    generalize hs11 : sAI σ a4 ((153 + (19 * l1)) + 18).toNatClampNeg l1 = s11
    have x12 : ∀ a, ¬ kd σ a = 0 → kd s11 a = kd σ a := by subst hs11; exact fun a _ => congrFun kd_sAI a
    have h := h s11 hs11.symm
    refine G_iinc 59 [va_rf l0, .int (l1 + 1)] dX3_tryNow_56 rfl rfl (Nat.le_of_ble_eq_true rfl) rfl rfl ?_
    refine G_goto 29 dX3_tryNow_59 (by decide) ?_
    exact h
theorem eX3_tryNow {w : Wt} {K : Sg → Prop} {σ : Sg} (l0 : Option Nat) (h : G w mX3_tryNow (KV K) 0 0 σ 0 [va_rf l0, U_] []) : CalV w mX3_tryNow σ [va_rf l0] K :=
  Cal.start 1 mX3_tryNow_plain (catR cat0) (Nat.le_of_ble_eq_true rfl) rfl h
set_option maxHeartbeats 4000000 in
theorem bX3_workOn_0 {w : Wt} {K : Sg → Prop} {rc rs : Nat} {σ : Sg} (l0 : Option Nat) (l1 : Option Nat) (h : G w mX3_workOn (KV K) (rc) (rs) σ 2 [va_rf l0, va_rf l1, .int 0] []) : G w mX3_workOn (KV K) (rc) (rs) σ 0 [va_rf l0, va_rf l1, U_] [] := by
  refine G_iconst (v := 0) 1 dX3_workOn_0 (by decide) rfl ?_
  refine G_istore_n 2 [va_rf l0, va_rf l1, .int 0] dX3_workOn_1 (Nat.le_of_ble_eq_true rfl) rfl rfl ?_
  exact h
set_option maxHeartbeats 4000000 in
theorem bX3_workOn_2 {w : Wt} {K : Sg → Prop} {rc rs : Nat} {σ : Sg} (l0 : Option Nat) (l1 : Option Nat) (l2 : Int32) (h : ((10 ≤ l2 → G w mX3_workOn (KV K) (rc) (rs) σ 21 [va_rf l0, va_rf l1, .int 0] []) ∧ (¬ 10 ≤ l2 → ∃ a2, l1 = some a2 ∧ kd σ a2 = 1 ∧ vp_in l2 (ln σ a2) ∧ ∀ s6, s6 = sAI σ a2 l2.toNatClampNeg (-9) → G w mX3_workOn (KV K) (rc) (rs) s6 2 [va_rf l0, va_rf l1, .int (l2 + 1)] []))) : G w mX3_workOn (KV K) (rc) (rs) σ 2 [va_rf l0, va_rf l1, .int l2] [] := by
  refine G_iload_n 3 dX3_workOn_2 rfl rfl ?_
  refine G_bipush (v := 10) 5 dX3_workOn_3 (by decide) rfl ?_
  refine G_icmp_ge 19 8 dX3_workOn_5 (by decide) rfl (fun u1 => ?_) (fun u1 => ?_)
  · have h := h.1 u1
    refine G_iconst (v := 0) 20 dX3_workOn_19 (by decide) rfl ?_
    refine G_istore_n 21 [va_rf l0, va_rf l1, .int 0] dX3_workOn_20 (Nat.le_of_ble_eq_true rfl) rfl rfl ?_
    exact h
  · have h := h.2 u1
    refine G_aload_n 9 dX3_workOn_8 rfl rfl ?_
    refine G_iload_n 10 dX3_workOn_9 rfl rfl ?_
    refine G_bipush (v := (-9)) 12 dX3_workOn_10 (by decide) rfl ?_
    obtain ⟨a2, e3, h⟩ := h
    obtain ⟨c4, h⟩ := h
    obtain ⟨c5, h⟩ := h
    refine G_iast (a := a2) 13 dX3_workOn_12 rfl e3 c4 c5 ?_
    generalize hs6 : sAI σ a2 l2.toNatClampNeg (-9) = s6
    have x7 : ∀ a, ¬ kd σ a = 0 → kd s6 a = kd σ a := by subst hs6; exact fun a _ => congrFun kd_sAI a
    have h := h s6 hs6.symm
    refine G_iinc 16 [va_rf l0, va_rf l1, .int (l2 + 1)] dX3_workOn_13 rfl rfl (Nat.le_of_ble_eq_true rfl) rfl rfl ?_
    refine G_goto 2 dX3_workOn_16 (by decide) ?_
    exact h
set_option maxHeartbeats 4000000 in
theorem bX3_workOn_21 {w : Wt} {K : Sg → Prop} {rc rs : Nat} {σ : Sg} (l0 : Option Nat) (l1 : Option Nat) (l2 : Int32) (h : ∃ a1, l0 = some a1 ∧ kd σ a1 = 13 ∧ CalI w mX3_goesOn σ [va_rf l0, va_rf (FR σ 20 a1)] (fun s4 x5 => Ext σ s4 → ((x5 = 0 → K s4) ∧ (¬ x5 = 0 → ∃ a9, FR s4 20 a1 = some a9 ∧ kd s4 a9 ∈ [1, 5] ∧ vp_in 4 (ln s4 a9) ∧ vp_in 3 (ln s4 a9) ∧ CalI w mX3_of s4 [va_rf (FR s4 20 a1), .int (AI s4 a9 (3 : Int32).toNatClampNeg), .int 18] (fun s14 x15 => Ext s4 s14 → ∃ a18, l1 = some a18 ∧ kd s14 a18 = 1 ∧ vp_in x15 (ln s14 a18) ∧ ∀ s22, s22 = sAI s14 a18 x15.toNatClampNeg (l2 + (AI s4 a9 (4 : Int32).toNatClampNeg)) → CalV w mX3_finish s22 [va_rf l0, va_rf (FR s22 20 a1)] (fun s24 => Ext s22 s24 → G w mX3_workOn (KV K) (rc) (rs) s24 21 [va_rf l0, va_rf l1, .int (l2 + (AI s4 a9 (4 : Int32).toNatClampNeg))] [])))))) : G w mX3_workOn (KV K) (rc) (rs) σ 21 [va_rf l0, va_rf l1, .int l2] [] := by
  refine G_aload_n 22 dX3_workOn_21 rfl rfl ?_
  refine G_aload_n 23 dX3_workOn_22 rfl rfl ?_
  obtain ⟨a1, e2, h⟩ := h
  obtain ⟨c3, h⟩ := h
  refine G_getR (f := 20) (a := a1) "" 26 dX3_workOn_23 (Or.inl q2133) (Or.inl rfl) rfl e2 (hf20 c3) rfl ?_
  refine G_invV (N := mX3_goesOn) (As := [va_rf (FR σ 20 a1)]) (st := []) (t := l0) (b := a1) (rc) (rs) 29 dX3_workOn_26 q2283 q2285 qs24 q44 q2286 rfl rfl mX3_goesOn_args ⟨Nat.le_of_ble_eq_true rfl, Nat.le_of_ble_eq_true rfl⟩ rfl (Nat.zero_le _) e2 (rk13 c3) (le_b mX3_goesOn_c (Nat.le_refl _)) (le_b mX3_goesOn_s (Nat.le_refl _)) rfl (Cal.mono h ?_)
  rintro s4 v ⟨x5, rfl, h⟩ hx6
  have h := h hx6
  have x7 := hx6.x
  show G w mX3_workOn (KV K) (rc) (rs) s4 29 [va_rf l0, va_rf l1, .int l2] [.int x5]
  refine G_if_eq 70 32 dX3_workOn_29 (by decide) rfl (fun u8 => ?_) (fun u8 => ?_)
  · have h := h.1 u8
    exact G_ret dX3_workOn_70 rfl ⟨rfl, h⟩
  · have h := h.2 u8
    refine G_iload_n 33 dX3_workOn_32 rfl rfl ?_
    refine G_aload_n 34 dX3_workOn_33 rfl rfl ?_
    have c3 := kdE x7 c3 (by decide)
    refine G_getR (f := 20) (a := a1) "" 37 dX3_workOn_34 (Or.inl q2133) (Or.inl rfl) rfl e2 (hf20 c3) rfl ?_
    refine G_iconst (v := 4) 38 dX3_workOn_37 (by decide) rfl ?_
    obtain ⟨a9, e10, h⟩ := h
    obtain ⟨c11, h⟩ := h
    obtain ⟨c12, h⟩ := h
    refine G_iald (a := a9) 39 dX3_workOn_38 rfl e10 c11 c12 ?_
    refine G_iadd 40 dX3_workOn_39 rfl ?_
    refine G_istore_n 41 [va_rf l0, va_rf l1, .int (l2 + (AI s4 a9 (4 : Int32).toNatClampNeg))] dX3_workOn_40 (Nat.le_of_ble_eq_true rfl) rfl rfl ?_
    refine G_aload_n 42 dX3_workOn_41 rfl rfl ?_
    refine G_aload_n 43 dX3_workOn_42 rfl rfl ?_
    refine G_getR (f := 20) (a := a1) "" 46 dX3_workOn_43 (Or.inl q2133) (Or.inl rfl) rfl e2 (hf20 c3) rfl ?_
    refine G_aload_n 47 dX3_workOn_46 rfl rfl ?_
    refine G_getR (f := 20) (a := a1) "" 50 dX3_workOn_47 (Or.inl q2133) (Or.inl rfl) rfl e2 (hf20 c3) rfl ?_
    refine G_iconst (v := 3) 51 dX3_workOn_50 (by decide) rfl ?_
    obtain ⟨c13, h⟩ := h
    refine G_iald (a := a9) 52 dX3_workOn_51 rfl e10 c11 c13 ?_
    refine G_bipush (v := 18) 54 dX3_workOn_52 (by decide) rfl ?_
    refine G_invS (N := mX3_of) (As := [va_rf (FR s4 20 a1), .int (AI s4 a9 (3 : Int32).toNatClampNeg), .int 18]) (st := [va_rf l1]) (rc) (rs) "" 57 dX3_workOn_54 (Or.inl q2246) q2247 q44 q2248 rfl mX3_of_args ⟨Nat.le_of_ble_eq_true rfl, Nat.le_of_ble_eq_true rfl⟩ rfl (Nat.le_trans (w_R w_0) (Nat.le_of_ble_eq_true rfl)) (le_b mX3_of_c (Nat.le_refl _)) (le_b mX3_of_s (Nat.le_refl _)) rfl (Cal.mono h ?_)
    rintro s14 v ⟨x15, rfl, h⟩ hx16
    have h := h hx16
    have x17 := hx16.x
    show G w mX3_workOn (KV K) (rc) (rs) s14 57 [va_rf l0, va_rf l1, .int (l2 + (AI s4 a9 (4 : Int32).toNatClampNeg))] [.int x15, va_rf l1]
    refine G_iload_n 58 dX3_workOn_57 rfl rfl ?_
    obtain ⟨a18, e19, h⟩ := h
    obtain ⟨c20, h⟩ := h
    obtain ⟨c21, h⟩ := h
    refine G_iast (a := a18) 59 dX3_workOn_58 rfl e19 c20 c21 ?_
    generalize hs22 : sAI s14 a18 x15.toNatClampNeg (l2 + (AI s4 a9 (4 : Int32).toNatClampNeg)) = s22
    have x23 : ∀ a, ¬ kd s14 a = 0 → kd s22 a = kd s14 a := by subst hs22; exact fun a _ => congrFun kd_sAI a
    have h := h s22 hs22.symm
    refine G_aload_n 60 dX3_workOn_59 rfl rfl ?_
    refine G_aload_n 61 dX3_workOn_60 rfl rfl ?_
    have c3 := kdE x17 c3 (by decide)
    have c3 := kdE x23 c3 (by decide)
    refine G_getR (f := 20) (a := a1) "" 64 dX3_workOn_61 (Or.inl q2133) (Or.inl rfl) rfl e2 (hf20 c3) rfl ?_
    refine G_invV (N := mX3_finish) (As := [va_rf (FR s22 20 a1)]) (st := []) (t := l0) (b := a1) (rc) (rs) 67 dX3_workOn_64 q2312 q2314 qs26 q44 q2315 rfl rfl mX3_finish_args ⟨Nat.le_of_ble_eq_true rfl, Nat.le_of_ble_eq_true rfl⟩ rfl (Nat.zero_le _) e2 (rk13 c3) (le_b mX3_finish_c (Nat.le_refl _)) (le_b mX3_finish_s (Nat.le_refl _)) rfl (Cal.mono h ?_)
    rintro s24 v ⟨rfl, h⟩ hx25
    have h := h hx25
    have x26 := hx25.x
    show G w mX3_workOn (KV K) (rc) (rs) s24 67 [va_rf l0, va_rf l1, .int (l2 + (AI s4 a9 (4 : Int32).toNatClampNeg))] []
    refine G_goto 21 dX3_workOn_67 (by decide) ?_
    exact h
theorem eX3_workOn {w : Wt} {K : Sg → Prop} {σ : Sg} (l0 : Option Nat) (l1 : Option Nat) (h : G w mX3_workOn (KV K) 0 0 σ 0 [va_rf l0, va_rf l1, U_] []) : CalV w mX3_workOn σ [va_rf l0, va_rf l1] K :=
  Cal.start 1 mX3_workOn_plain (catR (catR cat0)) (Nat.le_of_ble_eq_true rfl) rfl h
set_option maxHeartbeats 4000000 in
theorem bX3_moved_0 {w : Wt} {K : Sg → Int32 → Prop} {rc rs : Nat} {σ : Sg} (l0 : Option Nat) (l1 : Int32) (h : ∃ a1, l0 = some a1 ∧ kd σ a1 = 13 ∧ ∀ s4, s4 = sFI σ 18 a1 0 → CalI w mX3_isOrder s4 [va_rf l0, .int l1] (fun s6 x7 => Ext s4 s6 → ((¬ x7 = 0 → CalI w mX3_of s6 [va_rf (FR s6 19 a1), .int l1, .int 4] (fun s11 x12 => Ext s6 s11 → ((¬ x12 = 1 → CalV w mX3_tryNow s11 [va_rf l0] (fun s16 => Ext s11 s16 → CalV w mX3_workOn s16 [va_rf l0, va_rf (FR s16 28 a1)] (fun s19 => Ext s16 s19 → CalV w mX3_tryNow s19 [va_rf l0] (fun s22 => Ext s19 s22 → CalI w mX3_hurryIn s22 [va_rf l0, va_rf (FR s22 20 a1), .int l1] (fun s25 x26 => Ext s22 s25 → CalV w mX3_workOn s25 [va_rf l0, va_rf (FR s25 29 a1)] (fun s29 => Ext s25 s29 → ((x26 < 0 → G w mX3_moved (KI K) (rc) (rs) s29 81 [va_rf l0, .int l1, .int x26, .int 0, .int 0, .int 0] []) ∧ (¬ x26 < 0 → G w mX3_moved (KI K) (rc) (rs) s29 81 [va_rf l0, .int l1, .int x26, .int 0, .int 1, .int 0] [])))))))) ∧ (x12 = 1 → K s11 (-2))))) ∧ (x7 = 0 → K s6 (-1))))) : G w mX3_moved (KI K) (rc) (rs) σ 0 [va_rf l0, .int l1, U_, U_, U_, U_] [] := by
  refine G_aload_n 1 dX3_moved_0 rfl rfl ?_
  refine G_iconst (v := 0) 2 dX3_moved_1 (by decide) rfl ?_
  obtain ⟨a1, e2, h⟩ := h
  obtain ⟨c3, h⟩ := h
  refine G_putI (f := 18) (a := a1) "" 5 dX3_moved_2 (Or.inl q2131) (Or.inl rfl) rfl e2 (hp18 c3) (nk18 c3) (Or.inl rfl) rfl rfl rfl ?_
  generalize hs4 : sFI σ 18 a1 0 = s4
  have x5 : ∀ a, ¬ kd σ a = 0 → kd s4 a = kd σ a := by subst hs4; exact fun a _ => congrFun kd_sFI a
  have h := h s4 hs4.symm
  refine G_aload_n 6 dX3_moved_5 rfl rfl ?_
  refine G_iload_n 7 dX3_moved_6 rfl rfl ?_
  have c3 := kdE x5 c3 (by decide)
  refine G_invV (N := mX3_isOrder) (As := [.int l1]) (st := []) (t := l0) (b := a1) (rc) (rs) 10 dX3_moved_7 q2260 q2262 qs21 q44 q2263 rfl rfl mX3_isOrder_args ⟨Nat.le_of_ble_eq_true rfl, Nat.le_of_ble_eq_true rfl⟩ rfl (Nat.zero_le _) e2 (rk13 c3) (le_b mX3_isOrder_c (Nat.le_refl _)) (le_b mX3_isOrder_s (Nat.le_refl _)) rfl (Cal.mono h ?_)
  rintro s6 v ⟨x7, rfl, h⟩ hx8
  have h := h hx8
  have x9 := hx8.x
  show G w mX3_moved (KI K) (rc) (rs) s6 10 [va_rf l0, .int l1, U_, U_, U_, U_] [.int x7]
  refine G_if_ne 15 13 dX3_moved_10 (by decide) rfl (fun u10 => ?_) (fun u10 => ?_)
  · have h := h.1 u10
    refine G_aload_n 16 dX3_moved_15 rfl rfl ?_
    have c3 := kdE x9 c3 (by decide)
    refine G_getR (f := 19) (a := a1) "" 19 dX3_moved_16 (Or.inl q2132) (Or.inl rfl) rfl e2 (hf19 c3) rfl ?_
    refine G_iload_n 20 dX3_moved_19 rfl rfl ?_
    refine G_iconst (v := 4) 21 dX3_moved_20 (by decide) rfl ?_
    refine G_invS (N := mX3_of) (As := [va_rf (FR s6 19 a1), .int l1, .int 4]) (st := []) (rc) (rs) "" 24 dX3_moved_21 (Or.inl q2246) q2247 q44 q2248 rfl mX3_of_args ⟨Nat.le_of_ble_eq_true rfl, Nat.le_of_ble_eq_true rfl⟩ rfl (Nat.zero_le _) (le_b mX3_of_c (Nat.le_refl _)) (le_b mX3_of_s (Nat.le_refl _)) rfl (Cal.mono h ?_)
    rintro s11 v ⟨x12, rfl, h⟩ hx13
    have h := h hx13
    have x14 := hx13.x
    show G w mX3_moved (KI K) (rc) (rs) s11 24 [va_rf l0, .int l1, U_, U_, U_, U_] [.int x12]
    refine G_iconst (v := 1) 25 dX3_moved_24 (by decide) rfl ?_
    refine G_icmp_ne 31 28 dX3_moved_25 (by decide) rfl (fun u15 => ?_) (fun u15 => ?_)
    · have h := h.1 u15
      refine G_aload_n 32 dX3_moved_31 rfl rfl ?_
      have c3 := kdE x14 c3 (by decide)
      refine G_invV (N := mX3_tryNow) (As := []) (st := []) (t := l0) (b := a1) (rc) (rs) 35 dX3_moved_32 q2373 q2375 qs28 q44 q2376 rfl rfl mX3_tryNow_args ⟨Nat.le_of_ble_eq_true rfl, Nat.le_of_ble_eq_true rfl⟩ rfl (Nat.zero_le _) e2 (rk13 c3) (le_b mX3_tryNow_c (Nat.le_refl _)) (le_b mX3_tryNow_s (Nat.le_refl _)) rfl (Cal.mono h ?_)
      rintro s16 v ⟨rfl, h⟩ hx17
      have h := h hx17
      have x18 := hx17.x
      show G w mX3_moved (KI K) (rc) (rs) s16 35 [va_rf l0, .int l1, U_, U_, U_, U_] []
      refine G_aload_n 36 dX3_moved_35 rfl rfl ?_
      refine G_aload_n 37 dX3_moved_36 rfl rfl ?_
      have c3 := kdE x18 c3 (by decide)
      refine G_getR (f := 28) (a := a1) "" 40 dX3_moved_37 (Or.inl q2141) (Or.inl rfl) rfl e2 (hf28 c3) rfl ?_
      refine G_invV (N := mX3_workOn) (As := [va_rf (FR s16 28 a1)]) (st := []) (t := l0) (b := a1) (rc) (rs) 43 dX3_moved_40 q2377 q2379 qs29 q44 q2380 rfl rfl mX3_workOn_args ⟨Nat.le_of_ble_eq_true rfl, Nat.le_of_ble_eq_true rfl⟩ rfl (Nat.zero_le _) e2 (rk13 c3) (le_b mX3_workOn_c (Nat.le_refl _)) (le_b mX3_workOn_s (Nat.le_refl _)) rfl (Cal.mono h ?_)
      rintro s19 v ⟨rfl, h⟩ hx20
      have h := h hx20
      have x21 := hx20.x
      show G w mX3_moved (KI K) (rc) (rs) s19 43 [va_rf l0, .int l1, U_, U_, U_, U_] []
      refine G_aload_n 44 dX3_moved_43 rfl rfl ?_
      have c3 := kdE x21 c3 (by decide)
      refine G_invV (N := mX3_tryNow) (As := []) (st := []) (t := l0) (b := a1) (rc) (rs) 47 dX3_moved_44 q2373 q2375 qs28 q44 q2376 rfl rfl mX3_tryNow_args ⟨Nat.le_of_ble_eq_true rfl, Nat.le_of_ble_eq_true rfl⟩ rfl (Nat.zero_le _) e2 (rk13 c3) (le_b mX3_tryNow_c (Nat.le_refl _)) (le_b mX3_tryNow_s (Nat.le_refl _)) rfl (Cal.mono h ?_)
      rintro s22 v ⟨rfl, h⟩ hx23
      have h := h hx23
      have x24 := hx23.x
      show G w mX3_moved (KI K) (rc) (rs) s22 47 [va_rf l0, .int l1, U_, U_, U_, U_] []
      refine G_aload_n 48 dX3_moved_47 rfl rfl ?_
      refine G_aload_n 49 dX3_moved_48 rfl rfl ?_
      have c3 := kdE x24 c3 (by decide)
      refine G_getR (f := 20) (a := a1) "" 52 dX3_moved_49 (Or.inl q2133) (Or.inl rfl) rfl e2 (hf20 c3) rfl ?_
      refine G_iload_n 53 dX3_moved_52 rfl rfl ?_
      refine G_invV (N := mX3_hurryIn) (As := [va_rf (FR s22 20 a1), .int l1]) (st := []) (t := l0) (b := a1) (rc) (rs) 56 dX3_moved_53 q2264 q2266 qs22 q44 q2267 rfl rfl mX3_hurryIn_args ⟨Nat.le_of_ble_eq_true rfl, Nat.le_of_ble_eq_true rfl⟩ rfl (Nat.zero_le _) e2 (rk13 c3) (le_b mX3_hurryIn_c (Nat.le_refl _)) (le_b mX3_hurryIn_s (Nat.le_refl _)) rfl (Cal.mono h ?_)
      rintro s25 v ⟨x26, rfl, h⟩ hx27
      have h := h hx27
      have x28 := hx27.x
      show G w mX3_moved (KI K) (rc) (rs) s25 56 [va_rf l0, .int l1, U_, U_, U_, U_] [.int x26]
      refine G_istore_n 57 [va_rf l0, .int l1, .int x26, U_, U_, U_] dX3_moved_56 (Nat.le_of_ble_eq_true rfl) rfl rfl ?_
      refine G_aload_n 58 dX3_moved_57 rfl rfl ?_
      refine G_aload_n 59 dX3_moved_58 rfl rfl ?_
      have c3 := kdE x28 c3 (by decide)
      refine G_getR (f := 29) (a := a1) "" 62 dX3_moved_59 (Or.inl q2142) (Or.inl rfl) rfl e2 (hf29 c3) rfl ?_
      refine G_invV (N := mX3_workOn) (As := [va_rf (FR s25 29 a1)]) (st := []) (t := l0) (b := a1) (rc) (rs) 65 dX3_moved_62 q2377 q2379 qs29 q44 q2380 rfl rfl mX3_workOn_args ⟨Nat.le_of_ble_eq_true rfl, Nat.le_of_ble_eq_true rfl⟩ rfl (Nat.zero_le _) e2 (rk13 c3) (le_b mX3_workOn_c (Nat.le_refl _)) (le_b mX3_workOn_s (Nat.le_refl _)) rfl (Cal.mono h ?_)
      rintro s29 v ⟨rfl, h⟩ hx30
      have h := h hx30
      have x31 := hx30.x
      show G w mX3_moved (KI K) (rc) (rs) s29 65 [va_rf l0, .int l1, .int x26, U_, U_, U_] []
      refine G_iconst (v := 0) 66 dX3_moved_65 (by decide) rfl ?_
      refine G_istore_n 67 [va_rf l0, .int l1, .int x26, .int 0, U_, U_] dX3_moved_66 (Nat.le_of_ble_eq_true rfl) rfl rfl ?_
      refine G_iload_n 68 dX3_moved_67 rfl rfl ?_
      refine G_if_lt 75 71 dX3_moved_68 (by decide) rfl (fun u32 => ?_) (fun u32 => ?_)
      · have h := h.1 u32
        refine G_iconst (v := 0) 76 dX3_moved_75 (by decide) rfl ?_
        refine G_istore 78 [va_rf l0, .int l1, .int x26, .int 0, .int 0, U_] dX3_moved_76 (Nat.le_of_ble_eq_true rfl) rfl rfl ?_
        refine G_iconst (v := 0) 79 dX3_moved_78 (by decide) rfl ?_
        refine G_istore 81 [va_rf l0, .int l1, .int x26, .int 0, .int 0, .int 0] dX3_moved_79 (Nat.le_of_ble_eq_true rfl) rfl rfl ?_
        exact h
      · have h := h.2 u32
        refine G_iconst (v := 1) 72 dX3_moved_71 (by decide) rfl ?_
        refine G_goto 76 dX3_moved_72 (by decide) ?_
        refine G_istore 78 [va_rf l0, .int l1, .int x26, .int 0, .int 1, U_] dX3_moved_76 (Nat.le_of_ble_eq_true rfl) rfl rfl ?_
        refine G_iconst (v := 0) 79 dX3_moved_78 (by decide) rfl ?_
        refine G_istore 81 [va_rf l0, .int l1, .int x26, .int 0, .int 1, .int 0] dX3_moved_79 (Nat.le_of_ble_eq_true rfl) rfl rfl ?_
        exact h
    · have h := h.2 u15
      refine G_bipush (v := (-2)) 30 dX3_moved_28 (by decide) rfl ?_
      exact G_iret dX3_moved_30 rfl ⟨_, rfl, h⟩
  · have h := h.2 u10
    refine G_iconst (v := (-1)) 14 dX3_moved_13 (by decide) rfl ?_
    exact G_iret dX3_moved_14 rfl ⟨_, rfl, h⟩
set_option maxHeartbeats 4000000 in
theorem bX3_moved_81 {w : Wt} {K : Sg → Int32 → Prop} {rc rs : Nat} {σ : Sg} (l0 : Option Nat) (l1 : Int32) (l2 : Int32) (l3 : Int32) (l4 : Int32) (l5 : Int32) (h : ∃ a1, l0 = some a1 ∧ kd σ a1 = 13 ∧ ∃ a4, FR σ 19 a1 = some a4 ∧ kd σ a4 ∈ [1, 5] ∧ vp_in 2 (ln σ a4) ∧ ((AI σ a4 (2 : Int32).toNatClampNeg ≤ l5 → ((l4 = 0 → K σ (-9)) ∧ (¬ l4 = 0 → K σ (100000 + l3)))) ∧ (¬ AI σ a4 (2 : Int32).toNatClampNeg ≤ l5 → ((l4 = 0 → ((¬ l5 = l1 → ∃ a12, FR σ 29 a1 = some a12 ∧ kd σ a12 ∈ [1, 5] ∧ vp_in l5 (ln σ a12) ∧ ∃ a16, FR σ 28 a1 = some a16 ∧ kd σ a16 ∈ [1, 5] ∧ vp_in l5 (ln σ a16) ∧ G w mX3_moved (KI K) (rc) (rs) σ 81 [va_rf l0, .int l1, .int l2, .int (l3 + ((AI σ a12 l5.toNatClampNeg) - (AI σ a16 l5.toNatClampNeg))), .int 0, .int (l5 + 1)] []) ∧ (l5 = l1 → G w mX3_moved (KI K) (rc) (rs) σ 81 [va_rf l0, .int l1, .int l2, .int (l3 + 0), .int 0, .int (l5 + 1)] []))) ∧ (¬ l4 = 0 → ∃ a20, FR σ 28 a1 = some a20 ∧ kd σ a20 ∈ [1, 5] ∧ vp_in l5 (ln σ a20) ∧ ((AI σ a20 l5.toNatClampNeg = (-9) → ((¬ l5 = l1 → ∃ a26, FR σ 29 a1 = some a26 ∧ kd σ a26 ∈ [1, 5] ∧ vp_in l5 (ln σ a26) ∧ G w mX3_moved (KI K) (rc) (rs) σ 81 [va_rf l0, .int l1, .int l2, .int (l3 + ((AI σ a26 l5.toNatClampNeg) - (AI σ a20 l5.toNatClampNeg))), .int 0, .int (l5 + 1)] []) ∧ (l5 = l1 → G w mX3_moved (KI K) (rc) (rs) σ 81 [va_rf l0, .int l1, .int l2, .int (l3 + 0), .int 0, .int (l5 + 1)] []))) ∧ (¬ AI σ a20 l5.toNatClampNeg = (-9) → ∃ a30, FR σ 29 a1 = some a30 ∧ kd σ a30 ∈ [1, 5] ∧ vp_in l5 (ln σ a30) ∧ ((AI σ a30 l5.toNatClampNeg = (-9) → ((¬ l5 = l1 → G w mX3_moved (KI K) (rc) (rs) σ 81 [va_rf l0, .int l1, .int l2, .int (l3 + ((AI σ a30 l5.toNatClampNeg) - (AI σ a20 l5.toNatClampNeg))), .int 0, .int (l5 + 1)] []) ∧ (l5 = l1 → G w mX3_moved (KI K) (rc) (rs) σ 81 [va_rf l0, .int l1, .int l2, .int (l3 + 0), .int 0, .int (l5 + 1)] []))) ∧ (¬ AI σ a30 l5.toNatClampNeg = (-9) → ((¬ l5 = l1 → G w mX3_moved (KI K) (rc) (rs) σ 81 [va_rf l0, .int l1, .int l2, .int (l3 + ((AI σ a30 l5.toNatClampNeg) - (AI σ a20 l5.toNatClampNeg))), .int 1, .int (l5 + 1)] []) ∧ (l5 = l1 → G w mX3_moved (KI K) (rc) (rs) σ 81 [va_rf l0, .int l1, .int l2, .int (l3 + 0), .int 1, .int (l5 + 1)] []))))))))))) : G w mX3_moved (KI K) (rc) (rs) σ 81 [va_rf l0, .int l1, .int l2, .int l3, .int l4, .int l5] [] := by
  refine G_iload 83 dX3_moved_81 rfl rfl ?_
  refine G_aload_n 84 dX3_moved_83 rfl rfl ?_
  obtain ⟨a1, e2, h⟩ := h
  obtain ⟨c3, h⟩ := h
  refine G_getR (f := 19) (a := a1) "" 87 dX3_moved_84 (Or.inl q2132) (Or.inl rfl) rfl e2 (hf19 c3) rfl ?_
  refine G_iconst (v := 2) 88 dX3_moved_87 (by decide) rfl ?_
  obtain ⟨a4, e5, h⟩ := h
  obtain ⟨c6, h⟩ := h
  obtain ⟨c7, h⟩ := h
  refine G_iald (a := a4) 89 dX3_moved_88 rfl e5 c6 c7 ?_
  refine G_icmp_ge 162 92 dX3_moved_89 (by decide) rfl (fun u8 => ?_) (fun u8 => ?_)
  · have h := h.1 u8
    refine G_iload 164 dX3_moved_162 rfl rfl ?_
    refine G_if_eq 174 167 dX3_moved_164 (by decide) rfl (fun u9 => ?_) (fun u9 => ?_)
    · have h := h.1 u9
      refine G_bipush (v := (-9)) 176 dX3_moved_174 (by decide) rfl ?_
      exact G_iret dX3_moved_176 rfl ⟨_, rfl, h⟩
    · have h := h.2 u9
      refine G_ldc (v := 100000) 169 dX3_moved_167 q2385 rfl ?_
      refine G_iload_n 170 dX3_moved_169 rfl rfl ?_
      refine G_iadd 171 dX3_moved_170 rfl ?_
      refine G_goto 176 dX3_moved_171 (by decide) ?_
      exact G_iret dX3_moved_176 rfl ⟨_, rfl, h⟩
  · have h := h.2 u8
    refine G_iload 94 dX3_moved_92 rfl rfl ?_
    refine G_if_eq 125 97 dX3_moved_94 (by decide) rfl (fun u10 => ?_) (fun u10 => ?_)
    · have h := h.1 u10
      refine G_iconst (v := 0) 126 dX3_moved_125 (by decide) rfl ?_
      refine G_istore 128 [va_rf l0, .int l1, .int l2, .int l3, .int 0, .int l5] dX3_moved_126 (Nat.le_of_ble_eq_true rfl) rfl rfl ?_
      refine G_iload_n 129 dX3_moved_128 rfl rfl ?_
      refine G_iload 131 dX3_moved_129 rfl rfl ?_
      refine G_iload_n 132 dX3_moved_131 rfl rfl ?_
      refine G_icmp_ne 139 135 dX3_moved_132 (by decide) rfl (fun u11 => ?_) (fun u11 => ?_)
      · have h := h.1 u11
        refine G_aload_n 140 dX3_moved_139 rfl rfl ?_
        refine G_getR (f := 29) (a := a1) "" 143 dX3_moved_140 (Or.inl q2142) (Or.inl rfl) rfl e2 (hf29 c3) rfl ?_
        refine G_iload 145 dX3_moved_143 rfl rfl ?_
        obtain ⟨a12, e13, h⟩ := h
        obtain ⟨c14, h⟩ := h
        obtain ⟨c15, h⟩ := h
        refine G_iald (a := a12) 146 dX3_moved_145 rfl e13 c14 c15 ?_
        refine G_aload_n 147 dX3_moved_146 rfl rfl ?_
        refine G_getR (f := 28) (a := a1) "" 150 dX3_moved_147 (Or.inl q2141) (Or.inl rfl) rfl e2 (hf28 c3) rfl ?_
        refine G_iload 152 dX3_moved_150 rfl rfl ?_
        obtain ⟨a16, e17, h⟩ := h
        obtain ⟨c18, h⟩ := h
        obtain ⟨c19, h⟩ := h
        refine G_iald (a := a16) 153 dX3_moved_152 rfl e17 c18 c19 ?_
        refine G_isub 154 dX3_moved_153 rfl ?_
        refine G_iadd 155 dX3_moved_154 rfl ?_
        refine G_istore_n 156 [va_rf l0, .int l1, .int l2, .int (l3 + ((AI σ a12 l5.toNatClampNeg) - (AI σ a16 l5.toNatClampNeg))), .int 0, .int l5] dX3_moved_155 (Nat.le_of_ble_eq_true rfl) rfl rfl ?_
        refine G_iinc 159 [va_rf l0, .int l1, .int l2, .int (l3 + ((AI σ a12 l5.toNatClampNeg) - (AI σ a16 l5.toNatClampNeg))), .int 0, .int (l5 + 1)] dX3_moved_156 rfl rfl (Nat.le_of_ble_eq_true rfl) rfl rfl ?_
        refine G_goto 81 dX3_moved_159 (by decide) ?_
        exact h
      · have h := h.2 u11
        refine G_iconst (v := 0) 136 dX3_moved_135 (by decide) rfl ?_
        refine G_goto 154 dX3_moved_136 (by decide) ?_
        refine G_iadd 155 dX3_moved_154 rfl ?_
        refine G_istore_n 156 [va_rf l0, .int l1, .int l2, .int (l3 + 0), .int 0, .int l5] dX3_moved_155 (Nat.le_of_ble_eq_true rfl) rfl rfl ?_
        refine G_iinc 159 [va_rf l0, .int l1, .int l2, .int (l3 + 0), .int 0, .int (l5 + 1)] dX3_moved_156 rfl rfl (Nat.le_of_ble_eq_true rfl) rfl rfl ?_
        refine G_goto 81 dX3_moved_159 (by decide) ?_
        exact h
    · have h := h.2 u10
      refine G_aload_n 98 dX3_moved_97 rfl rfl ?_
      refine G_getR (f := 28) (a := a1) "" 101 dX3_moved_98 (Or.inl q2141) (Or.inl rfl) rfl e2 (hf28 c3) rfl ?_
      refine G_iload 103 dX3_moved_101 rfl rfl ?_
      obtain ⟨a20, e21, h⟩ := h
      obtain ⟨c22, h⟩ := h
      obtain ⟨c23, h⟩ := h
      refine G_iald (a := a20) 104 dX3_moved_103 rfl e21 c22 c23 ?_
      refine G_bipush (v := (-9)) 106 dX3_moved_104 (by decide) rfl ?_
      refine G_icmp_eq 125 109 dX3_moved_106 (by decide) rfl (fun u24 => ?_) (fun u24 => ?_)
      · have h := h.1 u24
        refine G_iconst (v := 0) 126 dX3_moved_125 (by decide) rfl ?_
        refine G_istore 128 [va_rf l0, .int l1, .int l2, .int l3, .int 0, .int l5] dX3_moved_126 (Nat.le_of_ble_eq_true rfl) rfl rfl ?_
        refine G_iload_n 129 dX3_moved_128 rfl rfl ?_
        refine G_iload 131 dX3_moved_129 rfl rfl ?_
        refine G_iload_n 132 dX3_moved_131 rfl rfl ?_
        refine G_icmp_ne 139 135 dX3_moved_132 (by decide) rfl (fun u25 => ?_) (fun u25 => ?_)
        · have h := h.1 u25
          refine G_aload_n 140 dX3_moved_139 rfl rfl ?_
          refine G_getR (f := 29) (a := a1) "" 143 dX3_moved_140 (Or.inl q2142) (Or.inl rfl) rfl e2 (hf29 c3) rfl ?_
          refine G_iload 145 dX3_moved_143 rfl rfl ?_
          obtain ⟨a26, e27, h⟩ := h
          obtain ⟨c28, h⟩ := h
          obtain ⟨c29, h⟩ := h
          refine G_iald (a := a26) 146 dX3_moved_145 rfl e27 c28 c29 ?_
          refine G_aload_n 147 dX3_moved_146 rfl rfl ?_
          refine G_getR (f := 28) (a := a1) "" 150 dX3_moved_147 (Or.inl q2141) (Or.inl rfl) rfl e2 (hf28 c3) rfl ?_
          refine G_iload 152 dX3_moved_150 rfl rfl ?_
          refine G_iald (a := a20) 153 dX3_moved_152 rfl e21 c22 c23 ?_
          refine G_isub 154 dX3_moved_153 rfl ?_
          refine G_iadd 155 dX3_moved_154 rfl ?_
          refine G_istore_n 156 [va_rf l0, .int l1, .int l2, .int (l3 + ((AI σ a26 l5.toNatClampNeg) - (AI σ a20 l5.toNatClampNeg))), .int 0, .int l5] dX3_moved_155 (Nat.le_of_ble_eq_true rfl) rfl rfl ?_
          refine G_iinc 159 [va_rf l0, .int l1, .int l2, .int (l3 + ((AI σ a26 l5.toNatClampNeg) - (AI σ a20 l5.toNatClampNeg))), .int 0, .int (l5 + 1)] dX3_moved_156 rfl rfl (Nat.le_of_ble_eq_true rfl) rfl rfl ?_
          refine G_goto 81 dX3_moved_159 (by decide) ?_
          exact h
        · have h := h.2 u25
          refine G_iconst (v := 0) 136 dX3_moved_135 (by decide) rfl ?_
          refine G_goto 154 dX3_moved_136 (by decide) ?_
          refine G_iadd 155 dX3_moved_154 rfl ?_
          refine G_istore_n 156 [va_rf l0, .int l1, .int l2, .int (l3 + 0), .int 0, .int l5] dX3_moved_155 (Nat.le_of_ble_eq_true rfl) rfl rfl ?_
          refine G_iinc 159 [va_rf l0, .int l1, .int l2, .int (l3 + 0), .int 0, .int (l5 + 1)] dX3_moved_156 rfl rfl (Nat.le_of_ble_eq_true rfl) rfl rfl ?_
          refine G_goto 81 dX3_moved_159 (by decide) ?_
          exact h
      · have h := h.2 u24
        refine G_aload_n 110 dX3_moved_109 rfl rfl ?_
        refine G_getR (f := 29) (a := a1) "" 113 dX3_moved_110 (Or.inl q2142) (Or.inl rfl) rfl e2 (hf29 c3) rfl ?_
        refine G_iload 115 dX3_moved_113 rfl rfl ?_
        obtain ⟨a30, e31, h⟩ := h
        obtain ⟨c32, h⟩ := h
        obtain ⟨c33, h⟩ := h
        refine G_iald (a := a30) 116 dX3_moved_115 rfl e31 c32 c33 ?_
        refine G_bipush (v := (-9)) 118 dX3_moved_116 (by decide) rfl ?_
        refine G_icmp_eq 125 121 dX3_moved_118 (by decide) rfl (fun u34 => ?_) (fun u34 => ?_)
        · have h := h.1 u34
          refine G_iconst (v := 0) 126 dX3_moved_125 (by decide) rfl ?_
          refine G_istore 128 [va_rf l0, .int l1, .int l2, .int l3, .int 0, .int l5] dX3_moved_126 (Nat.le_of_ble_eq_true rfl) rfl rfl ?_
          refine G_iload_n 129 dX3_moved_128 rfl rfl ?_
          refine G_iload 131 dX3_moved_129 rfl rfl ?_
          refine G_iload_n 132 dX3_moved_131 rfl rfl ?_
          refine G_icmp_ne 139 135 dX3_moved_132 (by decide) rfl (fun u35 => ?_) (fun u35 => ?_)
          · have h := h.1 u35
            refine G_aload_n 140 dX3_moved_139 rfl rfl ?_
            refine G_getR (f := 29) (a := a1) "" 143 dX3_moved_140 (Or.inl q2142) (Or.inl rfl) rfl e2 (hf29 c3) rfl ?_
            refine G_iload 145 dX3_moved_143 rfl rfl ?_
            refine G_iald (a := a30) 146 dX3_moved_145 rfl e31 c32 c33 ?_
            refine G_aload_n 147 dX3_moved_146 rfl rfl ?_
            refine G_getR (f := 28) (a := a1) "" 150 dX3_moved_147 (Or.inl q2141) (Or.inl rfl) rfl e2 (hf28 c3) rfl ?_
            refine G_iload 152 dX3_moved_150 rfl rfl ?_
            refine G_iald (a := a20) 153 dX3_moved_152 rfl e21 c22 c23 ?_
            refine G_isub 154 dX3_moved_153 rfl ?_
            refine G_iadd 155 dX3_moved_154 rfl ?_
            refine G_istore_n 156 [va_rf l0, .int l1, .int l2, .int (l3 + ((AI σ a30 l5.toNatClampNeg) - (AI σ a20 l5.toNatClampNeg))), .int 0, .int l5] dX3_moved_155 (Nat.le_of_ble_eq_true rfl) rfl rfl ?_
            refine G_iinc 159 [va_rf l0, .int l1, .int l2, .int (l3 + ((AI σ a30 l5.toNatClampNeg) - (AI σ a20 l5.toNatClampNeg))), .int 0, .int (l5 + 1)] dX3_moved_156 rfl rfl (Nat.le_of_ble_eq_true rfl) rfl rfl ?_
            refine G_goto 81 dX3_moved_159 (by decide) ?_
            exact h
          · have h := h.2 u35
            refine G_iconst (v := 0) 136 dX3_moved_135 (by decide) rfl ?_
            refine G_goto 154 dX3_moved_136 (by decide) ?_
            refine G_iadd 155 dX3_moved_154 rfl ?_
            refine G_istore_n 156 [va_rf l0, .int l1, .int l2, .int (l3 + 0), .int 0, .int l5] dX3_moved_155 (Nat.le_of_ble_eq_true rfl) rfl rfl ?_
            refine G_iinc 159 [va_rf l0, .int l1, .int l2, .int (l3 + 0), .int 0, .int (l5 + 1)] dX3_moved_156 rfl rfl (Nat.le_of_ble_eq_true rfl) rfl rfl ?_
            refine G_goto 81 dX3_moved_159 (by decide) ?_
            exact h
        · have h := h.2 u34
          refine G_iconst (v := 1) 122 dX3_moved_121 (by decide) rfl ?_
          refine G_goto 126 dX3_moved_122 (by decide) ?_
          refine G_istore 128 [va_rf l0, .int l1, .int l2, .int l3, .int 1, .int l5] dX3_moved_126 (Nat.le_of_ble_eq_true rfl) rfl rfl ?_
          refine G_iload_n 129 dX3_moved_128 rfl rfl ?_
          refine G_iload 131 dX3_moved_129 rfl rfl ?_
          refine G_iload_n 132 dX3_moved_131 rfl rfl ?_
          refine G_icmp_ne 139 135 dX3_moved_132 (by decide) rfl (fun u36 => ?_) (fun u36 => ?_)
          · have h := h.1 u36
            refine G_aload_n 140 dX3_moved_139 rfl rfl ?_
            refine G_getR (f := 29) (a := a1) "" 143 dX3_moved_140 (Or.inl q2142) (Or.inl rfl) rfl e2 (hf29 c3) rfl ?_
            refine G_iload 145 dX3_moved_143 rfl rfl ?_
            refine G_iald (a := a30) 146 dX3_moved_145 rfl e31 c32 c33 ?_
            refine G_aload_n 147 dX3_moved_146 rfl rfl ?_
            refine G_getR (f := 28) (a := a1) "" 150 dX3_moved_147 (Or.inl q2141) (Or.inl rfl) rfl e2 (hf28 c3) rfl ?_
            refine G_iload 152 dX3_moved_150 rfl rfl ?_
            refine G_iald (a := a20) 153 dX3_moved_152 rfl e21 c22 c23 ?_
            refine G_isub 154 dX3_moved_153 rfl ?_
            refine G_iadd 155 dX3_moved_154 rfl ?_
            refine G_istore_n 156 [va_rf l0, .int l1, .int l2, .int (l3 + ((AI σ a30 l5.toNatClampNeg) - (AI σ a20 l5.toNatClampNeg))), .int 1, .int l5] dX3_moved_155 (Nat.le_of_ble_eq_true rfl) rfl rfl ?_
            refine G_iinc 159 [va_rf l0, .int l1, .int l2, .int (l3 + ((AI σ a30 l5.toNatClampNeg) - (AI σ a20 l5.toNatClampNeg))), .int 1, .int (l5 + 1)] dX3_moved_156 rfl rfl (Nat.le_of_ble_eq_true rfl) rfl rfl ?_
            refine G_goto 81 dX3_moved_159 (by decide) ?_
            exact h
          · have h := h.2 u36
            refine G_iconst (v := 0) 136 dX3_moved_135 (by decide) rfl ?_
            refine G_goto 154 dX3_moved_136 (by decide) ?_
            refine G_iadd 155 dX3_moved_154 rfl ?_
            refine G_istore_n 156 [va_rf l0, .int l1, .int l2, .int (l3 + 0), .int 1, .int l5] dX3_moved_155 (Nat.le_of_ble_eq_true rfl) rfl rfl ?_
            refine G_iinc 159 [va_rf l0, .int l1, .int l2, .int (l3 + 0), .int 1, .int (l5 + 1)] dX3_moved_156 rfl rfl (Nat.le_of_ble_eq_true rfl) rfl rfl ?_
            refine G_goto 81 dX3_moved_159 (by decide) ?_
            exact h
theorem eX3_moved {w : Wt} {K : Sg → Int32 → Prop} {σ : Sg} (l0 : Option Nat) (l1 : Int32) (h : G w mX3_moved (KI K) 0 0 σ 0 [va_rf l0, .int l1, U_, U_, U_, U_] []) : CalI w mX3_moved σ [va_rf l0, .int l1] K :=
  Cal.start 4 mX3_moved_plain (catR (catI cat0)) (Nat.le_of_ble_eq_true rfl) rfl h
set_option maxHeartbeats 4000000 in
theorem bX3_largestSize_0 {w : Wt} {K : Sg → Int32 → Prop} {rc rs : Nat} {σ : Sg} (l0 : Option Nat) (l1 : Int32) (h : ∃ a1, l0 = some a1 ∧ kd σ a1 = 13 ∧ ∀ s4, s4 = sFI σ 18 a1 0 → CalI w mX3_isPlate s4 [va_rf l0, .int l1] (fun s6 x7 => Ext s4 s6 → ((¬ x7 = 0 → ((¬ FI s6 24 a1 = 0 → G w mX3_largestSize (KI K) (rc) (rs) s6 27 [va_rf l0, .int l1, .int 4] []) ∧ (FI s6 24 a1 = 0 → K s6 (-2)))) ∧ (x7 = 0 → K s6 (-1))))) : G w mX3_largestSize (KI K) (rc) (rs) σ 0 [va_rf l0, .int l1, U_] [] := by
  refine G_aload_n 1 dX3_largestSize_0 rfl rfl ?_
  refine G_iconst (v := 0) 2 dX3_largestSize_1 (by decide) rfl ?_
  obtain ⟨a1, e2, h⟩ := h
  obtain ⟨c3, h⟩ := h
  refine G_putI (f := 18) (a := a1) "" 5 dX3_largestSize_2 (Or.inl q2131) (Or.inl rfl) rfl e2 (hp18 c3) (nk18 c3) (Or.inl rfl) rfl rfl rfl ?_
  generalize hs4 : sFI σ 18 a1 0 = s4
  have x5 : ∀ a, ¬ kd σ a = 0 → kd s4 a = kd σ a := by subst hs4; exact fun a _ => congrFun kd_sFI a
  have h := h s4 hs4.symm
  refine G_aload_n 6 dX3_largestSize_5 rfl rfl ?_
  refine G_iload_n 7 dX3_largestSize_6 rfl rfl ?_
  have c3 := kdE x5 c3 (by decide)
  refine G_invV (N := mX3_isPlate) (As := [.int l1]) (st := []) (t := l0) (b := a1) (rc) (rs) 10 dX3_largestSize_7 q2189 q2191 qs17 q44 q2192 rfl rfl mX3_isPlate_args ⟨Nat.le_of_ble_eq_true rfl, Nat.le_of_ble_eq_true rfl⟩ rfl (Nat.zero_le _) e2 (rk13 c3) (le_b mX3_isPlate_c (Nat.le_refl _)) (le_b mX3_isPlate_s (Nat.le_refl _)) rfl (Cal.mono h ?_)
  rintro s6 v ⟨x7, rfl, h⟩ hx8
  have h := h hx8
  have x9 := hx8.x
  show G w mX3_largestSize (KI K) (rc) (rs) s6 10 [va_rf l0, .int l1, U_] [.int x7]
  refine G_if_ne 15 13 dX3_largestSize_10 (by decide) rfl (fun u10 => ?_) (fun u10 => ?_)
  · have h := h.1 u10
    refine G_aload_n 16 dX3_largestSize_15 rfl rfl ?_
    have c3 := kdE x9 c3 (by decide)
    refine G_getI (f := 24) (a := a1) "" 19 dX3_largestSize_16 (Or.inl q2137) (Or.inl rfl) rfl e2 (hf24 c3) rfl ?_
    refine G_if_ne 25 22 dX3_largestSize_19 (by decide) rfl (fun u11 => ?_) (fun u11 => ?_)
    · have h := h.1 u11
      refine G_iconst (v := 4) 26 dX3_largestSize_25 (by decide) rfl ?_
      refine G_istore_n 27 [va_rf l0, .int l1, .int 4] dX3_largestSize_26 (Nat.le_of_ble_eq_true rfl) rfl rfl ?_
      exact h
    · have h := h.2 u11
      refine G_bipush (v := (-2)) 24 dX3_largestSize_22 (by decide) rfl ?_
      exact G_iret dX3_largestSize_24 rfl ⟨_, rfl, h⟩
  · have h := h.2 u10
    refine G_iconst (v := (-1)) 14 dX3_largestSize_13 (by decide) rfl ?_
    exact G_iret dX3_largestSize_14 rfl ⟨_, rfl, h⟩
set_option maxHeartbeats 4000000 in
theorem bX3_largestSize_27 {w : Wt} {K : Sg → Int32 → Prop} {rc rs : Nat} {σ : Sg} (l0 : Option Nat) (l1 : Int32) (l2 : Int32) (h : ((l2 ≤ 0 → ((¬ l2 = 0 → K σ l2) ∧ (l2 = 0 → K σ (-9)))) ∧ (¬ l2 ≤ 0 → ∃ a3, l0 = some a3 ∧ kd σ a3 = 13 ∧ CalI w mX3_textLength σ [va_rf l0, .int l2] (fun s5 x6 => Ext σ s5 → CalI w mX3_ofPlate s5 [va_rf (FR s5 19 a3), .int l1, .int 0] (fun s10 x11 => Ext s5 s10 → ((x6 ≤ x11 → ((¬ l2 = 0 → K s10 l2) ∧ (l2 = 0 → K s10 (-9)))) ∧ (¬ x6 ≤ x11 → G w mX3_largestSize (KI K) (rc) (rs) s10 27 [va_rf l0, .int l1, .int (l2 + (-1))] []))))))) : G w mX3_largestSize (KI K) (rc) (rs) σ 27 [va_rf l0, .int l1, .int l2] [] := by
  refine G_iload_n 28 dX3_largestSize_27 rfl rfl ?_
  refine G_if_le 54 31 dX3_largestSize_28 (by decide) rfl (fun u1 => ?_) (fun u1 => ?_)
  · have h := h.1 u1
    refine G_iload_n 55 dX3_largestSize_54 rfl rfl ?_
    refine G_if_ne 63 58 dX3_largestSize_55 (by decide) rfl (fun u2 => ?_) (fun u2 => ?_)
    · have h := h.1 u2
      refine G_iload_n 64 dX3_largestSize_63 rfl rfl ?_
      exact G_iret dX3_largestSize_64 rfl ⟨_, rfl, h⟩
    · have h := h.2 u2
      refine G_bipush (v := (-9)) 60 dX3_largestSize_58 (by decide) rfl ?_
      refine G_goto 64 dX3_largestSize_60 (by decide) ?_
      exact G_iret dX3_largestSize_64 rfl ⟨_, rfl, h⟩
  · have h := h.2 u1
    refine G_aload_n 32 dX3_largestSize_31 rfl rfl ?_
    refine G_iload_n 33 dX3_largestSize_32 rfl rfl ?_
    obtain ⟨a3, e4, h⟩ := h
    obtain ⟨c7, h⟩ := h
    refine G_invV (N := mX3_textLength) (As := [.int l2]) (st := []) (t := l0) (b := a3) (rc) (rs) 36 dX3_largestSize_33 q2361 q2363 qs27 q44 q2364 rfl rfl mX3_textLength_args ⟨Nat.le_of_ble_eq_true rfl, Nat.le_of_ble_eq_true rfl⟩ rfl (Nat.zero_le _) e4 (rk13 c7) (le_b mX3_textLength_c (Nat.le_refl _)) (le_b mX3_textLength_s (Nat.le_refl _)) rfl (Cal.mono h ?_)
    rintro s5 v ⟨x6, rfl, h⟩ hx8
    have h := h hx8
    have x9 := hx8.x
    show G w mX3_largestSize (KI K) (rc) (rs) s5 36 [va_rf l0, .int l1, .int l2] [.int x6]
    refine G_aload_n 37 dX3_largestSize_36 rfl rfl ?_
    have c7 := kdE x9 c7 (by decide)
    refine G_getR (f := 19) (a := a3) "" 40 dX3_largestSize_37 (Or.inl q2132) (Or.inl rfl) rfl e4 (hf19 c7) rfl ?_
    refine G_iload_n 41 dX3_largestSize_40 rfl rfl ?_
    refine G_iconst (v := 0) 42 dX3_largestSize_41 (by decide) rfl ?_
    refine G_invS (N := mX3_ofPlate) (As := [va_rf (FR s5 19 a3), .int l1, .int 0]) (st := [.int x6]) (rc) (rs) "" 45 dX3_largestSize_42 (Or.inl q2193) q2194 q44 q2195 rfl mX3_ofPlate_args ⟨Nat.le_of_ble_eq_true rfl, Nat.le_of_ble_eq_true rfl⟩ rfl (Nat.le_trans (w_I w_0) (Nat.le_of_ble_eq_true rfl)) (le_b mX3_ofPlate_c (Nat.le_refl _)) (le_b mX3_ofPlate_s (Nat.le_refl _)) rfl (Cal.mono h ?_)
    rintro s10 v ⟨x11, rfl, h⟩ hx12
    have h := h hx12
    have x13 := hx12.x
    show G w mX3_largestSize (KI K) (rc) (rs) s10 45 [va_rf l0, .int l1, .int l2] [.int x11, .int x6]
    refine G_icmp_le 54 48 dX3_largestSize_45 (by decide) rfl (fun u14 => ?_) (fun u14 => ?_)
    · have h := h.1 u14
      refine G_iload_n 55 dX3_largestSize_54 rfl rfl ?_
      refine G_if_ne 63 58 dX3_largestSize_55 (by decide) rfl (fun u15 => ?_) (fun u15 => ?_)
      · have h := h.1 u15
        refine G_iload_n 64 dX3_largestSize_63 rfl rfl ?_
        exact G_iret dX3_largestSize_64 rfl ⟨_, rfl, h⟩
      · have h := h.2 u15
        refine G_bipush (v := (-9)) 60 dX3_largestSize_58 (by decide) rfl ?_
        refine G_goto 64 dX3_largestSize_60 (by decide) ?_
        exact G_iret dX3_largestSize_64 rfl ⟨_, rfl, h⟩
    · have h := h.2 u14
      refine G_iinc 51 [va_rf l0, .int l1, .int (l2 + (-1))] dX3_largestSize_48 rfl rfl (Nat.le_of_ble_eq_true rfl) rfl rfl ?_
      refine G_goto 27 dX3_largestSize_51 (by decide) ?_
      exact h
theorem eX3_largestSize {w : Wt} {K : Sg → Int32 → Prop} {σ : Sg} (l0 : Option Nat) (l1 : Int32) (h : G w mX3_largestSize (KI K) 0 0 σ 0 [va_rf l0, .int l1, U_] []) : CalI w mX3_largestSize σ [va_rf l0, .int l1] K :=
  Cal.start 1 mX3_largestSize_plain (catR (catI cat0)) (Nat.le_of_ble_eq_true rfl) rfl h
