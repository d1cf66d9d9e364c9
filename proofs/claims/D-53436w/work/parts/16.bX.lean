/-! printed by tools/drive.py -/
set_option maxRecDepth 100000
set_option maxHeartbeats 4000000 in
theorem bX6_hashCode_0 {w : Wt} {K : Sg → Int32 → Prop} {rc rs : Nat} {σ : Sg} (l0 : Option Nat) (h : ∃ a1, l0 = some a1 ∧ kd σ a1 = 16 ∧ K σ ((1009 * (FI σ 37 a1)) + (FI σ 38 a1))) : G w mX6_hashCode (KI K) (rc) (rs) σ 0 [va_rf l0] [] := by
  refine G_sipush (v := 1009) 3 dX6_hashCode_0 (by decide) rfl ?_
  refine G_aload_n 4 dX6_hashCode_3 rfl rfl ?_
  obtain ⟨a1, e2, h⟩ := h
  obtain ⟨c3, h⟩ := h
  refine G_getI (f := 37) (a := a1) "" 7 dX6_hashCode_4 (Or.inl q1456) (Or.inl rfl) rfl e2 (hf37 c3) rfl ?_
  refine G_imul 8 dX6_hashCode_7 rfl ?_
  refine G_aload_n 9 dX6_hashCode_8 rfl rfl ?_
  refine G_getI (f := 38) (a := a1) "" 12 dX6_hashCode_9 (Or.inl q1459) (Or.inl rfl) rfl e2 (hf38 c3) rfl ?_
  refine G_iadd 13 dX6_hashCode_12 rfl ?_
  exact G_iret dX6_hashCode_13 rfl ⟨_, rfl, h⟩
theorem eX6_hashCode {w : Wt} {K : Sg → Int32 → Prop} {σ : Sg} (l0 : Option Nat) (h : G w mX6_hashCode (KI K) 0 0 σ 0 [va_rf l0] []) : CalI w mX6_hashCode σ [va_rf l0] K :=
  Cal.start 0 mX6_hashCode_plain (catR cat0) (Nat.le_of_ble_eq_true rfl) rfl h
set_option maxHeartbeats 4000000 in
theorem bX6_equals_0 {w : Wt} {K : Sg → Int32 → Prop} {rc rs : Nat} {σ : Sg} (l0 : Option Nat) (l1 : Option Nat) (h : ∃ a1, l1 = some a1 ∧ kd σ a1 = 16 ∧ ∃ a10, l0 = some a10 ∧ kd σ a10 = 16 ∧ ((¬ FI σ 37 a1 = FI σ 37 a10 → K σ 0) ∧ (FI σ 37 a1 = FI σ 37 a10 → ((¬ FI σ 38 a1 = FI σ 38 a10 → K σ 0) ∧ (FI σ 38 a1 = FI σ 38 a10 → K σ 1))))) : G w mX6_equals (KI K) (rc) (rs) σ 0 [va_rf l0, va_rf l1] [] := by
  refine G_aload_n 1 dX6_equals_0 rfl rfl ?_
  obtain ⟨a1, e2, h⟩ := h
  obtain ⟨c9, h⟩ := h
  refine G_instY (a := a1) 4 dX6_equals_1 q1260 rfl e2 (iy0 c9) ?_
  refine G_if_eq 39 7 dX6_equals_4 (by decide) rfl (fun q => absurd q (by decide)) (fun _ => ?_)
  refine G_aload_n 8 dX6_equals_7 rfl rfl ?_
  refine G_cast 11 dX6_equals_8 q1260 rfl (Or.inr ⟨a1, e2, co0 c9⟩) ?_
  refine G_getI (f := 37) (a := a1) "" 14 dX6_equals_11 (Or.inl q1456) (Or.inl rfl) rfl e2 (hf37 c9) rfl ?_
  refine G_aload_n 15 dX6_equals_14 rfl rfl ?_
  obtain ⟨a10, e11, h⟩ := h
  obtain ⟨c12, h⟩ := h
  refine G_getI (f := 37) (a := a10) "" 18 dX6_equals_15 (Or.inl q1456) (Or.inl rfl) rfl e11 (hf37 c12) rfl ?_
  refine G_icmp_ne 39 21 dX6_equals_18 (by decide) rfl (fun u13 => ?_) (fun u13 => ?_)
  · have h := h.1 u13
    refine G_iconst (v := 0) 40 dX6_equals_39 (by decide) rfl ?_
    exact G_zret dX6_equals_40 rfl rfl ⟨_, rfl, h⟩
  · have h := h.2 u13
    refine G_aload_n 22 dX6_equals_21 rfl rfl ?_
    refine G_cast 25 dX6_equals_22 q1260 rfl (Or.inr ⟨a1, e2, co0 c9⟩) ?_
    refine G_getI (f := 38) (a := a1) "" 28 dX6_equals_25 (Or.inl q1459) (Or.inl rfl) rfl e2 (hf38 c9) rfl ?_
    refine G_aload_n 29 dX6_equals_28 rfl rfl ?_
    refine G_getI (f := 38) (a := a10) "" 32 dX6_equals_29 (Or.inl q1459) (Or.inl rfl) rfl e11 (hf38 c12) rfl ?_
    refine G_icmp_ne 39 35 dX6_equals_32 (by decide) rfl (fun u14 => ?_) (fun u14 => ?_)
    · have h := h.1 u14
      refine G_iconst (v := 0) 40 dX6_equals_39 (by decide) rfl ?_
      exact G_zret dX6_equals_40 rfl rfl ⟨_, rfl, h⟩
    · have h := h.2 u14
      refine G_iconst (v := 1) 36 dX6_equals_35 (by decide) rfl ?_
      refine G_goto 40 dX6_equals_36 (by decide) ?_
      exact G_zret dX6_equals_40 rfl rfl ⟨_, rfl, h⟩
theorem eX6_equals {w : Wt} {K : Sg → Int32 → Prop} {σ : Sg} (l0 : Option Nat) (l1 : Option Nat) (h : G w mX6_equals (KI K) 0 0 σ 0 [va_rf l0, va_rf l1] []) : CalI w mX6_equals σ [va_rf l0, va_rf l1] K :=
  Cal.start 0 mX6_equals_plain (catR (catR cat0)) (Nat.le_of_ble_eq_true rfl) rfl h
set_option maxHeartbeats 4000000 in
theorem bX6_init_0 {w : Wt} {K : Sg → Prop} {rc rs : Nat} {σ : Sg} (l0 : Option Nat) (l1 : Int32) (l2 : Int32) (h : ∃ a1, l0 = some a1 ∧ kd σ a1 = 16 ∧ ∀ s4, s4 = sFI σ 37 a1 l1 → ∀ s6, s6 = sFI s4 38 a1 l2 → K s6) : G w mX6_init (KV K) (rc) (rs) σ 0 [va_rf l0, .int l1, .int l2] [] := by
  refine G_aload_n 1 dX6_init_0 rfl rfl ?_
  obtain ⟨a1, e2, h⟩ := h
  refine G_objInit (b := a1) 4 dX6_init_1 q1455 q85 q86 rfl e2 (Nat.zero_le _) (Nat.le_of_ble_eq_true rfl) (Nat.le_of_ble_eq_true rfl) ?_
  refine G_aload_n 5 dX6_init_4 rfl rfl ?_
  refine G_iload_n 6 dX6_init_5 rfl rfl ?_
  obtain ⟨c3, h⟩ := h
  refine G_putI (f := 37) (a := a1) "" 9 dX6_init_6 (Or.inl q1456) (Or.inl rfl) rfl e2 (hp37 c3) (nk37 c3) (Or.inr ⟨rfl, rfl, rfl⟩) rfl rfl rfl ?_
  generalize hs4 : sFI σ 37 a1 l1 = s4
  have x5 : ∀ a, ¬ kd σ a = 0 → kd s4 a = kd σ a := by subst hs4; exact fun a _ => congrFun kd_sFI a
  have h := h s4 hs4.symm
  refine G_aload_n 10 dX6_init_9 rfl rfl ?_
  refine G_iload_n 11 dX6_init_10 rfl rfl ?_
  have c3 := kdE x5 c3 (by decide)
  refine G_putI (f := 38) (a := a1) "" 14 dX6_init_11 (Or.inl q1459) (Or.inl rfl) rfl e2 (hp38 c3) (nk38 c3) (Or.inr ⟨rfl, rfl, rfl⟩) rfl rfl rfl ?_
  generalize hs6 : sFI s4 38 a1 l2 = s6
  have x7 : ∀ a, ¬ kd s4 a = 0 → kd s6 a = kd s4 a := by subst hs6; exact fun a _ => congrFun kd_sFI a
  have h := h s6 hs6.symm
  exact G_ret dX6_init_14 rfl ⟨rfl, h⟩
theorem eX6_init {w : Wt} {K : Sg → Prop} {σ : Sg} (l0 : Option Nat) (l1 : Int32) (l2 : Int32) (h : G w mX6_init (KV K) 0 0 σ 0 [va_rf l0, .int l1, .int l2] []) : CalV w mX6_init σ [va_rf l0, .int l1, .int l2] K :=
  Cal.start 0 mX6_init_plain (catR (catI (catI cat0))) (Nat.le_of_ble_eq_true rfl) rfl h
set_option maxHeartbeats 4000000 in
theorem bX5_copy_0 {w : Wt} {K : Sg → Option Nat → Prop} {rc rs : Nat} {σ : Sg} (l0 : Option Nat) (h : ∀ n2, n2 = nx σ → kd σ n2 = 0 → ∀ s3, s3 = nO σ 15 → ∃ a6, l0 = some a6 ∧ kd s3 a6 = 15 ∧ ∀ n10, n10 = nx s3 → kd s3 n10 = 0 → ∀ s11, s11 = nA s3 1 2 → ∃ a14, FR s11 36 a6 = some a14 ∧ kd s11 a14 ∈ [1, 5] ∧ vp_in 0 (ln s11 a14) ∧ vp_in 0 (ln s11 n10) ∧ ∀ s19, s19 = sAI s11 n10 (0 : Int32).toNatClampNeg (AI s11 a14 (0 : Int32).toNatClampNeg) → ∃ a21, FR s19 36 a6 = some a21 ∧ kd s19 a21 ∈ [1, 5] ∧ vp_in 1 (ln s19 a21) ∧ vp_in 1 (ln s19 n10) ∧ ∀ s26, s26 = sAI s19 n10 (1 : Int32).toNatClampNeg (AI s19 a21 (1 : Int32).toNatClampNeg) → CalV w mX5_init s26 [va_rf (some n2), .int (FI s3 33 a6), .int (FI s3 34 a6), va_rf (some n10)] (fun s28 => Ext s26 s28 → ∀ s31, s31 = sFI s28 35 n2 (FI s28 35 a6) → K s31 (some n2))) : G w mX5_copy (KR K) (rc + 2) (rs + 6) σ 0 [va_rf l0, U_] [] := by
  refine G_new (cc := 5) (kn := 15) (q := (RX5, TX5, 4)) (rc + 1) (rs + 2) 3 dX5_copy_0 rfl q469 q470 q47 rfl rfl (Nat.le_refl _) (Nat.le_refl _) (fun z1 => ?_)
  generalize hn2 : nx σ = n2 at z1 ⊢
  generalize hs3 : nO σ 15 = s3
  have x4 : ∀ a, ¬ kd σ a = 0 → kd s3 a = kd σ a := by subst hs3 hn2; exact kdNx z1
  have c5 : kd s3 n2 = 15 := by subst hs3 hn2; exact kdO_self
  have h := h n2 hn2.symm z1 s3 hs3.symm
  refine G_dup 4 dX5_copy_3 (rf_cat _) rfl ?_
  refine G_aload_n 5 dX5_copy_4 rfl rfl ?_
  obtain ⟨a6, e7, h⟩ := h
  obtain ⟨c8, h⟩ := h
  refine G_getI (f := 33) (a := a6) "" 8 dX5_copy_5 (Or.inl q475) (Or.inl rfl) rfl e7 (hf33 c8) rfl ?_
  refine G_aload_n 9 dX5_copy_8 rfl rfl ?_
  refine G_getI (f := 34) (a := a6) "" 12 dX5_copy_9 (Or.inl q478) (Or.inl rfl) rfl e7 (hf34 c8) rfl ?_
  refine G_iconst (v := 2) 13 dX5_copy_12 (by decide) rfl ?_
  refine G_newI (N := 2) (rc) (rs) 15 dX5_copy_13 rfl (by decide) rfl (Nat.le_refl _) (Nat.le_refl _) q232 (fun z9 => ?_)
  generalize hn10 : nx s3 = n10 at z9 ⊢
  generalize hs11 : nA s3 1 2 = s11
  have x12 : ∀ a, ¬ kd s3 a = 0 → kd s11 a = kd s3 a := by subst hs11 hn10; exact kdAx z9
  have c13 : kd s11 n10 = 1 := by subst hs11 hn10; exact kdA_self
  have h := h n10 hn10.symm z9 s11 hs11.symm
  refine G_dup 16 dX5_copy_15 (rf_cat _) rfl ?_
  refine G_iconst (v := 0) 17 dX5_copy_16 (by decide) rfl ?_
  refine G_aload_n 18 dX5_copy_17 rfl rfl ?_
  have c8 := kdE x12 c8 (by decide)
  refine G_getR (f := 36) (a := a6) "" 21 dX5_copy_18 (Or.inl q484) (Or.inl rfl) rfl e7 (hf36 c8) rfl ?_
  refine G_iconst (v := 0) 22 dX5_copy_21 (by decide) rfl ?_
  obtain ⟨a14, e15, h⟩ := h
  obtain ⟨c16, h⟩ := h
  obtain ⟨c17, h⟩ := h
  refine G_iald (a := a14) 23 dX5_copy_22 rfl e15 c16 c17 ?_
  obtain ⟨c18, h⟩ := h
  refine G_iast (a := n10) 24 dX5_copy_23 rfl rfl c13 c18 ?_
  generalize hs19 : sAI s11 n10 (0 : Int32).toNatClampNeg (AI s11 a14 (0 : Int32).toNatClampNeg) = s19
  have x20 : ∀ a, ¬ kd s11 a = 0 → kd s19 a = kd s11 a := by subst hs19; exact fun a _ => congrFun kd_sAI a
  have h := h s19 hs19.symm
  refine G_dup 25 dX5_copy_24 (rf_cat _) rfl ?_
  refine G_iconst (v := 1) 26 dX5_copy_25 (by decide) rfl ?_
  refine G_aload_n 27 dX5_copy_26 rfl rfl ?_
  have c8 := kdE x20 c8 (by decide)
  refine G_getR (f := 36) (a := a6) "" 30 dX5_copy_27 (Or.inl q484) (Or.inl rfl) rfl e7 (hf36 c8) rfl ?_
  refine G_iconst (v := 1) 31 dX5_copy_30 (by decide) rfl ?_
  obtain ⟨a21, e22, h⟩ := h
  obtain ⟨c23, h⟩ := h
  obtain ⟨c24, h⟩ := h
  refine G_iald (a := a21) 32 dX5_copy_31 rfl e22 c23 c24 ?_
  have c13 := kdE x20 c13 (by decide)
  obtain ⟨c25, h⟩ := h
  refine G_iast (a := n10) 33 dX5_copy_32 rfl rfl c13 c25 ?_
  generalize hs26 : sAI s19 n10 (1 : Int32).toNatClampNeg (AI s19 a21 (1 : Int32).toNatClampNeg) = s26
  have x27 : ∀ a, ¬ kd s19 a = 0 → kd s26 a = kd s19 a := by subst hs26; exact fun a _ => congrFun kd_sAI a
  have h := h s26 hs26.symm
  refine G_invI (N := mX5_init) (As := [.int (FI s3 33 a6), .int (FI s3 34 a6), va_rf (some n10)]) (st := [va_rf (some n2)]) (t := (some n2)) (b := n2) (rc) (rs) "" 36 dX5_copy_33 (Or.inl q471) q472 q47 q473 rfl rfl rfl mX5_init_args ⟨Nat.le_of_ble_eq_true rfl, Nat.le_of_ble_eq_true rfl⟩ rfl rfl (Nat.le_trans (w_R w_0) (Nat.le_of_ble_eq_true rfl)) (le_b mX5_init_c (Nat.le_refl _)) (le_b mX5_init_s (Nat.le_refl _)) rfl (Cal.mono h ?_)
  rintro s28 v ⟨rfl, h⟩ hx29
  have h := h hx29
  have x30 := hx29.x
  show G w mX5_copy (KR K) (rc) (rs) s28 36 [va_rf l0, U_] [va_rf (some n2)]
  refine G_astore_n 37 [va_rf l0, va_rf (some n2)] dX5_copy_36 (Nat.le_of_ble_eq_true rfl) rfl rfl ?_
  refine G_aload_n 38 dX5_copy_37 rfl rfl ?_
  refine G_aload_n 39 dX5_copy_38 rfl rfl ?_
  have c8 := kdE x27 c8 (by decide)
  have c8 := kdE x30 c8 (by decide)
  refine G_getI (f := 35) (a := a6) "" 42 dX5_copy_39 (Or.inl q481) (Or.inl rfl) rfl e7 (hf35 c8) rfl ?_
  have c5 := kdE x12 c5 (by decide)
  have c5 := kdE x20 c5 (by decide)
  have c5 := kdE x27 c5 (by decide)
  have c5 := kdE x30 c5 (by decide)
  refine G_putI (f := 35) (a := n2) "" 45 dX5_copy_42 (Or.inl q481) (Or.inl rfl) rfl rfl (hp35 c5) (nk35 c5) (Or.inl rfl) rfl rfl rfl ?_
  generalize hs31 : sFI s28 35 n2 (FI s28 35 a6) = s31
  have x32 : ∀ a, ¬ kd s28 a = 0 → kd s31 a = kd s28 a := by subst hs31; exact fun a _ => congrFun kd_sFI a
  have h := h s31 hs31.symm
  refine G_aload_n 46 dX5_copy_45 rfl rfl ?_
  exact G_aret dX5_copy_46 rfl (Or.inl ⟨_, rfl⟩) ⟨_, rfl, h⟩
theorem eX5_copy {w : Wt} {K : Sg → Option Nat → Prop} {σ : Sg} (l0 : Option Nat) (h : G w mX5_copy (KR K) 2 6 σ 0 [va_rf l0, U_] []) : CalR w mX5_copy σ [va_rf l0] K :=
  Cal.start 1 mX5_copy_plain (catR cat0) (Nat.le_of_ble_eq_true rfl) rfl h
set_option maxHeartbeats 4000000 in
theorem bX5_init_0 {w : Wt} {K : Sg → Prop} {rc rs : Nat} {σ : Sg} (l0 : Option Nat) (l1 : Int32) (l2 : Int32) (l3 : Option Nat) (h : ∃ a1, l0 = some a1 ∧ kd σ a1 = 15 ∧ ∀ s4, s4 = sFI σ 33 a1 l1 → ∀ s6, s6 = sFI s4 34 a1 l2 → ∀ s8, s8 = sFR s6 36 a1 l3 → K s8) : G w mX5_init (KV K) (rc) (rs) σ 0 [va_rf l0, .int l1, .int l2, va_rf l3] [] := by
  refine G_aload_n 1 dX5_init_0 rfl rfl ?_
  obtain ⟨a1, e2, h⟩ := h
  refine G_objInit (b := a1) 4 dX5_init_1 q474 q85 q86 rfl e2 (Nat.zero_le _) (Nat.le_of_ble_eq_true rfl) (Nat.le_of_ble_eq_true rfl) ?_
  refine G_aload_n 5 dX5_init_4 rfl rfl ?_
  refine G_iload_n 6 dX5_init_5 rfl rfl ?_
  obtain ⟨c3, h⟩ := h
  refine G_putI (f := 33) (a := a1) "" 9 dX5_init_6 (Or.inl q475) (Or.inl rfl) rfl e2 (hp33 c3) (nk33 c3) (Or.inr ⟨rfl, rfl, rfl⟩) rfl rfl rfl ?_
  generalize hs4 : sFI σ 33 a1 l1 = s4
  have x5 : ∀ a, ¬ kd σ a = 0 → kd s4 a = kd σ a := by subst hs4; exact fun a _ => congrFun kd_sFI a
  have h := h s4 hs4.symm
  refine G_aload_n 10 dX5_init_9 rfl rfl ?_
  refine G_iload_n 11 dX5_init_10 rfl rfl ?_
  have c3 := kdE x5 c3 (by decide)
  refine G_putI (f := 34) (a := a1) "" 14 dX5_init_11 (Or.inl q478) (Or.inl rfl) rfl e2 (hp34 c3) (nk34 c3) (Or.inl rfl) rfl rfl rfl ?_
  generalize hs6 : sFI s4 34 a1 l2 = s6
  have x7 : ∀ a, ¬ kd s4 a = 0 → kd s6 a = kd s4 a := by subst hs6; exact fun a _ => congrFun kd_sFI a
  have h := h s6 hs6.symm
  refine G_aload_n 15 dX5_init_14 rfl rfl ?_
  refine G_aload_n 16 dX5_init_15 rfl rfl ?_
  have c3 := kdE x7 c3 (by decide)
  refine G_putR (f := 36) (a := a1) "" 19 dX5_init_16 (Or.inl q484) (Or.inl rfl) rfl e2 (hp36 c3) (nk36 c3) (Or.inr ⟨rfl, rfl, rfl⟩) (fun y => by cases y <;> rfl) (fun y => by cases y <;> rfl) rfl ?_
  generalize hs8 : sFR s6 36 a1 l3 = s8
  have x9 : ∀ a, ¬ kd s6 a = 0 → kd s8 a = kd s6 a := by subst hs8; exact fun a _ => congrFun kd_sFR a
  have h := h s8 hs8.symm
  exact G_ret dX5_init_19 rfl ⟨rfl, h⟩
theorem eX5_init {w : Wt} {K : Sg → Prop} {σ : Sg} (l0 : Option Nat) (l1 : Int32) (l2 : Int32) (l3 : Option Nat) (h : G w mX5_init (KV K) 0 0 σ 0 [va_rf l0, .int l1, .int l2, va_rf l3] []) : CalV w mX5_init σ [va_rf l0, .int l1, .int l2, va_rf l3] K :=
  Cal.start 0 mX5_init_plain (catR (catI (catI (catR cat0)))) (Nat.le_of_ble_eq_true rfl) rfl h
set_option maxHeartbeats 4000000 in
theorem bX5_init_2_0 {w : Wt} {K : Sg → Prop} {rc rs : Nat} {σ : Sg} (l0 : Option Nat) (l1 : Int32) (l2 : Int32) (h : ∀ n2, n2 = nx σ → kd σ n2 = 0 → ∀ s3, s3 = nA σ 1 2 → vp_in 0 (ln s3 n2) ∧ ∀ s7, s7 = sAI s3 n2 (0 : Int32).toNatClampNeg 0 → vp_in 1 (ln s7 n2) ∧ ∀ s10, s10 = sAI s7 n2 (1 : Int32).toNatClampNeg 0 → ∃ a12, l0 = some a12 ∧ CalV w mX5_init s10 [va_rf l0, .int l1, .int l2, va_rf (some n2)] (fun s14 => Ext s10 s14 → K s14)) : G w mX5_init_2 (KV K) (rc + 1) (rs + 2) σ 0 [va_rf l0, .int l1, .int l2] [] := by
  refine G_aload_n 1 dX5_init_2_0 rfl rfl ?_
  refine G_iload_n 2 dX5_init_2_1 rfl rfl ?_
  refine G_iload_n 3 dX5_init_2_2 rfl rfl ?_
  refine G_iconst (v := 2) 4 dX5_init_2_3 (by decide) rfl ?_
  refine G_newI (N := 2) (rc) (rs) 6 dX5_init_2_4 rfl (by decide) rfl (Nat.le_refl _) (Nat.le_refl _) q232 (fun z1 => ?_)
  generalize hn2 : nx σ = n2 at z1 ⊢
  generalize hs3 : nA σ 1 2 = s3
  have x4 : ∀ a, ¬ kd σ a = 0 → kd s3 a = kd σ a := by subst hs3 hn2; exact kdAx z1
  have c5 : kd s3 n2 = 1 := by subst hs3 hn2; exact kdA_self
  have h := h n2 hn2.symm z1 s3 hs3.symm
  refine G_dup 7 dX5_init_2_6 (rf_cat _) rfl ?_
  refine G_iconst (v := 0) 8 dX5_init_2_7 (by decide) rfl ?_
  refine G_iconst (v := 0) 9 dX5_init_2_8 (by decide) rfl ?_
  obtain ⟨c6, h⟩ := h
  refine G_iast (a := n2) 10 dX5_init_2_9 rfl rfl c5 c6 ?_
  generalize hs7 : sAI s3 n2 (0 : Int32).toNatClampNeg 0 = s7
  have x8 : ∀ a, ¬ kd s3 a = 0 → kd s7 a = kd s3 a := by subst hs7; exact fun a _ => congrFun kd_sAI a
  have h := h s7 hs7.symm
  refine G_dup 11 dX5_init_2_10 (rf_cat _) rfl ?_
  refine G_iconst (v := 1) 12 dX5_init_2_11 (by decide) rfl ?_
  refine G_iconst (v := 0) 13 dX5_init_2_12 (by decide) rfl ?_
  have c5 := kdE x8 c5 (by decide)
  obtain ⟨c9, h⟩ := h
  refine G_iast (a := n2) 14 dX5_init_2_13 rfl rfl c5 c9 ?_
  generalize hs10 : sAI s7 n2 (1 : Int32).toNatClampNeg 0 = s10
  have x11 : ∀ a, ¬ kd s7 a = 0 → kd s10 a = kd s7 a := by subst hs10; exact fun a _ => congrFun kd_sAI a
  have h := h s10 hs10.symm
  obtain ⟨a12, e13, h⟩ := h
  refine G_invI (N := mX5_init) (As := [.int l1, .int l2, va_rf (some n2)]) (st := []) (t := l0) (b := a12) (rc) (rs) "" 17 dX5_init_2_14 (Or.inl q471) q472 q47 q473 rfl rfl rfl mX5_init_args ⟨Nat.le_of_ble_eq_true rfl, Nat.le_of_ble_eq_true rfl⟩ e13 rfl (Nat.zero_le _) (le_b mX5_init_c (Nat.le_refl _)) (le_b mX5_init_s (Nat.le_refl _)) rfl (Cal.mono h ?_)
  rintro s14 v ⟨rfl, h⟩ hx15
  have h := h hx15
  have x16 := hx15.x
  show G w mX5_init_2 (KV K) (rc) (rs) s14 17 [va_rf l0, .int l1, .int l2] []
  exact G_ret dX5_init_2_17 rfl ⟨rfl, h⟩
theorem eX5_init_2 {w : Wt} {K : Sg → Prop} {σ : Sg} (l0 : Option Nat) (l1 : Int32) (l2 : Int32) (h : G w mX5_init_2 (KV K) 1 2 σ 0 [va_rf l0, .int l1, .int l2] []) : CalV w mX5_init_2 σ [va_rf l0, .int l1, .int l2] K :=
  Cal.start 0 mX5_init_2_plain (catR (catI (catI cat0))) (Nat.le_of_ble_eq_true rfl) rfl h
set_option maxHeartbeats 4000000 in
theorem bX5_thicknessWithout_0 {w : Wt} {K : Sg → Int32 → Prop} {rc rs : Nat} {σ : Sg} (l0 : Option Nat) (l1 : Int32) (h : ∃ a1, l0 = some a1 ∧ kd σ a1 = 15 ∧ ∃ a4, FR σ 36 a1 = some a4 ∧ kd σ a4 ∈ [1, 5] ∧ vp_in l1 (ln σ a4) ∧ K σ (((FI σ 34 a1) - (AI σ a4 l1.toNatClampNeg)) - 1)) : G w mX5_thicknessWithout (KI K) (rc) (rs) σ 0 [va_rf l0, .int l1] [] := by
  refine G_aload_n 1 dX5_thicknessWithout_0 rfl rfl ?_
  obtain ⟨a1, e2, h⟩ := h
  obtain ⟨c3, h⟩ := h
  refine G_getI (f := 34) (a := a1) "" 4 dX5_thicknessWithout_1 (Or.inl q478) (Or.inl rfl) rfl e2 (hf34 c3) rfl ?_
  refine G_aload_n 5 dX5_thicknessWithout_4 rfl rfl ?_
  refine G_getR (f := 36) (a := a1) "" 8 dX5_thicknessWithout_5 (Or.inl q484) (Or.inl rfl) rfl e2 (hf36 c3) rfl ?_
  refine G_iload_n 9 dX5_thicknessWithout_8 rfl rfl ?_
  obtain ⟨a4, e5, h⟩ := h
  obtain ⟨c6, h⟩ := h
  obtain ⟨c7, h⟩ := h
  refine G_iald (a := a4) 10 dX5_thicknessWithout_9 rfl e5 c6 c7 ?_
  refine G_isub 11 dX5_thicknessWithout_10 rfl ?_
  refine G_iconst (v := 1) 12 dX5_thicknessWithout_11 (by decide) rfl ?_
  refine G_isub 13 dX5_thicknessWithout_12 rfl ?_
  exact G_iret dX5_thicknessWithout_13 rfl ⟨_, rfl, h⟩
theorem eX5_thicknessWithout {w : Wt} {K : Sg → Int32 → Prop} {σ : Sg} (l0 : Option Nat) (l1 : Int32) (h : G w mX5_thicknessWithout (KI K) 0 0 σ 0 [va_rf l0, .int l1] []) : CalI w mX5_thicknessWithout σ [va_rf l0, .int l1] K :=
  Cal.start 0 mX5_thicknessWithout_plain (catR (catI cat0)) (Nat.le_of_ble_eq_true rfl) rfl h
set_option maxHeartbeats 4000000 in
theorem bX5_grind_0 {w : Wt} {K : Sg → Prop} {rc rs : Nat} {σ : Sg} (l0 : Option Nat) (l1 : Int32) (h : ∃ a1, l0 = some a1 ∧ kd σ a1 = 15 ∧ CalI w mX5_thicknessWithout σ [va_rf l0, .int l1] (fun s3 x4 => Ext σ s3 → ∀ s8, s8 = sFI s3 34 a1 x4 → ∃ a10, FR s8 36 a1 = some a10 ∧ kd s8 a10 = 1 ∧ vp_in l1 (ln s8 a10) ∧ ∀ s14, s14 = sAI s8 a10 l1.toNatClampNeg 0 → K s14)) : G w mX5_grind (KV K) (rc) (rs) σ 0 [va_rf l0, .int l1] [] := by
  refine G_aload_n 1 dX5_grind_0 rfl rfl ?_
  refine G_aload_n 2 dX5_grind_1 rfl rfl ?_
  refine G_iload_n 3 dX5_grind_2 rfl rfl ?_
  obtain ⟨a1, e2, h⟩ := h
  obtain ⟨c5, h⟩ := h
  refine G_invV (N := mX5_thicknessWithout) (As := [.int l1]) (st := [va_rf l0]) (t := l0) (b := a1) (rc) (rs) 6 dX5_grind_3 q1430 q1417 q1418 q47 q1419 rfl rfl mX5_thicknessWithout_args ⟨Nat.le_of_ble_eq_true rfl, Nat.le_of_ble_eq_true rfl⟩ rfl (Nat.le_trans (w_R w_0) (Nat.le_of_ble_eq_true rfl)) e2 (rk15 c5) (le_b mX5_thicknessWithout_c (Nat.le_refl _)) (le_b mX5_thicknessWithout_s (Nat.le_refl _)) rfl (Cal.mono h ?_)
  rintro s3 v ⟨x4, rfl, h⟩ hx6
  have h := h hx6
  have x7 := hx6.x
  show G w mX5_grind (KV K) (rc) (rs) s3 6 [va_rf l0, .int l1] [.int x4, va_rf l0]
  have c5 := kdE x7 c5 (by decide)
  refine G_putI (f := 34) (a := a1) "" 9 dX5_grind_6 (Or.inl q478) (Or.inl rfl) rfl e2 (hp34 c5) (nk34 c5) (Or.inl rfl) rfl rfl rfl ?_
  generalize hs8 : sFI s3 34 a1 x4 = s8
  have x9 : ∀ a, ¬ kd s3 a = 0 → kd s8 a = kd s3 a := by subst hs8; exact fun a _ => congrFun kd_sFI a
  have h := h s8 hs8.symm
  refine G_aload_n 10 dX5_grind_9 rfl rfl ?_
  have c5 := kdE x9 c5 (by decide)
  refine G_getR (f := 36) (a := a1) "" 13 dX5_grind_10 (Or.inl q484) (Or.inl rfl) rfl e2 (hf36 c5) rfl ?_
  refine G_iload_n 14 dX5_grind_13 rfl rfl ?_
  refine G_iconst (v := 0) 15 dX5_grind_14 (by decide) rfl ?_
  obtain ⟨a10, e11, h⟩ := h
  obtain ⟨c12, h⟩ := h
  obtain ⟨c13, h⟩ := h
  refine G_iast (a := a10) 16 dX5_grind_15 rfl e11 c12 c13 ?_
  generalize hs14 : sAI s8 a10 l1.toNatClampNeg 0 = s14
  have x15 : ∀ a, ¬ kd s8 a = 0 → kd s14 a = kd s8 a := by subst hs14; exact fun a _ => congrFun kd_sAI a
  have h := h s14 hs14.symm
  exact G_ret dX5_grind_16 rfl ⟨rfl, h⟩
theorem eX5_grind {w : Wt} {K : Sg → Prop} {σ : Sg} (l0 : Option Nat) (l1 : Int32) (h : G w mX5_grind (KV K) 0 0 σ 0 [va_rf l0, .int l1] []) : CalV w mX5_grind σ [va_rf l0, .int l1] K :=
  Cal.start 0 mX5_grind_plain (catR (catI cat0)) (Nat.le_of_ble_eq_true rfl) rfl h
set_option maxHeartbeats 4000000 in
theorem bX5_side_0 {w : Wt} {K : Sg → Int32 → Prop} {rc rs : Nat} {σ : Sg} (l0 : Option Nat) (l1 : Int32) (l2 : Int32) (h : G w mX5_side (KI K) (rc) (rs) σ 2 [va_rf l0, .int l1, .int l2, .int 0] []) : G w mX5_side (KI K) (rc) (rs) σ 0 [va_rf l0, .int l1, .int l2, U_] [] := by
  refine G_iconst (v := 0) 1 dX5_side_0 (by decide) rfl ?_
  refine G_istore_n 2 [va_rf l0, .int l1, .int l2, .int 0] dX5_side_1 (Nat.le_of_ble_eq_true rfl) rfl rfl ?_
  exact h
set_option maxHeartbeats 4000000 in
theorem bX5_side_2 {w : Wt} {K : Sg → Int32 → Prop} {rc rs : Nat} {σ : Sg} (l0 : Option Nat) (l1 : Int32) (l2 : Int32) (l3 : Int32) (h : ∃ a1, l0 = some a1 ∧ kd σ a1 = 15 ∧ ∃ a4, FR σ 36 a1 = some a4 ∧ kd σ a4 ∈ [1, 2, 3, 4, 5, 7, 8] ∧ ((nI (ln σ a4) ≤ l3 → K σ (-9)) ∧ (¬ nI (ln σ a4) ≤ l3 → ((l2 = 0 → CalI w mX5_isReady σ [va_rf l0, .int l3, .int l1] (fun s9 x10 => Ext σ s9 → ((x10 = 0 → G w mX5_side (KI K) (rc) (rs) s9 2 [va_rf l0, .int l1, .int l2, .int (l3 + 1)] []) ∧ (¬ x10 = 0 → K s9 l3)))) ∧ (¬ l2 = 0 → CalI w mX5_canBeGround σ [va_rf l0, .int l3, .int l1] (fun s14 x15 => Ext σ s14 → ((x15 = 0 → G w mX5_side (KI K) (rc) (rs) s14 2 [va_rf l0, .int l1, .int l2, .int (l3 + 1)] []) ∧ (¬ x15 = 0 → K s14 l3)))))))) : G w mX5_side (KI K) (rc) (rs) σ 2 [va_rf l0, .int l1, .int l2, .int l3] [] := by
  refine G_iload_n 3 dX5_side_2 rfl rfl ?_
  refine G_aload_n 4 dX5_side_3 rfl rfl ?_
  obtain ⟨a1, e2, h⟩ := h
  obtain ⟨c3, h⟩ := h
  refine G_getR (f := 36) (a := a1) "" 7 dX5_side_4 (Or.inl q484) (Or.inl rfl) rfl e2 (hf36 c3) rfl ?_
  obtain ⟨a4, e5, h⟩ := h
  obtain ⟨c6, h⟩ := h
  refine G_alen (a := a4) 8 dX5_side_7 rfl e5 c6 ?_
  refine G_icmp_ge 44 11 dX5_side_8 (by decide) rfl (fun u7 => ?_) (fun u7 => ?_)
  · have h := h.1 u7
    refine G_bipush (v := (-9)) 46 dX5_side_44 (by decide) rfl ?_
    exact G_iret dX5_side_46 rfl ⟨_, rfl, h⟩
  · have h := h.2 u7
    refine G_iload_n 12 dX5_side_11 rfl rfl ?_
    refine G_if_eq 27 15 dX5_side_12 (by decide) rfl (fun u8 => ?_) (fun u8 => ?_)
    · have h := h.1 u8
      refine G_aload_n 28 dX5_side_27 rfl rfl ?_
      refine G_iload_n 29 dX5_side_28 rfl rfl ?_
      refine G_iload_n 30 dX5_side_29 rfl rfl ?_
      refine G_invV (N := mX5_isReady) (As := [.int l3, .int l1]) (st := []) (t := l0) (b := a1) (rc) (rs) 33 dX5_side_30 q1914 q1915 q1916 q47 q1917 rfl rfl mX5_isReady_args ⟨Nat.le_of_ble_eq_true rfl, Nat.le_of_ble_eq_true rfl⟩ rfl (Nat.zero_le _) e2 (rk15 c3) (le_b mX5_isReady_c (Nat.le_refl _)) (le_b mX5_isReady_s (Nat.le_refl _)) rfl (Cal.mono h ?_)
      rintro s9 v ⟨x10, rfl, h⟩ hx11
      have h := h hx11
      have x12 := hx11.x
      show G w mX5_side (KI K) (rc) (rs) s9 33 [va_rf l0, .int l1, .int l2, .int l3] [.int x10]
      refine G_if_eq 38 36 dX5_side_33 (by decide) rfl (fun u13 => ?_) (fun u13 => ?_)
      · have h := h.1 u13
        refine G_iinc 41 [va_rf l0, .int l1, .int l2, .int (l3 + 1)] dX5_side_38 rfl rfl (Nat.le_of_ble_eq_true rfl) rfl rfl ?_
        refine G_goto 2 dX5_side_41 (by decide) ?_
        exact h
      · have h := h.2 u13
        refine G_iload_n 37 dX5_side_36 rfl rfl ?_
        exact G_iret dX5_side_37 rfl ⟨_, rfl, h⟩
    · have h := h.2 u8
      refine G_aload_n 16 dX5_side_15 rfl rfl ?_
      refine G_iload_n 17 dX5_side_16 rfl rfl ?_
      refine G_iload_n 18 dX5_side_17 rfl rfl ?_
      refine G_invV (N := mX5_canBeGround) (As := [.int l3, .int l1]) (st := []) (t := l0) (b := a1) (rc) (rs) 21 dX5_side_18 q1910 q1911 q1912 q47 q1913 rfl rfl mX5_canBeGround_args ⟨Nat.le_of_ble_eq_true rfl, Nat.le_of_ble_eq_true rfl⟩ rfl (Nat.zero_le _) e2 (rk15 c3) (le_b mX5_canBeGround_c (Nat.le_refl _)) (le_b mX5_canBeGround_s (Nat.le_refl _)) rfl (Cal.mono h ?_)
      rintro s14 v ⟨x15, rfl, h⟩ hx16
      have h := h hx16
      have x17 := hx16.x
      show G w mX5_side (KI K) (rc) (rs) s14 21 [va_rf l0, .int l1, .int l2, .int l3] [.int x15]
      refine G_if_eq 38 24 dX5_side_21 (by decide) rfl (fun u18 => ?_) (fun u18 => ?_)
      · have h := h.1 u18
        refine G_iinc 41 [va_rf l0, .int l1, .int l2, .int (l3 + 1)] dX5_side_38 rfl rfl (Nat.le_of_ble_eq_true rfl) rfl rfl ?_
        refine G_goto 2 dX5_side_41 (by decide) ?_
        exact h
      · have h := h.2 u18
        refine G_goto 36 dX5_side_24 (by decide) ?_
        refine G_iload_n 37 dX5_side_36 rfl rfl ?_
        exact G_iret dX5_side_37 rfl ⟨_, rfl, h⟩
theorem eX5_side {w : Wt} {K : Sg → Int32 → Prop} {σ : Sg} (l0 : Option Nat) (l1 : Int32) (l2 : Int32) (h : G w mX5_side (KI K) 0 0 σ 0 [va_rf l0, .int l1, .int l2, U_] []) : CalI w mX5_side σ [va_rf l0, .int l1, .int l2] K :=
  Cal.start 1 mX5_side_plain (catR (catI (catI cat0))) (Nat.le_of_ble_eq_true rfl) rfl h
set_option maxHeartbeats 4000000 in
theorem bX5_canBeGround_0 {w : Wt} {K : Sg → Int32 → Prop} {rc rs : Nat} {σ : Sg} (l0 : Option Nat) (l1 : Int32) (l2 : Int32) (h : ∃ a1, l0 = some a1 ∧ kd σ a1 = 15 ∧ ∃ a4, FR σ 36 a1 = some a4 ∧ kd σ a4 ∈ [1, 5] ∧ vp_in l1 (ln σ a4) ∧ ((AI σ a4 l1.toNatClampNeg ≤ 0 → K σ 0) ∧ (¬ AI σ a4 l1.toNatClampNeg ≤ 0 → CalI w mX5_thicknessWithout σ [va_rf l0, .int l1] (fun s9 x10 => Ext σ s9 → ∃ a13, FR s9 36 a1 = some a13 ∧ kd s9 a13 ∈ [1, 5] ∧ vp_in (1 - l1) (ln s9 a13) ∧ (((x10 - l2) - (AI s9 a13 (1 - l1).toNatClampNeg) < 2 → K s9 0) ∧ (¬ (x10 - l2) - (AI s9 a13 (1 - l1).toNatClampNeg) < 2 → K s9 1)))))) : G w mX5_canBeGround (KI K) (rc) (rs) σ 0 [va_rf l0, .int l1, .int l2] [] := by
  refine G_aload_n 1 dX5_canBeGround_0 rfl rfl ?_
  obtain ⟨a1, e2, h⟩ := h
  obtain ⟨c3, h⟩ := h
  refine G_getR (f := 36) (a := a1) "" 4 dX5_canBeGround_1 (Or.inl q484) (Or.inl rfl) rfl e2 (hf36 c3) rfl ?_
  refine G_iload_n 5 dX5_canBeGround_4 rfl rfl ?_
  obtain ⟨a4, e5, h⟩ := h
  obtain ⟨c6, h⟩ := h
  obtain ⟨c7, h⟩ := h
  refine G_iald (a := a4) 6 dX5_canBeGround_5 rfl e5 c6 c7 ?_
  refine G_if_le 33 9 dX5_canBeGround_6 (by decide) rfl (fun u8 => ?_) (fun u8 => ?_)
  · have h := h.1 u8
    refine G_iconst (v := 0) 34 dX5_canBeGround_33 (by decide) rfl ?_
    exact G_zret dX5_canBeGround_34 rfl rfl ⟨_, rfl, h⟩
  · have h := h.2 u8
    refine G_aload_n 10 dX5_canBeGround_9 rfl rfl ?_
    refine G_iload_n 11 dX5_canBeGround_10 rfl rfl ?_
    refine G_invV (N := mX5_thicknessWithout) (As := [.int l1]) (st := []) (t := l0) (b := a1) (rc) (rs) 14 dX5_canBeGround_11 q1430 q1417 q1418 q47 q1419 rfl rfl mX5_thicknessWithout_args ⟨Nat.le_of_ble_eq_true rfl, Nat.le_of_ble_eq_true rfl⟩ rfl (Nat.zero_le _) e2 (rk15 c3) (le_b mX5_thicknessWithout_c (Nat.le_refl _)) (le_b mX5_thicknessWithout_s (Nat.le_refl _)) rfl (Cal.mono h ?_)
    rintro s9 v ⟨x10, rfl, h⟩ hx11
    have h := h hx11
    have x12 := hx11.x
    show G w mX5_canBeGround (KI K) (rc) (rs) s9 14 [va_rf l0, .int l1, .int l2] [.int x10]
    refine G_iload_n 15 dX5_canBeGround_14 rfl rfl ?_
    refine G_isub 16 dX5_canBeGround_15 rfl ?_
    refine G_aload_n 17 dX5_canBeGround_16 rfl rfl ?_
    have c3 := kdE x12 c3 (by decide)
    refine G_getR (f := 36) (a := a1) "" 20 dX5_canBeGround_17 (Or.inl q484) (Or.inl rfl) rfl e2 (hf36 c3) rfl ?_
    refine G_iconst (v := 1) 21 dX5_canBeGround_20 (by decide) rfl ?_
    refine G_iload_n 22 dX5_canBeGround_21 rfl rfl ?_
    refine G_isub 23 dX5_canBeGround_22 rfl ?_
    obtain ⟨a13, e14, h⟩ := h
    obtain ⟨c15, h⟩ := h
    obtain ⟨c16, h⟩ := h
    refine G_iald (a := a13) 24 dX5_canBeGround_23 rfl e14 c15 c16 ?_
    refine G_isub 25 dX5_canBeGround_24 rfl ?_
    refine G_iconst (v := 2) 26 dX5_canBeGround_25 (by decide) rfl ?_
    refine G_icmp_lt 33 29 dX5_canBeGround_26 (by decide) rfl (fun u17 => ?_) (fun u17 => ?_)
    · have h := h.1 u17
      refine G_iconst (v := 0) 34 dX5_canBeGround_33 (by decide) rfl ?_
      exact G_zret dX5_canBeGround_34 rfl rfl ⟨_, rfl, h⟩
    · have h := h.2 u17
      refine G_iconst (v := 1) 30 dX5_canBeGround_29 (by decide) rfl ?_
      refine G_goto 34 dX5_canBeGround_30 (by decide) ?_
      exact G_zret dX5_canBeGround_34 rfl rfl ⟨_, rfl, h⟩
theorem eX5_canBeGround {w : Wt} {K : Sg → Int32 → Prop} {σ : Sg} (l0 : Option Nat) (l1 : Int32) (l2 : Int32) (h : G w mX5_canBeGround (KI K) 0 0 σ 0 [va_rf l0, .int l1, .int l2] []) : CalI w mX5_canBeGround σ [va_rf l0, .int l1, .int l2] K :=
  Cal.start 0 mX5_canBeGround_plain (catR (catI (catI cat0))) (Nat.le_of_ble_eq_true rfl) rfl h
set_option maxHeartbeats 4000000 in
theorem bX5_isReady_0 {w : Wt} {K : Sg → Int32 → Prop} {rc rs : Nat} {σ : Sg} (l0 : Option Nat) (l1 : Int32) (l2 : Int32) (h : ∃ a1, l0 = some a1 ∧ kd σ a1 = 15 ∧ ∃ a4, FR σ 36 a1 = some a4 ∧ kd σ a4 ∈ [1, 5] ∧ vp_in l1 (ln σ a4) ∧ ((¬ AI σ a4 l1.toNatClampNeg = 0 → K σ 0) ∧ (AI σ a4 l1.toNatClampNeg = 0 → vp_in (1 - l1) (ln σ a4) ∧ ((((FI σ 34 a1) - l2) - (AI σ a4 (1 - l1).toNatClampNeg) < 2 → K σ 0) ∧ (¬ ((FI σ 34 a1) - l2) - (AI σ a4 (1 - l1).toNatClampNeg) < 2 → K σ 1))))) : G w mX5_isReady (KI K) (rc) (rs) σ 0 [va_rf l0, .int l1, .int l2] [] := by
  refine G_aload_n 1 dX5_isReady_0 rfl rfl ?_
  obtain ⟨a1, e2, h⟩ := h
  obtain ⟨c3, h⟩ := h
  refine G_getR (f := 36) (a := a1) "" 4 dX5_isReady_1 (Or.inl q484) (Or.inl rfl) rfl e2 (hf36 c3) rfl ?_
  refine G_iload_n 5 dX5_isReady_4 rfl rfl ?_
  obtain ⟨a4, e5, h⟩ := h
  obtain ⟨c6, h⟩ := h
  obtain ⟨c7, h⟩ := h
  refine G_iald (a := a4) 6 dX5_isReady_5 rfl e5 c6 c7 ?_
  refine G_if_ne 32 9 dX5_isReady_6 (by decide) rfl (fun u8 => ?_) (fun u8 => ?_)
  · have h := h.1 u8
    refine G_iconst (v := 0) 33 dX5_isReady_32 (by decide) rfl ?_
    exact G_zret dX5_isReady_33 rfl rfl ⟨_, rfl, h⟩
  · have h := h.2 u8
    refine G_aload_n 10 dX5_isReady_9 rfl rfl ?_
    refine G_getI (f := 34) (a := a1) "" 13 dX5_isReady_10 (Or.inl q478) (Or.inl rfl) rfl e2 (hf34 c3) rfl ?_
    refine G_iload_n 14 dX5_isReady_13 rfl rfl ?_
    refine G_isub 15 dX5_isReady_14 rfl ?_
    refine G_aload_n 16 dX5_isReady_15 rfl rfl ?_
    refine G_getR (f := 36) (a := a1) "" 19 dX5_isReady_16 (Or.inl q484) (Or.inl rfl) rfl e2 (hf36 c3) rfl ?_
    refine G_iconst (v := 1) 20 dX5_isReady_19 (by decide) rfl ?_
    refine G_iload_n 21 dX5_isReady_20 rfl rfl ?_
    refine G_isub 22 dX5_isReady_21 rfl ?_
    obtain ⟨c9, h⟩ := h
    refine G_iald (a := a4) 23 dX5_isReady_22 rfl e5 c6 c9 ?_
    refine G_isub 24 dX5_isReady_23 rfl ?_
    refine G_iconst (v := 2) 25 dX5_isReady_24 (by decide) rfl ?_
    refine G_icmp_lt 32 28 dX5_isReady_25 (by decide) rfl (fun u10 => ?_) (fun u10 => ?_)
    · have h := h.1 u10
      refine G_iconst (v := 0) 33 dX5_isReady_32 (by decide) rfl ?_
      exact G_zret dX5_isReady_33 rfl rfl ⟨_, rfl, h⟩
    · have h := h.2 u10
      refine G_iconst (v := 1) 29 dX5_isReady_28 (by decide) rfl ?_
      refine G_goto 33 dX5_isReady_29 (by decide) ?_
      exact G_zret dX5_isReady_33 rfl rfl ⟨_, rfl, h⟩
theorem eX5_isReady {w : Wt} {K : Sg → Int32 → Prop} {σ : Sg} (l0 : Option Nat) (l1 : Int32) (l2 : Int32) (h : G w mX5_isReady (KI K) 0 0 σ 0 [va_rf l0, .int l1, .int l2] []) : CalI w mX5_isReady σ [va_rf l0, .int l1, .int l2] K :=
  Cal.start 0 mX5_isReady_plain (catR (catI (catI cat0))) (Nat.le_of_ble_eq_true rfl) rfl h
set_option maxHeartbeats 4000000 in
theorem bX8_init_0 {w : Wt} {K : Sg → Prop} {rc rs : Nat} {σ : Sg} (l0 : Option Nat) (l1 : Int32) (l2 : Int32) (l3 : Int32) (h : ∃ a1, l0 = some a1 ∧ kd σ a1 = 18 ∧ ∀ s4, s4 = sFI σ 44 a1 l1 → ∀ s6, s6 = sFI s4 45 a1 l2 → (l3 = 0 ∨ l3 = 1) ∧ ∀ s9, s9 = sFI s6 46 a1 l3 → K s9) : G w mX8_init (KV K) (rc) (rs) σ 0 [va_rf l0, .int l1, .int l2, .int l3] [] := by
  refine G_aload_n 1 dX8_init_0 rfl rfl ?_
  obtain ⟨a1, e2, h⟩ := h
  refine G_objInit (b := a1) 4 dX8_init_1 q1926 q85 q86 rfl e2 (Nat.zero_le _) (Nat.le_of_ble_eq_true rfl) (Nat.le_of_ble_eq_true rfl) ?_
  refine G_aload_n 5 dX8_init_4 rfl rfl ?_
  refine G_iload_n 6 dX8_init_5 rfl rfl ?_
  obtain ⟨c3, h⟩ := h
  refine G_putI (f := 44) (a := a1) "" 9 dX8_init_6 (Or.inl q1927) (Or.inl rfl) rfl e2 (hp44 c3) (nk44 c3) (Or.inr ⟨rfl, rfl, rfl⟩) rfl rfl rfl ?_
  generalize hs4 : sFI σ 44 a1 l1 = s4
  have x5 : ∀ a, ¬ kd σ a = 0 → kd s4 a = kd σ a := by subst hs4; exact fun a _ => congrFun kd_sFI a
  have h := h s4 hs4.symm
  refine G_aload_n 10 dX8_init_9 rfl rfl ?_
  refine G_iload_n 11 dX8_init_10 rfl rfl ?_
  have c3 := kdE x5 c3 (by decide)
  refine G_putI (f := 45) (a := a1) "" 14 dX8_init_11 (Or.inl q1930) (Or.inl rfl) rfl e2 (hp45 c3) (nk45 c3) (Or.inr ⟨rfl, rfl, rfl⟩) rfl rfl rfl ?_
  generalize hs6 : sFI s4 45 a1 l2 = s6
  have x7 : ∀ a, ¬ kd s4 a = 0 → kd s6 a = kd s4 a := by subst hs6; exact fun a _ => congrFun kd_sFI a
  have h := h s6 hs6.symm
  refine G_aload_n 15 dX8_init_14 rfl rfl ?_
  refine G_iload_n 16 dX8_init_15 rfl rfl ?_
  have c3 := kdE x7 c3 (by decide)
  obtain ⟨c8, h⟩ := h
  refine G_putI (f := 46) (a := a1) "" 19 dX8_init_16 (Or.inl q1933) (Or.inl rfl) rfl e2 (hp46 c3) (nk46 c3) (Or.inr ⟨rfl, rfl, rfl⟩) (nar_bz c8).1 (nar_bz c8).2 rfl ?_
  generalize hs9 : sFI s6 46 a1 l3 = s9
  have x10 : ∀ a, ¬ kd s6 a = 0 → kd s9 a = kd s6 a := by subst hs9; exact fun a _ => congrFun kd_sFI a
  have h := h s9 hs9.symm
  exact G_ret dX8_init_19 rfl ⟨rfl, h⟩
theorem eX8_init {w : Wt} {K : Sg → Prop} {σ : Sg} (l0 : Option Nat) (l1 : Int32) (l2 : Int32) (l3 : Int32) (h : G w mX8_init (KV K) 0 0 σ 0 [va_rf l0, .int l1, .int l2, .int l3] []) : CalV w mX8_init σ [va_rf l0, .int l1, .int l2, .int l3] K :=
  Cal.start 0 mX8_init_plain (catR (catI (catI (catI cat0)))) (Nat.le_of_ble_eq_true rfl) rfl h
set_option maxHeartbeats 4000000 in
theorem bX4_init_0 {w : Wt} {K : Sg → Prop} {rc rs : Nat} {σ : Sg} (l0 : Option Nat) (l1 : Option Nat) (l2 : Option Nat) (h : ∃ a1, l0 = some a1 ∧ kd σ a1 = 14 ∧ ∀ s4, s4 = sFR σ 31 a1 l1 → ∀ s6, s6 = sFR s4 32 a1 l2 → K s6) : G w mX4_init (KV K) (rc) (rs) σ 0 [va_rf l0, va_rf l1, va_rf l2] [] := by
  refine G_aload_n 1 dX4_init_0 rfl rfl ?_
  obtain ⟨a1, e2, h⟩ := h
  refine G_objInit (b := a1) 4 dX4_init_1 q326 q85 q86 rfl e2 (Nat.zero_le _) (Nat.le_of_ble_eq_true rfl) (Nat.le_of_ble_eq_true rfl) ?_
  refine G_aload_n 5 dX4_init_4 rfl rfl ?_
  refine G_aload_n 6 dX4_init_5 rfl rfl ?_
  obtain ⟨c3, h⟩ := h
  refine G_putR (f := 31) (a := a1) "" 9 dX4_init_6 (Or.inl q327) (Or.inl rfl) rfl e2 (hp31 c3) (nk31 c3) (Or.inr ⟨rfl, rfl, rfl⟩) (fun y => by cases y <;> rfl) (fun y => by cases y <;> rfl) rfl ?_
  generalize hs4 : sFR σ 31 a1 l1 = s4
  have x5 : ∀ a, ¬ kd σ a = 0 → kd s4 a = kd σ a := by subst hs4; exact fun a _ => congrFun kd_sFR a
  have h := h s4 hs4.symm
  refine G_aload_n 10 dX4_init_9 rfl rfl ?_
  refine G_aload_n 11 dX4_init_10 rfl rfl ?_
  have c3 := kdE x5 c3 (by decide)
  refine G_putR (f := 32) (a := a1) "" 14 dX4_init_11 (Or.inl q329) (Or.inl rfl) rfl e2 (hp32 c3) (nk32 c3) (Or.inl rfl) (fun y => by cases y <;> rfl) (fun y => by cases y <;> rfl) rfl ?_
  generalize hs6 : sFR s4 32 a1 l2 = s6
  have x7 : ∀ a, ¬ kd s4 a = 0 → kd s6 a = kd s4 a := by subst hs6; exact fun a _ => congrFun kd_sFR a
  have h := h s6 hs6.symm
  exact G_ret dX4_init_14 rfl ⟨rfl, h⟩
theorem eX4_init {w : Wt} {K : Sg → Prop} {σ : Sg} (l0 : Option Nat) (l1 : Option Nat) (l2 : Option Nat) (h : G w mX4_init (KV K) 0 0 σ 0 [va_rf l0, va_rf l1, va_rf l2] []) : CalV w mX4_init σ [va_rf l0, va_rf l1, va_rf l2] K :=
  Cal.start 0 mX4_init_plain (catR (catR (catR cat0))) (Nat.le_of_ble_eq_true rfl) rfl h
set_option maxHeartbeats 4000000 in
theorem bX2_init_0 {w : Wt} {K : Sg → Prop} {rc rs : Nat} {σ : Sg} (l0 : Option Nat) (h : ∃ a1, l0 = some a1 ∧ CalV w mX2_init_2 σ [va_rf l0, .int 5] (fun s3 => Ext σ s3 → K s3)) : G w mX2_init (KV K) (rc) (rs) σ 0 [va_rf l0] [] := by
  refine G_aload_n 1 dX2_init_0 rfl rfl ?_
  refine G_iconst (v := 5) 2 dX2_init_1 (by decide) rfl ?_
  obtain ⟨a1, e2, h⟩ := h
  refine G_invI (N := mX2_init_2) (As := [.int 5]) (st := []) (t := l0) (b := a1) (rc) (rs) "" 5 dX2_init_2 (Or.inl q238) q239 q39 q240 rfl rfl rfl mX2_init_2_args ⟨Nat.le_of_ble_eq_true rfl, Nat.le_of_ble_eq_true rfl⟩ e2 rfl (Nat.zero_le _) (le_b mX2_init_2_c (Nat.le_refl _)) (le_b mX2_init_2_s (Nat.le_refl _)) rfl (Cal.mono h ?_)
  rintro s3 v ⟨rfl, h⟩ hx4
  have h := h hx4
  have x5 := hx4.x
  show G w mX2_init (KV K) (rc) (rs) s3 5 [va_rf l0] []
  exact G_ret dX2_init_5 rfl ⟨rfl, h⟩
theorem eX2_init {w : Wt} {K : Sg → Prop} {σ : Sg} (l0 : Option Nat) (h : G w mX2_init (KV K) 0 0 σ 0 [va_rf l0] []) : CalV w mX2_init σ [va_rf l0] K :=
  Cal.start 0 mX2_init_plain (catR cat0) (Nat.le_of_ble_eq_true rfl) rfl h
set_option maxHeartbeats 4000000 in
theorem bX2_init_2_0 {w : Wt} {K : Sg → Prop} {rc rs : Nat} {σ : Sg} (l0 : Option Nat) (l1 : Int32) (h : ∃ a1, l0 = some a1 ∧ kd σ a1 = 12 ∧ ∀ s4, s4 = sFI σ 15 a1 l1 → K s4) : G w mX2_init_2 (KV K) (rc) (rs) σ 0 [va_rf l0, .int l1] [] := by
  refine G_aload_n 1 dX2_init_2_0 rfl rfl ?_
  obtain ⟨a1, e2, h⟩ := h
  refine G_objInit (b := a1) 4 dX2_init_2_1 q241 q85 q86 rfl e2 (Nat.zero_le _) (Nat.le_of_ble_eq_true rfl) (Nat.le_of_ble_eq_true rfl) ?_
  refine G_aload_n 5 dX2_init_2_4 rfl rfl ?_
  refine G_iload_n 6 dX2_init_2_5 rfl rfl ?_
  obtain ⟨c3, h⟩ := h
  refine G_putI (f := 15) (a := a1) "" 9 dX2_init_2_6 (Or.inl q242) (Or.inl rfl) rfl e2 (hp15 c3) (nk15 c3) (Or.inr ⟨rfl, rfl, rfl⟩) rfl rfl rfl ?_
  generalize hs4 : sFI σ 15 a1 l1 = s4
  have x5 : ∀ a, ¬ kd σ a = 0 → kd s4 a = kd σ a := by subst hs4; exact fun a _ => congrFun kd_sFI a
  have h := h s4 hs4.symm
  exact G_ret dX2_init_2_9 rfl ⟨rfl, h⟩
theorem eX2_init_2 {w : Wt} {K : Sg → Prop} {σ : Sg} (l0 : Option Nat) (l1 : Int32) (h : G w mX2_init_2 (KV K) 0 0 σ 0 [va_rf l0, .int l1] []) : CalV w mX2_init_2 σ [va_rf l0, .int l1] K :=
  Cal.start 0 mX2_init_2_plain (catR (catI cat0)) (Nat.le_of_ble_eq_true rfl) rfl h
set_option maxHeartbeats 4000000 in
theorem bX2_push_0 {w : Wt} {K : Sg → Prop} {rc rs : Nat} {σ : Sg} (l0 : Option Nat) (l1 : Option Nat) (h : ∀ n2, n2 = nx σ → kd σ n2 = 0 → ∀ s3, s3 = nO σ 14 → ∃ a6, l0 = some a6 ∧ kd s3 a6 = 12 ∧ CalV w mX4_init s3 [va_rf (some n2), va_rf l1, va_rf (FR s3 16 a6)] (fun s9 => Ext s3 s9 → ∀ s12, s12 = sFR s9 16 a6 (some n2) → ∀ s14, s14 = sFI s12 17 a6 ((FI s12 17 a6) + 1) → ((FI s14 17 a6 ≤ FI s14 15 a6 → K s14) ∧ (¬ FI s14 17 a6 ≤ FI s14 15 a6 → G w mX2_push (KV K) (rc) (rs) s14 44 [va_rf l0, va_rf l1, va_rf (FR s14 16 a6), .int 1] [])))) : G w mX2_push (KV K) (rc + 1) (rs + 2) σ 0 [va_rf l0, va_rf l1, U_, U_] [] := by
  refine G_aload_n 1 dX2_push_0 rfl rfl ?_
  refine G_new (cc := 4) (kn := 14) (q := (RX4, TX4, 2)) (rc) (rs) 4 dX2_push_1 rfl q321 q322 q45 rfl rfl (Nat.le_refl _) (Nat.le_refl _) (fun z1 => ?_)
  generalize hn2 : nx σ = n2 at z1 ⊢
  generalize hs3 : nO σ 14 = s3
  have x4 : ∀ a, ¬ kd σ a = 0 → kd s3 a = kd σ a := by subst hs3 hn2; exact kdNx z1
  have c5 : kd s3 n2 = 14 := by subst hs3 hn2; exact kdO_self
  have h := h n2 hn2.symm z1 s3 hs3.symm
  refine G_dup 5 dX2_push_4 (rf_cat _) rfl ?_
  refine G_aload_n 6 dX2_push_5 rfl rfl ?_
  refine G_aload_n 7 dX2_push_6 rfl rfl ?_
  obtain ⟨a6, e7, h⟩ := h
  obtain ⟨c8, h⟩ := h
  refine G_getR (f := 16) (a := a6) "" 10 dX2_push_7 (Or.inl q243) (Or.inl rfl) rfl e7 (hf16 c8) rfl ?_
  refine G_invI (N := mX4_init) (As := [va_rf l1, va_rf (FR s3 16 a6)]) (st := [va_rf (some n2), va_rf l0]) (t := (some n2)) (b := n2) (rc) (rs) "" 13 dX2_push_10 (Or.inl q323) q324 q45 q325 rfl rfl rfl mX4_init_args ⟨Nat.le_of_ble_eq_true rfl, Nat.le_of_ble_eq_true rfl⟩ rfl rfl (Nat.le_trans (w_R (w_R w_0)) (Nat.le_of_ble_eq_true rfl)) (le_b mX4_init_c (Nat.le_refl _)) (le_b mX4_init_s (Nat.le_refl _)) rfl (Cal.mono h ?_)
  rintro s9 v ⟨rfl, h⟩ hx10
  have h := h hx10
  have x11 := hx10.x
  show G w mX2_push (KV K) (rc) (rs) s9 13 [va_rf l0, va_rf l1, U_, U_] [va_rf (some n2), va_rf l0]
  have c8 := kdE x11 c8 (by decide)
  refine G_putR (f := 16) (a := a6) "" 16 dX2_push_13 (Or.inl q243) (Or.inl rfl) rfl e7 (hp16 c8) (nk16 c8) (Or.inl rfl) (fun y => by cases y <;> rfl) (fun y => by cases y <;> rfl) rfl ?_
  generalize hs12 : sFR s9 16 a6 (some n2) = s12
  have x13 : ∀ a, ¬ kd s9 a = 0 → kd s12 a = kd s9 a := by subst hs12; exact fun a _ => congrFun kd_sFR a
  have h := h s12 hs12.symm
  refine G_aload_n 17 dX2_push_16 rfl rfl ?_
  refine G_dup 18 dX2_push_17 (rf_cat _) rfl ?_
  have c8 := kdE x13 c8 (by decide)
  refine G_getI (f := 17) (a := a6) "" 21 dX2_push_18 (Or.inl q244) (Or.inl rfl) rfl e7 (hf17 c8) rfl ?_
  refine G_iconst (v := 1) 22 dX2_push_21 (by decide) rfl ?_
  refine G_iadd 23 dX2_push_22 rfl ?_
  refine G_putI (f := 17) (a := a6) "" 26 dX2_push_23 (Or.inl q244) (Or.inl rfl) rfl e7 (hp17 c8) (nk17 c8) (Or.inl rfl) rfl rfl rfl ?_
  generalize hs14 : sFI s12 17 a6 ((FI s12 17 a6) + 1) = s14
  have x15 : ∀ a, ¬ kd s12 a = 0 → kd s14 a = kd s12 a := by subst hs14; exact fun a _ => congrFun kd_sFI a
  have h := h s14 hs14.symm
  refine G_aload_n 27 dX2_push_26 rfl rfl ?_
  have c8 := kdE x15 c8 (by decide)
  refine G_getI (f := 17) (a := a6) "" 30 dX2_push_27 (Or.inl q244) (Or.inl rfl) rfl e7 (hf17 c8) rfl ?_
  refine G_aload_n 31 dX2_push_30 rfl rfl ?_
  refine G_getI (f := 15) (a := a6) "" 34 dX2_push_31 (Or.inl q242) (Or.inl rfl) rfl e7 (hf15 c8) rfl ?_
  refine G_icmp_le 76 37 dX2_push_34 (by decide) rfl (fun u16 => ?_) (fun u16 => ?_)
  · have h := h.1 u16
    exact G_ret dX2_push_76 rfl ⟨rfl, h⟩
  · have h := h.2 u16
    refine G_aload_n 38 dX2_push_37 rfl rfl ?_
    refine G_getR (f := 16) (a := a6) "" 41 dX2_push_38 (Or.inl q243) (Or.inl rfl) rfl e7 (hf16 c8) rfl ?_
    refine G_astore_n 42 [va_rf l0, va_rf l1, va_rf (FR s14 16 a6), U_] dX2_push_41 (Nat.le_of_ble_eq_true rfl) rfl rfl ?_
    refine G_iconst (v := 1) 43 dX2_push_42 (by decide) rfl ?_
    refine G_istore_n 44 [va_rf l0, va_rf l1, va_rf (FR s14 16 a6), .int 1] dX2_push_43 (Nat.le_of_ble_eq_true rfl) rfl rfl ?_
    exact h
set_option maxHeartbeats 4000000 in
theorem bX2_push_44 {w : Wt} {K : Sg → Prop} {rc rs : Nat} {σ : Sg} (l0 : Option Nat) (l1 : Option Nat) (l2 : Option Nat) (l3 : Int32) (h : ∃ a1, l0 = some a1 ∧ kd σ a1 = 12 ∧ ((FI σ 15 a1 ≤ l3 → ∃ a5, l2 = some a5 ∧ kd σ a5 = 14 ∧ ∀ s8, s8 = sFR σ 32 a5 none → ∀ s10, s10 = sFI s8 17 a1 (FI s8 15 a1) → K s10) ∧ (¬ FI σ 15 a1 ≤ l3 → ∃ a12, l2 = some a12 ∧ kd σ a12 = 14 ∧ G w mX2_push (KV K) (rc) (rs) σ 44 [va_rf l0, va_rf l1, va_rf (FR σ 32 a12), .int (l3 + 1)] []))) : G w mX2_push (KV K) (rc) (rs) σ 44 [va_rf l0, va_rf l1, va_rf l2, .int l3] [] := by
  refine G_iload_n 45 dX2_push_44 rfl rfl ?_
  refine G_aload_n 46 dX2_push_45 rfl rfl ?_
  obtain ⟨a1, e2, h⟩ := h
  obtain ⟨c3, h⟩ := h
  refine G_getI (f := 15) (a := a1) "" 49 dX2_push_46 (Or.inl q242) (Or.inl rfl) rfl e2 (hf15 c3) rfl ?_
  refine G_icmp_ge 63 52 dX2_push_49 (by decide) rfl (fun u4 => ?_) (fun u4 => ?_)
  · have h := h.1 u4
    refine G_aload_n 64 dX2_push_63 rfl rfl ?_
    refine G_null 65 dX2_push_64 rfl ?_
    obtain ⟨a5, e6, h⟩ := h
    obtain ⟨c7, h⟩ := h
    refine G_putR (f := 32) (a := a5) "TrophyPlates" 68 dX2_push_65 (Or.inr ⟨q330, rfl⟩) (Or.inl rfl) rfl e6 (hp32 c7) (nk32 c7) (Or.inl rfl) (fun y => by cases y <;> rfl) (fun y => by cases y <;> rfl) rfl ?_
    generalize hs8 : sFR σ 32 a5 none = s8
    have x9 : ∀ a, ¬ kd σ a = 0 → kd s8 a = kd σ a := by subst hs8; exact fun a _ => congrFun kd_sFR a
    have h := h s8 hs8.symm
    refine G_aload_n 69 dX2_push_68 rfl rfl ?_
    refine G_aload_n 70 dX2_push_69 rfl rfl ?_
    have c3 := kdE x9 c3 (by decide)
    refine G_getI (f := 15) (a := a1) "" 73 dX2_push_70 (Or.inl q242) (Or.inl rfl) rfl e2 (hf15 c3) rfl ?_
    refine G_putI (f := 17) (a := a1) "" 76 dX2_push_73 (Or.inl q244) (Or.inl rfl) rfl e2 (hp17 c3) (nk17 c3) (Or.inl rfl) rfl rfl rfl ?_
    generalize hs10 : sFI s8 17 a1 (FI s8 15 a1) = s10
    have x11 : ∀ a, ¬ kd s8 a = 0 → kd s10 a = kd s8 a := by subst hs10; exact fun a _ => congrFun kd_sFI a
    have h := h s10 hs10.symm
    exact G_ret dX2_push_76 rfl ⟨rfl, h⟩
  · have h := h.2 u4
    refine G_aload_n 53 dX2_push_52 rfl rfl ?_
    obtain ⟨a12, e13, h⟩ := h
    obtain ⟨c14, h⟩ := h
    refine G_getR (f := 32) (a := a12) "TrophyPlates" 56 dX2_push_53 (Or.inr q330) (Or.inl rfl) rfl e13 (hf32 c14) rfl ?_
    refine G_astore_n 57 [va_rf l0, va_rf l1, va_rf (FR σ 32 a12), .int l3] dX2_push_56 (Nat.le_of_ble_eq_true rfl) rfl rfl ?_
    refine G_iinc 60 [va_rf l0, va_rf l1, va_rf (FR σ 32 a12), .int (l3 + 1)] dX2_push_57 rfl rfl (Nat.le_of_ble_eq_true rfl) rfl rfl ?_
    refine G_goto 44 dX2_push_60 (by decide) ?_
    exact h
theorem eX2_push {w : Wt} {K : Sg → Prop} {σ : Sg} (l0 : Option Nat) (l1 : Option Nat) (h : G w mX2_push (KV K) 1 2 σ 0 [va_rf l0, va_rf l1, U_, U_] []) : CalV w mX2_push σ [va_rf l0, va_rf l1] K :=
  Cal.start 2 mX2_push_plain (catR (catR cat0)) (Nat.le_of_ble_eq_true rfl) rfl h
set_option maxHeartbeats 4000000 in
theorem bX2_pop_0 {w : Wt} {K : Sg → Option Nat → Prop} {rc rs : Nat} {σ : Sg} (l0 : Option Nat) (h : ∃ a1, l0 = some a1 ∧ kd σ a1 = 12 ∧ ∃ a4, FR σ 16 a1 = some a4 ∧ kd σ a4 = 14 ∧ ∀ s7, s7 = sFR σ 16 a1 (FR σ 32 a4) → ∀ s9, s9 = sFI s7 17 a1 ((FI s7 17 a1) - 1) → K s9 (FR σ 31 a4)) : G w mX2_pop (KR K) (rc) (rs) σ 0 [va_rf l0, U_] [] := by
  refine G_aload_n 1 dX2_pop_0 rfl rfl ?_
  obtain ⟨a1, e2, h⟩ := h
  obtain ⟨c3, h⟩ := h
  refine G_getR (f := 16) (a := a1) "" 4 dX2_pop_1 (Or.inl q243) (Or.inl rfl) rfl e2 (hf16 c3) rfl ?_
  obtain ⟨a4, e5, h⟩ := h
  obtain ⟨c6, h⟩ := h
  refine G_getR (f := 31) (a := a4) "TrophyPlates" 7 dX2_pop_4 (Or.inr q328) (Or.inl rfl) rfl e5 (hf31 c6) rfl ?_
  refine G_astore_n 8 [va_rf l0, va_rf (FR σ 31 a4)] dX2_pop_7 (Nat.le_of_ble_eq_true rfl) rfl rfl ?_
  refine G_aload_n 9 dX2_pop_8 rfl rfl ?_
  refine G_aload_n 10 dX2_pop_9 rfl rfl ?_
  refine G_getR (f := 16) (a := a1) "" 13 dX2_pop_10 (Or.inl q243) (Or.inl rfl) rfl e2 (hf16 c3) rfl ?_
  refine G_getR (f := 32) (a := a4) "TrophyPlates" 16 dX2_pop_13 (Or.inr q330) (Or.inl rfl) rfl e5 (hf32 c6) rfl ?_
  refine G_putR (f := 16) (a := a1) "" 19 dX2_pop_16 (Or.inl q243) (Or.inl rfl) rfl e2 (hp16 c3) (nk16 c3) (Or.inl rfl) (fun y => by cases y <;> rfl) (fun y => by cases y <;> rfl) rfl ?_
  generalize hs7 : sFR σ 16 a1 (FR σ 32 a4) = s7
  have x8 : ∀ a, ¬ kd σ a = 0 → kd s7 a = kd σ a := by subst hs7; exact fun a _ => congrFun kd_sFR a
  have h := h s7 hs7.symm
  refine G_aload_n 20 dX2_pop_19 rfl rfl ?_
  refine G_dup 21 dX2_pop_20 (rf_cat _) rfl ?_
  have c3 := kdE x8 c3 (by decide)
  refine G_getI (f := 17) (a := a1) "" 24 dX2_pop_21 (Or.inl q244) (Or.inl rfl) rfl e2 (hf17 c3) rfl ?_
  refine G_iconst (v := 1) 25 dX2_pop_24 (by decide) rfl ?_
  refine G_isub 26 dX2_pop_25 rfl ?_
  refine G_putI (f := 17) (a := a1) "" 29 dX2_pop_26 (Or.inl q244) (Or.inl rfl) rfl e2 (hp17 c3) (nk17 c3) (Or.inl rfl) rfl rfl rfl ?_
  generalize hs9 : sFI s7 17 a1 ((FI s7 17 a1) - 1) = s9
  have x10 : ∀ a, ¬ kd s7 a = 0 → kd s9 a = kd s7 a := by subst hs9; exact fun a _ => congrFun kd_sFI a
  have h := h s9 hs9.symm
  refine G_aload_n 30 dX2_pop_29 rfl rfl ?_
  exact G_aret dX2_pop_30 rfl (Or.inl ⟨_, rfl⟩) ⟨_, rfl, h⟩
theorem eX2_pop {w : Wt} {K : Sg → Option Nat → Prop} {σ : Sg} (l0 : Option Nat) (h : G w mX2_pop (KR K) 0 0 σ 0 [va_rf l0, U_] []) : CalR w mX2_pop σ [va_rf l0] K :=
  Cal.start 1 mX2_pop_plain (catR cat0) (Nat.le_of_ble_eq_true rfl) rfl h
set_option maxHeartbeats 4000000 in
theorem bX7_init_0 {w : Wt} {K : Sg → Prop} {rc rs : Nat} {σ : Sg} (l0 : Option Nat) (l1 : Option Nat) (l2 : Option Nat) (l3 : Int32) (l4 : Int32) (l5 : Int32) (h : ∃ a1, l0 = some a1 ∧ kd σ a1 = 17 ∧ ∀ s4, s4 = sFR σ 39 a1 l1 → ∀ s6, s6 = sFR s4 40 a1 l2 → ∀ s8, s8 = sFI s6 41 a1 l3 → ∀ s10, s10 = sFI s8 42 a1 l4 → (l5 = 0 ∨ l5 = 1) ∧ ∀ s13, s13 = sFI s10 43 a1 l5 → K s13) : G w mX7_init (KV K) (rc) (rs) σ 0 [va_rf l0, va_rf l1, va_rf l2, .int l3, .int l4, .int l5] [] := by
  refine G_aload_n 1 dX7_init_0 rfl rfl ?_
  obtain ⟨a1, e2, h⟩ := h
  refine G_objInit (b := a1) 4 dX7_init_1 q1742 q85 q86 rfl e2 (Nat.zero_le _) (Nat.le_of_ble_eq_true rfl) (Nat.le_of_ble_eq_true rfl) ?_
  refine G_aload_n 5 dX7_init_4 rfl rfl ?_
  refine G_aload_n 6 dX7_init_5 rfl rfl ?_
  obtain ⟨c3, h⟩ := h
  refine G_putR (f := 39) (a := a1) "" 9 dX7_init_6 (Or.inl q1743) (Or.inl rfl) rfl e2 (hp39 c3) (nk39 c3) (Or.inr ⟨rfl, rfl, rfl⟩) (fun y => by cases y <;> rfl) (fun y => by cases y <;> rfl) rfl ?_
  generalize hs4 : sFR σ 39 a1 l1 = s4
  have x5 : ∀ a, ¬ kd σ a = 0 → kd s4 a = kd σ a := by subst hs4; exact fun a _ => congrFun kd_sFR a
  have h := h s4 hs4.symm
  refine G_aload_n 10 dX7_init_9 rfl rfl ?_
  refine G_aload_n 11 dX7_init_10 rfl rfl ?_
  have c3 := kdE x5 c3 (by decide)
  refine G_putR (f := 40) (a := a1) "" 14 dX7_init_11 (Or.inl q1746) (Or.inl rfl) rfl e2 (hp40 c3) (nk40 c3) (Or.inr ⟨rfl, rfl, rfl⟩) (fun y => by cases y <;> rfl) (fun y => by cases y <;> rfl) rfl ?_
  generalize hs6 : sFR s4 40 a1 l2 = s6
  have x7 : ∀ a, ¬ kd s4 a = 0 → kd s6 a = kd s4 a := by subst hs6; exact fun a _ => congrFun kd_sFR a
  have h := h s6 hs6.symm
  refine G_aload_n 15 dX7_init_14 rfl rfl ?_
  refine G_iload_n 16 dX7_init_15 rfl rfl ?_
  have c3 := kdE x7 c3 (by decide)
  refine G_putI (f := 41) (a := a1) "" 19 dX7_init_16 (Or.inl q1748) (Or.inl rfl) rfl e2 (hp41 c3) (nk41 c3) (Or.inr ⟨rfl, rfl, rfl⟩) rfl rfl rfl ?_
  generalize hs8 : sFI s6 41 a1 l3 = s8
  have x9 : ∀ a, ¬ kd s6 a = 0 → kd s8 a = kd s6 a := by subst hs8; exact fun a _ => congrFun kd_sFI a
  have h := h s8 hs8.symm
  refine G_aload_n 20 dX7_init_19 rfl rfl ?_
  refine G_iload 22 dX7_init_20 rfl rfl ?_
  have c3 := kdE x9 c3 (by decide)
  refine G_putI (f := 42) (a := a1) "" 25 dX7_init_22 (Or.inl q1750) (Or.inl rfl) rfl e2 (hp42 c3) (nk42 c3) (Or.inr ⟨rfl, rfl, rfl⟩) rfl rfl rfl ?_
  generalize hs10 : sFI s8 42 a1 l4 = s10
  have x11 : ∀ a, ¬ kd s8 a = 0 → kd s10 a = kd s8 a := by subst hs10; exact fun a _ => congrFun kd_sFI a
  have h := h s10 hs10.symm
  refine G_aload_n 26 dX7_init_25 rfl rfl ?_
  refine G_iload 28 dX7_init_26 rfl rfl ?_
  have c3 := kdE x11 c3 (by decide)
  obtain ⟨c12, h⟩ := h
  refine G_putI (f := 43) (a := a1) "" 31 dX7_init_28 (Or.inl q1753) (Or.inl rfl) rfl e2 (hp43 c3) (nk43 c3) (Or.inl rfl) (nar_bz c12).1 (nar_bz c12).2 rfl ?_
  generalize hs13 : sFI s10 43 a1 l5 = s13
  have x14 : ∀ a, ¬ kd s10 a = 0 → kd s13 a = kd s10 a := by subst hs13; exact fun a _ => congrFun kd_sFI a
  have h := h s13 hs13.symm
  exact G_ret dX7_init_31 rfl ⟨rfl, h⟩
theorem eX7_init {w : Wt} {K : Sg → Prop} {σ : Sg} (l0 : Option Nat) (l1 : Option Nat) (l2 : Option Nat) (l3 : Int32) (l4 : Int32) (l5 : Int32) (h : G w mX7_init (KV K) 0 0 σ 0 [va_rf l0, va_rf l1, va_rf l2, .int l3, .int l4, .int l5] []) : CalV w mX7_init σ [va_rf l0, va_rf l1, va_rf l2, .int l3, .int l4, .int l5] K :=
  Cal.start 0 mX7_init_plain (catR (catR (catR (catI (catI (catI cat0)))))) (Nat.le_of_ble_eq_true rfl) rfl h
set_option maxHeartbeats 4000000 in
theorem bX7_init_2_0 {w : Wt} {K : Sg → Prop} {rc rs : Nat} {σ : Sg} (l0 : Option Nat) (l1 : Option Nat) (l2 : Int32) (h : ∃ a1, l1 = some a1 ∧ kd σ a1 = 17 ∧ ∃ a4, l0 = some a4 ∧ CalV w mX7_init σ [va_rf l0, va_rf (FR σ 39 a1), va_rf (FR σ 40 a1), .int (FI σ 41 a1), .int (FI σ 42 a1), .int l2] (fun s6 => Ext σ s6 → K s6)) : G w mX7_init_2 (KV K) (rc) (rs) σ 0 [va_rf l0, va_rf l1, .int l2] [] := by
  refine G_aload_n 1 dX7_init_2_0 rfl rfl ?_
  refine G_aload_n 2 dX7_init_2_1 rfl rfl ?_
  obtain ⟨a1, e2, h⟩ := h
  obtain ⟨c3, h⟩ := h
  refine G_getR (f := 39) (a := a1) "" 5 dX7_init_2_2 (Or.inl q1743) (Or.inl rfl) rfl e2 (hf39 c3) rfl ?_
  refine G_aload_n 6 dX7_init_2_5 rfl rfl ?_
  refine G_getR (f := 40) (a := a1) "" 9 dX7_init_2_6 (Or.inl q1746) (Or.inl rfl) rfl e2 (hf40 c3) rfl ?_
  refine G_aload_n 10 dX7_init_2_9 rfl rfl ?_
  refine G_getI (f := 41) (a := a1) "" 13 dX7_init_2_10 (Or.inl q1748) (Or.inl rfl) rfl e2 (hf41 c3) rfl ?_
  refine G_aload_n 14 dX7_init_2_13 rfl rfl ?_
  refine G_getI (f := 42) (a := a1) "" 17 dX7_init_2_14 (Or.inl q1750) (Or.inl rfl) rfl e2 (hf42 c3) rfl ?_
  refine G_iload_n 18 dX7_init_2_17 rfl rfl ?_
  obtain ⟨a4, e5, h⟩ := h
  refine G_invI (N := mX7_init) (As := [va_rf (FR σ 39 a1), va_rf (FR σ 40 a1), .int (FI σ 41 a1), .int (FI σ 42 a1), .int l2]) (st := []) (t := l0) (b := a4) (rc) (rs) "" 21 dX7_init_2_18 (Or.inl q1817) q1740 q76 q1741 rfl rfl rfl mX7_init_args ⟨Nat.le_of_ble_eq_true rfl, Nat.le_of_ble_eq_true rfl⟩ e5 rfl (Nat.zero_le _) (le_b mX7_init_c (Nat.le_refl _)) (le_b mX7_init_s (Nat.le_refl _)) rfl (Cal.mono h ?_)
  rintro s6 v ⟨rfl, h⟩ hx7
  have h := h hx7
  have x8 := hx7.x
  show G w mX7_init_2 (KV K) (rc) (rs) s6 21 [va_rf l0, va_rf l1, .int l2] []
  exact G_ret dX7_init_2_21 rfl ⟨rfl, h⟩
theorem eX7_init_2 {w : Wt} {K : Sg → Prop} {σ : Sg} (l0 : Option Nat) (l1 : Option Nat) (l2 : Int32) (h : G w mX7_init_2 (KV K) 0 0 σ 0 [va_rf l0, va_rf l1, .int l2] []) : CalV w mX7_init_2 σ [va_rf l0, va_rf l1, .int l2] K :=
  Cal.start 0 mX7_init_2_plain (catR (catR (catI cat0))) (Nat.le_of_ble_eq_true rfl) rfl h
set_option maxHeartbeats 4000000 in
theorem bX7_length_0 {w : Wt} {K : Sg → Int32 → Prop} {rc rs : Nat} {σ : Sg} (l0 : Option Nat) (h : ∃ a1, l0 = some a1 ∧ kd σ a1 = 17 ∧ CalI w mX0_lengthOf σ [va_rf (FR σ 40 a1), .int (FI σ 41 a1)] (fun s4 x5 => Ext σ s4 → K s4 x5)) : G w mX7_length (KI K) (rc) (rs) σ 0 [va_rf l0] [] := by
  refine G_aload_n 1 dX7_length_0 rfl rfl ?_
  obtain ⟨a1, e2, h⟩ := h
  obtain ⟨c3, h⟩ := h
  refine G_getR (f := 40) (a := a1) "" 4 dX7_length_1 (Or.inl q1746) (Or.inl rfl) rfl e2 (hf40 c3) rfl ?_
  refine G_aload_n 5 dX7_length_4 rfl rfl ?_
  refine G_getI (f := 41) (a := a1) "" 8 dX7_length_5 (Or.inl q1748) (Or.inl rfl) rfl e2 (hf41 c3) rfl ?_
  refine G_invS (N := mX0_lengthOf) (As := [va_rf (FR σ 40 a1), .int (FI σ 41 a1)]) (st := []) (rc) (rs) "TrophyPlates" 11 dX7_length_8 (Or.inr q1851) q1852 q31 q1853 rfl mX0_lengthOf_args ⟨Nat.le_of_ble_eq_true rfl, Nat.le_of_ble_eq_true rfl⟩ rfl (Nat.zero_le _) (le_b mX0_lengthOf_c (Nat.le_refl _)) (le_b mX0_lengthOf_s (Nat.le_refl _)) rfl (Cal.mono h ?_)
  rintro s4 v ⟨x5, rfl, h⟩ hx6
  have h := h hx6
  have x7 := hx6.x
  show G w mX7_length (KI K) (rc) (rs) s4 11 [va_rf l0] [.int x5]
  exact G_iret dX7_length_11 rfl ⟨_, rfl, h⟩
theorem eX7_length {w : Wt} {K : Sg → Int32 → Prop} {σ : Sg} (l0 : Option Nat) (h : G w mX7_length (KI K) 0 0 σ 0 [va_rf l0] []) : CalI w mX7_length σ [va_rf l0] K :=
  Cal.start 0 mX7_length_plain (catR cat0) (Nat.le_of_ble_eq_true rfl) rfl h
set_option maxHeartbeats 4000000 in
theorem bX7_effort_0 {w : Wt} {K : Sg → Int32 → Prop} {rc rs : Nat} {σ : Sg} (l0 : Option Nat) (h : ∃ a1, l0 = some a1 ∧ kd σ a1 = 17 ∧ ∃ a4, FR σ 40 a1 = some a4 ∧ kd σ a4 = 24 ∧ CalI w mJ8_length σ [va_rf (FR σ 40 a1)] (fun s6 x7 => Ext σ s6 → K s6 (x7 * ((FI s6 41 a1) + (FI s6 42 a1))))) : G w mX7_effort (KI K) (rc) (rs) σ 0 [va_rf l0] [] := by
  refine G_aload_n 1 dX7_effort_0 rfl rfl ?_
  obtain ⟨a1, e2, h⟩ := h
  obtain ⟨c3, h⟩ := h
  refine G_getR (f := 40) (a := a1) "" 4 dX7_effort_1 (Or.inl q1746) (Or.inl rfl) rfl e2 (hf40 c3) rfl ?_
  obtain ⟨a4, e5, h⟩ := h
  obtain ⟨c8, h⟩ := h
  refine G_invV (N := mJ8_length) (As := []) (st := []) (t := (FR σ 40 a1)) (b := a4) (rc) (rs) 7 dX7_effort_4 q1947 q1861 q2403 q42 q1863 rfl rfl mJ8_length_args ⟨Nat.le_of_ble_eq_true rfl, Nat.le_of_ble_eq_true rfl⟩ rfl (Nat.zero_le _) e5 (rk24 c8) (le_b mJ8_length_c (Nat.le_refl _)) (le_b mJ8_length_s (Nat.le_refl _)) rfl (Cal.mono h ?_)
  rintro s6 v ⟨x7, rfl, h⟩ hx9
  have h := h hx9
  have x10 := hx9.x
  show G w mX7_effort (KI K) (rc) (rs) s6 7 [va_rf l0] [.int x7]
  refine G_aload_n 8 dX7_effort_7 rfl rfl ?_
  have c3 := kdE x10 c3 (by decide)
  refine G_getI (f := 41) (a := a1) "" 11 dX7_effort_8 (Or.inl q1748) (Or.inl rfl) rfl e2 (hf41 c3) rfl ?_
  refine G_aload_n 12 dX7_effort_11 rfl rfl ?_
  refine G_getI (f := 42) (a := a1) "" 15 dX7_effort_12 (Or.inl q1750) (Or.inl rfl) rfl e2 (hf42 c3) rfl ?_
  refine G_iadd 16 dX7_effort_15 rfl ?_
  refine G_imul 17 dX7_effort_16 rfl ?_
  exact G_iret dX7_effort_17 rfl ⟨_, rfl, h⟩
theorem eX7_effort {w : Wt} {K : Sg → Int32 → Prop} {σ : Sg} (l0 : Option Nat) (h : G w mX7_effort (KI K) 0 0 σ 0 [va_rf l0] []) : CalI w mX7_effort σ [va_rf l0] K :=
  Cal.start 0 mX7_effort_plain (catR cat0) (Nat.le_of_ble_eq_true rfl) rfl h
set_option maxHeartbeats 4000000 in
theorem bX1_init_0 {w : Wt} {K : Sg → Prop} {rc rs : Nat} {σ : Sg} (l0 : Option Nat) (h : ∃ a1, l0 = some a1 ∧ ∀ n4, n4 = nx σ → kd σ n4 = 0 → ∀ s5, s5 = nO σ 20 → CalV w mJ2_init s5 [va_rf (some n4)] (fun s8 => Ext s5 s8 → kd s8 a1 = 11 ∧ ∀ s12, s12 = sFR s8 3 a1 (some n4) → ∀ n15, n15 = nx s12 → kd s12 n15 = 0 → ∀ s16, s16 = nO s12 20 → CalV w mJ2_init s16 [va_rf (some n15)] (fun s19 => Ext s16 s19 → ∀ s22, s22 = sFR s19 4 a1 (some n15) → ∀ n25, n25 = nx s22 → kd s22 n25 = 0 → ∀ s26, s26 = nO s22 21 → CalV w mJ5_init s26 [va_rf (some n25)] (fun s29 => Ext s26 s29 → ∀ s32, s32 = sFR s29 5 a1 (some n25) → ∀ n35, n35 = nx s32 → kd s32 n35 = 0 → ∀ s36, s36 = nA s32 1 3 → ∀ s39, s39 = sFR s36 6 a1 (some n35) → ∀ s41, s41 = sFI s39 9 a1 (-9) → ∀ s43, s43 = sFI s41 10 a1 (-9) → ∀ s45, s45 = sFI s43 11 a1 (-9) → K s45)))) : G w mX1_init (KV K) (rc + 4) (rs + 21) σ 0 [va_rf l0] [] := by
  refine G_aload_n 1 dX1_init_0 rfl rfl ?_
  obtain ⟨a1, e2, h⟩ := h
  refine G_objInit (b := a1) 4 dX1_init_1 q92 q85 q86 rfl e2 (Nat.zero_le _) (Nat.le_of_ble_eq_true rfl) (Nat.le_of_ble_eq_true rfl) ?_
  refine G_aload_n 5 dX1_init_4 rfl rfl ?_
  refine G_new (cc := 10) (kn := 20) (q := (RJ2, TJ2, 3)) (rc + 3) (rs + 18) 8 dX1_init_5 rfl q93 q94 q35 rfl rfl (Nat.le_refl _) (Nat.le_refl _) (fun z3 => ?_)
  generalize hn4 : nx σ = n4 at z3 ⊢
  generalize hs5 : nO σ 20 = s5
  have x6 : ∀ a, ¬ kd σ a = 0 → kd s5 a = kd σ a := by subst hs5 hn4; exact kdNx z3
  have c7 : kd s5 n4 = 20 := by subst hs5 hn4; exact kdO_self
  have h := h n4 hn4.symm z3 s5 hs5.symm
  refine G_dup 9 dX1_init_8 (rf_cat _) rfl ?_
  refine G_invI (N := mJ2_init) (As := []) (st := [va_rf (some n4), va_rf l0]) (t := (some n4)) (b := n4) (rc + 3) (rs + 18) "" 12 dX1_init_9 (Or.inl q95) q96 q35 q97 rfl rfl rfl mJ2_init_args ⟨Nat.le_of_ble_eq_true rfl, Nat.le_of_ble_eq_true rfl⟩ rfl rfl (Nat.le_trans (w_R (w_R w_0)) (Nat.le_of_ble_eq_true rfl)) (le_b mJ2_init_c (Nat.le_refl _)) (le_b mJ2_init_s (Nat.le_refl _)) rfl (Cal.mono h ?_)
  rintro s8 v ⟨rfl, h⟩ hx9
  have h := h hx9
  have x10 := hx9.x
  show G w mX1_init (KV K) (rc + 3) (rs + 18) s8 12 [va_rf l0] [va_rf (some n4), va_rf l0]
  obtain ⟨c11, h⟩ := h
  refine G_putR (f := 3) (a := a1) "" 15 dX1_init_12 (Or.inl q184) (Or.inl rfl) rfl e2 (hp3 c11) (nk3 c11) (Or.inr ⟨rfl, rfl, rfl⟩) (fun y => by cases y <;> rfl) (fun y => by cases y <;> rfl) rfl ?_
  generalize hs12 : sFR s8 3 a1 (some n4) = s12
  have x13 : ∀ a, ¬ kd s8 a = 0 → kd s12 a = kd s8 a := by subst hs12; exact fun a _ => congrFun kd_sFR a
  have h := h s12 hs12.symm
  refine G_aload_n 16 dX1_init_15 rfl rfl ?_
  refine G_new (cc := 10) (kn := 20) (q := (RJ2, TJ2, 3)) (rc + 2) (rs + 15) 19 dX1_init_16 rfl q93 q94 q35 rfl rfl (Nat.le_refl _) (Nat.le_refl _) (fun z14 => ?_)
  generalize hn15 : nx s12 = n15 at z14 ⊢
  generalize hs16 : nO s12 20 = s16
  have x17 : ∀ a, ¬ kd s12 a = 0 → kd s16 a = kd s12 a := by subst hs16 hn15; exact kdNx z14
  have c18 : kd s16 n15 = 20 := by subst hs16 hn15; exact kdO_self
  have h := h n15 hn15.symm z14 s16 hs16.symm
  refine G_dup 20 dX1_init_19 (rf_cat _) rfl ?_
  refine G_invI (N := mJ2_init) (As := []) (st := [va_rf (some n15), va_rf l0]) (t := (some n15)) (b := n15) (rc + 2) (rs + 15) "" 23 dX1_init_20 (Or.inl q95) q96 q35 q97 rfl rfl rfl mJ2_init_args ⟨Nat.le_of_ble_eq_true rfl, Nat.le_of_ble_eq_true rfl⟩ rfl rfl (Nat.le_trans (w_R (w_R w_0)) (Nat.le_of_ble_eq_true rfl)) (le_b mJ2_init_c (Nat.le_refl _)) (le_b mJ2_init_s (Nat.le_refl _)) rfl (Cal.mono h ?_)
  rintro s19 v ⟨rfl, h⟩ hx20
  have h := h hx20
  have x21 := hx20.x
  show G w mX1_init (KV K) (rc + 2) (rs + 15) s19 23 [va_rf l0] [va_rf (some n15), va_rf l0]
  have c11 := kdE x13 c11 (by decide)
  have c11 := kdE x17 c11 (by decide)
  have c11 := kdE x21 c11 (by decide)
  refine G_putR (f := 4) (a := a1) "" 26 dX1_init_23 (Or.inl q186) (Or.inl rfl) rfl e2 (hp4 c11) (nk4 c11) (Or.inr ⟨rfl, rfl, rfl⟩) (fun y => by cases y <;> rfl) (fun y => by cases y <;> rfl) rfl ?_
  generalize hs22 : sFR s19 4 a1 (some n15) = s22
  have x23 : ∀ a, ¬ kd s19 a = 0 → kd s22 a = kd s19 a := by subst hs22; exact fun a _ => congrFun kd_sFR a
  have h := h s22 hs22.symm
  refine G_aload_n 27 dX1_init_26 rfl rfl ?_
  refine G_new (cc := 11) (kn := 21) (q := (RJ5, TJ5, 12)) (rc + 1) (rs + 3) 30 dX1_init_27 rfl q122 q123 q38 rfl rfl (Nat.le_refl _) (Nat.le_refl _) (fun z24 => ?_)
  generalize hn25 : nx s22 = n25 at z24 ⊢
  generalize hs26 : nO s22 21 = s26
  have x27 : ∀ a, ¬ kd s22 a = 0 → kd s26 a = kd s22 a := by subst hs26 hn25; exact kdNx z24
  have c28 : kd s26 n25 = 21 := by subst hs26 hn25; exact kdO_self
  have h := h n25 hn25.symm z24 s26 hs26.symm
  refine G_dup 31 dX1_init_30 (rf_cat _) rfl ?_
  refine G_invI (N := mJ5_init) (As := []) (st := [va_rf (some n25), va_rf l0]) (t := (some n25)) (b := n25) (rc + 1) (rs + 3) "" 34 dX1_init_31 (Or.inl q124) q125 q38 q126 rfl rfl rfl mJ5_init_args ⟨Nat.le_of_ble_eq_true rfl, Nat.le_of_ble_eq_true rfl⟩ rfl rfl (Nat.le_trans (w_R (w_R w_0)) (Nat.le_of_ble_eq_true rfl)) (le_b mJ5_init_c (Nat.le_refl _)) (le_b mJ5_init_s (Nat.le_refl _)) rfl (Cal.mono h ?_)
  rintro s29 v ⟨rfl, h⟩ hx30
  have h := h hx30
  have x31 := hx30.x
  show G w mX1_init (KV K) (rc + 1) (rs + 3) s29 34 [va_rf l0] [va_rf (some n25), va_rf l0]
  have c11 := kdE x23 c11 (by decide)
  have c11 := kdE x27 c11 (by decide)
  have c11 := kdE x31 c11 (by decide)
  refine G_putR (f := 5) (a := a1) "" 37 dX1_init_34 (Or.inl q188) (Or.inl rfl) rfl e2 (hp5 c11) (nk5 c11) (Or.inr ⟨rfl, rfl, rfl⟩) (fun y => by cases y <;> rfl) (fun y => by cases y <;> rfl) rfl ?_
  generalize hs32 : sFR s29 5 a1 (some n25) = s32
  have x33 : ∀ a, ¬ kd s29 a = 0 → kd s32 a = kd s29 a := by subst hs32; exact fun a _ => congrFun kd_sFR a
  have h := h s32 hs32.symm
  refine G_aload_n 38 dX1_init_37 rfl rfl ?_
  refine G_iconst (v := 3) 39 dX1_init_38 (by decide) rfl ?_
  refine G_newI (N := 3) (rc) (rs) 41 dX1_init_39 rfl (by decide) rfl (Nat.le_refl _) (Nat.le_refl _) q232 (fun z34 => ?_)
  generalize hn35 : nx s32 = n35 at z34 ⊢
  generalize hs36 : nA s32 1 3 = s36
  have x37 : ∀ a, ¬ kd s32 a = 0 → kd s36 a = kd s32 a := by subst hs36 hn35; exact kdAx z34
  have c38 : kd s36 n35 = 1 := by subst hs36 hn35; exact kdA_self
  have h := h n35 hn35.symm z34 s36 hs36.symm
  have c11 := kdE x33 c11 (by decide)
  have c11 := kdE x37 c11 (by decide)
  refine G_putR (f := 6) (a := a1) "" 44 dX1_init_41 (Or.inl q190) (Or.inl rfl) rfl e2 (hp6 c11) (nk6 c11) (Or.inr ⟨rfl, rfl, rfl⟩) (fun y => by cases y <;> rfl) (fun y => by cases y <;> rfl) rfl ?_
  generalize hs39 : sFR s36 6 a1 (some n35) = s39
  have x40 : ∀ a, ¬ kd s36 a = 0 → kd s39 a = kd s36 a := by subst hs39; exact fun a _ => congrFun kd_sFR a
  have h := h s39 hs39.symm
  refine G_aload_n 45 dX1_init_44 rfl rfl ?_
  refine G_bipush (v := (-9)) 47 dX1_init_45 (by decide) rfl ?_
  have c11 := kdE x40 c11 (by decide)
  refine G_putI (f := 9) (a := a1) "" 50 dX1_init_47 (Or.inl q196) (Or.inl rfl) rfl e2 (hp9 c11) (nk9 c11) (Or.inl rfl) rfl rfl rfl ?_
  generalize hs41 : sFI s39 9 a1 (-9) = s41
  have x42 : ∀ a, ¬ kd s39 a = 0 → kd s41 a = kd s39 a := by subst hs41; exact fun a _ => congrFun kd_sFI a
  have h := h s41 hs41.symm
  refine G_aload_n 51 dX1_init_50 rfl rfl ?_
  refine G_bipush (v := (-9)) 53 dX1_init_51 (by decide) rfl ?_
  have c11 := kdE x42 c11 (by decide)
  refine G_putI (f := 10) (a := a1) "" 56 dX1_init_53 (Or.inl q198) (Or.inl rfl) rfl e2 (hp10 c11) (nk10 c11) (Or.inl rfl) rfl rfl rfl ?_
  generalize hs43 : sFI s41 10 a1 (-9) = s43
  have x44 : ∀ a, ¬ kd s41 a = 0 → kd s43 a = kd s41 a := by subst hs43; exact fun a _ => congrFun kd_sFI a
  have h := h s43 hs43.symm
  refine G_aload_n 57 dX1_init_56 rfl rfl ?_
  refine G_bipush (v := (-9)) 59 dX1_init_57 (by decide) rfl ?_
  have c11 := kdE x44 c11 (by decide)
  refine G_putI (f := 11) (a := a1) "" 62 dX1_init_59 (Or.inl q199) (Or.inl rfl) rfl e2 (hp11 c11) (nk11 c11) (Or.inl rfl) rfl rfl rfl ?_
  generalize hs45 : sFI s43 11 a1 (-9) = s45
  have x46 : ∀ a, ¬ kd s43 a = 0 → kd s45 a = kd s43 a := by subst hs45; exact fun a _ => congrFun kd_sFI a
  have h := h s45 hs45.symm
  exact G_ret dX1_init_62 rfl ⟨rfl, h⟩
theorem eX1_init {w : Wt} {K : Sg → Prop} {σ : Sg} (l0 : Option Nat) (h : G w mX1_init (KV K) 4 21 σ 0 [va_rf l0] []) : CalV w mX1_init σ [va_rf l0] K :=
  Cal.start 0 mX1_init_plain (catR cat0) (Nat.le_of_ble_eq_true rfl) rfl h
set_option maxHeartbeats 4000000 in
theorem bX1_copy_0 {w : Wt} {K : Sg → Option Nat → Prop} {rc rs : Nat} {σ : Sg} (l0 : Option Nat) (h : ∀ n2, n2 = nx σ → kd σ n2 = 0 → ∀ s3, s3 = nO σ 11 → CalV w mX1_init s3 [va_rf (some n2)] (fun s6 => Ext s3 s6 → ∃ a9, l0 = some a9 ∧ kd s6 a9 = 11 ∧ ∃ a12, FR s6 3 a9 = some a12 ∧ kd s6 a12 = 20 ∧ CalR w mJ2_iterator s6 [va_rf (FR s6 3 a9)] (fun s14 x15 => Ext s6 s14 → G w mX1_copy (KR K) (rc) (rs) s14 18 [va_rf l0, va_rf (some n2), va_rf x15, U_, U_] []))) : G w mX1_copy (KR K) (rc + 6) (rs + 37) σ 0 [va_rf l0, U_, U_, U_, U_] [] := by
  refine G_new (cc := 1) (kn := 11) (q := (RX1, TX1, 12)) (rc + 5) (rs + 25) 3 dX1_copy_0 rfl q340 q88 q32 rfl rfl (Nat.le_refl _) (Nat.le_refl _) (fun z1 => ?_)
  generalize hn2 : nx σ = n2 at z1 ⊢
  generalize hs3 : nO σ 11 = s3
  have x4 : ∀ a, ¬ kd σ a = 0 → kd s3 a = kd σ a := by subst hs3 hn2; exact kdNx z1
  have c5 : kd s3 n2 = 11 := by subst hs3 hn2; exact kdO_self
  have h := h n2 hn2.symm z1 s3 hs3.symm
  refine G_dup 4 dX1_copy_3 (rf_cat _) rfl ?_
  refine G_invI (N := mX1_init) (As := []) (st := [va_rf (some n2)]) (t := (some n2)) (b := n2) (rc + 1) (rs + 4) "" 7 dX1_copy_4 (Or.inl q341) q90 q32 q91 rfl rfl rfl mX1_init_args ⟨Nat.le_of_ble_eq_true rfl, Nat.le_of_ble_eq_true rfl⟩ rfl rfl (Nat.le_trans (w_R w_0) (Nat.le_of_ble_eq_true rfl)) (le_b mX1_init_c (Nat.le_refl _)) (le_b mX1_init_s (Nat.le_refl _)) rfl (Cal.mono h ?_)
  rintro s6 v ⟨rfl, h⟩ hx7
  have h := h hx7
  have x8 := hx7.x
  show G w mX1_copy (KR K) (rc + 1) (rs + 4) s6 7 [va_rf l0, U_, U_, U_, U_] [va_rf (some n2)]
  refine G_astore_n 8 [va_rf l0, va_rf (some n2), U_, U_, U_] dX1_copy_7 (Nat.le_of_ble_eq_true rfl) rfl rfl ?_
  refine G_aload_n 9 dX1_copy_8 rfl rfl ?_
  obtain ⟨a9, e10, h⟩ := h
  obtain ⟨c11, h⟩ := h
  refine G_getR (f := 3) (a := a9) "" 12 dX1_copy_9 (Or.inl q184) (Or.inl rfl) rfl e10 (hf3 c11) rfl ?_
  obtain ⟨a12, e13, h⟩ := h
  obtain ⟨c16, h⟩ := h
  refine G_invF (N := mJ2_iterator) (x := ⟨"java/util/List", "iterator", "()Ljava/util/Iterator;"⟩) (As := []) (st := []) (t := (FR s6 3 a9)) (b := a12) (rc) (rs) 17 dX1_copy_12 q343 q346 q348 q35 q350 q345 q344 q349 q347 q307 rfl ax22 ⟨Nat.le_of_ble_eq_true rfl, Nat.le_of_ble_eq_true rfl⟩ rfl (Nat.zero_le _) e13 (rk20 c16) (le_b mJ2_iterator_c (Nat.le_refl _)) (le_b mJ2_iterator_s (Nat.le_refl _)) rfl (Cal.mono h ?_)
  rintro s14 v ⟨x15, rfl, h⟩ hx17
  have h := h hx17
  have x18 := hx17.x
  show G w mX1_copy (KR K) (rc) (rs) s14 17 [va_rf l0, va_rf (some n2), U_, U_, U_] [va_rf x15]
  refine G_astore_n 18 [va_rf l0, va_rf (some n2), va_rf x15, U_, U_] dX1_copy_17 (Nat.le_of_ble_eq_true rfl) rfl rfl ?_
  exact h
set_option maxHeartbeats 4000000 in
theorem bX1_copy_18 {w : Wt} {K : Sg → Option Nat → Prop} {rc rs : Nat} {σ : Sg} (l0 : Option Nat) (l1 : Option Nat) (l2 : Option Nat) (v3 : Value) (v4 : Value) (h : ∃ a1, l2 = some a1 ∧ kd σ a1 = 19 ∧ CalI w mJ10_hasNext σ [va_rf l2] (fun s3 x4 => Ext σ s3 → ((x4 = 0 → ∃ a9, l0 = some a9 ∧ kd s3 a9 = 11 ∧ ∃ a12, FR s3 4 a9 = some a12 ∧ kd s3 a12 = 20 ∧ CalR w mJ2_iterator s3 [va_rf (FR s3 4 a9)] (fun s14 x15 => Ext s3 s14 → G w mX1_copy (KR K) (rc + 2) (rs + 24) s14 64 [va_rf l0, va_rf l1, va_rf x15, v3, v4] [])) ∧ (¬ x4 = 0 → CalR w mJ10_next s3 [va_rf l2] (fun s19 x20 => Ext s3 s19 → (x20 = none ∨ ∃ b, x20 = some b ∧ kd s19 b = 15) ∧ ∃ a24, l1 = some a24 ∧ kd s19 a24 = 11 ∧ ∃ a27, x20 = some a27 ∧ kd s19 a27 = 15 ∧ CalR w mX5_copy s19 [va_rf x20] (fun s29 x30 => Ext s19 s29 → ∃ a34, FR s19 3 a24 = some a34 ∧ kd s29 a34 = 20 ∧ CalI w mJ2_add s29 [va_rf (FR s19 3 a24), va_rf x30] (fun s36 x37 => Ext s29 s36 → G w mX1_copy (KR K) (rc) (rs) s36 18 [va_rf l0, va_rf l1, va_rf l2, va_rf x20, v4] []))))))) : G w mX1_copy (KR K) (rc + 3) (rs + 28) σ 18 [va_rf l0, va_rf l1, va_rf l2, v3, v4] [] := by
  refine G_aload_n 19 dX1_copy_18 rfl rfl ?_
  obtain ⟨a1, e2, h⟩ := h
  obtain ⟨c5, h⟩ := h
  refine G_invF (N := mJ10_hasNext) (x := ⟨"java/util/Iterator", "hasNext", "()Z"⟩) (As := []) (st := []) (t := l2) (b := a1) (rc + 3) (rs + 28) 24 dX1_copy_19 q371 q375 q377 q46 q379 q373 q372 q378 q376 q374 rfl ax25 ⟨Nat.le_of_ble_eq_true rfl, Nat.le_of_ble_eq_true rfl⟩ rfl (Nat.zero_le _) e2 (rk19 c5) (le_b mJ10_hasNext_c (Nat.le_refl _)) (le_b mJ10_hasNext_s (Nat.le_refl _)) rfl (Cal.mono h ?_)
  rintro s3 v ⟨x4, rfl, h⟩ hx6
  have h := h hx6
  have x7 := hx6.x
  show G w mX1_copy (KR K) (rc + 3) (rs + 28) s3 24 [va_rf l0, va_rf l1, va_rf l2, v3, v4] [.int x4]
  refine G_if_eq 54 27 dX1_copy_24 (by decide) rfl (fun u8 => ?_) (fun u8 => ?_)
  · have h := h.1 u8
    refine G_aload_n 55 dX1_copy_54 rfl rfl ?_
    obtain ⟨a9, e10, h⟩ := h
    obtain ⟨c11, h⟩ := h
    refine G_getR (f := 4) (a := a9) "" 58 dX1_copy_55 (Or.inl q186) (Or.inl rfl) rfl e10 (hf4 c11) rfl ?_
    obtain ⟨a12, e13, h⟩ := h
    obtain ⟨c16, h⟩ := h
    refine G_invF (N := mJ2_iterator) (x := ⟨"java/util/List", "iterator", "()Ljava/util/Iterator;"⟩) (As := []) (st := []) (t := (FR s3 4 a9)) (b := a12) (rc + 2) (rs + 24) 63 dX1_copy_58 q343 q346 q348 q35 q350 q345 q344 q349 q347 q307 rfl ax22 ⟨Nat.le_of_ble_eq_true rfl, Nat.le_of_ble_eq_true rfl⟩ rfl (Nat.zero_le _) e13 (rk20 c16) (le_b mJ2_iterator_c (Nat.le_refl _)) (le_b mJ2_iterator_s (Nat.le_refl _)) rfl (Cal.mono h ?_)
    rintro s14 v ⟨x15, rfl, h⟩ hx17
    have h := h hx17
    have x18 := hx17.x
    show G w mX1_copy (KR K) (rc + 2) (rs + 24) s14 63 [va_rf l0, va_rf l1, va_rf l2, v3, v4] [va_rf x15]
    refine G_astore_n 64 [va_rf l0, va_rf l1, va_rf x15, v3, v4] dX1_copy_63 (Nat.le_of_ble_eq_true rfl) rfl rfl ?_
    exact h
  · have h := h.2 u8
    refine G_aload_n 28 dX1_copy_27 rfl rfl ?_
    have c5 := kdE x7 c5 (by decide)
    refine G_invF (N := mJ10_next) (x := ⟨"java/util/Iterator", "next", "()Ljava/lang/Object;"⟩) (As := []) (st := []) (t := l2) (b := a1) (rc + 3) (rs + 28) 33 dX1_copy_28 q399 q402 q404 q46 q406 q401 q400 q405 q403 q374 rfl ax24 ⟨Nat.le_of_ble_eq_true rfl, Nat.le_of_ble_eq_true rfl⟩ rfl (Nat.zero_le _) e2 (rk19 c5) (le_b mJ10_next_c (Nat.le_refl _)) (le_b mJ10_next_s (Nat.le_refl _)) rfl (Cal.mono h ?_)
    rintro s19 v ⟨x20, rfl, h⟩ hx21
    have h := h hx21
    have x22 := hx21.x
    show G w mX1_copy (KR K) (rc + 3) (rs + 28) s19 33 [va_rf l0, va_rf l1, va_rf l2, v3, v4] [va_rf x20]
    obtain ⟨c23, h⟩ := h
    refine G_cast 36 dX1_copy_33 q464 rfl (c23.imp id (fun ⟨b, e, k⟩ => ⟨b, e, co4 k⟩)) ?_
    refine G_astore_n 37 [va_rf l0, va_rf l1, va_rf l2, va_rf x20, v4] dX1_copy_36 (Nat.le_of_ble_eq_true rfl) rfl rfl ?_
    refine G_aload_n 38 dX1_copy_37 rfl rfl ?_
    obtain ⟨a24, e25, h⟩ := h
    obtain ⟨c26, h⟩ := h
    refine G_getR (f := 3) (a := a24) "" 41 dX1_copy_38 (Or.inl q184) (Or.inl rfl) rfl e25 (hf3 c26) rfl ?_
    refine G_aload_n 42 dX1_copy_41 rfl rfl ?_
    obtain ⟨a27, e28, h⟩ := h
    obtain ⟨c31, h⟩ := h
    refine G_invV (N := mX5_copy) (As := []) (st := [va_rf (FR s19 3 a24)]) (t := x20) (b := a27) (rc + 1) (rs + 22) 45 dX1_copy_42 q465 q466 q467 q47 q468 rfl rfl mX5_copy_args ⟨Nat.le_of_ble_eq_true rfl, Nat.le_of_ble_eq_true rfl⟩ rfl (Nat.le_trans (w_R w_0) (Nat.le_of_ble_eq_true rfl)) e28 (rk15 c31) (le_b mX5_copy_c (Nat.le_refl _)) (le_b mX5_copy_s (Nat.le_refl _)) rfl (Cal.mono h ?_)
    rintro s29 v ⟨x30, rfl, h⟩ hx32
    have h := h hx32
    have x33 := hx32.x
    show G w mX1_copy (KR K) (rc + 1) (rs + 22) s29 45 [va_rf l0, va_rf l1, va_rf l2, va_rf x20, v4] [va_rf x30, va_rf (FR s19 3 a24)]
    obtain ⟨a34, e35, h⟩ := h
    obtain ⟨c38, h⟩ := h
    refine G_invF (N := mJ2_add) (x := ⟨"java/util/List", "add", "(Ljava/lang/Object;)Z"⟩) (As := [va_rf x30]) (st := []) (t := (FR s19 3 a24)) (b := a34) (rc) (rs) 50 dX1_copy_45 q497 q500 q502 q35 q504 q499 q498 q503 q501 q307 rfl ax23 ⟨Nat.le_of_ble_eq_true rfl, Nat.le_of_ble_eq_true rfl⟩ rfl (Nat.zero_le _) e35 (rk20 c38) (le_b mJ2_add_c (Nat.le_refl _)) (le_b mJ2_add_s (Nat.le_refl _)) rfl (Cal.mono h ?_)
    rintro s36 v ⟨x37, rfl, h⟩ hx39
    have h := h hx39
    have x40 := hx39.x
    show G w mX1_copy (KR K) (rc) (rs) s36 50 [va_rf l0, va_rf l1, va_rf l2, va_rf x20, v4] [.int x37]
    refine G_pop 51 dX1_copy_50 (rfl) rfl ?_
    refine G_goto 18 dX1_copy_51 (by decide) ?_
    exact h
set_option maxHeartbeats 4000000 in
theorem bX1_copy_64 {w : Wt} {K : Sg → Option Nat → Prop} {rc rs : Nat} {σ : Sg} (l0 : Option Nat) (l1 : Option Nat) (l2 : Option Nat) (v3 : Value) (v4 : Value) (h : ∃ a1, l2 = some a1 ∧ kd σ a1 = 19 ∧ CalI w mJ10_hasNext σ [va_rf l2] (fun s3 x4 => Ext σ s3 → ((x4 = 0 → ∃ a9, l0 = some a9 ∧ kd s3 a9 = 11 ∧ ∃ a12, FR s3 5 a9 = some a12 ∧ kd s3 a12 = 21 ∧ CalR w mJ5_entrySet s3 [va_rf (FR s3 5 a9)] (fun s14 x15 => Ext s3 s14 → ∃ a19, x15 = some a19 ∧ kd s14 a19 = 25 ∧ CalR w mJ16_iterator s14 [va_rf x15] (fun s21 x22 => Ext s14 s21 → G w mX1_copy (KR K) (rc) (rs + 15) s21 113 [va_rf l0, va_rf l1, va_rf x22, v3, v4] []))) ∧ (¬ x4 = 0 → CalR w mJ10_next s3 [va_rf l2] (fun s26 x27 => Ext s3 s26 → (x27 = none ∨ ∃ b, x27 = some b ∧ kd s26 b = 17) ∧ ∃ a31, l1 = some a31 ∧ kd s26 a31 = 11 ∧ ∃ a34, FR s26 4 a31 = some a34 ∧ kd s26 a34 = 20 ∧ CalI w mJ2_add s26 [va_rf (FR s26 4 a31), va_rf x27] (fun s36 x37 => Ext s26 s36 → G w mX1_copy (KR K) (rc + 1) (rs) s36 64 [va_rf l0, va_rf l1, va_rf l2, va_rf x27, .int x37] [])))))) : G w mX1_copy (KR K) (rc + 2) (rs + 22) σ 64 [va_rf l0, va_rf l1, va_rf l2, v3, v4] [] := by
  refine G_aload_n 65 dX1_copy_64 rfl rfl ?_
  obtain ⟨a1, e2, h⟩ := h
  obtain ⟨c5, h⟩ := h
  refine G_invF (N := mJ10_hasNext) (x := ⟨"java/util/Iterator", "hasNext", "()Z"⟩) (As := []) (st := []) (t := l2) (b := a1) (rc + 2) (rs + 22) 70 dX1_copy_65 q371 q375 q377 q46 q379 q373 q372 q378 q376 q374 rfl ax25 ⟨Nat.le_of_ble_eq_true rfl, Nat.le_of_ble_eq_true rfl⟩ rfl (Nat.zero_le _) e2 (rk19 c5) (le_b mJ10_hasNext_c (Nat.le_refl _)) (le_b mJ10_hasNext_s (Nat.le_refl _)) rfl (Cal.mono h ?_)
  rintro s3 v ⟨x4, rfl, h⟩ hx6
  have h := h hx6
  have x7 := hx6.x
  show G w mX1_copy (KR K) (rc + 2) (rs + 22) s3 70 [va_rf l0, va_rf l1, va_rf l2, v3, v4] [.int x4]
  refine G_if_eq 98 73 dX1_copy_70 (by decide) rfl (fun u8 => ?_) (fun u8 => ?_)
  · have h := h.1 u8
    refine G_aload_n 99 dX1_copy_98 rfl rfl ?_
    obtain ⟨a9, e10, h⟩ := h
    obtain ⟨c11, h⟩ := h
    refine G_getR (f := 5) (a := a9) "" 102 dX1_copy_99 (Or.inl q188) (Or.inl rfl) rfl e10 (hf5 c11) rfl ?_
    obtain ⟨a12, e13, h⟩ := h
    obtain ⟨c16, h⟩ := h
    refine G_invF (N := mJ5_entrySet) (x := ⟨"java/util/Map", "entrySet", "()Ljava/util/Set;"⟩) (As := []) (st := []) (t := (FR s3 5 a9)) (b := a12) (rc + 1) (rs + 20) 107 dX1_copy_102 q580 q603 q605 q38 q607 q582 q581 q606 q604 q602 rfl ax27 ⟨Nat.le_of_ble_eq_true rfl, Nat.le_of_ble_eq_true rfl⟩ rfl (Nat.zero_le _) e13 (rk21 c16) (le_b mJ5_entrySet_c (Nat.le_refl _)) (le_b mJ5_entrySet_s (Nat.le_refl _)) rfl (Cal.mono h ?_)
    rintro s14 v ⟨x15, rfl, h⟩ hx17
    have h := h hx17
    have x18 := hx17.x
    show G w mX1_copy (KR K) (rc + 1) (rs + 20) s14 107 [va_rf l0, va_rf l1, va_rf l2, v3, v4] [va_rf x15]
    obtain ⟨a19, e20, h⟩ := h
    obtain ⟨c23, h⟩ := h
    refine G_invF (N := mJ16_iterator) (x := ⟨"java/util/Set", "iterator", "()Ljava/util/Iterator;"⟩) (As := []) (st := []) (t := x15) (b := a19) (rc) (rs + 15) 112 dX1_copy_107 q627 q723 q725 q54 q727 q629 q628 q726 q724 q722 rfl ax26 ⟨Nat.le_of_ble_eq_true rfl, Nat.le_of_ble_eq_true rfl⟩ rfl (Nat.zero_le _) e20 (rk25 c23) (le_b mJ16_iterator_c (Nat.le_refl _)) (le_b mJ16_iterator_s (Nat.le_refl _)) rfl (Cal.mono h ?_)
    rintro s21 v ⟨x22, rfl, h⟩ hx24
    have h := h hx24
    have x25 := hx24.x
    show G w mX1_copy (KR K) (rc) (rs + 15) s21 112 [va_rf l0, va_rf l1, va_rf l2, v3, v4] [va_rf x22]
    refine G_astore_n 113 [va_rf l0, va_rf l1, va_rf x22, v3, v4] dX1_copy_112 (Nat.le_of_ble_eq_true rfl) rfl rfl ?_
    exact h
  · have h := h.2 u8
    refine G_aload_n 74 dX1_copy_73 rfl rfl ?_
    have c5 := kdE x7 c5 (by decide)
    refine G_invF (N := mJ10_next) (x := ⟨"java/util/Iterator", "next", "()Ljava/lang/Object;"⟩) (As := []) (st := []) (t := l2) (b := a1) (rc + 2) (rs + 22) 79 dX1_copy_74 q399 q402 q404 q46 q406 q401 q400 q405 q403 q374 rfl ax24 ⟨Nat.le_of_ble_eq_true rfl, Nat.le_of_ble_eq_true rfl⟩ rfl (Nat.zero_le _) e2 (rk19 c5) (le_b mJ10_next_c (Nat.le_refl _)) (le_b mJ10_next_s (Nat.le_refl _)) rfl (Cal.mono h ?_)
    rintro s26 v ⟨x27, rfl, h⟩ hx28
    have h := h hx28
    have x29 := hx28.x
    show G w mX1_copy (KR K) (rc + 2) (rs + 22) s26 79 [va_rf l0, va_rf l1, va_rf l2, v3, v4] [va_rf x27]
    obtain ⟨c30, h⟩ := h
    refine G_cast 82 dX1_copy_79 q578 rfl (c30.imp id (fun ⟨b, e, k⟩ => ⟨b, e, co5 k⟩)) ?_
    refine G_astore_n 83 [va_rf l0, va_rf l1, va_rf l2, va_rf x27, v4] dX1_copy_82 (Nat.le_of_ble_eq_true rfl) rfl rfl ?_
    refine G_aload_n 84 dX1_copy_83 rfl rfl ?_
    obtain ⟨a31, e32, h⟩ := h
    obtain ⟨c33, h⟩ := h
    refine G_getR (f := 4) (a := a31) "" 87 dX1_copy_84 (Or.inl q186) (Or.inl rfl) rfl e32 (hf4 c33) rfl ?_
    refine G_aload_n 88 dX1_copy_87 rfl rfl ?_
    obtain ⟨a34, e35, h⟩ := h
    obtain ⟨c38, h⟩ := h
    refine G_invF (N := mJ2_add) (x := ⟨"java/util/List", "add", "(Ljava/lang/Object;)Z"⟩) (As := [va_rf x27]) (st := []) (t := (FR s26 4 a31)) (b := a34) (rc + 1) (rs) 93 dX1_copy_88 q497 q500 q502 q35 q504 q499 q498 q503 q501 q307 rfl ax23 ⟨Nat.le_of_ble_eq_true rfl, Nat.le_of_ble_eq_true rfl⟩ rfl (Nat.zero_le _) e35 (rk20 c38) (le_b mJ2_add_c (Nat.le_refl _)) (le_b mJ2_add_s (Nat.le_refl _)) rfl (Cal.mono h ?_)
    rintro s36 v ⟨x37, rfl, h⟩ hx39
    have h := h hx39
    have x40 := hx39.x
    show G w mX1_copy (KR K) (rc + 1) (rs) s36 93 [va_rf l0, va_rf l1, va_rf l2, va_rf x27, v4] [.int x37]
    refine G_istore 95 [va_rf l0, va_rf l1, va_rf l2, va_rf x27, .int x37] dX1_copy_93 (Nat.le_of_ble_eq_true rfl) rfl rfl ?_
    refine G_goto 64 dX1_copy_95 (by decide) ?_
    exact h
set_option maxHeartbeats 4000000 in
theorem bX1_copy_113 {w : Wt} {K : Sg → Option Nat → Prop} {rc rs : Nat} {σ : Sg} (l0 : Option Nat) (l1 : Option Nat) (l2 : Option Nat) (v3 : Value) (v4 : Value) (h : ∃ a1, l2 = some a1 ∧ kd σ a1 = 27 ∧ CalI w mJ22_hasNext σ [va_rf l2] (fun s3 x4 => Ext σ s3 → ((x4 = 0 → ∃ a9, l0 = some a9 ∧ kd s3 a9 = 11 ∧ ∃ a12, l1 = some a12 ∧ kd s3 a12 = 11 ∧ ∃ a15, FR s3 6 a9 = some a15 ∧ ∃ a17, FR s3 6 a12 = some a17 ∧ ∃ N19 N20 N21, 0 = nI N19 ∧ 0 = nI N20 ∧ 3 = nI N21 ∧ (kd s3 a15 = 1 ∧ kd s3 a17 = 1 ∧ N19 + N21 ≤ ln s3 a15 ∧ N20 + N21 ≤ ln s3 a17 ∧ ln s3 a15 < 2 ^ 31 ∧ ln s3 a17 < 2 ^ 31 ∧ ∀ i, i < N21 → fits (elT 1) (.int (AI s3 a15 (N19 + i))) = true) ∧ ∀ s26, s26 = sAIs s3 a17 (va_cpy (AI s3 a15) (AI s3 a17) N19 N20 N21) → ∀ s28, s28 = sFI s26 7 a12 (FI s26 7 a9) → ∀ s30, s30 = sFR s28 8 a12 (FR s28 8 a9) → ∀ s32, s32 = sFI s30 9 a12 (FI s30 9 a9) → ∀ s34, s34 = sFI s32 10 a12 (FI s32 10 a9) → ∀ s36, s36 = sFI s34 11 a12 (FI s34 11 a9) → ∀ s38, s38 = sFI s36 12 a12 (FI s36 12 a9) → ∀ s40, s40 = sFI s38 13 a12 (FI s38 13 a9) → ∀ s42, s42 = sFI s40 14 a12 (FI s40 14 a9) → K s42 l1) ∧ (¬ x4 = 0 → CalR w mJ23_next s3 [va_rf l2] (fun s44 x45 => Ext s3 s44 → (x45 = none ∨ ∃ b, x45 = some b ∧ kd s44 b ∈ [30, 31, 32]) ∧ ∃ a49, l1 = some a49 ∧ kd s44 a49 = 11 ∧ ∃ a52, x45 = some a52 ∧ kd s44 a52 ∈ [30, 31, 32] ∧ CalR w mJ28_getKey s44 [va_rf x45] (fun s54 x55 => Ext s44 s54 → (x55 = none ∨ ∃ b, x55 = some b ∧ kd s54 b = 16) ∧ CalR w mJ28_getValue s54 [va_rf x45] (fun s60 x61 => Ext s54 s60 → (x61 = none ∨ ∃ b, x61 = some b ∧ kd s60 b ∈ [29, 6]) ∧ ∃ a65, FR s44 5 a49 = some a65 ∧ kd s60 a65 = 21 ∧ CalR w mJ4_put s60 [va_rf (FR s44 5 a49), va_rf x55, va_rf x61] (fun s67 x68 => Ext s60 s67 → (x68 = none ∨ ∃ b, x68 = some b ∧ kd s67 b ∈ [29, 6]) ∧ G w mX1_copy (KR K) (rc) (rs) s67 113 [va_rf l0, va_rf l1, va_rf l2, va_rf x45, va_rf x68] [])))))))) : G w mX1_copy (KR K) (rc + 25) (rs + 450) σ 113 [va_rf l0, va_rf l1, va_rf l2, v3, v4] [] := by
  refine G_aload_n 114 dX1_copy_113 rfl rfl ?_
  obtain ⟨a1, e2, h⟩ := h
  obtain ⟨c5, h⟩ := h
  refine G_invF (N := mJ22_hasNext) (x := ⟨"java/util/Iterator", "hasNext", "()Z"⟩) (As := []) (st := []) (t := l2) (b := a1) (rc + 25) (rs + 450) 119 dX1_copy_114 q371 q390 q392 q60 q394 q373 q372 q393 q391 q389 rfl ax25 ⟨Nat.le_of_ble_eq_true rfl, Nat.le_of_ble_eq_true rfl⟩ rfl (Nat.zero_le _) e2 (rk27 c5) (le_b mJ22_hasNext_c (Nat.le_refl _)) (le_b mJ22_hasNext_s (Nat.le_refl _)) rfl (Cal.mono h ?_)
  rintro s3 v ⟨x4, rfl, h⟩ hx6
  have h := h hx6
  have x7 := hx6.x
  show G w mX1_copy (KR K) (rc + 25) (rs + 450) s3 119 [va_rf l0, va_rf l1, va_rf l2, v3, v4] [.int x4]
  refine G_if_eq 167 122 dX1_copy_119 (by decide) rfl (fun u8 => ?_) (fun u8 => ?_)
  · have h := h.1 u8
    refine G_aload_n 168 dX1_copy_167 rfl rfl ?_
    obtain ⟨a9, e10, h⟩ := h
    obtain ⟨c11, h⟩ := h
    refine G_getR (f := 6) (a := a9) "" 171 dX1_copy_168 (Or.inl q190) (Or.inl rfl) rfl e10 (hf6 c11) rfl ?_
    refine G_iconst (v := 0) 172 dX1_copy_171 (by decide) rfl ?_
    refine G_aload_n 173 dX1_copy_172 rfl rfl ?_
    obtain ⟨a12, e13, h⟩ := h
    obtain ⟨c14, h⟩ := h
    refine G_getR (f := 6) (a := a12) "" 176 dX1_copy_173 (Or.inl q190) (Or.inl rfl) rfl e13 (hf6 c14) rfl ?_
    refine G_iconst (v := 0) 177 dX1_copy_176 (by decide) rfl ?_
    refine G_iconst (v := 3) 178 dX1_copy_177 (by decide) rfl ?_
    obtain ⟨a15, e16, h⟩ := h
    obtain ⟨a17, e18, h⟩ := h
    obtain ⟨N19, N20, N21, e22, e23, e24, g25, h⟩ := h
    refine G_copyI (kn := 1) (a := a15) (b := a17) N19 N20 N21 181 dX1_copy_178 q1371 q575 q574 q51 rfl e16 e18 g25.1 g25.2.1 (Or.inl rfl) e22 e23 e24 g25.2.2.1 g25.2.2.2.1 g25.2.2.2.2.1 g25.2.2.2.2.2.1 g25.2.2.2.2.2.2 (Nat.zero_le _) (Nat.le_of_ble_eq_true rfl) (Nat.le_of_ble_eq_true rfl) ?_
    generalize hs26 : sAIs s3 a17 (va_cpy (AI s3 a15) (AI s3 a17) N19 N20 N21) = s26
    have x27 : ∀ a, ¬ kd s3 a = 0 → kd s26 a = kd s3 a := by subst hs26; exact fun a _ => congrFun kd_sAIs a
    have h := h s26 hs26.symm
    refine G_aload_n 182 dX1_copy_181 rfl rfl ?_
    refine G_aload_n 183 dX1_copy_182 rfl rfl ?_
    have c11 := kdE x27 c11 (by decide)
    refine G_getI (f := 7) (a := a9) "" 186 dX1_copy_183 (Or.inl q192) (Or.inl rfl) rfl e10 (hf7 c11) rfl ?_
    have c14 := kdE x27 c14 (by decide)
    refine G_putI (f := 7) (a := a12) "" 189 dX1_copy_186 (Or.inl q192) (Or.inl rfl) rfl e13 (hp7 c14) (nk7 c14) (Or.inl rfl) rfl rfl rfl ?_
    generalize hs28 : sFI s26 7 a12 (FI s26 7 a9) = s28
    have x29 : ∀ a, ¬ kd s26 a = 0 → kd s28 a = kd s26 a := by subst hs28; exact fun a _ => congrFun kd_sFI a
    have h := h s28 hs28.symm
    refine G_aload_n 190 dX1_copy_189 rfl rfl ?_
    refine G_aload_n 191 dX1_copy_190 rfl rfl ?_
    have c11 := kdE x29 c11 (by decide)
    refine G_getR (f := 8) (a := a9) "" 194 dX1_copy_191 (Or.inl q194) (Or.inl rfl) rfl e10 (hf8 c11) rfl ?_
    have c14 := kdE x29 c14 (by decide)
    refine G_putR (f := 8) (a := a12) "" 197 dX1_copy_194 (Or.inl q194) (Or.inl rfl) rfl e13 (hp8 c14) (nk8 c14) (Or.inl rfl) (fun y => by cases y <;> rfl) (fun y => by cases y <;> rfl) rfl ?_
    generalize hs30 : sFR s28 8 a12 (FR s28 8 a9) = s30
    have x31 : ∀ a, ¬ kd s28 a = 0 → kd s30 a = kd s28 a := by subst hs30; exact fun a _ => congrFun kd_sFR a
    have h := h s30 hs30.symm
    refine G_aload_n 198 dX1_copy_197 rfl rfl ?_
    refine G_aload_n 199 dX1_copy_198 rfl rfl ?_
    have c11 := kdE x31 c11 (by decide)
    refine G_getI (f := 9) (a := a9) "" 202 dX1_copy_199 (Or.inl q196) (Or.inl rfl) rfl e10 (hf9 c11) rfl ?_
    have c14 := kdE x31 c14 (by decide)
    refine G_putI (f := 9) (a := a12) "" 205 dX1_copy_202 (Or.inl q196) (Or.inl rfl) rfl e13 (hp9 c14) (nk9 c14) (Or.inl rfl) rfl rfl rfl ?_
    generalize hs32 : sFI s30 9 a12 (FI s30 9 a9) = s32
    have x33 : ∀ a, ¬ kd s30 a = 0 → kd s32 a = kd s30 a := by subst hs32; exact fun a _ => congrFun kd_sFI a
    have h := h s32 hs32.symm
    refine G_aload_n 206 dX1_copy_205 rfl rfl ?_
    refine G_aload_n 207 dX1_copy_206 rfl rfl ?_
    have c11 := kdE x33 c11 (by decide)
    refine G_getI (f := 10) (a := a9) "" 210 dX1_copy_207 (Or.inl q198) (Or.inl rfl) rfl e10 (hf10 c11) rfl ?_
    have c14 := kdE x33 c14 (by decide)
    refine G_putI (f := 10) (a := a12) "" 213 dX1_copy_210 (Or.inl q198) (Or.inl rfl) rfl e13 (hp10 c14) (nk10 c14) (Or.inl rfl) rfl rfl rfl ?_
    generalize hs34 : sFI s32 10 a12 (FI s32 10 a9) = s34
    have x35 : ∀ a, ¬ kd s32 a = 0 → kd s34 a = kd s32 a := by subst hs34; exact fun a _ => congrFun kd_sFI a
    have h := h s34 hs34.symm
    refine G_aload_n 214 dX1_copy_213 rfl rfl ?_
    refine G_aload_n 215 dX1_copy_214 rfl rfl ?_
    have c11 := kdE x35 c11 (by decide)
    refine G_getI (f := 11) (a := a9) "" 218 dX1_copy_215 (Or.inl q199) (Or.inl rfl) rfl e10 (hf11 c11) rfl ?_
    have c14 := kdE x35 c14 (by decide)
    refine G_putI (f := 11) (a := a12) "" 221 dX1_copy_218 (Or.inl q199) (Or.inl rfl) rfl e13 (hp11 c14) (nk11 c14) (Or.inl rfl) rfl rfl rfl ?_
    generalize hs36 : sFI s34 11 a12 (FI s34 11 a9) = s36
    have x37 : ∀ a, ¬ kd s34 a = 0 → kd s36 a = kd s34 a := by subst hs36; exact fun a _ => congrFun kd_sFI a
    have h := h s36 hs36.symm
    refine G_aload_n 222 dX1_copy_221 rfl rfl ?_
    refine G_aload_n 223 dX1_copy_222 rfl rfl ?_
    have c11 := kdE x37 c11 (by decide)
    refine G_getI (f := 12) (a := a9) "" 226 dX1_copy_223 (Or.inl q201) (Or.inl rfl) rfl e10 (hf12 c11) rfl ?_
    have c14 := kdE x37 c14 (by decide)
    refine G_putI (f := 12) (a := a12) "" 229 dX1_copy_226 (Or.inl q201) (Or.inl rfl) rfl e13 (hp12 c14) (nk12 c14) (Or.inl rfl) rfl rfl rfl ?_
    generalize hs38 : sFI s36 12 a12 (FI s36 12 a9) = s38
    have x39 : ∀ a, ¬ kd s36 a = 0 → kd s38 a = kd s36 a := by subst hs38; exact fun a _ => congrFun kd_sFI a
    have h := h s38 hs38.symm
    refine G_aload_n 230 dX1_copy_229 rfl rfl ?_
    refine G_aload_n 231 dX1_copy_230 rfl rfl ?_
    have c11 := kdE x39 c11 (by decide)
    refine G_getI (f := 13) (a := a9) "" 234 dX1_copy_231 (Or.inl q203) (Or.inl rfl) rfl e10 (hf13 c11) rfl ?_
    have c14 := kdE x39 c14 (by decide)
    refine G_putI (f := 13) (a := a12) "" 237 dX1_copy_234 (Or.inl q203) (Or.inl rfl) rfl e13 (hp13 c14) (nk13 c14) (Or.inl rfl) rfl rfl rfl ?_
    generalize hs40 : sFI s38 13 a12 (FI s38 13 a9) = s40
    have x41 : ∀ a, ¬ kd s38 a = 0 → kd s40 a = kd s38 a := by subst hs40; exact fun a _ => congrFun kd_sFI a
    have h := h s40 hs40.symm
    refine G_aload_n 238 dX1_copy_237 rfl rfl ?_
    refine G_aload_n 239 dX1_copy_238 rfl rfl ?_
    have c11 := kdE x41 c11 (by decide)
    refine G_getI (f := 14) (a := a9) "" 242 dX1_copy_239 (Or.inl q205) (Or.inl rfl) rfl e10 (hf14 c11) rfl ?_
    have c14 := kdE x41 c14 (by decide)
    refine G_putI (f := 14) (a := a12) "" 245 dX1_copy_242 (Or.inl q205) (Or.inl rfl) rfl e13 (hp14 c14) (nk14 c14) (Or.inl rfl) rfl rfl rfl ?_
    generalize hs42 : sFI s40 14 a12 (FI s40 14 a9) = s42
    have x43 : ∀ a, ¬ kd s40 a = 0 → kd s42 a = kd s40 a := by subst hs42; exact fun a _ => congrFun kd_sFI a
    have h := h s42 hs42.symm
    refine G_aload_n 246 dX1_copy_245 rfl rfl ?_
    exact G_aret dX1_copy_246 rfl (Or.inl ⟨_, rfl⟩) ⟨_, rfl, h⟩
  · have h := h.2 u8
    refine G_aload_n 123 dX1_copy_122 rfl rfl ?_
    have c5 := kdE x7 c5 (by decide)
    refine G_invF (N := mJ23_next) (x := ⟨"java/util/Iterator", "next", "()Ljava/lang/Object;"⟩) (As := []) (st := []) (t := l2) (b := a1) (rc + 25) (rs + 450) 128 dX1_copy_123 q399 q434 q436 q61 q438 q401 q400 q437 q435 q389 rfl ax24 ⟨Nat.le_of_ble_eq_true rfl, Nat.le_of_ble_eq_true rfl⟩ rfl (Nat.zero_le _) e2 (rk27 c5) (le_b mJ23_next_c (Nat.le_refl _)) (le_b mJ23_next_s (Nat.le_refl _)) rfl (Cal.mono h ?_)
    rintro s44 v ⟨x45, rfl, h⟩ hx46
    have h := h hx46
    have x47 := hx46.x
    show G w mX1_copy (KR K) (rc + 25) (rs + 450) s44 128 [va_rf l0, va_rf l1, va_rf l2, v3, v4] [va_rf x45]
    obtain ⟨c48, h⟩ := h
    refine G_cast 131 dX1_copy_128 q771 rfl (c48.imp id (fun ⟨b, e, k⟩ => ⟨b, e, co6 k⟩)) ?_
    refine G_astore_n 132 [va_rf l0, va_rf l1, va_rf l2, va_rf x45, v4] dX1_copy_131 (Nat.le_of_ble_eq_true rfl) rfl rfl ?_
    refine G_aload_n 133 dX1_copy_132 rfl rfl ?_
    obtain ⟨a49, e50, h⟩ := h
    obtain ⟨c51, h⟩ := h
    refine G_getR (f := 5) (a := a49) "" 136 dX1_copy_133 (Or.inl q188) (Or.inl rfl) rfl e50 (hf5 c51) rfl ?_
    refine G_aload_n 137 dX1_copy_136 rfl rfl ?_
    obtain ⟨a52, e53, h⟩ := h
    obtain ⟨c56, h⟩ := h
    have fin : Cal w mJ28_getKey s44 [va_rf x45] (fun σ1 v => Ext s44 σ1 → G w mX1_copy (KR K) (rc + 25) (rs + 450) σ1 142 [va_rf l0, va_rf l1, va_rf l2, va_rf x45, v4] (v.toList ++ [va_rf (FR s44 5 a49)])) := by
      refine Cal.mono h ?_
      rintro s54 v ⟨x55, rfl, h⟩ hx57
      have h := h hx57
      have x58 := hx57.x
      show G w mX1_copy (KR K) (rc + 25) (rs + 450) s54 142 [va_rf l0, va_rf l1, va_rf l2, va_rf x45, v4] [va_rf x55, va_rf (FR s44 5 a49)]
      obtain ⟨c59, h⟩ := h
      refine G_cast 145 dX1_copy_142 q786 rfl (c59.imp id (fun ⟨b, e, k⟩ => ⟨b, e, co0 k⟩)) ?_
      refine G_aload_n 146 dX1_copy_145 rfl rfl ?_
      have c56 := kdM x58 c56 (by decide)
      have fin : Cal w mJ28_getValue s54 [va_rf x45] (fun σ1 v => Ext s54 σ1 → G w mX1_copy (KR K) (rc + 25) (rs + 450) σ1 151 [va_rf l0, va_rf l1, va_rf l2, va_rf x45, v4] (v.toList ++ [va_rf x55, va_rf (FR s44 5 a49)])) := by
        refine Cal.mono h ?_
        rintro s60 v ⟨x61, rfl, h⟩ hx62
        have h := h hx62
        have x63 := hx62.x
        show G w mX1_copy (KR K) (rc + 25) (rs + 450) s60 151 [va_rf l0, va_rf l1, va_rf l2, va_rf x45, v4] [va_rf x61, va_rf x55, va_rf (FR s44 5 a49)]
        obtain ⟨c64, h⟩ := h
        refine G_cast 154 dX1_copy_151 q800 rfl (c64.imp id (fun ⟨b, e, k⟩ => ⟨b, e, co7 k⟩)) ?_
        obtain ⟨a65, e66, h⟩ := h
        obtain ⟨c69, h⟩ := h
        refine G_invF (N := mJ4_put) (x := ⟨"java/util/Map", "put", "(Ljava/lang/Object;Ljava/lang/Object;)Ljava/lang/Object;"⟩) (As := [va_rf x55, va_rf x61]) (st := []) (t := (FR s44 5 a49)) (b := a65) (rc) (rs) 159 dX1_copy_154 q802 q1369 q807 q37 q809 q804 q803 q808 q1370 q602 rfl ax28 ⟨Nat.le_of_ble_eq_true rfl, Nat.le_of_ble_eq_true rfl⟩ rfl (Nat.zero_le _) e66 (rk21 c69) (le_b mJ4_put_c (Nat.le_refl _)) (le_b mJ4_put_s (Nat.le_refl _)) rfl (Cal.mono h ?_)
        rintro s67 v ⟨x68, rfl, h⟩ hx70
        have h := h hx70
        have x71 := hx70.x
        show G w mX1_copy (KR K) (rc) (rs) s67 159 [va_rf l0, va_rf l1, va_rf l2, va_rf x45, v4] [va_rf x68]
        obtain ⟨c72, h⟩ := h
        refine G_cast 162 dX1_copy_159 q800 rfl (c72.imp id (fun ⟨b, e, k⟩ => ⟨b, e, co7 k⟩)) ?_
        refine G_astore 164 [va_rf l0, va_rf l1, va_rf l2, va_rf x45, va_rf x68] dX1_copy_162 (Nat.le_of_ble_eq_true rfl) rfl rfl ?_
        refine G_goto 113 dX1_copy_164 (by decide) ?_
        exact h
      have k73 : kd s54 a52 ∈ [30, 31, 32] := c56
      simp only [List.mem_cons, List.not_mem_nil, or_false] at k73
      rcases k73 with k73 | k73 | k73
      · exact G_invF (N := mJ28_getValue) (x := ⟨"java/util/Map$Entry", "getValue", "()Ljava/lang/Object;"⟩) (As := []) (st := [va_rf x55, va_rf (FR s44 5 a49)]) (t := x45) (b := a52) (rc + 25) (rs + 450) 151 dX1_copy_146 q788 q791 q793 q66 q795 q790 q789 q794 q792 q776 rfl ax29 ⟨Nat.le_of_ble_eq_true rfl, Nat.le_of_ble_eq_true rfl⟩ rfl (Nat.le_trans (w_R (w_R w_0)) (Nat.le_of_ble_eq_true rfl)) e53 (rk30 k73) (le_b mJ28_getValue_c (Nat.le_refl _)) (le_b mJ28_getValue_s (Nat.le_refl _)) rfl fin
      · exact G_invF (N := mJ28_getValue) (x := ⟨"java/util/Map$Entry", "getValue", "()Ljava/lang/Object;"⟩) (As := []) (st := [va_rf x55, va_rf (FR s44 5 a49)]) (t := x45) (b := a52) (rc + 25) (rs + 450) 151 dX1_copy_146 q788 q798 q793 q66 q795 q790 q789 q794 q799 q783 rfl ax29 ⟨Nat.le_of_ble_eq_true rfl, Nat.le_of_ble_eq_true rfl⟩ rfl (Nat.le_trans (w_R (w_R w_0)) (Nat.le_of_ble_eq_true rfl)) e53 (rk31 k73) (le_b mJ28_getValue_c (Nat.le_refl _)) (le_b mJ28_getValue_s (Nat.le_refl _)) rfl fin
      · exact G_invF (N := mJ28_getValue) (x := ⟨"java/util/Map$Entry", "getValue", "()Ljava/lang/Object;"⟩) (As := []) (st := [va_rf x55, va_rf (FR s44 5 a49)]) (t := x45) (b := a52) (rc + 25) (rs + 450) 151 dX1_copy_146 q788 q796 q793 q66 q795 q790 q789 q794 q797 q780 rfl ax29 ⟨Nat.le_of_ble_eq_true rfl, Nat.le_of_ble_eq_true rfl⟩ rfl (Nat.le_trans (w_R (w_R w_0)) (Nat.le_of_ble_eq_true rfl)) e53 (rk32 k73) (le_b mJ28_getValue_c (Nat.le_refl _)) (le_b mJ28_getValue_s (Nat.le_refl _)) rfl fin
    have k74 : kd s44 a52 ∈ [30, 31, 32] := c56
    simp only [List.mem_cons, List.not_mem_nil, or_false] at k74
    rcases k74 with k74 | k74 | k74
    · exact G_invF (N := mJ28_getKey) (x := ⟨"java/util/Map$Entry", "getKey", "()Ljava/lang/Object;"⟩) (As := []) (st := [va_rf (FR s44 5 a49)]) (t := x45) (b := a52) (rc + 25) (rs + 450) 142 dX1_copy_137 q773 q777 q462 q66 q463 q775 q774 q779 q778 q776 rfl ax30 ⟨Nat.le_of_ble_eq_true rfl, Nat.le_of_ble_eq_true rfl⟩ rfl (Nat.le_trans (w_R w_0) (Nat.le_of_ble_eq_true rfl)) e53 (rk30 k74) (le_b mJ28_getKey_c (Nat.le_refl _)) (le_b mJ28_getKey_s (Nat.le_refl _)) rfl fin
    · exact G_invF (N := mJ28_getKey) (x := ⟨"java/util/Map$Entry", "getKey", "()Ljava/lang/Object;"⟩) (As := []) (st := [va_rf (FR s44 5 a49)]) (t := x45) (b := a52) (rc + 25) (rs + 450) 142 dX1_copy_137 q773 q784 q462 q66 q463 q775 q774 q779 q785 q783 rfl ax30 ⟨Nat.le_of_ble_eq_true rfl, Nat.le_of_ble_eq_true rfl⟩ rfl (Nat.le_trans (w_R w_0) (Nat.le_of_ble_eq_true rfl)) e53 (rk31 k74) (le_b mJ28_getKey_c (Nat.le_refl _)) (le_b mJ28_getKey_s (Nat.le_refl _)) rfl fin
    · exact G_invF (N := mJ28_getKey) (x := ⟨"java/util/Map$Entry", "getKey", "()Ljava/lang/Object;"⟩) (As := []) (st := [va_rf (FR s44 5 a49)]) (t := x45) (b := a52) (rc + 25) (rs + 450) 142 dX1_copy_137 q773 q781 q462 q66 q463 q775 q774 q779 q782 q780 rfl ax30 ⟨Nat.le_of_ble_eq_true rfl, Nat.le_of_ble_eq_true rfl⟩ rfl (Nat.le_trans (w_R w_0) (Nat.le_of_ble_eq_true rfl)) e53 (rk32 k74) (le_b mJ28_getKey_c (Nat.le_refl _)) (le_b mJ28_getKey_s (Nat.le_refl _)) rfl fin
theorem eX1_copy {w : Wt} {K : Sg → Option Nat → Prop} {σ : Sg} (l0 : Option Nat) (h : G w mX1_copy (KR K) 600 10000 σ 0 [va_rf l0, U_, U_, U_, U_] []) : CalR w mX1_copy σ [va_rf l0] K :=
  Cal.start 4 mX1_copy_plain (catR cat0) (Nat.le_of_ble_eq_true rfl) rfl h
set_option maxHeartbeats 4000000 in
theorem bX1_isPlate_0 {w : Wt} {K : Sg → Int32 → Prop} {rc rs : Nat} {σ : Sg} (l0 : Option Nat) (l1 : Int32) (h : ∃ a1, l0 = some a1 ∧ kd σ a1 = 11 ∧ ∃ a4, FR σ 3 a1 = some a4 ∧ kd σ a4 = 20 ∧ CalI w mJ2_size σ [va_rf (FR σ 3 a1)] (fun s6 x7 => Ext σ s6 → CalI w mX0_isBetween s6 [.int l1, .int 0, .int (x7 - 1)] (fun s11 x12 => Ext s6 s11 → ((x12 = 0 ∨ x12 = 1) ∧ K s11 x12)))) : G w mX1_isPlate (KI K) (rc) (rs) σ 0 [va_rf l0, .int l1] [] := by
  refine G_iload_n 1 dX1_isPlate_0 rfl rfl ?_
  refine G_iconst (v := 0) 2 dX1_isPlate_1 (by decide) rfl ?_
  refine G_aload_n 3 dX1_isPlate_2 rfl rfl ?_
  obtain ⟨a1, e2, h⟩ := h
  obtain ⟨c3, h⟩ := h
  refine G_getR (f := 3) (a := a1) "" 6 dX1_isPlate_3 (Or.inl q184) (Or.inl rfl) rfl e2 (hf3 c3) rfl ?_
  obtain ⟨a4, e5, h⟩ := h
  obtain ⟨c8, h⟩ := h
  refine G_invF (N := mJ2_size) (x := ⟨"java/util/List", "size", "()I"⟩) (As := []) (st := [.int 0, .int l1]) (t := (FR σ 3 a1)) (b := a4) (rc) (rs) 11 dX1_isPlate_6 q1387 q308 q310 q35 q312 q306 q305 q311 q309 q307 rfl ax31 ⟨Nat.le_of_ble_eq_true rfl, Nat.le_of_ble_eq_true rfl⟩ rfl (Nat.le_trans (w_I (w_I w_0)) (Nat.le_of_ble_eq_true rfl)) e5 (rk20 c8) (le_b mJ2_size_c (Nat.le_refl _)) (le_b mJ2_size_s (Nat.le_refl _)) rfl (Cal.mono h ?_)
  rintro s6 v ⟨x7, rfl, h⟩ hx9
  have h := h hx9
  have x10 := hx9.x
  show G w mX1_isPlate (KI K) (rc) (rs) s6 11 [va_rf l0, .int l1] [.int x7, .int 0, .int l1]
  refine G_iconst (v := 1) 12 dX1_isPlate_11 (by decide) rfl ?_
  refine G_isub 13 dX1_isPlate_12 rfl ?_
  refine G_invS (N := mX0_isBetween) (As := [.int l1, .int 0, .int (x7 - 1)]) (st := []) (rc) (rs) "TrophyPlates" 16 dX1_isPlate_13 (Or.inr q1388) q301 q31 q302 rfl mX0_isBetween_args ⟨Nat.le_of_ble_eq_true rfl, Nat.le_of_ble_eq_true rfl⟩ rfl (Nat.zero_le _) (le_b mX0_isBetween_c (Nat.le_refl _)) (le_b mX0_isBetween_s (Nat.le_refl _)) rfl (Cal.mono h ?_)
  rintro s11 v ⟨x12, rfl, h⟩ hx13
  have h := h hx13
  have x14 := hx13.x
  show G w mX1_isPlate (KI K) (rc) (rs) s11 16 [va_rf l0, .int l1] [.int x12]
  exact G_zret dX1_isPlate_16 rfl (nar_bz h.1).1 ⟨_, rfl, h.2⟩
theorem eX1_isPlate {w : Wt} {K : Sg → Int32 → Prop} {σ : Sg} (l0 : Option Nat) (l1 : Int32) (h : G w mX1_isPlate (KI K) 0 0 σ 0 [va_rf l0, .int l1] []) : CalI w mX1_isPlate σ [va_rf l0, .int l1] K :=
  Cal.start 0 mX1_isPlate_plain (catR (catI cat0)) (Nat.le_of_ble_eq_true rfl) rfl h
set_option maxHeartbeats 4000000 in
theorem bX1_platesIn_0 {w : Wt} {K : Sg → Int32 → Prop} {rc rs : Nat} {σ : Sg} (l0 : Option Nat) (l1 : Int32) (h : ∃ a1, l0 = some a1 ∧ kd σ a1 = 11 ∧ ∃ a4, FR σ 3 a1 = some a4 ∧ kd σ a4 = 20 ∧ CalR w mJ2_iterator σ [va_rf (FR σ 3 a1)] (fun s6 x7 => Ext σ s6 → G w mX1_platesIn (KI K) (rc) (rs) s6 12 [va_rf l0, .int l1, .int 0, va_rf x7, U_] [])) : G w mX1_platesIn (KI K) (rc + 1) (rs + 4) σ 0 [va_rf l0, .int l1, U_, U_, U_] [] := by
  refine G_iconst (v := 0) 1 dX1_platesIn_0 (by decide) rfl ?_
  refine G_istore_n 2 [va_rf l0, .int l1, .int 0, U_, U_] dX1_platesIn_1 (Nat.le_of_ble_eq_true rfl) rfl rfl ?_
  refine G_aload_n 3 dX1_platesIn_2 rfl rfl ?_
  obtain ⟨a1, e2, h⟩ := h
  obtain ⟨c3, h⟩ := h
  refine G_getR (f := 3) (a := a1) "" 6 dX1_platesIn_3 (Or.inl q184) (Or.inl rfl) rfl e2 (hf3 c3) rfl ?_
  obtain ⟨a4, e5, h⟩ := h
  obtain ⟨c8, h⟩ := h
  refine G_invF (N := mJ2_iterator) (x := ⟨"java/util/List", "iterator", "()Ljava/util/Iterator;"⟩) (As := []) (st := []) (t := (FR σ 3 a1)) (b := a4) (rc) (rs) 11 dX1_platesIn_6 q343 q346 q348 q35 q350 q345 q344 q349 q347 q307 rfl ax22 ⟨Nat.le_of_ble_eq_true rfl, Nat.le_of_ble_eq_true rfl⟩ rfl (Nat.zero_le _) e5 (rk20 c8) (le_b mJ2_iterator_c (Nat.le_refl _)) (le_b mJ2_iterator_s (Nat.le_refl _)) rfl (Cal.mono h ?_)
  rintro s6 v ⟨x7, rfl, h⟩ hx9
  have h := h hx9
  have x10 := hx9.x
  show G w mX1_platesIn (KI K) (rc) (rs) s6 11 [va_rf l0, .int l1, .int 0, U_, U_] [va_rf x7]
  refine G_astore_n 12 [va_rf l0, .int l1, .int 0, va_rf x7, U_] dX1_platesIn_11 (Nat.le_of_ble_eq_true rfl) rfl rfl ?_
  exact h
set_option maxHeartbeats 4000000 in
theorem bX1_platesIn_12 {w : Wt} {K : Sg → Int32 → Prop} {rc rs : Nat} {σ : Sg} (l0 : Option Nat) (l1 : Int32) (l2 : Int32) (l3 : Option Nat) (v4 : Value) (h : ∃ a1, l3 = some a1 ∧ kd σ a1 = 19 ∧ CalI w mJ10_hasNext σ [va_rf l3] (fun s3 x4 => Ext σ s3 → ((x4 = 0 → K s3 l2) ∧ (¬ x4 = 0 → CalR w mJ10_next s3 [va_rf l3] (fun s9 x10 => Ext s3 s9 → (x10 = none ∨ ∃ b, x10 = some b ∧ kd s9 b = 15) ∧ ∃ a14, x10 = some a14 ∧ kd s9 a14 = 15 ∧ ((¬ FI s9 35 a14 = l1 → G w mX1_platesIn (KI K) (rc) (rs) s9 12 [va_rf l0, .int l1, .int (l2 + 0), va_rf l3, va_rf x10] []) ∧ (FI s9 35 a14 = l1 → G w mX1_platesIn (KI K) (rc) (rs) s9 12 [va_rf l0, .int l1, .int (l2 + 1), va_rf l3, va_rf x10] []))))))) : G w mX1_platesIn (KI K) (rc) (rs) σ 12 [va_rf l0, .int l1, .int l2, va_rf l3, v4] [] := by
  refine G_aload_n 13 dX1_platesIn_12 rfl rfl ?_
  obtain ⟨a1, e2, h⟩ := h
  obtain ⟨c5, h⟩ := h
  refine G_invF (N := mJ10_hasNext) (x := ⟨"java/util/Iterator", "hasNext", "()Z"⟩) (As := []) (st := []) (t := l3) (b := a1) (rc) (rs) 18 dX1_platesIn_13 q371 q375 q377 q46 q379 q373 q372 q378 q376 q374 rfl ax25 ⟨Nat.le_of_ble_eq_true rfl, Nat.le_of_ble_eq_true rfl⟩ rfl (Nat.zero_le _) e2 (rk19 c5) (le_b mJ10_hasNext_c (Nat.le_refl _)) (le_b mJ10_hasNext_s (Nat.le_refl _)) rfl (Cal.mono h ?_)
  rintro s3 v ⟨x4, rfl, h⟩ hx6
  have h := h hx6
  have x7 := hx6.x
  show G w mX1_platesIn (KI K) (rc) (rs) s3 18 [va_rf l0, .int l1, .int l2, va_rf l3, v4] [.int x4]
  refine G_if_eq 52 21 dX1_platesIn_18 (by decide) rfl (fun u8 => ?_) (fun u8 => ?_)
  · have h := h.1 u8
    refine G_iload_n 53 dX1_platesIn_52 rfl rfl ?_
    exact G_iret dX1_platesIn_53 rfl ⟨_, rfl, h⟩
  · have h := h.2 u8
    refine G_aload_n 22 dX1_platesIn_21 rfl rfl ?_
    have c5 := kdE x7 c5 (by decide)
    refine G_invF (N := mJ10_next) (x := ⟨"java/util/Iterator", "next", "()Ljava/lang/Object;"⟩) (As := []) (st := []) (t := l3) (b := a1) (rc) (rs) 27 dX1_platesIn_22 q399 q402 q404 q46 q406 q401 q400 q405 q403 q374 rfl ax24 ⟨Nat.le_of_ble_eq_true rfl, Nat.le_of_ble_eq_true rfl⟩ rfl (Nat.zero_le _) e2 (rk19 c5) (le_b mJ10_next_c (Nat.le_refl _)) (le_b mJ10_next_s (Nat.le_refl _)) rfl (Cal.mono h ?_)
    rintro s9 v ⟨x10, rfl, h⟩ hx11
    have h := h hx11
    have x12 := hx11.x
    show G w mX1_platesIn (KI K) (rc) (rs) s9 27 [va_rf l0, .int l1, .int l2, va_rf l3, v4] [va_rf x10]
    obtain ⟨c13, h⟩ := h
    refine G_cast 30 dX1_platesIn_27 q464 rfl (c13.imp id (fun ⟨b, e, k⟩ => ⟨b, e, co4 k⟩)) ?_
    refine G_astore 32 [va_rf l0, .int l1, .int l2, va_rf l3, va_rf x10] dX1_platesIn_30 (Nat.le_of_ble_eq_true rfl) rfl rfl ?_
    refine G_iload_n 33 dX1_platesIn_32 rfl rfl ?_
    refine G_aload 35 dX1_platesIn_33 rfl rfl ?_
    obtain ⟨a14, e15, h⟩ := h
    obtain ⟨c16, h⟩ := h
    refine G_getI (f := 35) (a := a14) "TrophyPlates" 38 dX1_platesIn_35 (Or.inr q482) (Or.inl rfl) rfl e15 (hf35 c16) rfl ?_
    refine G_iload_n 39 dX1_platesIn_38 rfl rfl ?_
    refine G_icmp_ne 46 42 dX1_platesIn_39 (by decide) rfl (fun u17 => ?_) (fun u17 => ?_)
    · have h := h.1 u17
      refine G_iconst (v := 0) 47 dX1_platesIn_46 (by decide) rfl ?_
      refine G_iadd 48 dX1_platesIn_47 rfl ?_
      refine G_istore_n 49 [va_rf l0, .int l1, .int (l2 + 0), va_rf l3, va_rf x10] dX1_platesIn_48 (Nat.le_of_ble_eq_true rfl) rfl rfl ?_
      refine G_goto 12 dX1_platesIn_49 (by decide) ?_
      exact h
    · have h := h.2 u17
      refine G_iconst (v := 1) 43 dX1_platesIn_42 (by decide) rfl ?_
      refine G_goto 47 dX1_platesIn_43 (by decide) ?_
      refine G_iadd 48 dX1_platesIn_47 rfl ?_
      refine G_istore_n 49 [va_rf l0, .int l1, .int (l2 + 1), va_rf l3, va_rf x10] dX1_platesIn_48 (Nat.le_of_ble_eq_true rfl) rfl rfl ?_
      refine G_goto 12 dX1_platesIn_49 (by decide) ?_
      exact h
theorem eX1_platesIn {w : Wt} {K : Sg → Int32 → Prop} {σ : Sg} (l0 : Option Nat) (l1 : Int32) (h : G w mX1_platesIn (KI K) 1 4 σ 0 [va_rf l0, .int l1, U_, U_, U_] []) : CalI w mX1_platesIn σ [va_rf l0, .int l1] K :=
  Cal.start 3 mX1_platesIn_plain (catR (catI cat0)) (Nat.le_of_ble_eq_true rfl) rfl h
set_option maxHeartbeats 4000000 in
theorem bX1_grind_0 {w : Wt} {K : Sg → Prop} {rc rs : Nat} {σ : Sg} (l0 : Option Nat) (l1 : Int32) (l2 : Int32) (h : ∃ a1, l0 = some a1 ∧ kd σ a1 = 11 ∧ ∃ a4, FR σ 3 a1 = some a4 ∧ kd σ a4 = 20 ∧ CalR w mJ2_get σ [va_rf (FR σ 3 a1), .int l1] (fun s6 x7 => Ext σ s6 → (x7 = none ∨ ∃ b, x7 = some b ∧ kd s6 b = 15) ∧ ∃ a12, x7 = some a12 ∧ kd s6 a12 = 15 ∧ CalV w mX5_grind s6 [va_rf x7, .int l2] (fun s14 => Ext s6 s14 → ∀ s18, s18 = sFI s14 14 a1 ((FI s14 14 a1) + 1) → K s18))) : G w mX1_grind (KV K) (rc) (rs) σ 0 [va_rf l0, .int l1, .int l2] [] := by
  refine G_aload_n 1 dX1_grind_0 rfl rfl ?_
  obtain ⟨a1, e2, h⟩ := h
  obtain ⟨c3, h⟩ := h
  refine G_getR (f := 3) (a := a1) "" 4 dX1_grind_1 (Or.inl q184) (Or.inl rfl) rfl e2 (hf3 c3) rfl ?_
  refine G_iload_n 5 dX1_grind_4 rfl rfl ?_
  obtain ⟨a4, e5, h⟩ := h
  obtain ⟨c8, h⟩ := h
  refine G_invF (N := mJ2_get) (x := ⟨"java/util/List", "get", "(I)Ljava/lang/Object;"⟩) (As := [.int l1]) (st := []) (t := (FR σ 3 a1)) (b := a4) (rc) (rs) 10 dX1_grind_5 q1425 q1393 q1395 q35 q1397 q1392 q1391 q1396 q1394 q307 rfl ax32 ⟨Nat.le_of_ble_eq_true rfl, Nat.le_of_ble_eq_true rfl⟩ rfl (Nat.zero_le _) e5 (rk20 c8) (le_b mJ2_get_c (Nat.le_refl _)) (le_b mJ2_get_s (Nat.le_refl _)) rfl (Cal.mono h ?_)
  rintro s6 v ⟨x7, rfl, h⟩ hx9
  have h := h hx9
  have x10 := hx9.x
  show G w mX1_grind (KV K) (rc) (rs) s6 10 [va_rf l0, .int l1, .int l2] [va_rf x7]
  obtain ⟨c11, h⟩ := h
  refine G_cast 13 dX1_grind_10 q464 rfl (c11.imp id (fun ⟨b, e, k⟩ => ⟨b, e, co4 k⟩)) ?_
  refine G_iload_n 14 dX1_grind_13 rfl rfl ?_
  obtain ⟨a12, e13, h⟩ := h
  obtain ⟨c15, h⟩ := h
  refine G_invV (N := mX5_grind) (As := [.int l2]) (st := []) (t := x7) (b := a12) (rc) (rs) 17 dX1_grind_14 q1426 q1427 q1428 q47 q1429 rfl rfl mX5_grind_args ⟨Nat.le_of_ble_eq_true rfl, Nat.le_of_ble_eq_true rfl⟩ rfl (Nat.zero_le _) e13 (rk15 c15) (le_b mX5_grind_c (Nat.le_refl _)) (le_b mX5_grind_s (Nat.le_refl _)) rfl (Cal.mono h ?_)
  rintro s14 v ⟨rfl, h⟩ hx16
  have h := h hx16
  have x17 := hx16.x
  show G w mX1_grind (KV K) (rc) (rs) s14 17 [va_rf l0, .int l1, .int l2] []
  refine G_aload_n 18 dX1_grind_17 rfl rfl ?_
  refine G_dup 19 dX1_grind_18 (rf_cat _) rfl ?_
  have c3 := kdE x10 c3 (by decide)
  have c3 := kdE x17 c3 (by decide)
  refine G_getI (f := 14) (a := a1) "" 22 dX1_grind_19 (Or.inl q205) (Or.inl rfl) rfl e2 (hf14 c3) rfl ?_
  refine G_iconst (v := 1) 23 dX1_grind_22 (by decide) rfl ?_
  refine G_iadd 24 dX1_grind_23 rfl ?_
  refine G_putI (f := 14) (a := a1) "" 27 dX1_grind_24 (Or.inl q205) (Or.inl rfl) rfl e2 (hp14 c3) (nk14 c3) (Or.inl rfl) rfl rfl rfl ?_
  generalize hs18 : sFI s14 14 a1 ((FI s14 14 a1) + 1) = s18
  have x19 : ∀ a, ¬ kd s14 a = 0 → kd s18 a = kd s14 a := by subst hs18; exact fun a _ => congrFun kd_sFI a
  have h := h s18 hs18.symm
  exact G_ret dX1_grind_27 rfl ⟨rfl, h⟩
theorem eX1_grind {w : Wt} {K : Sg → Prop} {σ : Sg} (l0 : Option Nat) (l1 : Int32) (l2 : Int32) (h : G w mX1_grind (KV K) 0 0 σ 0 [va_rf l0, .int l1, .int l2] []) : CalV w mX1_grind σ [va_rf l0, .int l1, .int l2] K :=
  Cal.start 0 mX1_grind_plain (catR (catI (catI cat0))) (Nat.le_of_ble_eq_true rfl) rfl h
set_option maxHeartbeats 4000000 in
theorem bX1_isShield_0 {w : Wt} {K : Sg → Int32 → Prop} {rc rs : Nat} {σ : Sg} (l0 : Option Nat) (l1 : Int32) (h : ∃ a1, l0 = some a1 ∧ kd σ a1 = 11 ∧ CalI w mX0_isBetween σ [.int l1, .int 0, .int ((FI σ 7 a1) - 1)] (fun s4 x5 => Ext σ s4 → ((x5 = 0 ∨ x5 = 1) ∧ K s4 x5))) : G w mX1_isShield (KI K) (rc) (rs) σ 0 [va_rf l0, .int l1] [] := by
  refine G_iload_n 1 dX1_isShield_0 rfl rfl ?_
  refine G_iconst (v := 0) 2 dX1_isShield_1 (by decide) rfl ?_
  refine G_aload_n 3 dX1_isShield_2 rfl rfl ?_
  obtain ⟨a1, e2, h⟩ := h
  obtain ⟨c3, h⟩ := h
  refine G_getI (f := 7) (a := a1) "" 6 dX1_isShield_3 (Or.inl q192) (Or.inl rfl) rfl e2 (hf7 c3) rfl ?_
  refine G_iconst (v := 1) 7 dX1_isShield_6 (by decide) rfl ?_
  refine G_isub 8 dX1_isShield_7 rfl ?_
  refine G_invS (N := mX0_isBetween) (As := [.int l1, .int 0, .int ((FI σ 7 a1) - 1)]) (st := []) (rc) (rs) "TrophyPlates" 11 dX1_isShield_8 (Or.inr q1388) q301 q31 q302 rfl mX0_isBetween_args ⟨Nat.le_of_ble_eq_true rfl, Nat.le_of_ble_eq_true rfl⟩ rfl (Nat.zero_le _) (le_b mX0_isBetween_c (Nat.le_refl _)) (le_b mX0_isBetween_s (Nat.le_refl _)) rfl (Cal.mono h ?_)
  rintro s4 v ⟨x5, rfl, h⟩ hx6
  have h := h hx6
  have x7 := hx6.x
  show G w mX1_isShield (KI K) (rc) (rs) s4 11 [va_rf l0, .int l1] [.int x5]
  exact G_zret dX1_isShield_11 rfl (nar_bz h.1).1 ⟨_, rfl, h.2⟩
theorem eX1_isShield {w : Wt} {K : Sg → Int32 → Prop} {σ : Sg} (l0 : Option Nat) (l1 : Int32) (h : G w mX1_isShield (KI K) 0 0 σ 0 [va_rf l0, .int l1] []) : CalI w mX1_isShield σ [va_rf l0, .int l1] K :=
  Cal.start 0 mX1_isShield_plain (catR (catI cat0)) (Nat.le_of_ble_eq_true rfl) rfl h
set_option maxHeartbeats 4000000 in
theorem bX1_plateFor_0 {w : Wt} {K : Sg → Int32 → Prop} {rc rs : Nat} {σ : Sg} (l0 : Option Nat) (l1 : Int32) (l2 : Int32) (h : ∃ a1, l0 = some a1 ∧ kd σ a1 = 11 ∧ ∀ n5, n5 = nx σ → kd σ n5 = 0 → ∀ s6, s6 = nO σ 16 → CalV w mX6_init s6 [va_rf (some n5), .int l1, .int l2] (fun s9 => Ext s6 s9 → ∃ a12, FR σ 5 a1 = some a12 ∧ kd s9 a12 = 21 ∧ CalR w mJ5_get s9 [va_rf (FR σ 5 a1), va_rf (some n5)] (fun s14 x15 => Ext s9 s14 → (x15 = none ∨ ∃ b, x15 = some b ∧ kd s14 b ∈ [29, 6]) ∧ ((¬ x15 = none → ∃ a21, x15 = some a21 ∧ kd s14 a21 ∈ [29, 6] ∧ CalI w mJ26_intValue s14 [va_rf x15] (fun s23 x24 => Ext s14 s23 → K s23 x24)) ∧ (x15 = none → K s14 (-9)))))) : G w mX1_plateFor (KI K) (rc + 1) (rs + 2) σ 0 [va_rf l0, .int l1, .int l2, U_] [] := by
  refine G_aload_n 1 dX1_plateFor_0 rfl rfl ?_
  obtain ⟨a1, e2, h⟩ := h
  obtain ⟨c3, h⟩ := h
  refine G_getR (f := 5) (a := a1) "" 4 dX1_plateFor_1 (Or.inl q188) (Or.inl rfl) rfl e2 (hf5 c3) rfl ?_
  refine G_new (cc := 6) (kn := 16) (q := (RX6, TX6, 2)) (rc) (rs) 7 dX1_plateFor_4 rfl q786 q1451 q74 rfl rfl (Nat.le_refl _) (Nat.le_refl _) (fun z4 => ?_)
  generalize hn5 : nx σ = n5 at z4 ⊢
  generalize hs6 : nO σ 16 = s6
  have x7 : ∀ a, ¬ kd σ a = 0 → kd s6 a = kd σ a := by subst hs6 hn5; exact kdNx z4
  have c8 : kd s6 n5 = 16 := by subst hs6 hn5; exact kdO_self
  have h := h n5 hn5.symm z4 s6 hs6.symm
  refine G_dup 8 dX1_plateFor_7 (rf_cat _) rfl ?_
  refine G_iload_n 9 dX1_plateFor_8 rfl rfl ?_
  refine G_iload_n 10 dX1_plateFor_9 rfl rfl ?_
  refine G_invI (N := mX6_init) (As := [.int l1, .int l2]) (st := [va_rf (some n5), va_rf (FR σ 5 a1)]) (t := (some n5)) (b := n5) (rc) (rs) "" 13 dX1_plateFor_10 (Or.inl q1452) q1453 q74 q1454 rfl rfl rfl mX6_init_args ⟨Nat.le_of_ble_eq_true rfl, Nat.le_of_ble_eq_true rfl⟩ rfl rfl (Nat.le_trans (w_R (w_R w_0)) (Nat.le_of_ble_eq_true rfl)) (le_b mX6_init_c (Nat.le_refl _)) (le_b mX6_init_s (Nat.le_refl _)) rfl (Cal.mono h ?_)
  rintro s9 v ⟨rfl, h⟩ hx10
  have h := h hx10
  have x11 := hx10.x
  show G w mX1_plateFor (KI K) (rc) (rs) s9 13 [va_rf l0, .int l1, .int l2, U_] [va_rf (some n5), va_rf (FR σ 5 a1)]
  obtain ⟨a12, e13, h⟩ := h
  obtain ⟨c16, h⟩ := h
  refine G_invF (N := mJ5_get) (x := ⟨"java/util/Map", "get", "(Ljava/lang/Object;)Ljava/lang/Object;"⟩) (As := [va_rf (some n5)]) (st := []) (t := (FR σ 5 a1)) (b := a12) (rc) (rs) 18 dX1_plateFor_13 q1468 q1486 q1488 q38 q1490 q1470 q1469 q1489 q1487 q602 rfl ax33 ⟨Nat.le_of_ble_eq_true rfl, Nat.le_of_ble_eq_true rfl⟩ rfl (Nat.zero_le _) e13 (rk21 c16) (le_b mJ5_get_c (Nat.le_refl _)) (le_b mJ5_get_s (Nat.le_refl _)) rfl (Cal.mono h ?_)
  rintro s14 v ⟨x15, rfl, h⟩ hx17
  have h := h hx17
  have x18 := hx17.x
  show G w mX1_plateFor (KI K) (rc) (rs) s14 18 [va_rf l0, .int l1, .int l2, U_] [va_rf x15]
  obtain ⟨c19, h⟩ := h
  refine G_cast 21 dX1_plateFor_18 q800 rfl (c19.imp id (fun ⟨b, e, k⟩ => ⟨b, e, co7 k⟩)) ?_
  refine G_astore_n 22 [va_rf l0, .int l1, .int l2, va_rf x15] dX1_plateFor_21 (Nat.le_of_ble_eq_true rfl) rfl rfl ?_
  refine G_aload_n 23 dX1_plateFor_22 rfl rfl ?_
  refine G_ifnonnull 31 26 dX1_plateFor_23 (by decide) rfl (fun u20 => ?_) (fun u20 => ?_)
  · have h := h.1 u20
    refine G_aload_n 32 dX1_plateFor_31 rfl rfl ?_
    obtain ⟨a21, e22, h⟩ := h
    obtain ⟨c25, h⟩ := h
    refine G_invV (N := mJ26_intValue) (As := []) (st := []) (t := x15) (b := a21) (rc) (rs) 35 dX1_plateFor_32 q1496 q1270 q1271 q64 q1272 rfl rfl mJ26_intValue_args ⟨Nat.le_of_ble_eq_true rfl, Nat.le_of_ble_eq_true rfl⟩ rfl (Nat.zero_le _) e22 (rk29 c25) (le_b mJ26_intValue_c (Nat.le_refl _)) (le_b mJ26_intValue_s (Nat.le_refl _)) rfl (Cal.mono h ?_)
    rintro s23 v ⟨x24, rfl, h⟩ hx26
    have h := h hx26
    have x27 := hx26.x
    show G w mX1_plateFor (KI K) (rc) (rs) s23 35 [va_rf l0, .int l1, .int l2, va_rf x15] [.int x24]
    exact G_iret dX1_plateFor_35 rfl ⟨_, rfl, h⟩
  · have h := h.2 u20
    refine G_bipush (v := (-9)) 28 dX1_plateFor_26 (by decide) rfl ?_
    refine G_goto 35 dX1_plateFor_28 (by decide) ?_
    exact G_iret dX1_plateFor_35 rfl ⟨_, rfl, h⟩
theorem eX1_plateFor {w : Wt} {K : Sg → Int32 → Prop} {σ : Sg} (l0 : Option Nat) (l1 : Int32) (l2 : Int32) (h : G w mX1_plateFor (KI K) 1 2 σ 0 [va_rf l0, .int l1, .int l2, U_] []) : CalI w mX1_plateFor σ [va_rf l0, .int l1, .int l2] K :=
  Cal.start 1 mX1_plateFor_plain (catR (catI (catI cat0))) (Nat.le_of_ble_eq_true rfl) rfl h
set_option maxHeartbeats 4000000 in
theorem bX1_takeOff_0 {w : Wt} {K : Sg → Int32 → Prop} {rc rs : Nat} {σ : Sg} (l0 : Option Nat) (l1 : Int32) (l2 : Int32) (h : ∃ a1, l0 = some a1 ∧ kd σ a1 = 11 ∧ ∀ n5, n5 = nx σ → kd σ n5 = 0 → ∀ s6, s6 = nO σ 16 → CalV w mX6_init s6 [va_rf (some n5), .int l1, .int l2] (fun s9 => Ext s6 s9 → ∃ a12, FR σ 5 a1 = some a12 ∧ kd s9 a12 = 21 ∧ CalR w mJ4_remove s9 [va_rf (FR σ 5 a1), va_rf (some n5)] (fun s14 x15 => Ext s9 s14 → (x15 = none ∨ ∃ b, x15 = some b ∧ kd s14 b ∈ [29, 6]) ∧ ∃ a20, x15 = some a20 ∧ kd s14 a20 ∈ [29, 6] ∧ CalI w mJ26_intValue s14 [va_rf x15] (fun s22 x23 => Ext s14 s22 → ∃ a27, FR s22 3 a1 = some a27 ∧ kd s22 a27 = 20 ∧ CalR w mJ2_get s22 [va_rf (FR s22 3 a1), .int x23] (fun s29 x30 => Ext s22 s29 → (x30 = none ∨ ∃ b, x30 = some b ∧ kd s29 b = 15) ∧ ∃ a35, x30 = some a35 ∧ kd s29 a35 = 15 ∧ ∀ s38, s38 = sFI s29 35 a35 0 → K s38 x23))))) : G w mX1_takeOff (KI K) (rc + 21) (rs + 122) σ 0 [va_rf l0, .int l1, .int l2, U_] [] := by
  refine G_aload_n 1 dX1_takeOff_0 rfl rfl ?_
  obtain ⟨a1, e2, h⟩ := h
  obtain ⟨c3, h⟩ := h
  refine G_getR (f := 5) (a := a1) "" 4 dX1_takeOff_1 (Or.inl q188) (Or.inl rfl) rfl e2 (hf5 c3) rfl ?_
  refine G_new (cc := 6) (kn := 16) (q := (RX6, TX6, 2)) (rc + 20) (rs + 120) 7 dX1_takeOff_4 rfl q786 q1451 q74 rfl rfl (Nat.le_refl _) (Nat.le_refl _) (fun z4 => ?_)
  generalize hn5 : nx σ = n5 at z4 ⊢
  generalize hs6 : nO σ 16 = s6
  have x7 : ∀ a, ¬ kd σ a = 0 → kd s6 a = kd σ a := by subst hs6 hn5; exact kdNx z4
  have c8 : kd s6 n5 = 16 := by subst hs6 hn5; exact kdO_self
  have h := h n5 hn5.symm z4 s6 hs6.symm
  refine G_dup 8 dX1_takeOff_7 (rf_cat _) rfl ?_
  refine G_iload_n 9 dX1_takeOff_8 rfl rfl ?_
  refine G_iload_n 10 dX1_takeOff_9 rfl rfl ?_
  refine G_invI (N := mX6_init) (As := [.int l1, .int l2]) (st := [va_rf (some n5), va_rf (FR σ 5 a1)]) (t := (some n5)) (b := n5) (rc + 20) (rs + 120) "" 13 dX1_takeOff_10 (Or.inl q1452) q1453 q74 q1454 rfl rfl rfl mX6_init_args ⟨Nat.le_of_ble_eq_true rfl, Nat.le_of_ble_eq_true rfl⟩ rfl rfl (Nat.le_trans (w_R (w_R w_0)) (Nat.le_of_ble_eq_true rfl)) (le_b mX6_init_c (Nat.le_refl _)) (le_b mX6_init_s (Nat.le_refl _)) rfl (Cal.mono h ?_)
  rintro s9 v ⟨rfl, h⟩ hx10
  have h := h hx10
  have x11 := hx10.x
  show G w mX1_takeOff (KI K) (rc + 20) (rs + 120) s9 13 [va_rf l0, .int l1, .int l2, U_] [va_rf (some n5), va_rf (FR σ 5 a1)]
  obtain ⟨a12, e13, h⟩ := h
  obtain ⟨c16, h⟩ := h
  refine G_invF (N := mJ4_remove) (x := ⟨"java/util/Map", "remove", "(Ljava/lang/Object;)Ljava/lang/Object;"⟩) (As := [va_rf (some n5)]) (st := []) (t := (FR σ 5 a1)) (b := a12) (rc) (rs) 18 dX1_takeOff_13 q1502 q1531 q1507 q37 q1509 q1504 q1503 q1508 q1532 q602 rfl ax34 ⟨Nat.le_of_ble_eq_true rfl, Nat.le_of_ble_eq_true rfl⟩ rfl (Nat.zero_le _) e13 (rk21 c16) (le_b mJ4_remove_c (Nat.le_refl _)) (le_b mJ4_remove_s (Nat.le_refl _)) rfl (Cal.mono h ?_)
  rintro s14 v ⟨x15, rfl, h⟩ hx17
  have h := h hx17
  have x18 := hx17.x
  show G w mX1_takeOff (KI K) (rc) (rs) s14 18 [va_rf l0, .int l1, .int l2, U_] [va_rf x15]
  obtain ⟨c19, h⟩ := h
  refine G_cast 21 dX1_takeOff_18 q800 rfl (c19.imp id (fun ⟨b, e, k⟩ => ⟨b, e, co7 k⟩)) ?_
  obtain ⟨a20, e21, h⟩ := h
  obtain ⟨c24, h⟩ := h
  refine G_invV (N := mJ26_intValue) (As := []) (st := []) (t := x15) (b := a20) (rc) (rs) 24 dX1_takeOff_21 q1496 q1270 q1271 q64 q1272 rfl rfl mJ26_intValue_args ⟨Nat.le_of_ble_eq_true rfl, Nat.le_of_ble_eq_true rfl⟩ rfl (Nat.zero_le _) e21 (rk29 c24) (le_b mJ26_intValue_c (Nat.le_refl _)) (le_b mJ26_intValue_s (Nat.le_refl _)) rfl (Cal.mono h ?_)
  rintro s22 v ⟨x23, rfl, h⟩ hx25
  have h := h hx25
  have x26 := hx25.x
  show G w mX1_takeOff (KI K) (rc) (rs) s22 24 [va_rf l0, .int l1, .int l2, U_] [.int x23]
  refine G_istore_n 25 [va_rf l0, .int l1, .int l2, .int x23] dX1_takeOff_24 (Nat.le_of_ble_eq_true rfl) rfl rfl ?_
  refine G_aload_n 26 dX1_takeOff_25 rfl rfl ?_
  have c3 := kdE x7 c3 (by decide)
  have c3 := kdE x11 c3 (by decide)
  have c3 := kdE x18 c3 (by decide)
  have c3 := kdE x26 c3 (by decide)
  refine G_getR (f := 3) (a := a1) "" 29 dX1_takeOff_26 (Or.inl q184) (Or.inl rfl) rfl e2 (hf3 c3) rfl ?_
  refine G_iload_n 30 dX1_takeOff_29 rfl rfl ?_
  obtain ⟨a27, e28, h⟩ := h
  obtain ⟨c31, h⟩ := h
  refine G_invF (N := mJ2_get) (x := ⟨"java/util/List", "get", "(I)Ljava/lang/Object;"⟩) (As := [.int x23]) (st := []) (t := (FR s22 3 a1)) (b := a27) (rc) (rs) 35 dX1_takeOff_30 q1425 q1393 q1395 q35 q1397 q1392 q1391 q1396 q1394 q307 rfl ax32 ⟨Nat.le_of_ble_eq_true rfl, Nat.le_of_ble_eq_true rfl⟩ rfl (Nat.zero_le _) e28 (rk20 c31) (le_b mJ2_get_c (Nat.le_refl _)) (le_b mJ2_get_s (Nat.le_refl _)) rfl (Cal.mono h ?_)
  rintro s29 v ⟨x30, rfl, h⟩ hx32
  have h := h hx32
  have x33 := hx32.x
  show G w mX1_takeOff (KI K) (rc) (rs) s29 35 [va_rf l0, .int l1, .int l2, .int x23] [va_rf x30]
  obtain ⟨c34, h⟩ := h
  refine G_cast 38 dX1_takeOff_35 q464 rfl (c34.imp id (fun ⟨b, e, k⟩ => ⟨b, e, co4 k⟩)) ?_
  refine G_iconst (v := 0) 39 dX1_takeOff_38 (by decide) rfl ?_
  obtain ⟨a35, e36, h⟩ := h
  obtain ⟨c37, h⟩ := h
  refine G_putI (f := 35) (a := a35) "TrophyPlates" 42 dX1_takeOff_39 (Or.inr ⟨q482, rfl⟩) (Or.inl rfl) rfl e36 (hp35 c37) (nk35 c37) (Or.inl rfl) rfl rfl rfl ?_
  generalize hs38 : sFI s29 35 a35 0 = s38
  have x39 : ∀ a, ¬ kd s29 a = 0 → kd s38 a = kd s29 a := by subst hs38; exact fun a _ => congrFun kd_sFI a
  have h := h s38 hs38.symm
  refine G_iload_n 43 dX1_takeOff_42 rfl rfl ?_
  exact G_iret dX1_takeOff_43 rfl ⟨_, rfl, h⟩
theorem eX1_takeOff {w : Wt} {K : Sg → Int32 → Prop} {σ : Sg} (l0 : Option Nat) (l1 : Int32) (l2 : Int32) (h : G w mX1_takeOff (KI K) 21 122 σ 0 [va_rf l0, .int l1, .int l2, U_] []) : CalI w mX1_takeOff σ [va_rf l0, .int l1, .int l2] K :=
  Cal.start 1 mX1_takeOff_plain (catR (catI (catI cat0))) (Nat.le_of_ble_eq_true rfl) rfl h
set_option maxHeartbeats 4000000 in
theorem bX1_isOrdered_0 {w : Wt} {K : Sg → Int32 → Prop} {rc rs : Nat} {σ : Sg} (l0 : Option Nat) (l1 : Option Nat) (h : ∀ n2, n2 = nx σ → kd σ n2 = 0 → ∀ s3, s3 = nO σ 33 → CalV w mJ35_init s3 [va_rf (some n2)] (fun s6 => Ext s3 s6 → ∃ a9, l0 = some a9 ∧ kd s6 a9 = 11 ∧ ∃ a12, FR s6 4 a9 = some a12 ∧ kd s6 a12 = 20 ∧ CalR w mJ2_iterator s6 [va_rf (FR s6 4 a9)] (fun s14 x15 => Ext s6 s14 → G w mX1_isOrdered (KI K) (rc) (rs) s14 18 [va_rf l0, va_rf l1, va_rf (some n2), va_rf x15, U_, U_] []))) : G w mX1_isOrdered (KI K) (rc + 3) (rs + 13) σ 0 [va_rf l0, va_rf l1, U_, U_, U_, U_] [] := by
  refine G_new (cc := 23) (kn := 33) (q := (RJ35, TJ35, 1)) (rc + 2) (rs + 12) 3 dX1_isOrdered_0 rfl q1646 q1647 q75 rfl rfl (Nat.le_refl _) (Nat.le_refl _) (fun z1 => ?_)
  generalize hn2 : nx σ = n2 at z1 ⊢
  generalize hs3 : nO σ 33 = s3
  have x4 : ∀ a, ¬ kd σ a = 0 → kd s3 a = kd σ a := by subst hs3 hn2; exact kdNx z1
  have c5 : kd s3 n2 = 33 := by subst hs3 hn2; exact kdO_self
  have h := h n2 hn2.symm z1 s3 hs3.symm
  refine G_dup 4 dX1_isOrdered_3 (rf_cat _) rfl ?_
  refine G_invI (N := mJ35_init) (As := []) (st := [va_rf (some n2)]) (t := (some n2)) (b := n2) (rc + 1) (rs + 4) "" 7 dX1_isOrdered_4 (Or.inl q1648) q1649 q75 q1650 rfl rfl rfl mJ35_init_args ⟨Nat.le_of_ble_eq_true rfl, Nat.le_of_ble_eq_true rfl⟩ rfl rfl (Nat.le_trans (w_R w_0) (Nat.le_of_ble_eq_true rfl)) (le_b mJ35_init_c (Nat.le_refl _)) (le_b mJ35_init_s (Nat.le_refl _)) rfl (Cal.mono h ?_)
  rintro s6 v ⟨rfl, h⟩ hx7
  have h := h hx7
  have x8 := hx7.x
  show G w mX1_isOrdered (KI K) (rc + 1) (rs + 4) s6 7 [va_rf l0, va_rf l1, U_, U_, U_, U_] [va_rf (some n2)]
  refine G_astore_n 8 [va_rf l0, va_rf l1, va_rf (some n2), U_, U_, U_] dX1_isOrdered_7 (Nat.le_of_ble_eq_true rfl) rfl rfl ?_
  refine G_aload_n 9 dX1_isOrdered_8 rfl rfl ?_
  obtain ⟨a9, e10, h⟩ := h
  obtain ⟨c11, h⟩ := h
  refine G_getR (f := 4) (a := a9) "" 12 dX1_isOrdered_9 (Or.inl q186) (Or.inl rfl) rfl e10 (hf4 c11) rfl ?_
  obtain ⟨a12, e13, h⟩ := h
  obtain ⟨c16, h⟩ := h
  refine G_invF (N := mJ2_iterator) (x := ⟨"java/util/List", "iterator", "()Ljava/util/Iterator;"⟩) (As := []) (st := []) (t := (FR s6 4 a9)) (b := a12) (rc) (rs) 17 dX1_isOrdered_12 q343 q346 q348 q35 q350 q345 q344 q349 q347 q307 rfl ax22 ⟨Nat.le_of_ble_eq_true rfl, Nat.le_of_ble_eq_true rfl⟩ rfl (Nat.zero_le _) e13 (rk20 c16) (le_b mJ2_iterator_c (Nat.le_refl _)) (le_b mJ2_iterator_s (Nat.le_refl _)) rfl (Cal.mono h ?_)
  rintro s14 v ⟨x15, rfl, h⟩ hx17
  have h := h hx17
  have x18 := hx17.x
  show G w mX1_isOrdered (KI K) (rc) (rs) s14 17 [va_rf l0, va_rf l1, va_rf (some n2), U_, U_, U_] [va_rf x15]
  refine G_astore_n 18 [va_rf l0, va_rf l1, va_rf (some n2), va_rf x15, U_, U_] dX1_isOrdered_17 (Nat.le_of_ble_eq_true rfl) rfl rfl ?_
  exact h
set_option maxHeartbeats 4000000 in
theorem bX1_isOrdered_18 {w : Wt} {K : Sg → Int32 → Prop} {rc rs : Nat} {σ : Sg} (l0 : Option Nat) (l1 : Option Nat) (l2 : Option Nat) (l3 : Option Nat) (v4 : Value) (v5 : Value) (h : ∃ a1, l3 = some a1 ∧ kd σ a1 = 19 ∧ CalI w mJ10_hasNext σ [va_rf l3] (fun s3 x4 => Ext σ s3 → ((x4 = 0 → ∃ a9, l2 = some a9 ∧ kd s3 a9 = 33 ∧ CalI w mJ35_contains s3 [va_rf l2, va_rf l1] (fun s11 x12 => Ext s3 s11 → ((x12 = 0 ∨ x12 = 1) ∧ K s11 x12))) ∧ (¬ x4 = 0 → CalR w mJ10_next s3 [va_rf l3] (fun s16 x17 => Ext s3 s16 → (x17 = none ∨ ∃ b, x17 = some b ∧ kd s16 b = 17) ∧ ∃ a21, x17 = some a21 ∧ kd s16 a21 = 17 ∧ ∃ a24, l2 = some a24 ∧ kd s16 a24 = 33 ∧ CalI w mJ35_add s16 [va_rf l2, va_rf (FR s16 39 a21)] (fun s26 x27 => Ext s16 s26 → G w mX1_isOrdered (KI K) (rc) (rs) s26 18 [va_rf l0, va_rf l1, va_rf l2, va_rf l3, va_rf x17, .int x27] [])))))) : G w mX1_isOrdered (KI K) (rc + 25) (rs + 450) σ 18 [va_rf l0, va_rf l1, va_rf l2, va_rf l3, v4, v5] [] := by
  refine G_aload_n 19 dX1_isOrdered_18 rfl rfl ?_
  obtain ⟨a1, e2, h⟩ := h
  obtain ⟨c5, h⟩ := h
  refine G_invF (N := mJ10_hasNext) (x := ⟨"java/util/Iterator", "hasNext", "()Z"⟩) (As := []) (st := []) (t := l3) (b := a1) (rc + 25) (rs + 450) 24 dX1_isOrdered_19 q371 q375 q377 q46 q379 q373 q372 q378 q376 q374 rfl ax25 ⟨Nat.le_of_ble_eq_true rfl, Nat.le_of_ble_eq_true rfl⟩ rfl (Nat.zero_le _) e2 (rk19 c5) (le_b mJ10_hasNext_c (Nat.le_refl _)) (le_b mJ10_hasNext_s (Nat.le_refl _)) rfl (Cal.mono h ?_)
  rintro s3 v ⟨x4, rfl, h⟩ hx6
  have h := h hx6
  have x7 := hx6.x
  show G w mX1_isOrdered (KI K) (rc + 25) (rs + 450) s3 24 [va_rf l0, va_rf l1, va_rf l2, va_rf l3, v4, v5] [.int x4]
  refine G_if_eq 52 27 dX1_isOrdered_24 (by decide) rfl (fun u8 => ?_) (fun u8 => ?_)
  · have h := h.1 u8
    refine G_aload_n 53 dX1_isOrdered_52 rfl rfl ?_
    refine G_aload_n 54 dX1_isOrdered_53 rfl rfl ?_
    obtain ⟨a9, e10, h⟩ := h
    obtain ⟨c13, h⟩ := h
    refine G_invV (N := mJ35_contains) (As := [va_rf l1]) (st := []) (t := l2) (b := a9) (rc + 25) (rs + 450) 57 dX1_isOrdered_54 q1675 q1676 q1677 q75 q1678 rfl rfl mJ35_contains_args ⟨Nat.le_of_ble_eq_true rfl, Nat.le_of_ble_eq_true rfl⟩ rfl (Nat.zero_le _) e10 (rk33 c13) (le_b mJ35_contains_c (Nat.le_refl _)) (le_b mJ35_contains_s (Nat.le_refl _)) rfl (Cal.mono h ?_)
    rintro s11 v ⟨x12, rfl, h⟩ hx14
    have h := h hx14
    have x15 := hx14.x
    show G w mX1_isOrdered (KI K) (rc + 25) (rs + 450) s11 57 [va_rf l0, va_rf l1, va_rf l2, va_rf l3, v4, v5] [.int x12]
    exact G_zret dX1_isOrdered_57 rfl (nar_bz h.1).1 ⟨_, rfl, h.2⟩
  · have h := h.2 u8
    refine G_aload_n 28 dX1_isOrdered_27 rfl rfl ?_
    have c5 := kdE x7 c5 (by decide)
    refine G_invF (N := mJ10_next) (x := ⟨"java/util/Iterator", "next", "()Ljava/lang/Object;"⟩) (As := []) (st := []) (t := l3) (b := a1) (rc + 25) (rs + 450) 33 dX1_isOrdered_28 q399 q402 q404 q46 q406 q401 q400 q405 q403 q374 rfl ax24 ⟨Nat.le_of_ble_eq_true rfl, Nat.le_of_ble_eq_true rfl⟩ rfl (Nat.zero_le _) e2 (rk19 c5) (le_b mJ10_next_c (Nat.le_refl _)) (le_b mJ10_next_s (Nat.le_refl _)) rfl (Cal.mono h ?_)
    rintro s16 v ⟨x17, rfl, h⟩ hx18
    have h := h hx18
    have x19 := hx18.x
    show G w mX1_isOrdered (KI K) (rc + 25) (rs + 450) s16 33 [va_rf l0, va_rf l1, va_rf l2, va_rf l3, v4, v5] [va_rf x17]
    obtain ⟨c20, h⟩ := h
    refine G_cast 36 dX1_isOrdered_33 q578 rfl (c20.imp id (fun ⟨b, e, k⟩ => ⟨b, e, co5 k⟩)) ?_
    refine G_astore 38 [va_rf l0, va_rf l1, va_rf l2, va_rf l3, va_rf x17, v5] dX1_isOrdered_36 (Nat.le_of_ble_eq_true rfl) rfl rfl ?_
    refine G_aload_n 39 dX1_isOrdered_38 rfl rfl ?_
    refine G_aload 41 dX1_isOrdered_39 rfl rfl ?_
    obtain ⟨a21, e22, h⟩ := h
    obtain ⟨c23, h⟩ := h
    refine G_getR (f := 39) (a := a21) "TrophyPlates" 44 dX1_isOrdered_41 (Or.inr q1744) (Or.inl rfl) rfl e22 (hf39 c23) rfl ?_
    obtain ⟨a24, e25, h⟩ := h
    obtain ⟨c28, h⟩ := h
    refine G_invV (N := mJ35_add) (As := [va_rf (FR s16 39 a21)]) (st := []) (t := l2) (b := a24) (rc) (rs) 47 dX1_isOrdered_44 q1668 q1669 q1670 q75 q1671 rfl rfl mJ35_add_args ⟨Nat.le_of_ble_eq_true rfl, Nat.le_of_ble_eq_true rfl⟩ rfl (Nat.zero_le _) e25 (rk33 c28) (le_b mJ35_add_c (Nat.le_refl _)) (le_b mJ35_add_s (Nat.le_refl _)) rfl (Cal.mono h ?_)
    rintro s26 v ⟨x27, rfl, h⟩ hx29
    have h := h hx29
    have x30 := hx29.x
    show G w mX1_isOrdered (KI K) (rc) (rs) s26 47 [va_rf l0, va_rf l1, va_rf l2, va_rf l3, va_rf x17, v5] [.int x27]
    refine G_istore 49 [va_rf l0, va_rf l1, va_rf l2, va_rf l3, va_rf x17, .int x27] dX1_isOrdered_47 (Nat.le_of_ble_eq_true rfl) rfl rfl ?_
    refine G_goto 18 dX1_isOrdered_49 (by decide) ?_
    exact h
theorem eX1_isOrdered {w : Wt} {K : Sg → Int32 → Prop} {σ : Sg} (l0 : Option Nat) (l1 : Option Nat) (h : G w mX1_isOrdered (KI K) 270 4700 σ 0 [va_rf l0, va_rf l1, U_, U_, U_, U_] []) : CalI w mX1_isOrdered σ [va_rf l0, va_rf l1] K :=
  Cal.start 4 mX1_isOrdered_plain (catR (catR cat0)) (Nat.le_of_ble_eq_true rfl) rfl h
set_option maxHeartbeats 4000000 in
theorem bX1_line_0 {w : Wt} {K : Sg → Int32 → Prop} {rc rs : Nat} {σ : Sg} (l0 : Option Nat) (l1 : Option Nat) (h : ∃ a1, l1 = some a1 ∧ kd σ a1 = 17 ∧ ((FI σ 43 a1 = 0 → ∃ a5, l0 = some a5 ∧ kd σ a5 = 11 ∧ ∃ a8, FR σ 4 a5 = some a8 ∧ kd σ a8 = 20 ∧ CalI w mJ2_size σ [va_rf (FR σ 4 a5)] (fun s10 x11 => Ext σ s10 → ∃ a15, FR s10 4 a5 = some a15 ∧ kd s10 a15 = 20 ∧ CalV w mJ2_add_3 s10 [va_rf (FR s10 4 a5), .int x11, va_rf l1] (fun s17 => Ext s10 s17 → K s17 x11))) ∧ (¬ FI σ 43 a1 = 0 → ∃ a21, l0 = some a21 ∧ kd σ a21 = 11 ∧ CalI w mX1_rushes σ [va_rf l0] (fun s23 x24 => Ext σ s23 → ∃ a28, FR s23 4 a21 = some a28 ∧ kd s23 a28 = 20 ∧ CalV w mJ2_add_3 s23 [va_rf (FR s23 4 a21), .int x24, va_rf l1] (fun s30 => Ext s23 s30 → K s30 x24))))) : G w mX1_line (KI K) (rc + 2) (rs + 26) σ 0 [va_rf l0, va_rf l1, U_] [] := by
  refine G_aload_n 1 dX1_line_0 rfl rfl ?_
  obtain ⟨a1, e2, h⟩ := h
  obtain ⟨c3, h⟩ := h
  refine G_getI (f := 43) (a := a1) "TrophyPlates" 4 dX1_line_1 (Or.inr q1754) (Or.inl rfl) rfl e2 (hf43 c3) rfl ?_
  refine G_if_eq 14 7 dX1_line_4 (by decide) rfl (fun u4 => ?_) (fun u4 => ?_)
  · have h := h.1 u4
    refine G_aload_n 15 dX1_line_14 rfl rfl ?_
    obtain ⟨a5, e6, h⟩ := h
    obtain ⟨c7, h⟩ := h
    refine G_getR (f := 4) (a := a5) "" 18 dX1_line_15 (Or.inl q186) (Or.inl rfl) rfl e6 (hf4 c7) rfl ?_
    obtain ⟨a8, e9, h⟩ := h
    obtain ⟨c12, h⟩ := h
    refine G_invF (N := mJ2_size) (x := ⟨"java/util/List", "size", "()I"⟩) (As := []) (st := []) (t := (FR σ 4 a5)) (b := a8) (rc + 2) (rs + 26) 23 dX1_line_18 q1387 q308 q310 q35 q312 q306 q305 q311 q309 q307 rfl ax31 ⟨Nat.le_of_ble_eq_true rfl, Nat.le_of_ble_eq_true rfl⟩ rfl (Nat.zero_le _) e9 (rk20 c12) (le_b mJ2_size_c (Nat.le_refl _)) (le_b mJ2_size_s (Nat.le_refl _)) rfl (Cal.mono h ?_)
    rintro s10 v ⟨x11, rfl, h⟩ hx13
    have h := h hx13
    have x14 := hx13.x
    show G w mX1_line (KI K) (rc + 2) (rs + 26) s10 23 [va_rf l0, va_rf l1, U_] [.int x11]
    refine G_istore_n 24 [va_rf l0, va_rf l1, .int x11] dX1_line_23 (Nat.le_of_ble_eq_true rfl) rfl rfl ?_
    refine G_aload_n 25 dX1_line_24 rfl rfl ?_
    have c7 := kdE x14 c7 (by decide)
    refine G_getR (f := 4) (a := a5) "" 28 dX1_line_25 (Or.inl q186) (Or.inl rfl) rfl e6 (hf4 c7) rfl ?_
    refine G_iload_n 29 dX1_line_28 rfl rfl ?_
    refine G_aload_n 30 dX1_line_29 rfl rfl ?_
    obtain ⟨a15, e16, h⟩ := h
    obtain ⟨c18, h⟩ := h
    refine G_invF (N := mJ2_add_3) (x := ⟨"java/util/List", "add", "(ILjava/lang/Object;)V"⟩) (As := [.int x11, va_rf l1]) (st := []) (t := (FR s10 4 a5)) (b := a15) (rc + 1) (rs + 4) 35 dX1_line_30 q1776 q1779 q1781 q35 q1783 q1778 q1777 q1782 q1780 q307 rfl ax35 ⟨Nat.le_of_ble_eq_true rfl, Nat.le_of_ble_eq_true rfl⟩ rfl (Nat.zero_le _) e16 (rk20 c18) (le_b mJ2_add_3_c (Nat.le_refl _)) (le_b mJ2_add_3_s (Nat.le_refl _)) rfl (Cal.mono h ?_)
    rintro s17 v ⟨rfl, h⟩ hx19
    have h := h hx19
    have x20 := hx19.x
    show G w mX1_line (KI K) (rc + 1) (rs + 4) s17 35 [va_rf l0, va_rf l1, .int x11] []
    refine G_iload_n 36 dX1_line_35 rfl rfl ?_
    exact G_iret dX1_line_36 rfl ⟨_, rfl, h⟩
  · have h := h.2 u4
    refine G_aload_n 8 dX1_line_7 rfl rfl ?_
    obtain ⟨a21, e22, h⟩ := h
    obtain ⟨c25, h⟩ := h
    refine G_invV (N := mX1_rushes) (As := []) (st := []) (t := l0) (b := a21) (rc + 1) (rs + 22) 11 dX1_line_8 q1771 q1772 q1773 q32 q1774 rfl rfl mX1_rushes_args ⟨Nat.le_of_ble_eq_true rfl, Nat.le_of_ble_eq_true rfl⟩ rfl (Nat.zero_le _) e22 (rk11 c25) (le_b mX1_rushes_c (Nat.le_refl _)) (le_b mX1_rushes_s (Nat.le_refl _)) rfl (Cal.mono h ?_)
    rintro s23 v ⟨x24, rfl, h⟩ hx26
    have h := h hx26
    have x27 := hx26.x
    show G w mX1_line (KI K) (rc + 1) (rs + 22) s23 11 [va_rf l0, va_rf l1, U_] [.int x24]
    refine G_goto 23 dX1_line_11 (by decide) ?_
    refine G_istore_n 24 [va_rf l0, va_rf l1, .int x24] dX1_line_23 (Nat.le_of_ble_eq_true rfl) rfl rfl ?_
    refine G_aload_n 25 dX1_line_24 rfl rfl ?_
    have c25 := kdE x27 c25 (by decide)
    refine G_getR (f := 4) (a := a21) "" 28 dX1_line_25 (Or.inl q186) (Or.inl rfl) rfl e22 (hf4 c25) rfl ?_
    refine G_iload_n 29 dX1_line_28 rfl rfl ?_
    refine G_aload_n 30 dX1_line_29 rfl rfl ?_
    obtain ⟨a28, e29, h⟩ := h
    obtain ⟨c31, h⟩ := h
    refine G_invF (N := mJ2_add_3) (x := ⟨"java/util/List", "add", "(ILjava/lang/Object;)V"⟩) (As := [.int x24, va_rf l1]) (st := []) (t := (FR s23 4 a21)) (b := a28) (rc) (rs) 35 dX1_line_30 q1776 q1779 q1781 q35 q1783 q1778 q1777 q1782 q1780 q307 rfl ax35 ⟨Nat.le_of_ble_eq_true rfl, Nat.le_of_ble_eq_true rfl⟩ rfl (Nat.zero_le _) e29 (rk20 c31) (le_b mJ2_add_3_c (Nat.le_refl _)) (le_b mJ2_add_3_s (Nat.le_refl _)) rfl (Cal.mono h ?_)
    rintro s30 v ⟨rfl, h⟩ hx32
    have h := h hx32
    have x33 := hx32.x
    show G w mX1_line (KI K) (rc) (rs) s30 35 [va_rf l0, va_rf l1, .int x24] []
    refine G_iload_n 36 dX1_line_35 rfl rfl ?_
    exact G_iret dX1_line_36 rfl ⟨_, rfl, h⟩
theorem eX1_line {w : Wt} {K : Sg → Int32 → Prop} {σ : Sg} (l0 : Option Nat) (l1 : Option Nat) (h : G w mX1_line (KI K) 2 26 σ 0 [va_rf l0, va_rf l1, U_] []) : CalI w mX1_line σ [va_rf l0, va_rf l1] K :=
  Cal.start 1 mX1_line_plain (catR (catR cat0)) (Nat.le_of_ble_eq_true rfl) rfl h
set_option maxHeartbeats 4000000 in
theorem bX1_rushes_0 {w : Wt} {K : Sg → Int32 → Prop} {rc rs : Nat} {σ : Sg} (l0 : Option Nat) (h : ∃ a1, l0 = some a1 ∧ kd σ a1 = 11 ∧ ∃ a4, FR σ 4 a1 = some a4 ∧ kd σ a4 = 20 ∧ CalR w mJ2_iterator σ [va_rf (FR σ 4 a1)] (fun s6 x7 => Ext σ s6 → G w mX1_rushes (KI K) (rc) (rs) s6 12 [va_rf l0, .int 0, va_rf x7, U_] [])) : G w mX1_rushes (KI K) (rc + 1) (rs + 4) σ 0 [va_rf l0, U_, U_, U_] [] := by
  refine G_iconst (v := 0) 1 dX1_rushes_0 (by decide) rfl ?_
  refine G_istore_n 2 [va_rf l0, .int 0, U_, U_] dX1_rushes_1 (Nat.le_of_ble_eq_true rfl) rfl rfl ?_
  refine G_aload_n 3 dX1_rushes_2 rfl rfl ?_
  obtain ⟨a1, e2, h⟩ := h
  obtain ⟨c3, h⟩ := h
  refine G_getR (f := 4) (a := a1) "" 6 dX1_rushes_3 (Or.inl q186) (Or.inl rfl) rfl e2 (hf4 c3) rfl ?_
  obtain ⟨a4, e5, h⟩ := h
  obtain ⟨c8, h⟩ := h
  refine G_invF (N := mJ2_iterator) (x := ⟨"java/util/List", "iterator", "()Ljava/util/Iterator;"⟩) (As := []) (st := []) (t := (FR σ 4 a1)) (b := a4) (rc) (rs) 11 dX1_rushes_6 q343 q346 q348 q35 q350 q345 q344 q349 q347 q307 rfl ax22 ⟨Nat.le_of_ble_eq_true rfl, Nat.le_of_ble_eq_true rfl⟩ rfl (Nat.zero_le _) e5 (rk20 c8) (le_b mJ2_iterator_c (Nat.le_refl _)) (le_b mJ2_iterator_s (Nat.le_refl _)) rfl (Cal.mono h ?_)
  rintro s6 v ⟨x7, rfl, h⟩ hx9
  have h := h hx9
  have x10 := hx9.x
  show G w mX1_rushes (KI K) (rc) (rs) s6 11 [va_rf l0, .int 0, U_, U_] [va_rf x7]
  refine G_astore_n 12 [va_rf l0, .int 0, va_rf x7, U_] dX1_rushes_11 (Nat.le_of_ble_eq_true rfl) rfl rfl ?_
  exact h
set_option maxHeartbeats 4000000 in
theorem bX1_rushes_12 {w : Wt} {K : Sg → Int32 → Prop} {rc rs : Nat} {σ : Sg} (l0 : Option Nat) (l1 : Int32) (l2 : Option Nat) (v3 : Value) (h : ∃ a1, l2 = some a1 ∧ kd σ a1 = 19 ∧ CalI w mJ10_hasNext σ [va_rf l2] (fun s3 x4 => Ext σ s3 → ((x4 = 0 → K s3 l1) ∧ (¬ x4 = 0 → CalR w mJ10_next s3 [va_rf l2] (fun s9 x10 => Ext s3 s9 → (x10 = none ∨ ∃ b, x10 = some b ∧ kd s9 b = 17) ∧ ∃ a14, x10 = some a14 ∧ kd s9 a14 = 17 ∧ ((FI s9 43 a14 = 0 → G w mX1_rushes (KI K) (rc) (rs) s9 12 [va_rf l0, .int (l1 + 0), va_rf l2, va_rf x10] []) ∧ (¬ FI s9 43 a14 = 0 → G w mX1_rushes (KI K) (rc) (rs) s9 12 [va_rf l0, .int (l1 + 1), va_rf l2, va_rf x10] []))))))) : G w mX1_rushes (KI K) (rc) (rs) σ 12 [va_rf l0, .int l1, va_rf l2, v3] [] := by
  refine G_aload_n 13 dX1_rushes_12 rfl rfl ?_
  obtain ⟨a1, e2, h⟩ := h
  obtain ⟨c5, h⟩ := h
  refine G_invF (N := mJ10_hasNext) (x := ⟨"java/util/Iterator", "hasNext", "()Z"⟩) (As := []) (st := []) (t := l2) (b := a1) (rc) (rs) 18 dX1_rushes_13 q371 q375 q377 q46 q379 q373 q372 q378 q376 q374 rfl ax25 ⟨Nat.le_of_ble_eq_true rfl, Nat.le_of_ble_eq_true rfl⟩ rfl (Nat.zero_le _) e2 (rk19 c5) (le_b mJ10_hasNext_c (Nat.le_refl _)) (le_b mJ10_hasNext_s (Nat.le_refl _)) rfl (Cal.mono h ?_)
  rintro s3 v ⟨x4, rfl, h⟩ hx6
  have h := h hx6
  have x7 := hx6.x
  show G w mX1_rushes (KI K) (rc) (rs) s3 18 [va_rf l0, .int l1, va_rf l2, v3] [.int x4]
  refine G_if_eq 49 21 dX1_rushes_18 (by decide) rfl (fun u8 => ?_) (fun u8 => ?_)
  · have h := h.1 u8
    refine G_iload_n 50 dX1_rushes_49 rfl rfl ?_
    exact G_iret dX1_rushes_50 rfl ⟨_, rfl, h⟩
  · have h := h.2 u8
    refine G_aload_n 22 dX1_rushes_21 rfl rfl ?_
    have c5 := kdE x7 c5 (by decide)
    refine G_invF (N := mJ10_next) (x := ⟨"java/util/Iterator", "next", "()Ljava/lang/Object;"⟩) (As := []) (st := []) (t := l2) (b := a1) (rc) (rs) 27 dX1_rushes_22 q399 q402 q404 q46 q406 q401 q400 q405 q403 q374 rfl ax24 ⟨Nat.le_of_ble_eq_true rfl, Nat.le_of_ble_eq_true rfl⟩ rfl (Nat.zero_le _) e2 (rk19 c5) (le_b mJ10_next_c (Nat.le_refl _)) (le_b mJ10_next_s (Nat.le_refl _)) rfl (Cal.mono h ?_)
    rintro s9 v ⟨x10, rfl, h⟩ hx11
    have h := h hx11
    have x12 := hx11.x
    show G w mX1_rushes (KI K) (rc) (rs) s9 27 [va_rf l0, .int l1, va_rf l2, v3] [va_rf x10]
    obtain ⟨c13, h⟩ := h
    refine G_cast 30 dX1_rushes_27 q578 rfl (c13.imp id (fun ⟨b, e, k⟩ => ⟨b, e, co5 k⟩)) ?_
    refine G_astore_n 31 [va_rf l0, .int l1, va_rf l2, va_rf x10] dX1_rushes_30 (Nat.le_of_ble_eq_true rfl) rfl rfl ?_
    refine G_iload_n 32 dX1_rushes_31 rfl rfl ?_
    refine G_aload_n 33 dX1_rushes_32 rfl rfl ?_
    obtain ⟨a14, e15, h⟩ := h
    obtain ⟨c16, h⟩ := h
    refine G_getI (f := 43) (a := a14) "TrophyPlates" 36 dX1_rushes_33 (Or.inr q1754) (Or.inl rfl) rfl e15 (hf43 c16) rfl ?_
    refine G_if_eq 43 39 dX1_rushes_36 (by decide) rfl (fun u17 => ?_) (fun u17 => ?_)
    · have h := h.1 u17
      refine G_iconst (v := 0) 44 dX1_rushes_43 (by decide) rfl ?_
      refine G_iadd 45 dX1_rushes_44 rfl ?_
      refine G_istore_n 46 [va_rf l0, .int (l1 + 0), va_rf l2, va_rf x10] dX1_rushes_45 (Nat.le_of_ble_eq_true rfl) rfl rfl ?_
      refine G_goto 12 dX1_rushes_46 (by decide) ?_
      exact h
    · have h := h.2 u17
      refine G_iconst (v := 1) 40 dX1_rushes_39 (by decide) rfl ?_
      refine G_goto 44 dX1_rushes_40 (by decide) ?_
      refine G_iadd 45 dX1_rushes_44 rfl ?_
      refine G_istore_n 46 [va_rf l0, .int (l1 + 1), va_rf l2, va_rf x10] dX1_rushes_45 (Nat.le_of_ble_eq_true rfl) rfl rfl ?_
      refine G_goto 12 dX1_rushes_46 (by decide) ?_
      exact h
theorem eX1_rushes {w : Wt} {K : Sg → Int32 → Prop} {σ : Sg} (l0 : Option Nat) (h : G w mX1_rushes (KI K) 1 4 σ 0 [va_rf l0, U_, U_, U_] []) : CalI w mX1_rushes σ [va_rf l0] K :=
  Cal.start 3 mX1_rushes_plain (catR cat0) (Nat.le_of_ble_eq_true rfl) rfl h
set_option maxHeartbeats 4000000 in
theorem bX1_isOrder_0 {w : Wt} {K : Sg → Int32 → Prop} {rc rs : Nat} {σ : Sg} (l0 : Option Nat) (l1 : Int32) (h : ∃ a1, l0 = some a1 ∧ kd σ a1 = 11 ∧ ∃ a4, FR σ 4 a1 = some a4 ∧ kd σ a4 = 20 ∧ CalI w mJ2_size σ [va_rf (FR σ 4 a1)] (fun s6 x7 => Ext σ s6 → CalI w mX0_isBetween s6 [.int l1, .int 0, .int (x7 - 1)] (fun s11 x12 => Ext s6 s11 → ((x12 = 0 ∨ x12 = 1) ∧ K s11 x12)))) : G w mX1_isOrder (KI K) (rc) (rs) σ 0 [va_rf l0, .int l1] [] := by
  refine G_iload_n 1 dX1_isOrder_0 rfl rfl ?_
  refine G_iconst (v := 0) 2 dX1_isOrder_1 (by decide) rfl ?_
  refine G_aload_n 3 dX1_isOrder_2 rfl rfl ?_
  obtain ⟨a1, e2, h⟩ := h
  obtain ⟨c3, h⟩ := h
  refine G_getR (f := 4) (a := a1) "" 6 dX1_isOrder_3 (Or.inl q186) (Or.inl rfl) rfl e2 (hf4 c3) rfl ?_
  obtain ⟨a4, e5, h⟩ := h
  obtain ⟨c8, h⟩ := h
  refine G_invF (N := mJ2_size) (x := ⟨"java/util/List", "size", "()I"⟩) (As := []) (st := [.int 0, .int l1]) (t := (FR σ 4 a1)) (b := a4) (rc) (rs) 11 dX1_isOrder_6 q1387 q308 q310 q35 q312 q306 q305 q311 q309 q307 rfl ax31 ⟨Nat.le_of_ble_eq_true rfl, Nat.le_of_ble_eq_true rfl⟩ rfl (Nat.le_trans (w_I (w_I w_0)) (Nat.le_of_ble_eq_true rfl)) e5 (rk20 c8) (le_b mJ2_size_c (Nat.le_refl _)) (le_b mJ2_size_s (Nat.le_refl _)) rfl (Cal.mono h ?_)
  rintro s6 v ⟨x7, rfl, h⟩ hx9
  have h := h hx9
  have x10 := hx9.x
  show G w mX1_isOrder (KI K) (rc) (rs) s6 11 [va_rf l0, .int l1] [.int x7, .int 0, .int l1]
  refine G_iconst (v := 1) 12 dX1_isOrder_11 (by decide) rfl ?_
  refine G_isub 13 dX1_isOrder_12 rfl ?_
  refine G_invS (N := mX0_isBetween) (As := [.int l1, .int 0, .int (x7 - 1)]) (st := []) (rc) (rs) "TrophyPlates" 16 dX1_isOrder_13 (Or.inr q1388) q301 q31 q302 rfl mX0_isBetween_args ⟨Nat.le_of_ble_eq_true rfl, Nat.le_of_ble_eq_true rfl⟩ rfl (Nat.zero_le _) (le_b mX0_isBetween_c (Nat.le_refl _)) (le_b mX0_isBetween_s (Nat.le_refl _)) rfl (Cal.mono h ?_)
  rintro s11 v ⟨x12, rfl, h⟩ hx13
  have h := h hx13
  have x14 := hx13.x
  show G w mX1_isOrder (KI K) (rc) (rs) s11 16 [va_rf l0, .int l1] [.int x12]
  exact G_zret dX1_isOrder_16 rfl (nar_bz h.1).1 ⟨_, rfl, h.2⟩
theorem eX1_isOrder {w : Wt} {K : Sg → Int32 → Prop} {σ : Sg} (l0 : Option Nat) (l1 : Int32) (h : G w mX1_isOrder (KI K) 0 0 σ 0 [va_rf l0, .int l1] []) : CalI w mX1_isOrder σ [va_rf l0, .int l1] K :=
  Cal.start 0 mX1_isOrder_plain (catR (catI cat0)) (Nat.le_of_ble_eq_true rfl) rfl h
set_option maxHeartbeats 4000000 in
theorem bX1_hurry_0 {w : Wt} {K : Sg → Int32 → Prop} {rc rs : Nat} {σ : Sg} (l0 : Option Nat) (l1 : Int32) (h : ∃ a1, l0 = some a1 ∧ kd σ a1 = 11 ∧ ∃ a4, FR σ 4 a1 = some a4 ∧ kd σ a4 = 20 ∧ CalR w mJ2_remove σ [va_rf (FR σ 4 a1), .int l1] (fun s6 x7 => Ext σ s6 → (x7 = none ∨ ∃ b, x7 = some b ∧ kd s6 b = 17) ∧ ∀ n13, n13 = nx s6 → kd s6 n13 = 0 → ∀ s14, s14 = nO s6 17 → CalV w mX7_init_2 s14 [va_rf (some n13), va_rf x7, .int 1] (fun s17 => Ext s14 s17 → ((¬ x7 = FR s17 8 a1 → ∀ s21, s21 = sFR s17 8 a1 (FR s17 8 a1) → CalI w mX1_line s21 [va_rf l0, va_rf (some n13)] (fun s23 x24 => Ext s21 s23 → K s23 x24)) ∧ (x7 = FR s17 8 a1 → ∀ s27, s27 = sFR s17 8 a1 (some n13) → CalI w mX1_line s27 [va_rf l0, va_rf (some n13)] (fun s29 x30 => Ext s27 s29 → K s29 x30)))))) : G w mX1_hurry (KI K) (rc + 3) (rs + 31) σ 0 [va_rf l0, .int l1, U_, U_] [] := by
  refine G_aload_n 1 dX1_hurry_0 rfl rfl ?_
  obtain ⟨a1, e2, h⟩ := h
  obtain ⟨c3, h⟩ := h
  refine G_getR (f := 4) (a := a1) "" 4 dX1_hurry_1 (Or.inl q186) (Or.inl rfl) rfl e2 (hf4 c3) rfl ?_
  refine G_iload_n 5 dX1_hurry_4 rfl rfl ?_
  obtain ⟨a4, e5, h⟩ := h
  obtain ⟨c8, h⟩ := h
  refine G_invF (N := mJ2_remove) (x := ⟨"java/util/List", "remove", "(I)Ljava/lang/Object;"⟩) (As := [.int l1]) (st := []) (t := (FR σ 4 a1)) (b := a4) (rc + 3) (rs + 31) 10 dX1_hurry_5 q1802 q1805 q1807 q35 q1809 q1804 q1803 q1808 q1806 q307 rfl ax36 ⟨Nat.le_of_ble_eq_true rfl, Nat.le_of_ble_eq_true rfl⟩ rfl (Nat.zero_le _) e5 (rk20 c8) (le_b mJ2_remove_c (Nat.le_refl _)) (le_b mJ2_remove_s (Nat.le_refl _)) rfl (Cal.mono h ?_)
  rintro s6 v ⟨x7, rfl, h⟩ hx9
  have h := h hx9
  have x10 := hx9.x
  show G w mX1_hurry (KI K) (rc + 3) (rs + 31) s6 10 [va_rf l0, .int l1, U_, U_] [va_rf x7]
  obtain ⟨c11, h⟩ := h
  refine G_cast 13 dX1_hurry_10 q578 rfl (c11.imp id (fun ⟨b, e, k⟩ => ⟨b, e, co5 k⟩)) ?_
  refine G_astore_n 14 [va_rf l0, .int l1, va_rf x7, U_] dX1_hurry_13 (Nat.le_of_ble_eq_true rfl) rfl rfl ?_
  refine G_new (cc := 7) (kn := 17) (q := (RX7, TX7, 5)) (rc + 2) (rs + 26) 17 dX1_hurry_14 rfl q578 q1686 q76 rfl rfl (Nat.le_refl _) (Nat.le_refl _) (fun z12 => ?_)
  generalize hn13 : nx s6 = n13 at z12 ⊢
  generalize hs14 : nO s6 17 = s14
  have x15 : ∀ a, ¬ kd s6 a = 0 → kd s14 a = kd s6 a := by subst hs14 hn13; exact kdNx z12
  have c16 : kd s14 n13 = 17 := by subst hs14 hn13; exact kdO_self
  have h := h n13 hn13.symm z12 s14 hs14.symm
  refine G_dup 18 dX1_hurry_17 (rf_cat _) rfl ?_
  refine G_aload_n 19 dX1_hurry_18 rfl rfl ?_
  refine G_iconst (v := 1) 20 dX1_hurry_19 (by decide) rfl ?_
  refine G_invI (N := mX7_init_2) (As := [va_rf x7, .int 1]) (st := [va_rf (some n13)]) (t := (some n13)) (b := n13) (rc + 2) (rs + 26) "" 23 dX1_hurry_20 (Or.inl q1814) q1815 q76 q1816 rfl rfl rfl mX7_init_2_args ⟨Nat.le_of_ble_eq_true rfl, Nat.le_of_ble_eq_true rfl⟩ rfl rfl (Nat.le_trans (w_R w_0) (Nat.le_of_ble_eq_true rfl)) (le_b mX7_init_2_c (Nat.le_refl _)) (le_b mX7_init_2_s (Nat.le_refl _)) rfl (Cal.mono h ?_)
  rintro s17 v ⟨rfl, h⟩ hx18
  have h := h hx18
  have x19 := hx18.x
  show G w mX1_hurry (KI K) (rc + 2) (rs + 26) s17 23 [va_rf l0, .int l1, va_rf x7, U_] [va_rf (some n13)]
  refine G_astore_n 24 [va_rf l0, .int l1, va_rf x7, va_rf (some n13)] dX1_hurry_23 (Nat.le_of_ble_eq_true rfl) rfl rfl ?_
  refine G_aload_n 25 dX1_hurry_24 rfl rfl ?_
  refine G_aload_n 26 dX1_hurry_25 rfl rfl ?_
  refine G_aload_n 27 dX1_hurry_26 rfl rfl ?_
  have c3 := kdE x10 c3 (by decide)
  have c3 := kdE x15 c3 (by decide)
  have c3 := kdE x19 c3 (by decide)
  refine G_getR (f := 8) (a := a1) "" 30 dX1_hurry_27 (Or.inl q194) (Or.inl rfl) rfl e2 (hf8 c3) rfl ?_
  refine G_acmp_ne 37 33 dX1_hurry_30 (by decide) rfl (fun u20 => ?_) (fun u20 => ?_)
  · have h := h.1 u20
    refine G_aload_n 38 dX1_hurry_37 rfl rfl ?_
    refine G_getR (f := 8) (a := a1) "" 41 dX1_hurry_38 (Or.inl q194) (Or.inl rfl) rfl e2 (hf8 c3) rfl ?_
    refine G_putR (f := 8) (a := a1) "" 44 dX1_hurry_41 (Or.inl q194) (Or.inl rfl) rfl e2 (hp8 c3) (nk8 c3) (Or.inl rfl) (fun y => by cases y <;> rfl) (fun y => by cases y <;> rfl) rfl ?_
    generalize hs21 : sFR s17 8 a1 (FR s17 8 a1) = s21
    have x22 : ∀ a, ¬ kd s17 a = 0 → kd s21 a = kd s17 a := by subst hs21; exact fun a _ => congrFun kd_sFR a
    have h := h s21 hs21.symm
    refine G_aload_n 45 dX1_hurry_44 rfl rfl ?_
    refine G_aload_n 46 dX1_hurry_45 rfl rfl ?_
    have c3 := kdE x22 c3 (by decide)
    refine G_invV (N := mX1_line) (As := [va_rf (some n13)]) (st := []) (t := l0) (b := a1) (rc) (rs) 49 dX1_hurry_46 q1818 q1768 q1769 q32 q1770 rfl rfl mX1_line_args ⟨Nat.le_of_ble_eq_true rfl, Nat.le_of_ble_eq_true rfl⟩ rfl (Nat.zero_le _) e2 (rk11 c3) (le_b mX1_line_c (Nat.le_refl _)) (le_b mX1_line_s (Nat.le_refl _)) rfl (Cal.mono h ?_)
    rintro s23 v ⟨x24, rfl, h⟩ hx25
    have h := h hx25
    have x26 := hx25.x
    show G w mX1_hurry (KI K) (rc) (rs) s23 49 [va_rf l0, .int l1, va_rf x7, va_rf (some n13)] [.int x24]
    exact G_iret dX1_hurry_49 rfl ⟨_, rfl, h⟩
  · have h := h.2 u20
    refine G_aload_n 34 dX1_hurry_33 rfl rfl ?_
    refine G_goto 41 dX1_hurry_34 (by decide) ?_
    refine G_putR (f := 8) (a := a1) "" 44 dX1_hurry_41 (Or.inl q194) (Or.inl rfl) rfl e2 (hp8 c3) (nk8 c3) (Or.inl rfl) (fun y => by cases y <;> rfl) (fun y => by cases y <;> rfl) rfl ?_
    generalize hs27 : sFR s17 8 a1 (some n13) = s27
    have x28 : ∀ a, ¬ kd s17 a = 0 → kd s27 a = kd s17 a := by subst hs27; exact fun a _ => congrFun kd_sFR a
    have h := h s27 hs27.symm
    refine G_aload_n 45 dX1_hurry_44 rfl rfl ?_
    refine G_aload_n 46 dX1_hurry_45 rfl rfl ?_
    have c3 := kdE x28 c3 (by decide)
    refine G_invV (N := mX1_line) (As := [va_rf (some n13)]) (st := []) (t := l0) (b := a1) (rc) (rs) 49 dX1_hurry_46 q1818 q1768 q1769 q32 q1770 rfl rfl mX1_line_args ⟨Nat.le_of_ble_eq_true rfl, Nat.le_of_ble_eq_true rfl⟩ rfl (Nat.zero_le _) e2 (rk11 c3) (le_b mX1_line_c (Nat.le_refl _)) (le_b mX1_line_s (Nat.le_refl _)) rfl (Cal.mono h ?_)
    rintro s29 v ⟨x30, rfl, h⟩ hx31
    have h := h hx31
    have x32 := hx31.x
    show G w mX1_hurry (KI K) (rc) (rs) s29 49 [va_rf l0, .int l1, va_rf x7, va_rf (some n13)] [.int x30]
    exact G_iret dX1_hurry_49 rfl ⟨_, rfl, h⟩
theorem eX1_hurry {w : Wt} {K : Sg → Int32 → Prop} {σ : Sg} (l0 : Option Nat) (l1 : Int32) (h : G w mX1_hurry (KI K) 3 31 σ 0 [va_rf l0, .int l1, U_, U_] []) : CalI w mX1_hurry σ [va_rf l0, .int l1] K :=
  Cal.start 2 mX1_hurry_plain (catR (catI cat0)) (Nat.le_of_ble_eq_true rfl) rfl h
set_option maxHeartbeats 4000000 in
theorem bX1_cancel_0 {w : Wt} {K : Sg → Prop} {rc rs : Nat} {σ : Sg} (l0 : Option Nat) (l1 : Int32) (h : ∃ a1, l0 = some a1 ∧ kd σ a1 = 11 ∧ ∃ a4, FR σ 4 a1 = some a4 ∧ kd σ a4 = 20 ∧ CalR w mJ2_remove σ [va_rf (FR σ 4 a1), .int l1] (fun s6 x7 => Ext σ s6 → (x7 = none ∨ ∃ b, x7 = some b ∧ kd s6 b = 17) ∧ ((¬ x7 = FR s6 8 a1 → K s6) ∧ (x7 = FR s6 8 a1 → ∃ a13, FR s6 3 a1 = some a13 ∧ kd s6 a13 = 20 ∧ CalR w mJ2_get s6 [va_rf (FR s6 3 a1), .int (FI s6 9 a1)] (fun s15 x16 => Ext s6 s15 → (x16 = none ∨ ∃ b, x16 = some b ∧ kd s15 b = 15) ∧ ∃ a21, x16 = some a21 ∧ kd s15 a21 = 15 ∧ ∀ s24, s24 = sFI s15 35 a21 0 → CalV w mX1_rest s24 [va_rf l0] (fun s26 => Ext s24 s26 → K s26)))))) : G w mX1_cancel (KV K) (rc) (rs) σ 0 [va_rf l0, .int l1, U_] [] := by
  refine G_aload_n 1 dX1_cancel_0 rfl rfl ?_
  obtain ⟨a1, e2, h⟩ := h
  obtain ⟨c3, h⟩ := h
  refine G_getR (f := 4) (a := a1) "" 4 dX1_cancel_1 (Or.inl q186) (Or.inl rfl) rfl e2 (hf4 c3) rfl ?_
  refine G_iload_n 5 dX1_cancel_4 rfl rfl ?_
  obtain ⟨a4, e5, h⟩ := h
  obtain ⟨c8, h⟩ := h
  refine G_invF (N := mJ2_remove) (x := ⟨"java/util/List", "remove", "(I)Ljava/lang/Object;"⟩) (As := [.int l1]) (st := []) (t := (FR σ 4 a1)) (b := a4) (rc) (rs) 10 dX1_cancel_5 q1802 q1805 q1807 q35 q1809 q1804 q1803 q1808 q1806 q307 rfl ax36 ⟨Nat.le_of_ble_eq_true rfl, Nat.le_of_ble_eq_true rfl⟩ rfl (Nat.zero_le _) e5 (rk20 c8) (le_b mJ2_remove_c (Nat.le_refl _)) (le_b mJ2_remove_s (Nat.le_refl _)) rfl (Cal.mono h ?_)
  rintro s6 v ⟨x7, rfl, h⟩ hx9
  have h := h hx9
  have x10 := hx9.x
  show G w mX1_cancel (KV K) (rc) (rs) s6 10 [va_rf l0, .int l1, U_] [va_rf x7]
  obtain ⟨c11, h⟩ := h
  refine G_cast 13 dX1_cancel_10 q578 rfl (c11.imp id (fun ⟨b, e, k⟩ => ⟨b, e, co5 k⟩)) ?_
  refine G_astore_n 14 [va_rf l0, .int l1, va_rf x7] dX1_cancel_13 (Nat.le_of_ble_eq_true rfl) rfl rfl ?_
  refine G_aload_n 15 dX1_cancel_14 rfl rfl ?_
  refine G_aload_n 16 dX1_cancel_15 rfl rfl ?_
  have c3 := kdE x10 c3 (by decide)
  refine G_getR (f := 8) (a := a1) "" 19 dX1_cancel_16 (Or.inl q194) (Or.inl rfl) rfl e2 (hf8 c3) rfl ?_
  refine G_acmp_ne 46 22 dX1_cancel_19 (by decide) rfl (fun u12 => ?_) (fun u12 => ?_)
  · have h := h.1 u12
    exact G_ret dX1_cancel_46 rfl ⟨rfl, h⟩
  · have h := h.2 u12
    refine G_aload_n 23 dX1_cancel_22 rfl rfl ?_
    refine G_getR (f := 3) (a := a1) "" 26 dX1_cancel_23 (Or.inl q184) (Or.inl rfl) rfl e2 (hf3 c3) rfl ?_
    refine G_aload_n 27 dX1_cancel_26 rfl rfl ?_
    refine G_getI (f := 9) (a := a1) "" 30 dX1_cancel_27 (Or.inl q196) (Or.inl rfl) rfl e2 (hf9 c3) rfl ?_
    obtain ⟨a13, e14, h⟩ := h
    obtain ⟨c17, h⟩ := h
    refine G_invF (N := mJ2_get) (x := ⟨"java/util/List", "get", "(I)Ljava/lang/Object;"⟩) (As := [.int (FI s6 9 a1)]) (st := []) (t := (FR s6 3 a1)) (b := a13) (rc) (rs) 35 dX1_cancel_30 q1425 q1393 q1395 q35 q1397 q1392 q1391 q1396 q1394 q307 rfl ax32 ⟨Nat.le_of_ble_eq_true rfl, Nat.le_of_ble_eq_true rfl⟩ rfl (Nat.zero_le _) e14 (rk20 c17) (le_b mJ2_get_c (Nat.le_refl _)) (le_b mJ2_get_s (Nat.le_refl _)) rfl (Cal.mono h ?_)
    rintro s15 v ⟨x16, rfl, h⟩ hx18
    have h := h hx18
    have x19 := hx18.x
    show G w mX1_cancel (KV K) (rc) (rs) s15 35 [va_rf l0, .int l1, va_rf x7] [va_rf x16]
    obtain ⟨c20, h⟩ := h
    refine G_cast 38 dX1_cancel_35 q464 rfl (c20.imp id (fun ⟨b, e, k⟩ => ⟨b, e, co4 k⟩)) ?_
    refine G_iconst (v := 0) 39 dX1_cancel_38 (by decide) rfl ?_
    obtain ⟨a21, e22, h⟩ := h
    obtain ⟨c23, h⟩ := h
    refine G_putI (f := 35) (a := a21) "TrophyPlates" 42 dX1_cancel_39 (Or.inr ⟨q482, rfl⟩) (Or.inl rfl) rfl e22 (hp35 c23) (nk35 c23) (Or.inl rfl) rfl rfl rfl ?_
    generalize hs24 : sFI s15 35 a21 0 = s24
    have x25 : ∀ a, ¬ kd s15 a = 0 → kd s24 a = kd s15 a := by subst hs24; exact fun a _ => congrFun kd_sFI a
    have h := h s24 hs24.symm
    refine G_aload_n 43 dX1_cancel_42 rfl rfl ?_
    have c3 := kdE x19 c3 (by decide)
    have c3 := kdE x25 c3 (by decide)
    refine G_invV (N := mX1_rest) (As := []) (st := []) (t := l0) (b := a1) (rc) (rs) 46 dX1_cancel_43 q1827 q1829 qs10 q32 q1830 rfl rfl mX1_rest_args ⟨Nat.le_of_ble_eq_true rfl, Nat.le_of_ble_eq_true rfl⟩ rfl (Nat.zero_le _) e2 (rk11 c3) (le_b mX1_rest_c (Nat.le_refl _)) (le_b mX1_rest_s (Nat.le_refl _)) rfl (Cal.mono h ?_)
    rintro s26 v ⟨rfl, h⟩ hx27
    have h := h hx27
    have x28 := hx27.x
    show G w mX1_cancel (KV K) (rc) (rs) s26 46 [va_rf l0, .int l1, va_rf x7] []
    exact G_ret dX1_cancel_46 rfl ⟨rfl, h⟩
theorem eX1_cancel {w : Wt} {K : Sg → Prop} {σ : Sg} (l0 : Option Nat) (l1 : Int32) (h : G w mX1_cancel (KV K) 0 0 σ 0 [va_rf l0, .int l1, U_] []) : CalV w mX1_cancel σ [va_rf l0, .int l1] K :=
  Cal.start 1 mX1_cancel_plain (catR (catI cat0)) (Nat.le_of_ble_eq_true rfl) rfl h
set_option maxHeartbeats 4000000 in
theorem bX1_rest_0 {w : Wt} {K : Sg → Prop} {rc rs : Nat} {σ : Sg} (l0 : Option Nat) (h : ∃ a1, l0 = some a1 ∧ kd σ a1 = 11 ∧ ∀ s4, s4 = sFR σ 8 a1 none → ∀ s6, s6 = sFI s4 9 a1 (-9) → ∀ s8, s8 = sFI s6 10 a1 (-9) → ∀ s10, s10 = sFI s8 11 a1 (-9) → K s10) : G w mX1_rest (KV K) (rc) (rs) σ 0 [va_rf l0] [] := by
  refine G_aload_n 1 dX1_rest_0 rfl rfl ?_
  refine G_null 2 dX1_rest_1 rfl ?_
  obtain ⟨a1, e2, h⟩ := h
  obtain ⟨c3, h⟩ := h
  refine G_putR (f := 8) (a := a1) "" 5 dX1_rest_2 (Or.inl q194) (Or.inl rfl) rfl e2 (hp8 c3) (nk8 c3) (Or.inl rfl) (fun y => by cases y <;> rfl) (fun y => by cases y <;> rfl) rfl ?_
  generalize hs4 : sFR σ 8 a1 none = s4
  have x5 : ∀ a, ¬ kd σ a = 0 → kd s4 a = kd σ a := by subst hs4; exact fun a _ => congrFun kd_sFR a
  have h := h s4 hs4.symm
  refine G_aload_n 6 dX1_rest_5 rfl rfl ?_
  refine G_bipush (v := (-9)) 8 dX1_rest_6 (by decide) rfl ?_
  have c3 := kdE x5 c3 (by decide)
  refine G_putI (f := 9) (a := a1) "" 11 dX1_rest_8 (Or.inl q196) (Or.inl rfl) rfl e2 (hp9 c3) (nk9 c3) (Or.inl rfl) rfl rfl rfl ?_
  generalize hs6 : sFI s4 9 a1 (-9) = s6
  have x7 : ∀ a, ¬ kd s4 a = 0 → kd s6 a = kd s4 a := by subst hs6; exact fun a _ => congrFun kd_sFI a
  have h := h s6 hs6.symm
  refine G_aload_n 12 dX1_rest_11 rfl rfl ?_
  refine G_bipush (v := (-9)) 14 dX1_rest_12 (by decide) rfl ?_
  have c3 := kdE x7 c3 (by decide)
  refine G_putI (f := 10) (a := a1) "" 17 dX1_rest_14 (Or.inl q198) (Or.inl rfl) rfl e2 (hp10 c3) (nk10 c3) (Or.inl rfl) rfl rfl rfl ?_
  generalize hs8 : sFI s6 10 a1 (-9) = s8
  have x9 : ∀ a, ¬ kd s6 a = 0 → kd s8 a = kd s6 a := by subst hs8; exact fun a _ => congrFun kd_sFI a
  have h := h s8 hs8.symm
  refine G_aload_n 18 dX1_rest_17 rfl rfl ?_
  refine G_bipush (v := (-9)) 20 dX1_rest_18 (by decide) rfl ?_
  have c3 := kdE x9 c3 (by decide)
  refine G_putI (f := 11) (a := a1) "" 23 dX1_rest_20 (Or.inl q199) (Or.inl rfl) rfl e2 (hp11 c3) (nk11 c3) (Or.inl rfl) rfl rfl rfl ?_
  generalize hs10 : sFI s8 11 a1 (-9) = s10
  have x11 : ∀ a, ¬ kd s8 a = 0 → kd s10 a = kd s8 a := by subst hs10; exact fun a _ => congrFun kd_sFI a
  have h := h s10 hs10.symm
  exact G_ret dX1_rest_23 rfl ⟨rfl, h⟩
theorem eX1_rest {w : Wt} {K : Sg → Prop} {σ : Sg} (l0 : Option Nat) (h : G w mX1_rest (KV K) 0 0 σ 0 [va_rf l0] []) : CalV w mX1_rest σ [va_rf l0] K :=
  Cal.start 0 mX1_rest_plain (catR cat0) (Nat.le_of_ble_eq_true rfl) rfl h
set_option maxHeartbeats 4000000 in
theorem bX1_work_0 {w : Wt} {K : Sg → Int32 → Prop} {rc rs : Nat} {σ : Sg} (l0 : Option Nat) (l1 : Int32) (h : ∃ a1, l0 = some a1 ∧ kd σ a1 = 11 ∧ CalI w mX1_step σ [va_rf l0, .int l1] (fun s4 x5 => Ext σ s4 → G w mX1_work (KI K) (rc) (rs) s4 14 [va_rf l0, .int l1, .int (FI σ 12 a1), .int l1, .int x5] [])) : G w mX1_work (KI K) (rc + 111) (rs + 767) σ 0 [va_rf l0, .int l1, U_, U_, U_] [] := by
  refine G_aload_n 1 dX1_work_0 rfl rfl ?_
  obtain ⟨a1, e2, h⟩ := h
  obtain ⟨c3, h⟩ := h
  refine G_getI (f := 12) (a := a1) "" 4 dX1_work_1 (Or.inl q201) (Or.inl rfl) rfl e2 (hf12 c3) rfl ?_
  refine G_istore_n 5 [va_rf l0, .int l1, .int (FI σ 12 a1), U_, U_] dX1_work_4 (Nat.le_of_ble_eq_true rfl) rfl rfl ?_
  refine G_iload_n 6 dX1_work_5 rfl rfl ?_
  refine G_istore_n 7 [va_rf l0, .int l1, .int (FI σ 12 a1), .int l1, U_] dX1_work_6 (Nat.le_of_ble_eq_true rfl) rfl rfl ?_
  refine G_aload_n 8 dX1_work_7 rfl rfl ?_
  refine G_iload_n 9 dX1_work_8 rfl rfl ?_
  refine G_invV (N := mX1_step) (As := [.int l1]) (st := []) (t := l0) (b := a1) (rc) (rs) 12 dX1_work_9 q1839 q1841 qs11 q32 q1842 rfl rfl mX1_step_args ⟨Nat.le_of_ble_eq_true rfl, Nat.le_of_ble_eq_true rfl⟩ rfl (Nat.zero_le _) e2 (rk11 c3) (le_b mX1_step_c (Nat.le_refl _)) (le_b mX1_step_s (Nat.le_refl _)) rfl (Cal.mono h ?_)
  rintro s4 v ⟨x5, rfl, h⟩ hx6
  have h := h hx6
  have x7 := hx6.x
  show G w mX1_work (KI K) (rc) (rs) s4 12 [va_rf l0, .int l1, .int (FI σ 12 a1), .int l1, U_] [.int x5]
  refine G_istore 14 [va_rf l0, .int l1, .int (FI σ 12 a1), .int l1, .int x5] dX1_work_12 (Nat.le_of_ble_eq_true rfl) rfl rfl ?_
  exact h
set_option maxHeartbeats 4000000 in
theorem bX1_work_14 {w : Wt} {K : Sg → Int32 → Prop} {rc rs : Nat} {σ : Sg} (l0 : Option Nat) (l1 : Int32) (l2 : Int32) (l3 : Int32) (l4 : Int32) (h : ((l4 ≤ 0 → ∃ a2, l0 = some a2 ∧ kd σ a2 = 11 ∧ K σ ((FI σ 12 a2) - l2)) ∧ (¬ l4 ≤ 0 → ∃ a5, l0 = some a5 ∧ kd σ a5 = 11 ∧ CalI w mX1_step σ [va_rf l0, .int (l3 - l4)] (fun s7 x8 => Ext σ s7 → G w mX1_work (KI K) (rc) (rs) s7 14 [va_rf l0, .int l1, .int l2, .int (l3 - l4), .int x8] [])))) : G w mX1_work (KI K) (rc + 111) (rs + 767) σ 14 [va_rf l0, .int l1, .int l2, .int l3, .int l4] [] := by
  refine G_iload 16 dX1_work_14 rfl rfl ?_
  refine G_if_le 34 19 dX1_work_16 (by decide) rfl (fun u1 => ?_) (fun u1 => ?_)
  · have h := h.1 u1
    refine G_aload_n 35 dX1_work_34 rfl rfl ?_
    obtain ⟨a2, e3, h⟩ := h
    obtain ⟨c4, h⟩ := h
    refine G_getI (f := 12) (a := a2) "" 38 dX1_work_35 (Or.inl q201) (Or.inl rfl) rfl e3 (hf12 c4) rfl ?_
    refine G_iload_n 39 dX1_work_38 rfl rfl ?_
    refine G_isub 40 dX1_work_39 rfl ?_
    exact G_iret dX1_work_40 rfl ⟨_, rfl, h⟩
  · have h := h.2 u1
    refine G_iload_n 20 dX1_work_19 rfl rfl ?_
    refine G_iload 22 dX1_work_20 rfl rfl ?_
    refine G_isub 23 dX1_work_22 rfl ?_
    refine G_istore_n 24 [va_rf l0, .int l1, .int l2, .int (l3 - l4), .int l4] dX1_work_23 (Nat.le_of_ble_eq_true rfl) rfl rfl ?_
    refine G_aload_n 25 dX1_work_24 rfl rfl ?_
    refine G_iload_n 26 dX1_work_25 rfl rfl ?_
    obtain ⟨a5, e6, h⟩ := h
    obtain ⟨c9, h⟩ := h
    refine G_invV (N := mX1_step) (As := [.int (l3 - l4)]) (st := []) (t := l0) (b := a5) (rc) (rs) 29 dX1_work_26 q1839 q1841 qs11 q32 q1842 rfl rfl mX1_step_args ⟨Nat.le_of_ble_eq_true rfl, Nat.le_of_ble_eq_true rfl⟩ rfl (Nat.zero_le _) e6 (rk11 c9) (le_b mX1_step_c (Nat.le_refl _)) (le_b mX1_step_s (Nat.le_refl _)) rfl (Cal.mono h ?_)
    rintro s7 v ⟨x8, rfl, h⟩ hx10
    have h := h hx10
    have x11 := hx10.x
    show G w mX1_work (KI K) (rc) (rs) s7 29 [va_rf l0, .int l1, .int l2, .int (l3 - l4), .int l4] [.int x8]
    refine G_istore 31 [va_rf l0, .int l1, .int l2, .int (l3 - l4), .int x8] dX1_work_29 (Nat.le_of_ble_eq_true rfl) rfl rfl ?_
    refine G_goto 14 dX1_work_31 (by decide) ?_
    exact h
theorem eX1_work {w : Wt} {K : Sg → Int32 → Prop} {σ : Sg} (l0 : Option Nat) (l1 : Int32) (h : G w mX1_work (KI K) 1500 10000 σ 0 [va_rf l0, .int l1, U_, U_, U_] []) : CalI w mX1_work σ [va_rf l0, .int l1] K :=
  Cal.start 3 mX1_work_plain (catR (catI cat0)) (Nat.le_of_ble_eq_true rfl) rfl h
set_option maxHeartbeats 4000000 in
theorem bX1_step_0 {w : Wt} {K : Sg → Int32 → Prop} {rc rs : Nat} {σ : Sg} (l0 : Option Nat) (l1 : Int32) (h : ((l1 = 0 → K σ 0) ∧ (¬ l1 = 0 → ∃ a2, l0 = some a2 ∧ kd σ a2 = 11 ∧ ((¬ FR σ 8 a2 = none → CalI w mJ12_min σ [.int l1, .int (FI σ 11 a2)] (fun s6 x7 => Ext σ s6 → ∀ s10, s10 = sFI s6 11 a2 ((FI s6 11 a2) - x7) → ((¬ FI s10 11 a2 = 0 → K s10 x7) ∧ (FI s10 11 a2 = 0 → CalV w mX1_fix s10 [va_rf l0] (fun s13 => Ext s10 s13 → K s13 x7))))) ∧ (FR σ 8 a2 = none → CalI w mX1_begin σ [va_rf l0] (fun s16 x17 => Ext σ s16 → ((¬ x17 = 0 → CalI w mJ12_min s16 [.int l1, .int (FI s16 11 a2)] (fun s21 x22 => Ext s16 s21 → ∀ s25, s25 = sFI s21 11 a2 ((FI s21 11 a2) - x22) → ((¬ FI s25 11 a2 = 0 → K s25 x22) ∧ (FI s25 11 a2 = 0 → CalV w mX1_fix s25 [va_rf l0] (fun s28 => Ext s25 s28 → K s28 x22))))) ∧ (x17 = 0 → K s16 0)))))))) : G w mX1_step (KI K) (rc + 111) (rs + 767) σ 0 [va_rf l0, .int l1, U_] [] := by
  refine G_iload_n 1 dX1_step_0 rfl rfl ?_
  refine G_if_eq 18 4 dX1_step_1 (by decide) rfl (fun u1 => ?_) (fun u1 => ?_)
  · have h := h.1 u1
    refine G_iconst (v := 0) 19 dX1_step_18 (by decide) rfl ?_
    exact G_iret dX1_step_19 rfl ⟨_, rfl, h⟩
  · have h := h.2 u1
    refine G_aload_n 5 dX1_step_4 rfl rfl ?_
    obtain ⟨a2, e3, h⟩ := h
    obtain ⟨c4, h⟩ := h
    refine G_getR (f := 8) (a := a2) "" 8 dX1_step_5 (Or.inl q194) (Or.inl rfl) rfl e3 (hf8 c4) rfl ?_
    refine G_ifnonnull 20 11 dX1_step_8 (by decide) rfl (fun u5 => ?_) (fun u5 => ?_)
    · have h := h.1 u5
      refine G_iload_n 21 dX1_step_20 rfl rfl ?_
      refine G_aload_n 22 dX1_step_21 rfl rfl ?_
      refine G_getI (f := 11) (a := a2) "" 25 dX1_step_22 (Or.inl q199) (Or.inl rfl) rfl e3 (hf11 c4) rfl ?_
      refine G_invS (N := mJ12_min) (As := [.int l1, .int (FI σ 11 a2)]) (st := []) (rc + 111) (rs + 767) "" 28 dX1_step_25 (Or.inl q1949) q571 q49 q572 rfl mJ12_min_args ⟨Nat.le_of_ble_eq_true rfl, Nat.le_of_ble_eq_true rfl⟩ rfl (Nat.zero_le _) (le_b mJ12_min_c (Nat.le_refl _)) (le_b mJ12_min_s (Nat.le_refl _)) rfl (Cal.mono h ?_)
      rintro s6 v ⟨x7, rfl, h⟩ hx8
      have h := h hx8
      have x9 := hx8.x
      show G w mX1_step (KI K) (rc + 111) (rs + 767) s6 28 [va_rf l0, .int l1, U_] [.int x7]
      refine G_istore_n 29 [va_rf l0, .int l1, .int x7] dX1_step_28 (Nat.le_of_ble_eq_true rfl) rfl rfl ?_
      refine G_aload_n 30 dX1_step_29 rfl rfl ?_
      refine G_dup 31 dX1_step_30 (rf_cat _) rfl ?_
      have c4 := kdE x9 c4 (by decide)
      refine G_getI (f := 11) (a := a2) "" 34 dX1_step_31 (Or.inl q199) (Or.inl rfl) rfl e3 (hf11 c4) rfl ?_
      refine G_iload_n 35 dX1_step_34 rfl rfl ?_
      refine G_isub 36 dX1_step_35 rfl ?_
      refine G_putI (f := 11) (a := a2) "" 39 dX1_step_36 (Or.inl q199) (Or.inl rfl) rfl e3 (hp11 c4) (nk11 c4) (Or.inl rfl) rfl rfl rfl ?_
      generalize hs10 : sFI s6 11 a2 ((FI s6 11 a2) - x7) = s10
      have x11 : ∀ a, ¬ kd s6 a = 0 → kd s10 a = kd s6 a := by subst hs10; exact fun a _ => congrFun kd_sFI a
      have h := h s10 hs10.symm
      refine G_aload_n 40 dX1_step_39 rfl rfl ?_
      have c4 := kdE x11 c4 (by decide)
      refine G_getI (f := 11) (a := a2) "" 43 dX1_step_40 (Or.inl q199) (Or.inl rfl) rfl e3 (hf11 c4) rfl ?_
      refine G_if_ne 50 46 dX1_step_43 (by decide) rfl (fun u12 => ?_) (fun u12 => ?_)
      · have h := h.1 u12
        refine G_iload_n 51 dX1_step_50 rfl rfl ?_
        exact G_iret dX1_step_51 rfl ⟨_, rfl, h⟩
      · have h := h.2 u12
        refine G_aload_n 47 dX1_step_46 rfl rfl ?_
        refine G_invV (N := mX1_fix) (As := []) (st := []) (t := l0) (b := a2) (rc + 60) (rs + 180) 50 dX1_step_47 q1950 q1952 qs14 q32 q1953 rfl rfl mX1_fix_args ⟨Nat.le_of_ble_eq_true rfl, Nat.le_of_ble_eq_true rfl⟩ rfl (Nat.zero_le _) e3 (rk11 c4) (le_b mX1_fix_c (Nat.le_refl _)) (le_b mX1_fix_s (Nat.le_refl _)) rfl (Cal.mono h ?_)
        rintro s13 v ⟨rfl, h⟩ hx14
        have h := h hx14
        have x15 := hx14.x
        show G w mX1_step (KI K) (rc + 60) (rs + 180) s13 50 [va_rf l0, .int l1, .int x7] []
        refine G_iload_n 51 dX1_step_50 rfl rfl ?_
        exact G_iret dX1_step_51 rfl ⟨_, rfl, h⟩
    · have h := h.2 u5
      refine G_aload_n 12 dX1_step_11 rfl rfl ?_
      refine G_invV (N := mX1_begin) (As := []) (st := []) (t := l0) (b := a2) (rc + 51) (rs + 587) 15 dX1_step_12 q1843 q1845 qs12 q32 q1846 rfl rfl mX1_begin_args ⟨Nat.le_of_ble_eq_true rfl, Nat.le_of_ble_eq_true rfl⟩ rfl (Nat.zero_le _) e3 (rk11 c4) (le_b mX1_begin_c (Nat.le_refl _)) (le_b mX1_begin_s (Nat.le_refl _)) rfl (Cal.mono h ?_)
      rintro s16 v ⟨x17, rfl, h⟩ hx18
      have h := h hx18
      have x19 := hx18.x
      show G w mX1_step (KI K) (rc + 51) (rs + 587) s16 15 [va_rf l0, .int l1, U_] [.int x17]
      refine G_if_ne 20 18 dX1_step_15 (by decide) rfl (fun u20 => ?_) (fun u20 => ?_)
      · have h := h.1 u20
        refine G_iload_n 21 dX1_step_20 rfl rfl ?_
        refine G_aload_n 22 dX1_step_21 rfl rfl ?_
        have c4 := kdE x19 c4 (by decide)
        refine G_getI (f := 11) (a := a2) "" 25 dX1_step_22 (Or.inl q199) (Or.inl rfl) rfl e3 (hf11 c4) rfl ?_
        refine G_invS (N := mJ12_min) (As := [.int l1, .int (FI s16 11 a2)]) (st := []) (rc + 51) (rs + 587) "" 28 dX1_step_25 (Or.inl q1949) q571 q49 q572 rfl mJ12_min_args ⟨Nat.le_of_ble_eq_true rfl, Nat.le_of_ble_eq_true rfl⟩ rfl (Nat.zero_le _) (le_b mJ12_min_c (Nat.le_refl _)) (le_b mJ12_min_s (Nat.le_refl _)) rfl (Cal.mono h ?_)
        rintro s21 v ⟨x22, rfl, h⟩ hx23
        have h := h hx23
        have x24 := hx23.x
        show G w mX1_step (KI K) (rc + 51) (rs + 587) s21 28 [va_rf l0, .int l1, U_] [.int x22]
        refine G_istore_n 29 [va_rf l0, .int l1, .int x22] dX1_step_28 (Nat.le_of_ble_eq_true rfl) rfl rfl ?_
        refine G_aload_n 30 dX1_step_29 rfl rfl ?_
        refine G_dup 31 dX1_step_30 (rf_cat _) rfl ?_
        have c4 := kdE x24 c4 (by decide)
        refine G_getI (f := 11) (a := a2) "" 34 dX1_step_31 (Or.inl q199) (Or.inl rfl) rfl e3 (hf11 c4) rfl ?_
        refine G_iload_n 35 dX1_step_34 rfl rfl ?_
        refine G_isub 36 dX1_step_35 rfl ?_
        refine G_putI (f := 11) (a := a2) "" 39 dX1_step_36 (Or.inl q199) (Or.inl rfl) rfl e3 (hp11 c4) (nk11 c4) (Or.inl rfl) rfl rfl rfl ?_
        generalize hs25 : sFI s21 11 a2 ((FI s21 11 a2) - x22) = s25
        have x26 : ∀ a, ¬ kd s21 a = 0 → kd s25 a = kd s21 a := by subst hs25; exact fun a _ => congrFun kd_sFI a
        have h := h s25 hs25.symm
        refine G_aload_n 40 dX1_step_39 rfl rfl ?_
        have c4 := kdE x26 c4 (by decide)
        refine G_getI (f := 11) (a := a2) "" 43 dX1_step_40 (Or.inl q199) (Or.inl rfl) rfl e3 (hf11 c4) rfl ?_
        refine G_if_ne 50 46 dX1_step_43 (by decide) rfl (fun u27 => ?_) (fun u27 => ?_)
        · have h := h.1 u27
          refine G_iload_n 51 dX1_step_50 rfl rfl ?_
          exact G_iret dX1_step_51 rfl ⟨_, rfl, h⟩
        · have h := h.2 u27
          refine G_aload_n 47 dX1_step_46 rfl rfl ?_
          refine G_invV (N := mX1_fix) (As := []) (st := []) (t := l0) (b := a2) (rc) (rs) 50 dX1_step_47 q1950 q1952 qs14 q32 q1953 rfl rfl mX1_fix_args ⟨Nat.le_of_ble_eq_true rfl, Nat.le_of_ble_eq_true rfl⟩ rfl (Nat.zero_le _) e3 (rk11 c4) (le_b mX1_fix_c (Nat.le_refl _)) (le_b mX1_fix_s (Nat.le_refl _)) rfl (Cal.mono h ?_)
          rintro s28 v ⟨rfl, h⟩ hx29
          have h := h hx29
          have x30 := hx29.x
          show G w mX1_step (KI K) (rc) (rs) s28 50 [va_rf l0, .int l1, .int x22] []
          refine G_iload_n 51 dX1_step_50 rfl rfl ?_
          exact G_iret dX1_step_51 rfl ⟨_, rfl, h⟩
      · have h := h.2 u20
        refine G_iconst (v := 0) 19 dX1_step_18 (by decide) rfl ?_
        exact G_iret dX1_step_19 rfl ⟨_, rfl, h⟩
theorem eX1_step {w : Wt} {K : Sg → Int32 → Prop} {σ : Sg} (l0 : Option Nat) (l1 : Int32) (h : G w mX1_step (KI K) 111 767 σ 0 [va_rf l0, .int l1, U_] []) : CalI w mX1_step σ [va_rf l0, .int l1] K :=
  Cal.start 1 mX1_step_plain (catR (catI cat0)) (Nat.le_of_ble_eq_true rfl) rfl h
set_option maxHeartbeats 4000000 in
theorem bX1_begin_0 {w : Wt} {K : Sg → Int32 → Prop} {rc rs : Nat} {σ : Sg} (l0 : Option Nat) (h : G w mX1_begin (KI K) (rc) (rs) σ 2 [va_rf l0, .int 0, U_, U_] []) : G w mX1_begin (KI K) (rc) (rs) σ 0 [va_rf l0, U_, U_, U_] [] := by
  refine G_iconst (v := 0) 1 dX1_begin_0 (by decide) rfl ?_
  refine G_istore_n 2 [va_rf l0, .int 0, U_, U_] dX1_begin_1 (Nat.le_of_ble_eq_true rfl) rfl rfl ?_
  exact h
set_option maxHeartbeats 4000000 in
theorem bX1_begin_2 {w : Wt} {K : Sg → Int32 → Prop} {rc rs : Nat} {σ : Sg} (l0 : Option Nat) (l1 : Int32) (v2 : Value) (v3 : Value) (h : ∃ a1, l0 = some a1 ∧ kd σ a1 = 11 ∧ ∃ a4, FR σ 4 a1 = some a4 ∧ kd σ a4 = 20 ∧ CalI w mJ2_size σ [va_rf (FR σ 4 a1)] (fun s6 x7 => Ext σ s6 → ((x7 ≤ l1 → ((FR s6 8 a1 = none → K s6 0) ∧ (¬ FR s6 8 a1 = none → K s6 1))) ∧ (¬ x7 ≤ l1 → ((¬ FR s6 8 a1 = none → ((FR s6 8 a1 = none → K s6 0) ∧ (¬ FR s6 8 a1 = none → K s6 1))) ∧ (FR s6 8 a1 = none → ∃ a15, FR s6 4 a1 = some a15 ∧ kd s6 a15 = 20 ∧ CalR w mJ2_get s6 [va_rf (FR s6 4 a1), .int l1] (fun s17 x18 => Ext s6 s17 → (x18 = none ∨ ∃ b, x18 = some b ∧ kd s17 b = 17) ∧ ∃ a23, x18 = some a23 ∧ kd s17 a23 = 17 ∧ CalI w mX7_length s17 [va_rf x18] (fun s25 x26 => Ext s17 s25 → ((kd s25 a1 = 11 ∧ CalR w mX1_find s25 [va_rf l0, .int x26, .int (FI s25 42 a23)] (fun s30 x31 => Ext s25 s30 → ((x31 = none → G w mX1_begin (KI K) (rc) (rs) s30 2 [va_rf l0, .int (l1 + 1), va_rf x18, va_rf x31] []) ∧ (¬ x31 = none → ∀ s36, s36 = sFR s30 8 a1 x18 → ∃ a38, x31 = some a38 ∧ kd s36 a38 = 18 ∧ ∀ s41, s41 = sFI s36 9 a1 (FI s36 44 a38) → ∀ s43, s43 = sFI s41 10 a1 (FI s41 45 a38) → CalI w mX7_effort s43 [va_rf x18] (fun s45 x46 => Ext s43 s45 → ((FI s45 46 a38 = 0 → ∀ s50, s50 = sFI s45 11 a1 (x46 + 0) → ((FI s50 46 a38 = 0 → ∃ a53, FR s50 3 a1 = some a53 ∧ kd s50 a53 = 20 ∧ CalR w mJ2_get s50 [va_rf (FR s50 3 a1), .int (FI s50 9 a1)] (fun s55 x56 => Ext s50 s55 → (x56 = none ∨ ∃ b, x56 = some b ∧ kd s55 b = 15) ∧ ∃ a61, x56 = some a61 ∧ kd s55 a61 = 15 ∧ ∀ s64, s64 = sFI s55 35 a61 1 → G w mX1_begin (KI K) (rc) (rs) s64 2 [va_rf l0, .int (l1 + 1), va_rf x18, va_rf x31] [])) ∧ (¬ FI s50 46 a38 = 0 → CalV w mX1_grind s50 [va_rf l0, .int (FI s50 9 a1), .int (FI s50 10 a1)] (fun s66 => Ext s50 s66 → ∃ a69, FR s66 3 a1 = some a69 ∧ kd s66 a69 = 20 ∧ CalR w mJ2_get s66 [va_rf (FR s66 3 a1), .int (FI s66 9 a1)] (fun s71 x72 => Ext s66 s71 → (x72 = none ∨ ∃ b, x72 = some b ∧ kd s71 b = 15) ∧ ∃ a77, x72 = some a77 ∧ kd s71 a77 = 15 ∧ ∀ s80, s80 = sFI s71 35 a77 1 → G w mX1_begin (KI K) (rc) (rs) s80 2 [va_rf l0, .int (l1 + 1), va_rf x18, va_rf x31] []))))) ∧ (¬ FI s45 46 a38 = 0 → ∀ s82, s82 = sFI s45 11 a1 (x46 + 10) → ((FI s82 46 a38 = 0 → ∃ a85, FR s82 3 a1 = some a85 ∧ kd s82 a85 = 20 ∧ CalR w mJ2_get s82 [va_rf (FR s82 3 a1), .int (FI s82 9 a1)] (fun s87 x88 => Ext s82 s87 → (x88 = none ∨ ∃ b, x88 = some b ∧ kd s87 b = 15) ∧ ∃ a93, x88 = some a93 ∧ kd s87 a93 = 15 ∧ ∀ s96, s96 = sFI s87 35 a93 1 → G w mX1_begin (KI K) (rc) (rs) s96 2 [va_rf l0, .int (l1 + 1), va_rf x18, va_rf x31] [])) ∧ (¬ FI s82 46 a38 = 0 → CalV w mX1_grind s82 [va_rf l0, .int (FI s82 9 a1), .int (FI s82 10 a1)] (fun s98 => Ext s82 s98 → ∃ a101, FR s98 3 a1 = some a101 ∧ kd s98 a101 = 20 ∧ CalR w mJ2_get s98 [va_rf (FR s98 3 a1), .int (FI s98 9 a1)] (fun s103 x104 => Ext s98 s103 → (x104 = none ∨ ∃ b, x104 = some b ∧ kd s103 b = 15) ∧ ∃ a109, x104 = some a109 ∧ kd s103 a109 = 15 ∧ ∀ s112, s112 = sFI s103 35 a109 1 → G w mX1_begin (KI K) (rc) (rs) s112 2 [va_rf l0, .int (l1 + 1), va_rf x18, va_rf x31] []))))))))))) ∨ (kd s25 a1 = 11 ∧ CalR w mX1_findn s25 [va_rf l0, .int x26, .int (FI s25 42 a23)] (fun s114 x115 => Ext s25 s114 → ((x115 = none → G w mX1_begin (KI K) (rc + 40) (rs + 120) s114 2 [va_rf l0, .int (l1 + 1), va_rf x18, va_rf x115] []) ∧ (¬ x115 = none → ∀ s120, s120 = sFR s114 8 a1 x18 → ∃ a122, x115 = some a122 ∧ kd s120 a122 = 18 ∧ ∀ s125, s125 = sFI s120 9 a1 (FI s120 44 a122) → ∀ s127, s127 = sFI s125 10 a1 (FI s125 45 a122) → CalI w mX7_effort s127 [va_rf x18] (fun s129 x130 => Ext s127 s129 → ((FI s129 46 a122 = 0 → ∀ s134, s134 = sFI s129 11 a1 (x130 + 0) → ((FI s134 46 a122 = 0 → ∃ a137, FR s134 3 a1 = some a137 ∧ kd s134 a137 = 20 ∧ CalR w mJ2_get s134 [va_rf (FR s134 3 a1), .int (FI s134 9 a1)] (fun s139 x140 => Ext s134 s139 → (x140 = none ∨ ∃ b, x140 = some b ∧ kd s139 b = 15) ∧ ∃ a145, x140 = some a145 ∧ kd s139 a145 = 15 ∧ ∀ s148, s148 = sFI s139 35 a145 1 → G w mX1_begin (KI K) (rc + 40) (rs + 120) s148 2 [va_rf l0, .int (l1 + 1), va_rf x18, va_rf x115] [])) ∧ (¬ FI s134 46 a122 = 0 → CalV w mX1_grind s134 [va_rf l0, .int (FI s134 9 a1), .int (FI s134 10 a1)] (fun s150 => Ext s134 s150 → ∃ a153, FR s150 3 a1 = some a153 ∧ kd s150 a153 = 20 ∧ CalR w mJ2_get s150 [va_rf (FR s150 3 a1), .int (FI s150 9 a1)] (fun s155 x156 => Ext s150 s155 → (x156 = none ∨ ∃ b, x156 = some b ∧ kd s155 b = 15) ∧ ∃ a161, x156 = some a161 ∧ kd s155 a161 = 15 ∧ ∀ s164, s164 = sFI s155 35 a161 1 → G w mX1_begin (KI K) (rc + 40) (rs + 120) s164 2 [va_rf l0, .int (l1 + 1), va_rf x18, va_rf x115] []))))) ∧ (¬ FI s129 46 a122 = 0 → ∀ s166, s166 = sFI s129 11 a1 (x130 + 10) → ((FI s166 46 a122 = 0 → ∃ a169, FR s166 3 a1 = some a169 ∧ kd s166 a169 = 20 ∧ CalR w mJ2_get s166 [va_rf (FR s166 3 a1), .int (FI s166 9 a1)] (fun s171 x172 => Ext s166 s171 → (x172 = none ∨ ∃ b, x172 = some b ∧ kd s171 b = 15) ∧ ∃ a177, x172 = some a177 ∧ kd s171 a177 = 15 ∧ ∀ s180, s180 = sFI s171 35 a177 1 → G w mX1_begin (KI K) (rc + 40) (rs + 120) s180 2 [va_rf l0, .int (l1 + 1), va_rf x18, va_rf x115] [])) ∧ (¬ FI s166 46 a122 = 0 → CalV w mX1_grind s166 [va_rf l0, .int (FI s166 9 a1), .int (FI s166 10 a1)] (fun s182 => Ext s166 s182 → ∃ a185, FR s182 3 a1 = some a185 ∧ kd s182 a185 = 20 ∧ CalR w mJ2_get s182 [va_rf (FR s182 3 a1), .int (FI s182 9 a1)] (fun s187 x188 => Ext s182 s187 → (x188 = none ∨ ∃ b, x188 = some b ∧ kd s187 b = 15) ∧ ∃ a193, x188 = some a193 ∧ kd s187 a193 = 15 ∧ ∀ s196, s196 = sFI s187 35 a193 1 → G w mX1_begin (KI K) (rc + 40) (rs + 120) s196 2 [va_rf l0, .int (l1 + 1), va_rf x18, va_rf x115] [])))))))))))))))))))) : G w mX1_begin (KI K) (rc + 42) (rs + 126) σ 2 [va_rf l0, .int l1, v2, v3] [] := by
  refine G_iload_n 3 dX1_begin_2 rfl rfl ?_
  refine G_aload_n 4 dX1_begin_3 rfl rfl ?_
  obtain ⟨a1, e2, h⟩ := h
  obtain ⟨c3, h⟩ := h
  refine G_getR (f := 4) (a := a1) "" 7 dX1_begin_4 (Or.inl q186) (Or.inl rfl) rfl e2 (hf4 c3) rfl ?_
  obtain ⟨a4, e5, h⟩ := h
  obtain ⟨c8, h⟩ := h
  refine G_invF (N := mJ2_size) (x := ⟨"java/util/List", "size", "()I"⟩) (As := []) (st := [.int l1]) (t := (FR σ 4 a1)) (b := a4) (rc + 42) (rs + 126) 12 dX1_begin_7 q1387 q308 q310 q35 q312 q306 q305 q311 q309 q307 rfl ax31 ⟨Nat.le_of_ble_eq_true rfl, Nat.le_of_ble_eq_true rfl⟩ rfl (Nat.le_trans (w_I w_0) (Nat.le_of_ble_eq_true rfl)) e5 (rk20 c8) (le_b mJ2_size_c (Nat.le_refl _)) (le_b mJ2_size_s (Nat.le_refl _)) rfl (Cal.mono h ?_)
  rintro s6 v ⟨x7, rfl, h⟩ hx9
  have h := h hx9
  have x10 := hx9.x
  show G w mX1_begin (KI K) (rc + 42) (rs + 126) s6 12 [va_rf l0, .int l1, v2, v3] [.int x7, .int l1]
  refine G_icmp_ge 141 15 dX1_begin_12 (by decide) rfl (fun u11 => ?_) (fun u11 => ?_)
  · have h := h.1 u11
    refine G_aload_n 142 dX1_begin_141 rfl rfl ?_
    have c3 := kdE x10 c3 (by decide)
    refine G_getR (f := 8) (a := a1) "" 145 dX1_begin_142 (Or.inl q194) (Or.inl rfl) rfl e2 (hf8 c3) rfl ?_
    refine G_ifnull 152 148 dX1_begin_145 (by decide) rfl (fun u12 => ?_) (fun u12 => ?_)
    · have h := h.1 u12
      refine G_iconst (v := 0) 153 dX1_begin_152 (by decide) rfl ?_
      exact G_zret dX1_begin_153 rfl rfl ⟨_, rfl, h⟩
    · have h := h.2 u12
      refine G_iconst (v := 1) 149 dX1_begin_148 (by decide) rfl ?_
      refine G_goto 153 dX1_begin_149 (by decide) ?_
      exact G_zret dX1_begin_153 rfl rfl ⟨_, rfl, h⟩
  · have h := h.2 u11
    refine G_aload_n 16 dX1_begin_15 rfl rfl ?_
    have c3 := kdE x10 c3 (by decide)
    refine G_getR (f := 8) (a := a1) "" 19 dX1_begin_16 (Or.inl q194) (Or.inl rfl) rfl e2 (hf8 c3) rfl ?_
    refine G_ifnonnull 141 22 dX1_begin_19 (by decide) rfl (fun u13 => ?_) (fun u13 => ?_)
    · have h := h.1 u13
      refine G_aload_n 142 dX1_begin_141 rfl rfl ?_
      refine G_getR (f := 8) (a := a1) "" 145 dX1_begin_142 (Or.inl q194) (Or.inl rfl) rfl e2 (hf8 c3) rfl ?_
      refine G_ifnull 152 148 dX1_begin_145 (by decide) rfl (fun u14 => ?_) (fun u14 => ?_)
      · have h := h.1 u14
        refine G_iconst (v := 0) 153 dX1_begin_152 (by decide) rfl ?_
        exact G_zret dX1_begin_153 rfl rfl ⟨_, rfl, h⟩
      · have h := h.2 u14
        refine G_iconst (v := 1) 149 dX1_begin_148 (by decide) rfl ?_
        refine G_goto 153 dX1_begin_149 (by decide) ?_
        exact G_zret dX1_begin_153 rfl rfl ⟨_, rfl, h⟩
    · have h := h.2 u13
      refine G_aload_n 23 dX1_begin_22 rfl rfl ?_
      refine G_getR (f := 4) (a := a1) "" 26 dX1_begin_23 (Or.inl q186) (Or.inl rfl) rfl e2 (hf4 c3) rfl ?_
      refine G_iload_n 27 dX1_begin_26 rfl rfl ?_
      obtain ⟨a15, e16, h⟩ := h
      obtain ⟨c19, h⟩ := h
      refine G_invF (N := mJ2_get) (x := ⟨"java/util/List", "get", "(I)Ljava/lang/Object;"⟩) (As := [.int l1]) (st := []) (t := (FR s6 4 a1)) (b := a15) (rc + 42) (rs + 126) 32 dX1_begin_27 q1425 q1393 q1395 q35 q1397 q1392 q1391 q1396 q1394 q307 rfl ax32 ⟨Nat.le_of_ble_eq_true rfl, Nat.le_of_ble_eq_true rfl⟩ rfl (Nat.zero_le _) e16 (rk20 c19) (le_b mJ2_get_c (Nat.le_refl _)) (le_b mJ2_get_s (Nat.le_refl _)) rfl (Cal.mono h ?_)
      rintro s17 v ⟨x18, rfl, h⟩ hx20
      have h := h hx20
      have x21 := hx20.x
      show G w mX1_begin (KI K) (rc + 42) (rs + 126) s17 32 [va_rf l0, .int l1, v2, v3] [va_rf x18]
      obtain ⟨c22, h⟩ := h
      refine G_cast 35 dX1_begin_32 q578 rfl (c22.imp id (fun ⟨b, e, k⟩ => ⟨b, e, co5 k⟩)) ?_
      refine G_astore_n 36 [va_rf l0, .int l1, va_rf x18, v3] dX1_begin_35 (Nat.le_of_ble_eq_true rfl) rfl rfl ?_
      refine G_aload_n 37 dX1_begin_36 rfl rfl ?_
      refine G_aload_n 38 dX1_begin_37 rfl rfl ?_
      obtain ⟨a23, e24, h⟩ := h
      obtain ⟨c27, h⟩ := h
      refine G_invV (N := mX7_length) (As := []) (st := [va_rf l0]) (t := x18) (b := a23) (rc + 42) (rs + 126) 41 dX1_begin_38 q1847 q1848 q1849 q76 q1850 rfl rfl mX7_length_args ⟨Nat.le_of_ble_eq_true rfl, Nat.le_of_ble_eq_true rfl⟩ rfl (Nat.le_trans (w_R w_0) (Nat.le_of_ble_eq_true rfl)) e24 (rk17 c27) (le_b mX7_length_c (Nat.le_refl _)) (le_b mX7_length_s (Nat.le_refl _)) rfl (Cal.mono h ?_)
      rintro s25 v ⟨x26, rfl, h⟩ hx28
      have h := h hx28
      have x29 := hx28.x
      show G w mX1_begin (KI K) (rc + 42) (rs + 126) s25 41 [va_rf l0, .int l1, va_rf x18, v3] [.int x26, va_rf l0]
      refine G_aload_n 42 dX1_begin_41 rfl rfl ?_
      have c27 := kdE x29 c27 (by decide)
      refine G_getI (f := 42) (a := a23) "TrophyPlates" 45 dX1_begin_42 (Or.inr q1751) (Or.inl rfl) rfl e24 (hf42 c27) rfl ?_
      rcases h with ⟨c32, h⟩ | ⟨c116, h⟩
      · refine G_invV (N := mX1_find) (As := [.int x26, .int (FI s25 42 a23)]) (st := []) (t := l0) (b := a1) (rc) (rs) 48 dX1_begin_45 q1898 q1899 q1900 q32 q1901 rfl rfl mX1_find_args ⟨Nat.le_of_ble_eq_true rfl, Nat.le_of_ble_eq_true rfl⟩ rfl (Nat.zero_le _) e2 (rk11 c32) (le_b mX1_find_c (Nat.le_refl _)) (le_b mX1_find_s (Nat.le_refl _)) rfl (Cal.mono h ?_)
        rintro s30 v ⟨x31, rfl, h⟩ hx33
        have h := h hx33
        have x34 := hx33.x
        show G w mX1_begin (KI K) (rc) (rs) s30 48 [va_rf l0, .int l1, va_rf x18, v3] [va_rf x31]
        refine G_astore_n 49 [va_rf l0, .int l1, va_rf x18, va_rf x31] dX1_begin_48 (Nat.le_of_ble_eq_true rfl) rfl rfl ?_
        refine G_aload_n 50 dX1_begin_49 rfl rfl ?_
        refine G_ifnull 135 53 dX1_begin_50 (by decide) rfl (fun u35 => ?_) (fun u35 => ?_)
        · have h := h.1 u35
          refine G_iinc 138 [va_rf l0, .int (l1 + 1), va_rf x18, va_rf x31] dX1_begin_135 rfl rfl (Nat.le_of_ble_eq_true rfl) rfl rfl ?_
          refine G_goto 2 dX1_begin_138 (by decide) ?_
          exact h
        · have h := h.2 u35
          refine G_aload_n 54 dX1_begin_53 rfl rfl ?_
          refine G_aload_n 55 dX1_begin_54 rfl rfl ?_
          have c32 := kdE x34 c32 (by decide)
          refine G_putR (f := 8) (a := a1) "" 58 dX1_begin_55 (Or.inl q194) (Or.inl rfl) rfl e2 (hp8 c32) (nk8 c32) (Or.inl rfl) (fun y => by cases y <;> rfl) (fun y => by cases y <;> rfl) rfl ?_
          generalize hs36 : sFR s30 8 a1 x18 = s36
          have x37 : ∀ a, ¬ kd s30 a = 0 → kd s36 a = kd s30 a := by subst hs36; exact fun a _ => congrFun kd_sFR a
          have h := h s36 hs36.symm
          refine G_aload_n 59 dX1_begin_58 rfl rfl ?_
          refine G_aload_n 60 dX1_begin_59 rfl rfl ?_
          obtain ⟨a38, e39, h⟩ := h
          obtain ⟨c40, h⟩ := h
          refine G_getI (f := 44) (a := a38) "TrophyPlates" 63 dX1_begin_60 (Or.inr q1928) (Or.inl rfl) rfl e39 (hf44 c40) rfl ?_
          have c32 := kdE x37 c32 (by decide)
          refine G_putI (f := 9) (a := a1) "" 66 dX1_begin_63 (Or.inl q196) (Or.inl rfl) rfl e2 (hp9 c32) (nk9 c32) (Or.inl rfl) rfl rfl rfl ?_
          generalize hs41 : sFI s36 9 a1 (FI s36 44 a38) = s41
          have x42 : ∀ a, ¬ kd s36 a = 0 → kd s41 a = kd s36 a := by subst hs41; exact fun a _ => congrFun kd_sFI a
          have h := h s41 hs41.symm
          refine G_aload_n 67 dX1_begin_66 rfl rfl ?_
          refine G_aload_n 68 dX1_begin_67 rfl rfl ?_
          have c40 := kdE x42 c40 (by decide)
          refine G_getI (f := 45) (a := a38) "TrophyPlates" 71 dX1_begin_68 (Or.inr q1931) (Or.inl rfl) rfl e39 (hf45 c40) rfl ?_
          have c32 := kdE x42 c32 (by decide)
          refine G_putI (f := 10) (a := a1) "" 74 dX1_begin_71 (Or.inl q198) (Or.inl rfl) rfl e2 (hp10 c32) (nk10 c32) (Or.inl rfl) rfl rfl rfl ?_
          generalize hs43 : sFI s41 10 a1 (FI s41 45 a38) = s43
          have x44 : ∀ a, ¬ kd s41 a = 0 → kd s43 a = kd s41 a := by subst hs43; exact fun a _ => congrFun kd_sFI a
          have h := h s43 hs43.symm
          refine G_aload_n 75 dX1_begin_74 rfl rfl ?_
          refine G_aload_n 76 dX1_begin_75 rfl rfl ?_
          have c27 := kdE x34 c27 (by decide)
          have c27 := kdE x37 c27 (by decide)
          have c27 := kdE x42 c27 (by decide)
          have c27 := kdE x44 c27 (by decide)
          refine G_invV (N := mX7_effort) (As := []) (st := [va_rf l0]) (t := x18) (b := a23) (rc) (rs) 79 dX1_begin_76 q1943 q1944 q1945 q76 q1946 rfl rfl mX7_effort_args ⟨Nat.le_of_ble_eq_true rfl, Nat.le_of_ble_eq_true rfl⟩ rfl (Nat.le_trans (w_R w_0) (Nat.le_of_ble_eq_true rfl)) e24 (rk17 c27) (le_b mX7_effort_c (Nat.le_refl _)) (le_b mX7_effort_s (Nat.le_refl _)) rfl (Cal.mono h ?_)
          rintro s45 v ⟨x46, rfl, h⟩ hx47
          have h := h hx47
          have x48 := hx47.x
          show G w mX1_begin (KI K) (rc) (rs) s45 79 [va_rf l0, .int l1, va_rf x18, va_rf x31] [.int x46, va_rf l0]
          refine G_aload_n 80 dX1_begin_79 rfl rfl ?_
          have c40 := kdE x44 c40 (by decide)
          have c40 := kdE x48 c40 (by decide)
          refine G_getI (f := 46) (a := a38) "TrophyPlates" 83 dX1_begin_80 (Or.inr q1934) (Or.inl rfl) rfl e39 (hf46 c40) rfl ?_
          refine G_if_eq 91 86 dX1_begin_83 (by decide) rfl (fun u49 => ?_) (fun u49 => ?_)
          · have h := h.1 u49
            refine G_iconst (v := 0) 92 dX1_begin_91 (by decide) rfl ?_
            refine G_iadd 93 dX1_begin_92 rfl ?_
            have c32 := kdE x44 c32 (by decide)
            have c32 := kdE x48 c32 (by decide)
            refine G_putI (f := 11) (a := a1) "" 96 dX1_begin_93 (Or.inl q199) (Or.inl rfl) rfl e2 (hp11 c32) (nk11 c32) (Or.inl rfl) rfl rfl rfl ?_
            generalize hs50 : sFI s45 11 a1 (x46 + 0) = s50
            have x51 : ∀ a, ¬ kd s45 a = 0 → kd s50 a = kd s45 a := by subst hs50; exact fun a _ => congrFun kd_sFI a
            have h := h s50 hs50.symm
            refine G_aload_n 97 dX1_begin_96 rfl rfl ?_
            have c40 := kdE x51 c40 (by decide)
            refine G_getI (f := 46) (a := a38) "TrophyPlates" 100 dX1_begin_97 (Or.inr q1934) (Or.inl rfl) rfl e39 (hf46 c40) rfl ?_
            refine G_if_eq 115 103 dX1_begin_100 (by decide) rfl (fun u52 => ?_) (fun u52 => ?_)
            · have h := h.1 u52
              refine G_aload_n 116 dX1_begin_115 rfl rfl ?_
              have c32 := kdE x51 c32 (by decide)
              refine G_getR (f := 3) (a := a1) "" 119 dX1_begin_116 (Or.inl q184) (Or.inl rfl) rfl e2 (hf3 c32) rfl ?_
              refine G_aload_n 120 dX1_begin_119 rfl rfl ?_
              refine G_getI (f := 9) (a := a1) "" 123 dX1_begin_120 (Or.inl q196) (Or.inl rfl) rfl e2 (hf9 c32) rfl ?_
              obtain ⟨a53, e54, h⟩ := h
              obtain ⟨c57, h⟩ := h
              refine G_invF (N := mJ2_get) (x := ⟨"java/util/List", "get", "(I)Ljava/lang/Object;"⟩) (As := [.int (FI s50 9 a1)]) (st := []) (t := (FR s50 3 a1)) (b := a53) (rc) (rs) 128 dX1_begin_123 q1425 q1393 q1395 q35 q1397 q1392 q1391 q1396 q1394 q307 rfl ax32 ⟨Nat.le_of_ble_eq_true rfl, Nat.le_of_ble_eq_true rfl⟩ rfl (Nat.zero_le _) e54 (rk20 c57) (le_b mJ2_get_c (Nat.le_refl _)) (le_b mJ2_get_s (Nat.le_refl _)) rfl (Cal.mono h ?_)
              rintro s55 v ⟨x56, rfl, h⟩ hx58
              have h := h hx58
              have x59 := hx58.x
              show G w mX1_begin (KI K) (rc) (rs) s55 128 [va_rf l0, .int l1, va_rf x18, va_rf x31] [va_rf x56]
              obtain ⟨c60, h⟩ := h
              refine G_cast 131 dX1_begin_128 q464 rfl (c60.imp id (fun ⟨b, e, k⟩ => ⟨b, e, co4 k⟩)) ?_
              refine G_iconst (v := 1) 132 dX1_begin_131 (by decide) rfl ?_
              obtain ⟨a61, e62, h⟩ := h
              obtain ⟨c63, h⟩ := h
              refine G_putI (f := 35) (a := a61) "TrophyPlates" 135 dX1_begin_132 (Or.inr ⟨q482, rfl⟩) (Or.inl rfl) rfl e62 (hp35 c63) (nk35 c63) (Or.inl rfl) rfl rfl rfl ?_
              generalize hs64 : sFI s55 35 a61 1 = s64
              have x65 : ∀ a, ¬ kd s55 a = 0 → kd s64 a = kd s55 a := by subst hs64; exact fun a _ => congrFun kd_sFI a
              have h := h s64 hs64.symm
              refine G_iinc 138 [va_rf l0, .int (l1 + 1), va_rf x18, va_rf x31] dX1_begin_135 rfl rfl (Nat.le_of_ble_eq_true rfl) rfl rfl ?_
              refine G_goto 2 dX1_begin_138 (by decide) ?_
              exact h
            · have h := h.2 u52
              refine G_aload_n 104 dX1_begin_103 rfl rfl ?_
              refine G_aload_n 105 dX1_begin_104 rfl rfl ?_
              have c32 := kdE x51 c32 (by decide)
              refine G_getI (f := 9) (a := a1) "" 108 dX1_begin_105 (Or.inl q196) (Or.inl rfl) rfl e2 (hf9 c32) rfl ?_
              refine G_aload_n 109 dX1_begin_108 rfl rfl ?_
              refine G_getI (f := 10) (a := a1) "" 112 dX1_begin_109 (Or.inl q198) (Or.inl rfl) rfl e2 (hf10 c32) rfl ?_
              refine G_invV (N := mX1_grind) (As := [.int (FI s50 9 a1), .int (FI s50 10 a1)]) (st := []) (t := l0) (b := a1) (rc) (rs) 115 dX1_begin_112 q1948 q1422 qs6 q32 q1423 rfl rfl mX1_grind_args ⟨Nat.le_of_ble_eq_true rfl, Nat.le_of_ble_eq_true rfl⟩ rfl (Nat.zero_le _) e2 (rk11 c32) (le_b mX1_grind_c (Nat.le_refl _)) (le_b mX1_grind_s (Nat.le_refl _)) rfl (Cal.mono h ?_)
              rintro s66 v ⟨rfl, h⟩ hx67
              have h := h hx67
              have x68 := hx67.x
              show G w mX1_begin (KI K) (rc) (rs) s66 115 [va_rf l0, .int l1, va_rf x18, va_rf x31] []
              refine G_aload_n 116 dX1_begin_115 rfl rfl ?_
              have c32 := kdE x68 c32 (by decide)
              refine G_getR (f := 3) (a := a1) "" 119 dX1_begin_116 (Or.inl q184) (Or.inl rfl) rfl e2 (hf3 c32) rfl ?_
              refine G_aload_n 120 dX1_begin_119 rfl rfl ?_
              refine G_getI (f := 9) (a := a1) "" 123 dX1_begin_120 (Or.inl q196) (Or.inl rfl) rfl e2 (hf9 c32) rfl ?_
              obtain ⟨a69, e70, h⟩ := h
              obtain ⟨c73, h⟩ := h
              refine G_invF (N := mJ2_get) (x := ⟨"java/util/List", "get", "(I)Ljava/lang/Object;"⟩) (As := [.int (FI s66 9 a1)]) (st := []) (t := (FR s66 3 a1)) (b := a69) (rc) (rs) 128 dX1_begin_123 q1425 q1393 q1395 q35 q1397 q1392 q1391 q1396 q1394 q307 rfl ax32 ⟨Nat.le_of_ble_eq_true rfl, Nat.le_of_ble_eq_true rfl⟩ rfl (Nat.zero_le _) e70 (rk20 c73) (le_b mJ2_get_c (Nat.le_refl _)) (le_b mJ2_get_s (Nat.le_refl _)) rfl (Cal.mono h ?_)
              rintro s71 v ⟨x72, rfl, h⟩ hx74
              have h := h hx74
              have x75 := hx74.x
              show G w mX1_begin (KI K) (rc) (rs) s71 128 [va_rf l0, .int l1, va_rf x18, va_rf x31] [va_rf x72]
              obtain ⟨c76, h⟩ := h
              refine G_cast 131 dX1_begin_128 q464 rfl (c76.imp id (fun ⟨b, e, k⟩ => ⟨b, e, co4 k⟩)) ?_
              refine G_iconst (v := 1) 132 dX1_begin_131 (by decide) rfl ?_
              obtain ⟨a77, e78, h⟩ := h
              obtain ⟨c79, h⟩ := h
              refine G_putI (f := 35) (a := a77) "TrophyPlates" 135 dX1_begin_132 (Or.inr ⟨q482, rfl⟩) (Or.inl rfl) rfl e78 (hp35 c79) (nk35 c79) (Or.inl rfl) rfl rfl rfl ?_
              generalize hs80 : sFI s71 35 a77 1 = s80
              have x81 : ∀ a, ¬ kd s71 a = 0 → kd s80 a = kd s71 a := by subst hs80; exact fun a _ => congrFun kd_sFI a
              have h := h s80 hs80.symm
              refine G_iinc 138 [va_rf l0, .int (l1 + 1), va_rf x18, va_rf x31] dX1_begin_135 rfl rfl (Nat.le_of_ble_eq_true rfl) rfl rfl ?_
              refine G_goto 2 dX1_begin_138 (by decide) ?_
              exact h
          · have h := h.2 u49
            refine G_bipush (v := 10) 88 dX1_begin_86 (by decide) rfl ?_
            refine G_goto 92 dX1_begin_88 (by decide) ?_
            refine G_iadd 93 dX1_begin_92 rfl ?_
            have c32 := kdE x44 c32 (by decide)
            have c32 := kdE x48 c32 (by decide)
            refine G_putI (f := 11) (a := a1) "" 96 dX1_begin_93 (Or.inl q199) (Or.inl rfl) rfl e2 (hp11 c32) (nk11 c32) (Or.inl rfl) rfl rfl rfl ?_
            generalize hs82 : sFI s45 11 a1 (x46 + 10) = s82
            have x83 : ∀ a, ¬ kd s45 a = 0 → kd s82 a = kd s45 a := by subst hs82; exact fun a _ => congrFun kd_sFI a
            have h := h s82 hs82.symm
            refine G_aload_n 97 dX1_begin_96 rfl rfl ?_
            have c40 := kdE x83 c40 (by decide)
            refine G_getI (f := 46) (a := a38) "TrophyPlates" 100 dX1_begin_97 (Or.inr q1934) (Or.inl rfl) rfl e39 (hf46 c40) rfl ?_
            refine G_if_eq 115 103 dX1_begin_100 (by decide) rfl (fun u84 => ?_) (fun u84 => ?_)
            · have h := h.1 u84
              refine G_aload_n 116 dX1_begin_115 rfl rfl ?_
              have c32 := kdE x83 c32 (by decide)
              refine G_getR (f := 3) (a := a1) "" 119 dX1_begin_116 (Or.inl q184) (Or.inl rfl) rfl e2 (hf3 c32) rfl ?_
              refine G_aload_n 120 dX1_begin_119 rfl rfl ?_
              refine G_getI (f := 9) (a := a1) "" 123 dX1_begin_120 (Or.inl q196) (Or.inl rfl) rfl e2 (hf9 c32) rfl ?_
              obtain ⟨a85, e86, h⟩ := h
              obtain ⟨c89, h⟩ := h
              refine G_invF (N := mJ2_get) (x := ⟨"java/util/List", "get", "(I)Ljava/lang/Object;"⟩) (As := [.int (FI s82 9 a1)]) (st := []) (t := (FR s82 3 a1)) (b := a85) (rc) (rs) 128 dX1_begin_123 q1425 q1393 q1395 q35 q1397 q1392 q1391 q1396 q1394 q307 rfl ax32 ⟨Nat.le_of_ble_eq_true rfl, Nat.le_of_ble_eq_true rfl⟩ rfl (Nat.zero_le _) e86 (rk20 c89) (le_b mJ2_get_c (Nat.le_refl _)) (le_b mJ2_get_s (Nat.le_refl _)) rfl (Cal.mono h ?_)
              rintro s87 v ⟨x88, rfl, h⟩ hx90
              have h := h hx90
              have x91 := hx90.x
              show G w mX1_begin (KI K) (rc) (rs) s87 128 [va_rf l0, .int l1, va_rf x18, va_rf x31] [va_rf x88]
              obtain ⟨c92, h⟩ := h
              refine G_cast 131 dX1_begin_128 q464 rfl (c92.imp id (fun ⟨b, e, k⟩ => ⟨b, e, co4 k⟩)) ?_
              refine G_iconst (v := 1) 132 dX1_begin_131 (by decide) rfl ?_
              obtain ⟨a93, e94, h⟩ := h
              obtain ⟨c95, h⟩ := h
              refine G_putI (f := 35) (a := a93) "TrophyPlates" 135 dX1_begin_132 (Or.inr ⟨q482, rfl⟩) (Or.inl rfl) rfl e94 (hp35 c95) (nk35 c95) (Or.inl rfl) rfl rfl rfl ?_
              generalize hs96 : sFI s87 35 a93 1 = s96
              have x97 : ∀ a, ¬ kd s87 a = 0 → kd s96 a = kd s87 a := by subst hs96; exact fun a _ => congrFun kd_sFI a
              have h := h s96 hs96.symm
              refine G_iinc 138 [va_rf l0, .int (l1 + 1), va_rf x18, va_rf x31] dX1_begin_135 rfl rfl (Nat.le_of_ble_eq_true rfl) rfl rfl ?_
              refine G_goto 2 dX1_begin_138 (by decide) ?_
              exact h
            · have h := h.2 u84
              refine G_aload_n 104 dX1_begin_103 rfl rfl ?_
              refine G_aload_n 105 dX1_begin_104 rfl rfl ?_
              have c32 := kdE x83 c32 (by decide)
              refine G_getI (f := 9) (a := a1) "" 108 dX1_begin_105 (Or.inl q196) (Or.inl rfl) rfl e2 (hf9 c32) rfl ?_
              refine G_aload_n 109 dX1_begin_108 rfl rfl ?_
              refine G_getI (f := 10) (a := a1) "" 112 dX1_begin_109 (Or.inl q198) (Or.inl rfl) rfl e2 (hf10 c32) rfl ?_
              refine G_invV (N := mX1_grind) (As := [.int (FI s82 9 a1), .int (FI s82 10 a1)]) (st := []) (t := l0) (b := a1) (rc) (rs) 115 dX1_begin_112 q1948 q1422 qs6 q32 q1423 rfl rfl mX1_grind_args ⟨Nat.le_of_ble_eq_true rfl, Nat.le_of_ble_eq_true rfl⟩ rfl (Nat.zero_le _) e2 (rk11 c32) (le_b mX1_grind_c (Nat.le_refl _)) (le_b mX1_grind_s (Nat.le_refl _)) rfl (Cal.mono h ?_)
              rintro s98 v ⟨rfl, h⟩ hx99
              have h := h hx99
              have x100 := hx99.x
              show G w mX1_begin (KI K) (rc) (rs) s98 115 [va_rf l0, .int l1, va_rf x18, va_rf x31] []
              refine G_aload_n 116 dX1_begin_115 rfl rfl ?_
              have c32 := kdE x100 c32 (by decide)
              refine G_getR (f := 3) (a := a1) "" 119 dX1_begin_116 (Or.inl q184) (Or.inl rfl) rfl e2 (hf3 c32) rfl ?_
              refine G_aload_n 120 dX1_begin_119 rfl rfl ?_
              refine G_getI (f := 9) (a := a1) "" 123 dX1_begin_120 (Or.inl q196) (Or.inl rfl) rfl e2 (hf9 c32) rfl ?_
              obtain ⟨a101, e102, h⟩ := h
              obtain ⟨c105, h⟩ := h
              refine G_invF (N := mJ2_get) (x := ⟨"java/util/List", "get", "(I)Ljava/lang/Object;"⟩) (As := [.int (FI s98 9 a1)]) (st := []) (t := (FR s98 3 a1)) (b := a101) (rc) (rs) 128 dX1_begin_123 q1425 q1393 q1395 q35 q1397 q1392 q1391 q1396 q1394 q307 rfl ax32 ⟨Nat.le_of_ble_eq_true rfl, Nat.le_of_ble_eq_true rfl⟩ rfl (Nat.zero_le _) e102 (rk20 c105) (le_b mJ2_get_c (Nat.le_refl _)) (le_b mJ2_get_s (Nat.le_refl _)) rfl (Cal.mono h ?_)
              rintro s103 v ⟨x104, rfl, h⟩ hx106
              have h := h hx106
              have x107 := hx106.x
              show G w mX1_begin (KI K) (rc) (rs) s103 128 [va_rf l0, .int l1, va_rf x18, va_rf x31] [va_rf x104]
              obtain ⟨c108, h⟩ := h
              refine G_cast 131 dX1_begin_128 q464 rfl (c108.imp id (fun ⟨b, e, k⟩ => ⟨b, e, co4 k⟩)) ?_
              refine G_iconst (v := 1) 132 dX1_begin_131 (by decide) rfl ?_
              obtain ⟨a109, e110, h⟩ := h
              obtain ⟨c111, h⟩ := h
              refine G_putI (f := 35) (a := a109) "TrophyPlates" 135 dX1_begin_132 (Or.inr ⟨q482, rfl⟩) (Or.inl rfl) rfl e110 (hp35 c111) (nk35 c111) (Or.inl rfl) rfl rfl rfl ?_
              generalize hs112 : sFI s103 35 a109 1 = s112
              have x113 : ∀ a, ¬ kd s103 a = 0 → kd s112 a = kd s103 a := by subst hs112; exact fun a _ => congrFun kd_sFI a
              have h := h s112 hs112.symm
              refine G_iinc 138 [va_rf l0, .int (l1 + 1), va_rf x18, va_rf x31] dX1_begin_135 rfl rfl (Nat.le_of_ble_eq_true rfl) rfl rfl ?_
              refine G_goto 2 dX1_begin_138 (by decide) ?_
              exact h
      · refine G_invV (N := mX1_findn) (As := [.int x26, .int (FI s25 42 a23)]) (st := []) (t := l0) (b := a1) (rc + 40) (rs + 120) 48 dX1_begin_45 q1898 q1899 q1900 q32 q1901 rfl rfl mX1_find_args ⟨Nat.le_of_ble_eq_true rfl, Nat.le_of_ble_eq_true rfl⟩ rfl (Nat.zero_le _) e2 (rk11 c116) (le_b mX1_findn_c (Nat.le_refl _)) (le_b mX1_findn_s (Nat.le_refl _)) rfl (Cal.mono h ?_)
        rintro s114 v ⟨x115, rfl, h⟩ hx117
        have h := h hx117
        have x118 := hx117.x
        show G w mX1_begin (KI K) (rc + 40) (rs + 120) s114 48 [va_rf l0, .int l1, va_rf x18, v3] [va_rf x115]
        refine G_astore_n 49 [va_rf l0, .int l1, va_rf x18, va_rf x115] dX1_begin_48 (Nat.le_of_ble_eq_true rfl) rfl rfl ?_
        refine G_aload_n 50 dX1_begin_49 rfl rfl ?_
        refine G_ifnull 135 53 dX1_begin_50 (by decide) rfl (fun u119 => ?_) (fun u119 => ?_)
        · have h := h.1 u119
          refine G_iinc 138 [va_rf l0, .int (l1 + 1), va_rf x18, va_rf x115] dX1_begin_135 rfl rfl (Nat.le_of_ble_eq_true rfl) rfl rfl ?_
          refine G_goto 2 dX1_begin_138 (by decide) ?_
          exact h
        · have h := h.2 u119
          refine G_aload_n 54 dX1_begin_53 rfl rfl ?_
          refine G_aload_n 55 dX1_begin_54 rfl rfl ?_
          have c116 := kdE x118 c116 (by decide)
          refine G_putR (f := 8) (a := a1) "" 58 dX1_begin_55 (Or.inl q194) (Or.inl rfl) rfl e2 (hp8 c116) (nk8 c116) (Or.inl rfl) (fun y => by cases y <;> rfl) (fun y => by cases y <;> rfl) rfl ?_
          generalize hs120 : sFR s114 8 a1 x18 = s120
          have x121 : ∀ a, ¬ kd s114 a = 0 → kd s120 a = kd s114 a := by subst hs120; exact fun a _ => congrFun kd_sFR a
          have h := h s120 hs120.symm
          refine G_aload_n 59 dX1_begin_58 rfl rfl ?_
          refine G_aload_n 60 dX1_begin_59 rfl rfl ?_
          obtain ⟨a122, e123, h⟩ := h
          obtain ⟨c124, h⟩ := h
          refine G_getI (f := 44) (a := a122) "TrophyPlates" 63 dX1_begin_60 (Or.inr q1928) (Or.inl rfl) rfl e123 (hf44 c124) rfl ?_
          have c116 := kdE x121 c116 (by decide)
          refine G_putI (f := 9) (a := a1) "" 66 dX1_begin_63 (Or.inl q196) (Or.inl rfl) rfl e2 (hp9 c116) (nk9 c116) (Or.inl rfl) rfl rfl rfl ?_
          generalize hs125 : sFI s120 9 a1 (FI s120 44 a122) = s125
          have x126 : ∀ a, ¬ kd s120 a = 0 → kd s125 a = kd s120 a := by subst hs125; exact fun a _ => congrFun kd_sFI a
          have h := h s125 hs125.symm
          refine G_aload_n 67 dX1_begin_66 rfl rfl ?_
          refine G_aload_n 68 dX1_begin_67 rfl rfl ?_
          have c124 := kdE x126 c124 (by decide)
          refine G_getI (f := 45) (a := a122) "TrophyPlates" 71 dX1_begin_68 (Or.inr q1931) (Or.inl rfl) rfl e123 (hf45 c124) rfl ?_
          have c116 := kdE x126 c116 (by decide)
          refine G_putI (f := 10) (a := a1) "" 74 dX1_begin_71 (Or.inl q198) (Or.inl rfl) rfl e2 (hp10 c116) (nk10 c116) (Or.inl rfl) rfl rfl rfl ?_
          generalize hs127 : sFI s125 10 a1 (FI s125 45 a122) = s127
          have x128 : ∀ a, ¬ kd s125 a = 0 → kd s127 a = kd s125 a := by subst hs127; exact fun a _ => congrFun kd_sFI a
          have h := h s127 hs127.symm
          refine G_aload_n 75 dX1_begin_74 rfl rfl ?_
          refine G_aload_n 76 dX1_begin_75 rfl rfl ?_
          have c27 := kdE x118 c27 (by decide)
          have c27 := kdE x121 c27 (by decide)
          have c27 := kdE x126 c27 (by decide)
          have c27 := kdE x128 c27 (by decide)
          refine G_invV (N := mX7_effort) (As := []) (st := [va_rf l0]) (t := x18) (b := a23) (rc + 40) (rs + 120) 79 dX1_begin_76 q1943 q1944 q1945 q76 q1946 rfl rfl mX7_effort_args ⟨Nat.le_of_ble_eq_true rfl, Nat.le_of_ble_eq_true rfl⟩ rfl (Nat.le_trans (w_R w_0) (Nat.le_of_ble_eq_true rfl)) e24 (rk17 c27) (le_b mX7_effort_c (Nat.le_refl _)) (le_b mX7_effort_s (Nat.le_refl _)) rfl (Cal.mono h ?_)
          rintro s129 v ⟨x130, rfl, h⟩ hx131
          have h := h hx131
          have x132 := hx131.x
          show G w mX1_begin (KI K) (rc + 40) (rs + 120) s129 79 [va_rf l0, .int l1, va_rf x18, va_rf x115] [.int x130, va_rf l0]
          refine G_aload_n 80 dX1_begin_79 rfl rfl ?_
          have c124 := kdE x128 c124 (by decide)
          have c124 := kdE x132 c124 (by decide)
          refine G_getI (f := 46) (a := a122) "TrophyPlates" 83 dX1_begin_80 (Or.inr q1934) (Or.inl rfl) rfl e123 (hf46 c124) rfl ?_
          refine G_if_eq 91 86 dX1_begin_83 (by decide) rfl (fun u133 => ?_) (fun u133 => ?_)
          · have h := h.1 u133
            refine G_iconst (v := 0) 92 dX1_begin_91 (by decide) rfl ?_
            refine G_iadd 93 dX1_begin_92 rfl ?_
            have c116 := kdE x128 c116 (by decide)
            have c116 := kdE x132 c116 (by decide)
            refine G_putI (f := 11) (a := a1) "" 96 dX1_begin_93 (Or.inl q199) (Or.inl rfl) rfl e2 (hp11 c116) (nk11 c116) (Or.inl rfl) rfl rfl rfl ?_
            generalize hs134 : sFI s129 11 a1 (x130 + 0) = s134
            have x135 : ∀ a, ¬ kd s129 a = 0 → kd s134 a = kd s129 a := by subst hs134; exact fun a _ => congrFun kd_sFI a
            have h := h s134 hs134.symm
            refine G_aload_n 97 dX1_begin_96 rfl rfl ?_
            have c124 := kdE x135 c124 (by decide)
            refine G_getI (f := 46) (a := a122) "TrophyPlates" 100 dX1_begin_97 (Or.inr q1934) (Or.inl rfl) rfl e123 (hf46 c124) rfl ?_
            refine G_if_eq 115 103 dX1_begin_100 (by decide) rfl (fun u136 => ?_) (fun u136 => ?_)
            · have h := h.1 u136
              refine G_aload_n 116 dX1_begin_115 rfl rfl ?_
              have c116 := kdE x135 c116 (by decide)
              refine G_getR (f := 3) (a := a1) "" 119 dX1_begin_116 (Or.inl q184) (Or.inl rfl) rfl e2 (hf3 c116) rfl ?_
              refine G_aload_n 120 dX1_begin_119 rfl rfl ?_
              refine G_getI (f := 9) (a := a1) "" 123 dX1_begin_120 (Or.inl q196) (Or.inl rfl) rfl e2 (hf9 c116) rfl ?_
              obtain ⟨a137, e138, h⟩ := h
              obtain ⟨c141, h⟩ := h
              refine G_invF (N := mJ2_get) (x := ⟨"java/util/List", "get", "(I)Ljava/lang/Object;"⟩) (As := [.int (FI s134 9 a1)]) (st := []) (t := (FR s134 3 a1)) (b := a137) (rc + 40) (rs + 120) 128 dX1_begin_123 q1425 q1393 q1395 q35 q1397 q1392 q1391 q1396 q1394 q307 rfl ax32 ⟨Nat.le_of_ble_eq_true rfl, Nat.le_of_ble_eq_true rfl⟩ rfl (Nat.zero_le _) e138 (rk20 c141) (le_b mJ2_get_c (Nat.le_refl _)) (le_b mJ2_get_s (Nat.le_refl _)) rfl (Cal.mono h ?_)
              rintro s139 v ⟨x140, rfl, h⟩ hx142
              have h := h hx142
              have x143 := hx142.x
              show G w mX1_begin (KI K) (rc + 40) (rs + 120) s139 128 [va_rf l0, .int l1, va_rf x18, va_rf x115] [va_rf x140]
              obtain ⟨c144, h⟩ := h
              refine G_cast 131 dX1_begin_128 q464 rfl (c144.imp id (fun ⟨b, e, k⟩ => ⟨b, e, co4 k⟩)) ?_
              refine G_iconst (v := 1) 132 dX1_begin_131 (by decide) rfl ?_
              obtain ⟨a145, e146, h⟩ := h
              obtain ⟨c147, h⟩ := h
              refine G_putI (f := 35) (a := a145) "TrophyPlates" 135 dX1_begin_132 (Or.inr ⟨q482, rfl⟩) (Or.inl rfl) rfl e146 (hp35 c147) (nk35 c147) (Or.inl rfl) rfl rfl rfl ?_
              generalize hs148 : sFI s139 35 a145 1 = s148
              have x149 : ∀ a, ¬ kd s139 a = 0 → kd s148 a = kd s139 a := by subst hs148; exact fun a _ => congrFun kd_sFI a
              have h := h s148 hs148.symm
              refine G_iinc 138 [va_rf l0, .int (l1 + 1), va_rf x18, va_rf x115] dX1_begin_135 rfl rfl (Nat.le_of_ble_eq_true rfl) rfl rfl ?_
              refine G_goto 2 dX1_begin_138 (by decide) ?_
              exact h
            · have h := h.2 u136
              refine G_aload_n 104 dX1_begin_103 rfl rfl ?_
              refine G_aload_n 105 dX1_begin_104 rfl rfl ?_
              have c116 := kdE x135 c116 (by decide)
              refine G_getI (f := 9) (a := a1) "" 108 dX1_begin_105 (Or.inl q196) (Or.inl rfl) rfl e2 (hf9 c116) rfl ?_
              refine G_aload_n 109 dX1_begin_108 rfl rfl ?_
              refine G_getI (f := 10) (a := a1) "" 112 dX1_begin_109 (Or.inl q198) (Or.inl rfl) rfl e2 (hf10 c116) rfl ?_
              refine G_invV (N := mX1_grind) (As := [.int (FI s134 9 a1), .int (FI s134 10 a1)]) (st := []) (t := l0) (b := a1) (rc + 40) (rs + 120) 115 dX1_begin_112 q1948 q1422 qs6 q32 q1423 rfl rfl mX1_grind_args ⟨Nat.le_of_ble_eq_true rfl, Nat.le_of_ble_eq_true rfl⟩ rfl (Nat.zero_le _) e2 (rk11 c116) (le_b mX1_grind_c (Nat.le_refl _)) (le_b mX1_grind_s (Nat.le_refl _)) rfl (Cal.mono h ?_)
              rintro s150 v ⟨rfl, h⟩ hx151
              have h := h hx151
              have x152 := hx151.x
              show G w mX1_begin (KI K) (rc + 40) (rs + 120) s150 115 [va_rf l0, .int l1, va_rf x18, va_rf x115] []
              refine G_aload_n 116 dX1_begin_115 rfl rfl ?_
              have c116 := kdE x152 c116 (by decide)
              refine G_getR (f := 3) (a := a1) "" 119 dX1_begin_116 (Or.inl q184) (Or.inl rfl) rfl e2 (hf3 c116) rfl ?_
              refine G_aload_n 120 dX1_begin_119 rfl rfl ?_
              refine G_getI (f := 9) (a := a1) "" 123 dX1_begin_120 (Or.inl q196) (Or.inl rfl) rfl e2 (hf9 c116) rfl ?_
              obtain ⟨a153, e154, h⟩ := h
              obtain ⟨c157, h⟩ := h
              refine G_invF (N := mJ2_get) (x := ⟨"java/util/List", "get", "(I)Ljava/lang/Object;"⟩) (As := [.int (FI s150 9 a1)]) (st := []) (t := (FR s150 3 a1)) (b := a153) (rc + 40) (rs + 120) 128 dX1_begin_123 q1425 q1393 q1395 q35 q1397 q1392 q1391 q1396 q1394 q307 rfl ax32 ⟨Nat.le_of_ble_eq_true rfl, Nat.le_of_ble_eq_true rfl⟩ rfl (Nat.zero_le _) e154 (rk20 c157) (le_b mJ2_get_c (Nat.le_refl _)) (le_b mJ2_get_s (Nat.le_refl _)) rfl (Cal.mono h ?_)
              rintro s155 v ⟨x156, rfl, h⟩ hx158
              have h := h hx158
              have x159 := hx158.x
              show G w mX1_begin (KI K) (rc + 40) (rs + 120) s155 128 [va_rf l0, .int l1, va_rf x18, va_rf x115] [va_rf x156]
              obtain ⟨c160, h⟩ := h
              refine G_cast 131 dX1_begin_128 q464 rfl (c160.imp id (fun ⟨b, e, k⟩ => ⟨b, e, co4 k⟩)) ?_
              refine G_iconst (v := 1) 132 dX1_begin_131 (by decide) rfl ?_
              obtain ⟨a161, e162, h⟩ := h
              obtain ⟨c163, h⟩ := h
              refine G_putI (f := 35) (a := a161) "TrophyPlates" 135 dX1_begin_132 (Or.inr ⟨q482, rfl⟩) (Or.inl rfl) rfl e162 (hp35 c163) (nk35 c163) (Or.inl rfl) rfl rfl rfl ?_
              generalize hs164 : sFI s155 35 a161 1 = s164
              have x165 : ∀ a, ¬ kd s155 a = 0 → kd s164 a = kd s155 a := by subst hs164; exact fun a _ => congrFun kd_sFI a
              have h := h s164 hs164.symm
              refine G_iinc 138 [va_rf l0, .int (l1 + 1), va_rf x18, va_rf x115] dX1_begin_135 rfl rfl (Nat.le_of_ble_eq_true rfl) rfl rfl ?_
              refine G_goto 2 dX1_begin_138 (by decide) ?_
              exact h
          · have h := h.2 u133
            refine G_bipush (v := 10) 88 dX1_begin_86 (by decide) rfl ?_
            refine G_goto 92 dX1_begin_88 (by decide) ?_
            refine G_iadd 93 dX1_begin_92 rfl ?_
            have c116 := kdE x128 c116 (by decide)
            have c116 := kdE x132 c116 (by decide)
            refine G_putI (f := 11) (a := a1) "" 96 dX1_begin_93 (Or.inl q199) (Or.inl rfl) rfl e2 (hp11 c116) (nk11 c116) (Or.inl rfl) rfl rfl rfl ?_
            generalize hs166 : sFI s129 11 a1 (x130 + 10) = s166
            have x167 : ∀ a, ¬ kd s129 a = 0 → kd s166 a = kd s129 a := by subst hs166; exact fun a _ => congrFun kd_sFI a
            have h := h s166 hs166.symm
            refine G_aload_n 97 dX1_begin_96 rfl rfl ?_
            have c124 := kdE x167 c124 (by decide)
            refine G_getI (f := 46) (a := a122) "TrophyPlates" 100 dX1_begin_97 (Or.inr q1934) (Or.inl rfl) rfl e123 (hf46 c124) rfl ?_
            refine G_if_eq 115 103 dX1_begin_100 (by decide) rfl (fun u168 => ?_) (fun u168 => ?_)
            · have h := h.1 u168
              refine G_aload_n 116 dX1_begin_115 rfl rfl ?_
              have c116 := kdE x167 c116 (by decide)
              refine G_getR (f := 3) (a := a1) "" 119 dX1_begin_116 (Or.inl q184) (Or.inl rfl) rfl e2 (hf3 c116) rfl ?_
              refine G_aload_n 120 dX1_begin_119 rfl rfl ?_
              refine G_getI (f := 9) (a := a1) "" 123 dX1_begin_120 (Or.inl q196) (Or.inl rfl) rfl e2 (hf9 c116) rfl ?_
              obtain ⟨a169, e170, h⟩ := h
              obtain ⟨c173, h⟩ := h
              refine G_invF (N := mJ2_get) (x := ⟨"java/util/List", "get", "(I)Ljava/lang/Object;"⟩) (As := [.int (FI s166 9 a1)]) (st := []) (t := (FR s166 3 a1)) (b := a169) (rc + 40) (rs + 120) 128 dX1_begin_123 q1425 q1393 q1395 q35 q1397 q1392 q1391 q1396 q1394 q307 rfl ax32 ⟨Nat.le_of_ble_eq_true rfl, Nat.le_of_ble_eq_true rfl⟩ rfl (Nat.zero_le _) e170 (rk20 c173) (le_b mJ2_get_c (Nat.le_refl _)) (le_b mJ2_get_s (Nat.le_refl _)) rfl (Cal.mono h ?_)
              rintro s171 v ⟨x172, rfl, h⟩ hx174
              have h := h hx174
              have x175 := hx174.x
              show G w mX1_begin (KI K) (rc + 40) (rs + 120) s171 128 [va_rf l0, .int l1, va_rf x18, va_rf x115] [va_rf x172]
              obtain ⟨c176, h⟩ := h
              refine G_cast 131 dX1_begin_128 q464 rfl (c176.imp id (fun ⟨b, e, k⟩ => ⟨b, e, co4 k⟩)) ?_
              refine G_iconst (v := 1) 132 dX1_begin_131 (by decide) rfl ?_
              obtain ⟨a177, e178, h⟩ := h
              obtain ⟨c179, h⟩ := h
              refine G_putI (f := 35) (a := a177) "TrophyPlates" 135 dX1_begin_132 (Or.inr ⟨q482, rfl⟩) (Or.inl rfl) rfl e178 (hp35 c179) (nk35 c179) (Or.inl rfl) rfl rfl rfl ?_
              generalize hs180 : sFI s171 35 a177 1 = s180
              have x181 : ∀ a, ¬ kd s171 a = 0 → kd s180 a = kd s171 a := by subst hs180; exact fun a _ => congrFun kd_sFI a
              have h := h s180 hs180.symm
              refine G_iinc 138 [va_rf l0, .int (l1 + 1), va_rf x18, va_rf x115] dX1_begin_135 rfl rfl (Nat.le_of_ble_eq_true rfl) rfl rfl ?_
              refine G_goto 2 dX1_begin_138 (by decide) ?_
              exact h
            · have h := h.2 u168
              refine G_aload_n 104 dX1_begin_103 rfl rfl ?_
              refine G_aload_n 105 dX1_begin_104 rfl rfl ?_
              have c116 := kdE x167 c116 (by decide)
              refine G_getI (f := 9) (a := a1) "" 108 dX1_begin_105 (Or.inl q196) (Or.inl rfl) rfl e2 (hf9 c116) rfl ?_
              refine G_aload_n 109 dX1_begin_108 rfl rfl ?_
              refine G_getI (f := 10) (a := a1) "" 112 dX1_begin_109 (Or.inl q198) (Or.inl rfl) rfl e2 (hf10 c116) rfl ?_
              refine G_invV (N := mX1_grind) (As := [.int (FI s166 9 a1), .int (FI s166 10 a1)]) (st := []) (t := l0) (b := a1) (rc + 40) (rs + 120) 115 dX1_begin_112 q1948 q1422 qs6 q32 q1423 rfl rfl mX1_grind_args ⟨Nat.le_of_ble_eq_true rfl, Nat.le_of_ble_eq_true rfl⟩ rfl (Nat.zero_le _) e2 (rk11 c116) (le_b mX1_grind_c (Nat.le_refl _)) (le_b mX1_grind_s (Nat.le_refl _)) rfl (Cal.mono h ?_)
              rintro s182 v ⟨rfl, h⟩ hx183
              have h := h hx183
              have x184 := hx183.x
              show G w mX1_begin (KI K) (rc + 40) (rs + 120) s182 115 [va_rf l0, .int l1, va_rf x18, va_rf x115] []
              refine G_aload_n 116 dX1_begin_115 rfl rfl ?_
              have c116 := kdE x184 c116 (by decide)
              refine G_getR (f := 3) (a := a1) "" 119 dX1_begin_116 (Or.inl q184) (Or.inl rfl) rfl e2 (hf3 c116) rfl ?_
              refine G_aload_n 120 dX1_begin_119 rfl rfl ?_
              refine G_getI (f := 9) (a := a1) "" 123 dX1_begin_120 (Or.inl q196) (Or.inl rfl) rfl e2 (hf9 c116) rfl ?_
              obtain ⟨a185, e186, h⟩ := h
              obtain ⟨c189, h⟩ := h
              refine G_invF (N := mJ2_get) (x := ⟨"java/util/List", "get", "(I)Ljava/lang/Object;"⟩) (As := [.int (FI s182 9 a1)]) (st := []) (t := (FR s182 3 a1)) (b := a185) (rc + 40) (rs + 120) 128 dX1_begin_123 q1425 q1393 q1395 q35 q1397 q1392 q1391 q1396 q1394 q307 rfl ax32 ⟨Nat.le_of_ble_eq_true rfl, Nat.le_of_ble_eq_true rfl⟩ rfl (Nat.zero_le _) e186 (rk20 c189) (le_b mJ2_get_c (Nat.le_refl _)) (le_b mJ2_get_s (Nat.le_refl _)) rfl (Cal.mono h ?_)
              rintro s187 v ⟨x188, rfl, h⟩ hx190
              have h := h hx190
              have x191 := hx190.x
              show G w mX1_begin (KI K) (rc + 40) (rs + 120) s187 128 [va_rf l0, .int l1, va_rf x18, va_rf x115] [va_rf x188]
              obtain ⟨c192, h⟩ := h
              refine G_cast 131 dX1_begin_128 q464 rfl (c192.imp id (fun ⟨b, e, k⟩ => ⟨b, e, co4 k⟩)) ?_
              refine G_iconst (v := 1) 132 dX1_begin_131 (by decide) rfl ?_
              obtain ⟨a193, e194, h⟩ := h
              obtain ⟨c195, h⟩ := h
              refine G_putI (f := 35) (a := a193) "TrophyPlates" 135 dX1_begin_132 (Or.inr ⟨q482, rfl⟩) (Or.inl rfl) rfl e194 (hp35 c195) (nk35 c195) (Or.inl rfl) rfl rfl rfl ?_
              generalize hs196 : sFI s187 35 a193 1 = s196
              have x197 : ∀ a, ¬ kd s187 a = 0 → kd s196 a = kd s187 a := by subst hs196; exact fun a _ => congrFun kd_sFI a
              have h := h s196 hs196.symm
              refine G_iinc 138 [va_rf l0, .int (l1 + 1), va_rf x18, va_rf x115] dX1_begin_135 rfl rfl (Nat.le_of_ble_eq_true rfl) rfl rfl ?_
              refine G_goto 2 dX1_begin_138 (by decide) ?_
              exact h
theorem eX1_begin {w : Wt} {K : Sg → Int32 → Prop} {σ : Sg} (l0 : Option Nat) (h : G w mX1_begin (KI K) 60 180 σ 0 [va_rf l0, U_, U_, U_] []) : CalI w mX1_begin σ [va_rf l0] K :=
  Cal.start 3 mX1_begin_plain (catR cat0) (Nat.le_of_ble_eq_true rfl) rfl h
set_option maxHeartbeats 4000000 in
theorem bX1_find_0 {w : Wt} {K : Sg → Option Nat → Prop} {rc rs : Nat} {σ : Sg} (l0 : Option Nat) (l1 : Int32) (l2 : Int32) (h : ∃ a1, l0 = some a1 ∧ ((kd σ a1 = 11 ∧ CalR w mX1_find_2 σ [va_rf l0, .int l1, .int l2, .int 0] (fun s3 x4 => Ext σ s3 → ((¬ x4 = none → K s3 x4) ∧ (x4 = none → ((kd s3 a1 = 11 ∧ CalR w mX1_find_2 s3 [va_rf l0, .int l1, .int l2, .int 1] (fun s9 x10 => Ext s3 s9 → K s9 x10)) ∨ (kd s3 a1 = 11 ∧ CalR w mX1_find_2n s3 [va_rf l0, .int l1, .int l2, .int 1] (fun s14 x15 => Ext s3 s14 → K s14 x15))))))) ∨ (kd σ a1 = 11 ∧ CalR w mX1_find_2n σ [va_rf l0, .int l1, .int l2, .int 0] (fun s19 x20 => Ext σ s19 → ((¬ x20 = none → K s19 x20) ∧ (x20 = none → ((kd s19 a1 = 11 ∧ CalR w mX1_find_2 s19 [va_rf l0, .int l1, .int l2, .int 1] (fun s25 x26 => Ext s19 s25 → K s25 x26)) ∨ (kd s19 a1 = 11 ∧ CalR w mX1_find_2n s19 [va_rf l0, .int l1, .int l2, .int 1] (fun s30 x31 => Ext s19 s30 → K s30 x31))))))))) : G w mX1_find (KR K) (rc + 82) (rs + 246) σ 0 [va_rf l0, .int l1, .int l2, U_] [] := by
  refine G_aload_n 1 dX1_find_0 rfl rfl ?_
  refine G_iload_n 2 dX1_find_1 rfl rfl ?_
  refine G_iload_n 3 dX1_find_2 rfl rfl ?_
  refine G_iconst (v := 0) 4 dX1_find_3 (by decide) rfl ?_
  obtain ⟨a1, e2, h⟩ := h
  rcases h with ⟨c5, h⟩ | ⟨c21, h⟩
  · refine G_invV (N := mX1_find_2) (As := [.int l1, .int l2, .int 0]) (st := []) (t := l0) (b := a1) (rc + 41) (rs + 123) 7 dX1_find_4 q1902 q1904 qs13 q32 q1905 rfl rfl mX1_find_2_args ⟨Nat.le_of_ble_eq_true rfl, Nat.le_of_ble_eq_true rfl⟩ rfl (Nat.zero_le _) e2 (rk11 c5) (le_b mX1_find_2_c (Nat.le_refl _)) (le_b mX1_find_2_s (Nat.le_refl _)) rfl (Cal.mono h ?_)
    rintro s3 v ⟨x4, rfl, h⟩ hx6
    have h := h hx6
    have x7 := hx6.x
    show G w mX1_find (KR K) (rc + 41) (rs + 123) s3 7 [va_rf l0, .int l1, .int l2, U_] [va_rf x4]
    refine G_astore_n 8 [va_rf l0, .int l1, .int l2, va_rf x4] dX1_find_7 (Nat.le_of_ble_eq_true rfl) rfl rfl ?_
    refine G_aload_n 9 dX1_find_8 rfl rfl ?_
    refine G_ifnonnull 22 12 dX1_find_9 (by decide) rfl (fun u8 => ?_) (fun u8 => ?_)
    · have h := h.1 u8
      refine G_aload_n 23 dX1_find_22 rfl rfl ?_
      exact G_aret dX1_find_23 rfl (Or.inl ⟨_, rfl⟩) ⟨_, rfl, h⟩
    · have h := h.2 u8
      refine G_aload_n 13 dX1_find_12 rfl rfl ?_
      refine G_iload_n 14 dX1_find_13 rfl rfl ?_
      refine G_iload_n 15 dX1_find_14 rfl rfl ?_
      refine G_iconst (v := 1) 16 dX1_find_15 (by decide) rfl ?_
      rcases h with ⟨c11, h⟩ | ⟨c16, h⟩
      · refine G_invV (N := mX1_find_2) (As := [.int l1, .int l2, .int 1]) (st := []) (t := l0) (b := a1) (rc) (rs) 19 dX1_find_16 q1902 q1904 qs13 q32 q1905 rfl rfl mX1_find_2_args ⟨Nat.le_of_ble_eq_true rfl, Nat.le_of_ble_eq_true rfl⟩ rfl (Nat.zero_le _) e2 (rk11 c11) (le_b mX1_find_2_c (Nat.le_refl _)) (le_b mX1_find_2_s (Nat.le_refl _)) rfl (Cal.mono h ?_)
        rintro s9 v ⟨x10, rfl, h⟩ hx12
        have h := h hx12
        have x13 := hx12.x
        show G w mX1_find (KR K) (rc) (rs) s9 19 [va_rf l0, .int l1, .int l2, va_rf x4] [va_rf x10]
        refine G_goto 23 dX1_find_19 (by decide) ?_
        exact G_aret dX1_find_23 rfl (Or.inl ⟨_, rfl⟩) ⟨_, rfl, h⟩
      · refine G_invV (N := mX1_find_2n) (As := [.int l1, .int l2, .int 1]) (st := []) (t := l0) (b := a1) (rc + 40) (rs + 120) 19 dX1_find_16 q1902 q1904 qs13 q32 q1905 rfl rfl mX1_find_2_args ⟨Nat.le_of_ble_eq_true rfl, Nat.le_of_ble_eq_true rfl⟩ rfl (Nat.zero_le _) e2 (rk11 c16) (le_b mX1_find_2n_c (Nat.le_refl _)) (le_b mX1_find_2n_s (Nat.le_refl _)) rfl (Cal.mono h ?_)
        rintro s14 v ⟨x15, rfl, h⟩ hx17
        have h := h hx17
        have x18 := hx17.x
        show G w mX1_find (KR K) (rc + 40) (rs + 120) s14 19 [va_rf l0, .int l1, .int l2, va_rf x4] [va_rf x15]
        refine G_goto 23 dX1_find_19 (by decide) ?_
        exact G_aret dX1_find_23 rfl (Or.inl ⟨_, rfl⟩) ⟨_, rfl, h⟩
  · refine G_invV (N := mX1_find_2n) (As := [.int l1, .int l2, .int 0]) (st := []) (t := l0) (b := a1) (rc + 81) (rs + 243) 7 dX1_find_4 q1902 q1904 qs13 q32 q1905 rfl rfl mX1_find_2_args ⟨Nat.le_of_ble_eq_true rfl, Nat.le_of_ble_eq_true rfl⟩ rfl (Nat.zero_le _) e2 (rk11 c21) (le_b mX1_find_2n_c (Nat.le_refl _)) (le_b mX1_find_2n_s (Nat.le_refl _)) rfl (Cal.mono h ?_)
    rintro s19 v ⟨x20, rfl, h⟩ hx22
    have h := h hx22
    have x23 := hx22.x
    show G w mX1_find (KR K) (rc + 81) (rs + 243) s19 7 [va_rf l0, .int l1, .int l2, U_] [va_rf x20]
    refine G_astore_n 8 [va_rf l0, .int l1, .int l2, va_rf x20] dX1_find_7 (Nat.le_of_ble_eq_true rfl) rfl rfl ?_
    refine G_aload_n 9 dX1_find_8 rfl rfl ?_
    refine G_ifnonnull 22 12 dX1_find_9 (by decide) rfl (fun u24 => ?_) (fun u24 => ?_)
    · have h := h.1 u24
      refine G_aload_n 23 dX1_find_22 rfl rfl ?_
      exact G_aret dX1_find_23 rfl (Or.inl ⟨_, rfl⟩) ⟨_, rfl, h⟩
    · have h := h.2 u24
      refine G_aload_n 13 dX1_find_12 rfl rfl ?_
      refine G_iload_n 14 dX1_find_13 rfl rfl ?_
      refine G_iload_n 15 dX1_find_14 rfl rfl ?_
      refine G_iconst (v := 1) 16 dX1_find_15 (by decide) rfl ?_
      rcases h with ⟨c27, h⟩ | ⟨c32, h⟩
      · refine G_invV (N := mX1_find_2) (As := [.int l1, .int l2, .int 1]) (st := []) (t := l0) (b := a1) (rc + 40) (rs + 120) 19 dX1_find_16 q1902 q1904 qs13 q32 q1905 rfl rfl mX1_find_2_args ⟨Nat.le_of_ble_eq_true rfl, Nat.le_of_ble_eq_true rfl⟩ rfl (Nat.zero_le _) e2 (rk11 c27) (le_b mX1_find_2_c (Nat.le_refl _)) (le_b mX1_find_2_s (Nat.le_refl _)) rfl (Cal.mono h ?_)
        rintro s25 v ⟨x26, rfl, h⟩ hx28
        have h := h hx28
        have x29 := hx28.x
        show G w mX1_find (KR K) (rc + 40) (rs + 120) s25 19 [va_rf l0, .int l1, .int l2, va_rf x20] [va_rf x26]
        refine G_goto 23 dX1_find_19 (by decide) ?_
        exact G_aret dX1_find_23 rfl (Or.inl ⟨_, rfl⟩) ⟨_, rfl, h⟩
      · refine G_invV (N := mX1_find_2n) (As := [.int l1, .int l2, .int 1]) (st := []) (t := l0) (b := a1) (rc + 80) (rs + 240) 19 dX1_find_16 q1902 q1904 qs13 q32 q1905 rfl rfl mX1_find_2_args ⟨Nat.le_of_ble_eq_true rfl, Nat.le_of_ble_eq_true rfl⟩ rfl (Nat.zero_le _) e2 (rk11 c32) (le_b mX1_find_2n_c (Nat.le_refl _)) (le_b mX1_find_2n_s (Nat.le_refl _)) rfl (Cal.mono h ?_)
        rintro s30 v ⟨x31, rfl, h⟩ hx33
        have h := h hx33
        have x34 := hx33.x
        show G w mX1_find (KR K) (rc + 80) (rs + 240) s30 19 [va_rf l0, .int l1, .int l2, va_rf x20] [va_rf x31]
        refine G_goto 23 dX1_find_19 (by decide) ?_
        exact G_aret dX1_find_23 rfl (Or.inl ⟨_, rfl⟩) ⟨_, rfl, h⟩
theorem eX1_find {w : Wt} {K : Sg → Option Nat → Prop} {σ : Sg} (l0 : Option Nat) (l1 : Int32) (l2 : Int32) (h : G w mX1_find (KR K) 42 126 σ 0 [va_rf l0, .int l1, .int l2, U_] []) : CalR w mX1_find σ [va_rf l0, .int l1, .int l2] K :=
  Cal.start 1 mX1_find_plain (catR (catI (catI cat0))) (Nat.le_of_ble_eq_true rfl) rfl h
set_option maxHeartbeats 4000000 in
theorem bX1_findn_0 {w : Wt} {K : Sg → Option Nat → Prop} {rc rs : Nat} {σ : Sg} (l0 : Option Nat) (l1 : Int32) (l2 : Int32) (h : ∃ a1, l0 = some a1 ∧ ((kd σ a1 = 11 ∧ CalR w mX1_find_2 σ [va_rf l0, .int l1, .int l2, .int 0] (fun s3 x4 => Ext σ s3 → ((¬ x4 = none → K s3 x4) ∧ (x4 = none → ((kd s3 a1 = 11 ∧ CalR w mX1_find_2 s3 [va_rf l0, .int l1, .int l2, .int 1] (fun s9 x10 => Ext s3 s9 → K s9 x10)) ∨ (kd s3 a1 = 11 ∧ CalR w mX1_find_2n s3 [va_rf l0, .int l1, .int l2, .int 1] (fun s14 x15 => Ext s3 s14 → K s14 x15))))))) ∨ (kd σ a1 = 11 ∧ CalR w mX1_find_2n σ [va_rf l0, .int l1, .int l2, .int 0] (fun s19 x20 => Ext σ s19 → ((¬ x20 = none → K s19 x20) ∧ (x20 = none → ((kd s19 a1 = 11 ∧ CalR w mX1_find_2 s19 [va_rf l0, .int l1, .int l2, .int 1] (fun s25 x26 => Ext s19 s25 → K s25 x26)) ∨ (kd s19 a1 = 11 ∧ CalR w mX1_find_2n s19 [va_rf l0, .int l1, .int l2, .int 1] (fun s30 x31 => Ext s19 s30 → K s30 x31))))))))) : G w mX1_findn (KR K) (rc + 82) (rs + 246) σ 0 [va_rf l0, .int l1, .int l2, U_] [] := by
  refine G_aload_n 1 dX1_find_0 rfl rfl ?_
  refine G_iload_n 2 dX1_find_1 rfl rfl ?_
  refine G_iload_n 3 dX1_find_2 rfl rfl ?_
  refine G_iconst (v := 0) 4 dX1_find_3 (by decide) rfl ?_
  obtain ⟨a1, e2, h⟩ := h
  rcases h with ⟨c5, h⟩ | ⟨c21, h⟩
  · refine G_invV (N := mX1_find_2) (As := [.int l1, .int l2, .int 0]) (st := []) (t := l0) (b := a1) (rc + 41) (rs + 123) 7 dX1_find_4 q1902 q1904 qs13 q32 q1905 rfl rfl mX1_find_2_args ⟨Nat.le_of_ble_eq_true rfl, Nat.le_of_ble_eq_true rfl⟩ rfl (Nat.zero_le _) e2 (rk11 c5) (le_b mX1_find_2_c (Nat.le_refl _)) (le_b mX1_find_2_s (Nat.le_refl _)) rfl (Cal.mono h ?_)
    rintro s3 v ⟨x4, rfl, h⟩ hx6
    have h := h hx6
    have x7 := hx6.x
    show G w mX1_findn (KR K) (rc + 41) (rs + 123) s3 7 [va_rf l0, .int l1, .int l2, U_] [va_rf x4]
    refine G_astore_n 8 [va_rf l0, .int l1, .int l2, va_rf x4] dX1_find_7 (Nat.le_of_ble_eq_true rfl) rfl rfl ?_
    refine G_aload_n 9 dX1_find_8 rfl rfl ?_
    refine G_ifnonnull 22 12 dX1_find_9 (by decide) rfl (fun u8 => ?_) (fun u8 => ?_)
    · have h := h.1 u8
      refine G_aload_n 23 dX1_find_22 rfl rfl ?_
      exact G_aret dX1_find_23 rfl (Or.inl ⟨_, rfl⟩) ⟨_, rfl, h⟩
    · have h := h.2 u8
      refine G_aload_n 13 dX1_find_12 rfl rfl ?_
      refine G_iload_n 14 dX1_find_13 rfl rfl ?_
      refine G_iload_n 15 dX1_find_14 rfl rfl ?_
      refine G_iconst (v := 1) 16 dX1_find_15 (by decide) rfl ?_
      rcases h with ⟨c11, h⟩ | ⟨c16, h⟩
      · refine G_invV (N := mX1_find_2) (As := [.int l1, .int l2, .int 1]) (st := []) (t := l0) (b := a1) (rc) (rs) 19 dX1_find_16 q1902 q1904 qs13 q32 q1905 rfl rfl mX1_find_2_args ⟨Nat.le_of_ble_eq_true rfl, Nat.le_of_ble_eq_true rfl⟩ rfl (Nat.zero_le _) e2 (rk11 c11) (le_b mX1_find_2_c (Nat.le_refl _)) (le_b mX1_find_2_s (Nat.le_refl _)) rfl (Cal.mono h ?_)
        rintro s9 v ⟨x10, rfl, h⟩ hx12
        have h := h hx12
        have x13 := hx12.x
        show G w mX1_findn (KR K) (rc) (rs) s9 19 [va_rf l0, .int l1, .int l2, va_rf x4] [va_rf x10]
        refine G_goto 23 dX1_find_19 (by decide) ?_
        exact G_aret dX1_find_23 rfl (Or.inl ⟨_, rfl⟩) ⟨_, rfl, h⟩
      · refine G_invV (N := mX1_find_2n) (As := [.int l1, .int l2, .int 1]) (st := []) (t := l0) (b := a1) (rc + 40) (rs + 120) 19 dX1_find_16 q1902 q1904 qs13 q32 q1905 rfl rfl mX1_find_2_args ⟨Nat.le_of_ble_eq_true rfl, Nat.le_of_ble_eq_true rfl⟩ rfl (Nat.zero_le _) e2 (rk11 c16) (le_b mX1_find_2n_c (Nat.le_refl _)) (le_b mX1_find_2n_s (Nat.le_refl _)) rfl (Cal.mono h ?_)
        rintro s14 v ⟨x15, rfl, h⟩ hx17
        have h := h hx17
        have x18 := hx17.x
        show G w mX1_findn (KR K) (rc + 40) (rs + 120) s14 19 [va_rf l0, .int l1, .int l2, va_rf x4] [va_rf x15]
        refine G_goto 23 dX1_find_19 (by decide) ?_
        exact G_aret dX1_find_23 rfl (Or.inl ⟨_, rfl⟩) ⟨_, rfl, h⟩
  · refine G_invV (N := mX1_find_2n) (As := [.int l1, .int l2, .int 0]) (st := []) (t := l0) (b := a1) (rc + 81) (rs + 243) 7 dX1_find_4 q1902 q1904 qs13 q32 q1905 rfl rfl mX1_find_2_args ⟨Nat.le_of_ble_eq_true rfl, Nat.le_of_ble_eq_true rfl⟩ rfl (Nat.zero_le _) e2 (rk11 c21) (le_b mX1_find_2n_c (Nat.le_refl _)) (le_b mX1_find_2n_s (Nat.le_refl _)) rfl (Cal.mono h ?_)
    rintro s19 v ⟨x20, rfl, h⟩ hx22
    have h := h hx22
    have x23 := hx22.x
    show G w mX1_findn (KR K) (rc + 81) (rs + 243) s19 7 [va_rf l0, .int l1, .int l2, U_] [va_rf x20]
    refine G_astore_n 8 [va_rf l0, .int l1, .int l2, va_rf x20] dX1_find_7 (Nat.le_of_ble_eq_true rfl) rfl rfl ?_
    refine G_aload_n 9 dX1_find_8 rfl rfl ?_
    refine G_ifnonnull 22 12 dX1_find_9 (by decide) rfl (fun u24 => ?_) (fun u24 => ?_)
    · have h := h.1 u24
      refine G_aload_n 23 dX1_find_22 rfl rfl ?_
      exact G_aret dX1_find_23 rfl (Or.inl ⟨_, rfl⟩) ⟨_, rfl, h⟩
    · have h := h.2 u24
      refine G_aload_n 13 dX1_find_12 rfl rfl ?_
      refine G_iload_n 14 dX1_find_13 rfl rfl ?_
      refine G_iload_n 15 dX1_find_14 rfl rfl ?_
      refine G_iconst (v := 1) 16 dX1_find_15 (by decide) rfl ?_
      rcases h with ⟨c27, h⟩ | ⟨c32, h⟩
      · refine G_invV (N := mX1_find_2) (As := [.int l1, .int l2, .int 1]) (st := []) (t := l0) (b := a1) (rc + 40) (rs + 120) 19 dX1_find_16 q1902 q1904 qs13 q32 q1905 rfl rfl mX1_find_2_args ⟨Nat.le_of_ble_eq_true rfl, Nat.le_of_ble_eq_true rfl⟩ rfl (Nat.zero_le _) e2 (rk11 c27) (le_b mX1_find_2_c (Nat.le_refl _)) (le_b mX1_find_2_s (Nat.le_refl _)) rfl (Cal.mono h ?_)
        rintro s25 v ⟨x26, rfl, h⟩ hx28
        have h := h hx28
        have x29 := hx28.x
        show G w mX1_findn (KR K) (rc + 40) (rs + 120) s25 19 [va_rf l0, .int l1, .int l2, va_rf x20] [va_rf x26]
        refine G_goto 23 dX1_find_19 (by decide) ?_
        exact G_aret dX1_find_23 rfl (Or.inl ⟨_, rfl⟩) ⟨_, rfl, h⟩
      · refine G_invV (N := mX1_find_2n) (As := [.int l1, .int l2, .int 1]) (st := []) (t := l0) (b := a1) (rc + 80) (rs + 240) 19 dX1_find_16 q1902 q1904 qs13 q32 q1905 rfl rfl mX1_find_2_args ⟨Nat.le_of_ble_eq_true rfl, Nat.le_of_ble_eq_true rfl⟩ rfl (Nat.zero_le _) e2 (rk11 c32) (le_b mX1_find_2n_c (Nat.le_refl _)) (le_b mX1_find_2n_s (Nat.le_refl _)) rfl (Cal.mono h ?_)
        rintro s30 v ⟨x31, rfl, h⟩ hx33
        have h := h hx33
        have x34 := hx33.x
        show G w mX1_findn (KR K) (rc + 80) (rs + 240) s30 19 [va_rf l0, .int l1, .int l2, va_rf x20] [va_rf x31]
        refine G_goto 23 dX1_find_19 (by decide) ?_
        exact G_aret dX1_find_23 rfl (Or.inl ⟨_, rfl⟩) ⟨_, rfl, h⟩
theorem eX1_findn {w : Wt} {K : Sg → Option Nat → Prop} {σ : Sg} (l0 : Option Nat) (l1 : Int32) (l2 : Int32) (h : G w mX1_findn (KR K) 2 6 σ 0 [va_rf l0, .int l1, .int l2, U_] []) : CalR w mX1_findn σ [va_rf l0, .int l1, .int l2] K :=
  Cal.start 1 mX1_find_plain (catR (catI (catI cat0))) (Nat.le_of_ble_eq_true rfl) rfl h
set_option maxHeartbeats 4000000 in
theorem bX1_find_2_0 {w : Wt} {K : Sg → Option Nat → Prop} {rc rs : Nat} {σ : Sg} (l0 : Option Nat) (l1 : Int32) (l2 : Int32) (l3 : Int32) (h : ∀ n2, n2 = nx σ → kd σ n2 = 0 → ∀ s3, s3 = nA σ 1 3 → vp_in 0 (ln s3 n2) ∧ ∀ s7, s7 = sAI s3 n2 (0 : Int32).toNatClampNeg 0 → vp_in 1 (ln s7 n2) ∧ ∀ s10, s10 = sAI s7 n2 (1 : Int32).toNatClampNeg 0 → vp_in 2 (ln s10 n2) ∧ ∀ s13, s13 = sAI s10 n2 (2 : Int32).toNatClampNeg 0 → G w mX1_find_2 (KR K) (rc) (rs) s13 23 [va_rf l0, .int l1, .int l2, .int l3, va_rf none, va_rf (some n2), .int 0, U_, U_, U_] []) : G w mX1_find_2 (KR K) (rc + 1) (rs + 3) σ 0 [va_rf l0, .int l1, .int l2, .int l3, U_, U_, U_, U_, U_, U_] [] := by
  refine G_null 1 dX1_find_2_0 rfl ?_
  refine G_astore 3 [va_rf l0, .int l1, .int l2, .int l3, va_rf none, U_, U_, U_, U_, U_] dX1_find_2_1 (Nat.le_of_ble_eq_true rfl) rfl rfl ?_
  refine G_iconst (v := 3) 4 dX1_find_2_3 (by decide) rfl ?_
  refine G_newI (N := 3) (rc) (rs) 6 dX1_find_2_4 rfl (by decide) rfl (Nat.le_refl _) (Nat.le_refl _) q232 (fun z1 => ?_)
  generalize hn2 : nx σ = n2 at z1 ⊢
  generalize hs3 : nA σ 1 3 = s3
  have x4 : ∀ a, ¬ kd σ a = 0 → kd s3 a = kd σ a := by subst hs3 hn2; exact kdAx z1
  have c5 : kd s3 n2 = 1 := by subst hs3 hn2; exact kdA_self
  have h := h n2 hn2.symm z1 s3 hs3.symm
  refine G_dup 7 dX1_find_2_6 (rf_cat _) rfl ?_
  refine G_iconst (v := 0) 8 dX1_find_2_7 (by decide) rfl ?_
  refine G_iconst (v := 0) 9 dX1_find_2_8 (by decide) rfl ?_
  obtain ⟨c6, h⟩ := h
  refine G_iast (a := n2) 10 dX1_find_2_9 rfl rfl c5 c6 ?_
  generalize hs7 : sAI s3 n2 (0 : Int32).toNatClampNeg 0 = s7
  have x8 : ∀ a, ¬ kd s3 a = 0 → kd s7 a = kd s3 a := by subst hs7; exact fun a _ => congrFun kd_sAI a
  have h := h s7 hs7.symm
  refine G_dup 11 dX1_find_2_10 (rf_cat _) rfl ?_
  refine G_iconst (v := 1) 12 dX1_find_2_11 (by decide) rfl ?_
  refine G_iconst (v := 0) 13 dX1_find_2_12 (by decide) rfl ?_
  have c5 := kdE x8 c5 (by decide)
  obtain ⟨c9, h⟩ := h
  refine G_iast (a := n2) 14 dX1_find_2_13 rfl rfl c5 c9 ?_
  generalize hs10 : sAI s7 n2 (1 : Int32).toNatClampNeg 0 = s10
  have x11 : ∀ a, ¬ kd s7 a = 0 → kd s10 a = kd s7 a := by subst hs10; exact fun a _ => congrFun kd_sAI a
  have h := h s10 hs10.symm
  refine G_dup 15 dX1_find_2_14 (rf_cat _) rfl ?_
  refine G_iconst (v := 2) 16 dX1_find_2_15 (by decide) rfl ?_
  refine G_iconst (v := 0) 17 dX1_find_2_16 (by decide) rfl ?_
  have c5 := kdE x11 c5 (by decide)
  obtain ⟨c12, h⟩ := h
  refine G_iast (a := n2) 18 dX1_find_2_17 rfl rfl c5 c12 ?_
  generalize hs13 : sAI s10 n2 (2 : Int32).toNatClampNeg 0 = s13
  have x14 : ∀ a, ¬ kd s10 a = 0 → kd s13 a = kd s10 a := by subst hs13; exact fun a _ => congrFun kd_sAI a
  have h := h s13 hs13.symm
  refine G_astore 20 [va_rf l0, .int l1, .int l2, .int l3, va_rf none, va_rf (some n2), U_, U_, U_, U_] dX1_find_2_18 (Nat.le_of_ble_eq_true rfl) rfl rfl ?_
  refine G_iconst (v := 0) 21 dX1_find_2_20 (by decide) rfl ?_
  refine G_istore 23 [va_rf l0, .int l1, .int l2, .int l3, va_rf none, va_rf (some n2), .int 0, U_, U_, U_] dX1_find_2_21 (Nat.le_of_ble_eq_true rfl) rfl rfl ?_
  exact h
set_option maxHeartbeats 4000000 in
theorem bX1_find_2_23 {w : Wt} {K : Sg → Option Nat → Prop} {rc rs : Nat} {σ : Sg} (l0 : Option Nat) (l1 : Int32) (l2 : Int32) (l3 : Int32) (l4 : Option Nat) (l5 : Option Nat) (l6 : Int32) (v7 : Value) (v8 : Value) (v9 : Value) (h : ∃ a1, l0 = some a1 ∧ kd σ a1 = 11 ∧ ∃ a4, FR σ 3 a1 = some a4 ∧ kd σ a4 = 20 ∧ CalI w mJ2_size σ [va_rf (FR σ 3 a1)] (fun s6 x7 => Ext σ s6 → ((x7 ≤ l6 → K s6 l4) ∧ (¬ x7 ≤ l6 → ∃ a12, FR s6 3 a1 = some a12 ∧ kd s6 a12 = 20 ∧ CalR w mJ2_get s6 [va_rf (FR s6 3 a1), .int l6] (fun s14 x15 => Ext s6 s14 → (x15 = none ∨ ∃ b, x15 = some b ∧ kd s14 b = 15) ∧ ∃ a20, x15 = some a20 ∧ kd s14 a20 = 15 ∧ CalI w mX5_side s14 [va_rf x15, .int l2, .int l3] (fun s22 x23 => Ext s14 s22 → ((¬ FI s22 35 a20 = 0 → G w mX1_find_2 (KR K) (rc + 2) (rs + 6) s22 23 [va_rf l0, .int l1, .int l2, .int l3, va_rf l4, va_rf l5, .int (l6 + 1), va_rf x15, .int x23, v9] []) ∧ (FI s22 35 a20 = 0 → ((FI s22 33 a20 < l1 → G w mX1_find_2 (KR K) (rc + 2) (rs + 6) s22 23 [va_rf l0, .int l1, .int l2, .int l3, va_rf l4, va_rf l5, .int (l6 + 1), va_rf x15, .int x23, v9] []) ∧ (¬ FI s22 33 a20 < l1 → ((x23 = (-9) → G w mX1_find_2 (KR K) (rc + 2) (rs + 6) s22 23 [va_rf l0, .int l1, .int l2, .int l3, va_rf l4, va_rf l5, .int (l6 + 1), va_rf x15, .int x23, v9] []) ∧ (¬ x23 = (-9) → ∀ n31, n31 = nx s22 → kd s22 n31 = 0 → ∀ s32, s32 = nA s22 1 3 → vp_in 0 (ln s32 n31) ∧ ∀ s36, s36 = sAI s32 n31 (0 : Int32).toNatClampNeg (FI s32 33 a20) → vp_in 1 (ln s36 n31) ∧ ∀ s39, s39 = sAI s36 n31 (1 : Int32).toNatClampNeg (FI s36 34 a20) → vp_in 2 (ln s39 n31) ∧ ∀ s42, s42 = sAI s39 n31 (2 : Int32).toNatClampNeg l6 → ((l4 = none → ∀ n46, n46 = nx s42 → kd s42 n46 = 0 → ∀ s47, s47 = nO s42 18 → CalV w mX8_init s47 [va_rf (some n46), .int l6, .int x23, .int l3] (fun s50 => Ext s47 s50 → G w mX1_find_2 (KR K) (rc) (rs) s50 23 [va_rf l0, .int l1, .int l2, .int l3, va_rf (some n46), va_rf (some n31), .int (l6 + 1), va_rf x15, .int x23, va_rf (some n31)] [])) ∧ (¬ l4 = none → CalI w mX0_isAhead s42 [va_rf (some n31), va_rf l5] (fun s53 x54 => Ext s42 s53 → ((x54 = 0 → G w mX1_find_2 (KR K) (rc + 1) (rs + 3) s53 23 [va_rf l0, .int l1, .int l2, .int l3, va_rf l4, va_rf l5, .int (l6 + 1), va_rf x15, .int x23, va_rf (some n31)] []) ∧ (¬ x54 = 0 → ∀ n59, n59 = nx s53 → kd s53 n59 = 0 → ∀ s60, s60 = nO s53 18 → CalV w mX8_init s60 [va_rf (some n59), .int l6, .int x23, .int l3] (fun s63 => Ext s60 s63 → G w mX1_find_2 (KR K) (rc) (rs) s63 23 [va_rf l0, .int l1, .int l2, .int l3, va_rf (some n59), va_rf (some n31), .int (l6 + 1), va_rf x15, .int x23, va_rf (some n31)] [])))))))))))))))))) : G w mX1_find_2 (KR K) (rc + 2) (rs + 6) σ 23 [va_rf l0, .int l1, .int l2, .int l3, va_rf l4, va_rf l5, .int l6, v7, v8, v9] [] := by
  refine G_iload 25 dX1_find_2_23 rfl rfl ?_
  refine G_aload_n 26 dX1_find_2_25 rfl rfl ?_
  obtain ⟨a1, e2, h⟩ := h
  obtain ⟨c3, h⟩ := h
  refine G_getR (f := 3) (a := a1) "" 29 dX1_find_2_26 (Or.inl q184) (Or.inl rfl) rfl e2 (hf3 c3) rfl ?_
  obtain ⟨a4, e5, h⟩ := h
  obtain ⟨c8, h⟩ := h
  refine G_invF (N := mJ2_size) (x := ⟨"java/util/List", "size", "()I"⟩) (As := []) (st := [.int l6]) (t := (FR σ 3 a1)) (b := a4) (rc + 2) (rs + 6) 34 dX1_find_2_29 q1387 q308 q310 q35 q312 q306 q305 q311 q309 q307 rfl ax31 ⟨Nat.le_of_ble_eq_true rfl, Nat.le_of_ble_eq_true rfl⟩ rfl (Nat.le_trans (w_I w_0) (Nat.le_of_ble_eq_true rfl)) e5 (rk20 c8) (le_b mJ2_size_c (Nat.le_refl _)) (le_b mJ2_size_s (Nat.le_refl _)) rfl (Cal.mono h ?_)
  rintro s6 v ⟨x7, rfl, h⟩ hx9
  have h := h hx9
  have x10 := hx9.x
  show G w mX1_find_2 (KR K) (rc + 2) (rs + 6) s6 34 [va_rf l0, .int l1, .int l2, .int l3, va_rf l4, va_rf l5, .int l6, v7, v8, v9] [.int x7, .int l6]
  refine G_icmp_ge 151 37 dX1_find_2_34 (by decide) rfl (fun u11 => ?_) (fun u11 => ?_)
  · have h := h.1 u11
    refine G_aload 153 dX1_find_2_151 rfl rfl ?_
    exact G_aret dX1_find_2_153 rfl (Or.inl ⟨_, rfl⟩) ⟨_, rfl, h⟩
  · have h := h.2 u11
    refine G_aload_n 38 dX1_find_2_37 rfl rfl ?_
    have c3 := kdE x10 c3 (by decide)
    refine G_getR (f := 3) (a := a1) "" 41 dX1_find_2_38 (Or.inl q184) (Or.inl rfl) rfl e2 (hf3 c3) rfl ?_
    refine G_iload 43 dX1_find_2_41 rfl rfl ?_
    obtain ⟨a12, e13, h⟩ := h
    obtain ⟨c16, h⟩ := h
    refine G_invF (N := mJ2_get) (x := ⟨"java/util/List", "get", "(I)Ljava/lang/Object;"⟩) (As := [.int l6]) (st := []) (t := (FR s6 3 a1)) (b := a12) (rc + 2) (rs + 6) 48 dX1_find_2_43 q1425 q1393 q1395 q35 q1397 q1392 q1391 q1396 q1394 q307 rfl ax32 ⟨Nat.le_of_ble_eq_true rfl, Nat.le_of_ble_eq_true rfl⟩ rfl (Nat.zero_le _) e13 (rk20 c16) (le_b mJ2_get_c (Nat.le_refl _)) (le_b mJ2_get_s (Nat.le_refl _)) rfl (Cal.mono h ?_)
    rintro s14 v ⟨x15, rfl, h⟩ hx17
    have h := h hx17
    have x18 := hx17.x
    show G w mX1_find_2 (KR K) (rc + 2) (rs + 6) s14 48 [va_rf l0, .int l1, .int l2, .int l3, va_rf l4, va_rf l5, .int l6, v7, v8, v9] [va_rf x15]
    obtain ⟨c19, h⟩ := h
    refine G_cast 51 dX1_find_2_48 q464 rfl (c19.imp id (fun ⟨b, e, k⟩ => ⟨b, e, co4 k⟩)) ?_
    refine G_astore 53 [va_rf l0, .int l1, .int l2, .int l3, va_rf l4, va_rf l5, .int l6, va_rf x15, v8, v9] dX1_find_2_51 (Nat.le_of_ble_eq_true rfl) rfl rfl ?_
    refine G_aload 55 dX1_find_2_53 rfl rfl ?_
    refine G_iload_n 56 dX1_find_2_55 rfl rfl ?_
    refine G_iload_n 57 dX1_find_2_56 rfl rfl ?_
    obtain ⟨a20, e21, h⟩ := h
    obtain ⟨c24, h⟩ := h
    refine G_invV (N := mX5_side) (As := [.int l2, .int l3]) (st := []) (t := x15) (b := a20) (rc + 2) (rs + 6) 60 dX1_find_2_57 q1906 q1907 q1908 q47 q1909 rfl rfl mX5_side_args ⟨Nat.le_of_ble_eq_true rfl, Nat.le_of_ble_eq_true rfl⟩ rfl (Nat.zero_le _) e21 (rk15 c24) (le_b mX5_side_c (Nat.le_refl _)) (le_b mX5_side_s (Nat.le_refl _)) rfl (Cal.mono h ?_)
    rintro s22 v ⟨x23, rfl, h⟩ hx25
    have h := h hx25
    have x26 := hx25.x
    show G w mX1_find_2 (KR K) (rc + 2) (rs + 6) s22 60 [va_rf l0, .int l1, .int l2, .int l3, va_rf l4, va_rf l5, .int l6, va_rf x15, v8, v9] [.int x23]
    refine G_istore 62 [va_rf l0, .int l1, .int l2, .int l3, va_rf l4, va_rf l5, .int l6, va_rf x15, .int x23, v9] dX1_find_2_60 (Nat.le_of_ble_eq_true rfl) rfl rfl ?_
    refine G_aload 64 dX1_find_2_62 rfl rfl ?_
    have c24 := kdE x26 c24 (by decide)
    refine G_getI (f := 35) (a := a20) "TrophyPlates" 67 dX1_find_2_64 (Or.inr q482) (Or.inl rfl) rfl e21 (hf35 c24) rfl ?_
    refine G_if_ne 145 70 dX1_find_2_67 (by decide) rfl (fun u27 => ?_) (fun u27 => ?_)
    · have h := h.1 u27
      refine G_iinc 148 [va_rf l0, .int l1, .int l2, .int l3, va_rf l4, va_rf l5, .int (l6 + 1), va_rf x15, .int x23, v9] dX1_find_2_145 rfl rfl (Nat.le_of_ble_eq_true rfl) rfl rfl ?_
      refine G_goto 23 dX1_find_2_148 (by decide) ?_
      exact h
    · have h := h.2 u27
      refine G_aload 72 dX1_find_2_70 rfl rfl ?_
      refine G_getI (f := 33) (a := a20) "TrophyPlates" 75 dX1_find_2_72 (Or.inr q476) (Or.inl rfl) rfl e21 (hf33 c24) rfl ?_
      refine G_iload_n 76 dX1_find_2_75 rfl rfl ?_
      refine G_icmp_lt 145 79 dX1_find_2_76 (by decide) rfl (fun u28 => ?_) (fun u28 => ?_)
      · have h := h.1 u28
        refine G_iinc 148 [va_rf l0, .int l1, .int l2, .int l3, va_rf l4, va_rf l5, .int (l6 + 1), va_rf x15, .int x23, v9] dX1_find_2_145 rfl rfl (Nat.le_of_ble_eq_true rfl) rfl rfl ?_
        refine G_goto 23 dX1_find_2_148 (by decide) ?_
        exact h
      · have h := h.2 u28
        refine G_iload 81 dX1_find_2_79 rfl rfl ?_
        refine G_bipush (v := (-9)) 83 dX1_find_2_81 (by decide) rfl ?_
        refine G_icmp_eq 145 86 dX1_find_2_83 (by decide) rfl (fun u29 => ?_) (fun u29 => ?_)
        · have h := h.1 u29
          refine G_iinc 148 [va_rf l0, .int l1, .int l2, .int l3, va_rf l4, va_rf l5, .int (l6 + 1), va_rf x15, .int x23, v9] dX1_find_2_145 rfl rfl (Nat.le_of_ble_eq_true rfl) rfl rfl ?_
          refine G_goto 23 dX1_find_2_148 (by decide) ?_
          exact h
        · have h := h.2 u29
          refine G_iconst (v := 3) 87 dX1_find_2_86 (by decide) rfl ?_
          refine G_newI (N := 3) (rc + 1) (rs + 3) 89 dX1_find_2_87 rfl (by decide) rfl (Nat.le_refl _) (Nat.le_refl _) q232 (fun z30 => ?_)
          generalize hn31 : nx s22 = n31 at z30 ⊢
          generalize hs32 : nA s22 1 3 = s32
          have x33 : ∀ a, ¬ kd s22 a = 0 → kd s32 a = kd s22 a := by subst hs32 hn31; exact kdAx z30
          have c34 : kd s32 n31 = 1 := by subst hs32 hn31; exact kdA_self
          have h := h n31 hn31.symm z30 s32 hs32.symm
          refine G_dup 90 dX1_find_2_89 (rf_cat _) rfl ?_
          refine G_iconst (v := 0) 91 dX1_find_2_90 (by decide) rfl ?_
          refine G_aload 93 dX1_find_2_91 rfl rfl ?_
          have c24 := kdE x33 c24 (by decide)
          refine G_getI (f := 33) (a := a20) "TrophyPlates" 96 dX1_find_2_93 (Or.inr q476) (Or.inl rfl) rfl e21 (hf33 c24) rfl ?_
          obtain ⟨c35, h⟩ := h
          refine G_iast (a := n31) 97 dX1_find_2_96 rfl rfl c34 c35 ?_
          generalize hs36 : sAI s32 n31 (0 : Int32).toNatClampNeg (FI s32 33 a20) = s36
          have x37 : ∀ a, ¬ kd s32 a = 0 → kd s36 a = kd s32 a := by subst hs36; exact fun a _ => congrFun kd_sAI a
          have h := h s36 hs36.symm
          refine G_dup 98 dX1_find_2_97 (rf_cat _) rfl ?_
          refine G_iconst (v := 1) 99 dX1_find_2_98 (by decide) rfl ?_
          refine G_aload 101 dX1_find_2_99 rfl rfl ?_
          have c24 := kdE x37 c24 (by decide)
          refine G_getI (f := 34) (a := a20) "TrophyPlates" 104 dX1_find_2_101 (Or.inr q480) (Or.inl rfl) rfl e21 (hf34 c24) rfl ?_
          have c34 := kdE x37 c34 (by decide)
          obtain ⟨c38, h⟩ := h
          refine G_iast (a := n31) 105 dX1_find_2_104 rfl rfl c34 c38 ?_
          generalize hs39 : sAI s36 n31 (1 : Int32).toNatClampNeg (FI s36 34 a20) = s39
          have x40 : ∀ a, ¬ kd s36 a = 0 → kd s39 a = kd s36 a := by subst hs39; exact fun a _ => congrFun kd_sAI a
          have h := h s39 hs39.symm
          refine G_dup 106 dX1_find_2_105 (rf_cat _) rfl ?_
          refine G_iconst (v := 2) 107 dX1_find_2_106 (by decide) rfl ?_
          refine G_iload 109 dX1_find_2_107 rfl rfl ?_
          have c34 := kdE x40 c34 (by decide)
          obtain ⟨c41, h⟩ := h
          refine G_iast (a := n31) 110 dX1_find_2_109 rfl rfl c34 c41 ?_
          generalize hs42 : sAI s39 n31 (2 : Int32).toNatClampNeg l6 = s42
          have x43 : ∀ a, ¬ kd s39 a = 0 → kd s42 a = kd s39 a := by subst hs42; exact fun a _ => congrFun kd_sAI a
          have h := h s42 hs42.symm
          refine G_astore 112 [va_rf l0, .int l1, .int l2, .int l3, va_rf l4, va_rf l5, .int l6, va_rf x15, .int x23, va_rf (some n31)] dX1_find_2_110 (Nat.le_of_ble_eq_true rfl) rfl rfl ?_
          refine G_aload 114 dX1_find_2_112 rfl rfl ?_
          refine G_ifnull 127 117 dX1_find_2_114 (by decide) rfl (fun u44 => ?_) (fun u44 => ?_)
          · have h := h.1 u44
            refine G_new (cc := 8) (kn := 18) (q := (RX8, TX8, 3)) (rc) (rs) 130 dX1_find_2_127 rfl q1921 q1922 q77 rfl rfl (Nat.le_refl _) (Nat.le_refl _) (fun z45 => ?_)
            generalize hn46 : nx s42 = n46 at z45 ⊢
            generalize hs47 : nO s42 18 = s47
            have x48 : ∀ a, ¬ kd s42 a = 0 → kd s47 a = kd s42 a := by subst hs47 hn46; exact kdNx z45
            have c49 : kd s47 n46 = 18 := by subst hs47 hn46; exact kdO_self
            have h := h n46 hn46.symm z45 s47 hs47.symm
            refine G_dup 131 dX1_find_2_130 (rf_cat _) rfl ?_
            refine G_iload 133 dX1_find_2_131 rfl rfl ?_
            refine G_iload 135 dX1_find_2_133 rfl rfl ?_
            refine G_iload_n 136 dX1_find_2_135 rfl rfl ?_
            refine G_invI (N := mX8_init) (As := [.int l6, .int x23, .int l3]) (st := [va_rf (some n46)]) (t := (some n46)) (b := n46) (rc) (rs) "" 139 dX1_find_2_136 (Or.inl q1923) q1924 q77 q1925 rfl rfl rfl mX8_init_args ⟨Nat.le_of_ble_eq_true rfl, Nat.le_of_ble_eq_true rfl⟩ rfl rfl (Nat.le_trans (w_R w_0) (Nat.le_of_ble_eq_true rfl)) (le_b mX8_init_c (Nat.le_refl _)) (le_b mX8_init_s (Nat.le_refl _)) rfl (Cal.mono h ?_)
            rintro s50 v ⟨rfl, h⟩ hx51
            have h := h hx51
            have x52 := hx51.x
            show G w mX1_find_2 (KR K) (rc) (rs) s50 139 [va_rf l0, .int l1, .int l2, .int l3, va_rf l4, va_rf l5, .int l6, va_rf x15, .int x23, va_rf (some n31)] [va_rf (some n46)]
            refine G_astore 141 [va_rf l0, .int l1, .int l2, .int l3, va_rf (some n46), va_rf l5, .int l6, va_rf x15, .int x23, va_rf (some n31)] dX1_find_2_139 (Nat.le_of_ble_eq_true rfl) rfl rfl ?_
            refine G_aload 143 dX1_find_2_141 rfl rfl ?_
            refine G_astore 145 [va_rf l0, .int l1, .int l2, .int l3, va_rf (some n46), va_rf (some n31), .int l6, va_rf x15, .int x23, va_rf (some n31)] dX1_find_2_143 (Nat.le_of_ble_eq_true rfl) rfl rfl ?_
            refine G_iinc 148 [va_rf l0, .int l1, .int l2, .int l3, va_rf (some n46), va_rf (some n31), .int (l6 + 1), va_rf x15, .int x23, va_rf (some n31)] dX1_find_2_145 rfl rfl (Nat.le_of_ble_eq_true rfl) rfl rfl ?_
            refine G_goto 23 dX1_find_2_148 (by decide) ?_
            exact h
          · have h := h.2 u44
            refine G_aload 119 dX1_find_2_117 rfl rfl ?_
            refine G_aload 121 dX1_find_2_119 rfl rfl ?_
            refine G_invS (N := mX0_isAhead) (As := [va_rf (some n31), va_rf l5]) (st := []) (rc + 1) (rs + 3) "TrophyPlates" 124 dX1_find_2_121 (Or.inr q1918) q1919 q31 q1920 rfl mX0_isAhead_args ⟨Nat.le_of_ble_eq_true rfl, Nat.le_of_ble_eq_true rfl⟩ rfl (Nat.zero_le _) (le_b mX0_isAhead_c (Nat.le_refl _)) (le_b mX0_isAhead_s (Nat.le_refl _)) rfl (Cal.mono h ?_)
            rintro s53 v ⟨x54, rfl, h⟩ hx55
            have h := h hx55
            have x56 := hx55.x
            show G w mX1_find_2 (KR K) (rc + 1) (rs + 3) s53 124 [va_rf l0, .int l1, .int l2, .int l3, va_rf l4, va_rf l5, .int l6, va_rf x15, .int x23, va_rf (some n31)] [.int x54]
            refine G_if_eq 145 127 dX1_find_2_124 (by decide) rfl (fun u57 => ?_) (fun u57 => ?_)
            · have h := h.1 u57
              refine G_iinc 148 [va_rf l0, .int l1, .int l2, .int l3, va_rf l4, va_rf l5, .int (l6 + 1), va_rf x15, .int x23, va_rf (some n31)] dX1_find_2_145 rfl rfl (Nat.le_of_ble_eq_true rfl) rfl rfl ?_
              refine G_goto 23 dX1_find_2_148 (by decide) ?_
              exact h
            · have h := h.2 u57
              refine G_new (cc := 8) (kn := 18) (q := (RX8, TX8, 3)) (rc) (rs) 130 dX1_find_2_127 rfl q1921 q1922 q77 rfl rfl (Nat.le_refl _) (Nat.le_refl _) (fun z58 => ?_)
              generalize hn59 : nx s53 = n59 at z58 ⊢
              generalize hs60 : nO s53 18 = s60
              have x61 : ∀ a, ¬ kd s53 a = 0 → kd s60 a = kd s53 a := by subst hs60 hn59; exact kdNx z58
              have c62 : kd s60 n59 = 18 := by subst hs60 hn59; exact kdO_self
              have h := h n59 hn59.symm z58 s60 hs60.symm
              refine G_dup 131 dX1_find_2_130 (rf_cat _) rfl ?_
              refine G_iload 133 dX1_find_2_131 rfl rfl ?_
              refine G_iload 135 dX1_find_2_133 rfl rfl ?_
              refine G_iload_n 136 dX1_find_2_135 rfl rfl ?_
              refine G_invI (N := mX8_init) (As := [.int l6, .int x23, .int l3]) (st := [va_rf (some n59)]) (t := (some n59)) (b := n59) (rc) (rs) "" 139 dX1_find_2_136 (Or.inl q1923) q1924 q77 q1925 rfl rfl rfl mX8_init_args ⟨Nat.le_of_ble_eq_true rfl, Nat.le_of_ble_eq_true rfl⟩ rfl rfl (Nat.le_trans (w_R w_0) (Nat.le_of_ble_eq_true rfl)) (le_b mX8_init_c (Nat.le_refl _)) (le_b mX8_init_s (Nat.le_refl _)) rfl (Cal.mono h ?_)
              rintro s63 v ⟨rfl, h⟩ hx64
              have h := h hx64
              have x65 := hx64.x
              show G w mX1_find_2 (KR K) (rc) (rs) s63 139 [va_rf l0, .int l1, .int l2, .int l3, va_rf l4, va_rf l5, .int l6, va_rf x15, .int x23, va_rf (some n31)] [va_rf (some n59)]
              refine G_astore 141 [va_rf l0, .int l1, .int l2, .int l3, va_rf (some n59), va_rf l5, .int l6, va_rf x15, .int x23, va_rf (some n31)] dX1_find_2_139 (Nat.le_of_ble_eq_true rfl) rfl rfl ?_
              refine G_aload 143 dX1_find_2_141 rfl rfl ?_
              refine G_astore 145 [va_rf l0, .int l1, .int l2, .int l3, va_rf (some n59), va_rf (some n31), .int l6, va_rf x15, .int x23, va_rf (some n31)] dX1_find_2_143 (Nat.le_of_ble_eq_true rfl) rfl rfl ?_
              refine G_iinc 148 [va_rf l0, .int l1, .int l2, .int l3, va_rf (some n59), va_rf (some n31), .int (l6 + 1), va_rf x15, .int x23, va_rf (some n31)] dX1_find_2_145 rfl rfl (Nat.le_of_ble_eq_true rfl) rfl rfl ?_
              refine G_goto 23 dX1_find_2_148 (by decide) ?_
              exact h
theorem eX1_find_2 {w : Wt} {K : Sg → Option Nat → Prop} {σ : Sg} (l0 : Option Nat) (l1 : Int32) (l2 : Int32) (l3 : Int32) (h : G w mX1_find_2 (KR K) 41 123 σ 0 [va_rf l0, .int l1, .int l2, .int l3, U_, U_, U_, U_, U_, U_] []) : CalR w mX1_find_2 σ [va_rf l0, .int l1, .int l2, .int l3] K :=
  Cal.start 6 mX1_find_2_plain (catR (catI (catI (catI cat0)))) (Nat.le_of_ble_eq_true rfl) rfl h
set_option maxHeartbeats 4000000 in
theorem bX1_find_2n_0 {w : Wt} {K : Sg → Option Nat → Prop} {rc rs : Nat} {σ : Sg} (l0 : Option Nat) (l1 : Int32) (l2 : Int32) (l3 : Int32) (h : ∀ n2, n2 = nx σ → kd σ n2 = 0 → ∀ s3, s3 = nA σ 1 3 → vp_in 0 (ln s3 n2) ∧ ∀ s7, s7 = sAI s3 n2 (0 : Int32).toNatClampNeg 0 → vp_in 1 (ln s7 n2) ∧ ∀ s10, s10 = sAI s7 n2 (1 : Int32).toNatClampNeg 0 → vp_in 2 (ln s10 n2) ∧ ∀ s13, s13 = sAI s10 n2 (2 : Int32).toNatClampNeg 0 → G w mX1_find_2n (KR K) (rc) (rs) s13 23 [va_rf l0, .int l1, .int l2, .int l3, va_rf none, va_rf (some n2), .int 0, U_, U_, U_] []) : G w mX1_find_2n (KR K) (rc + 1) (rs + 3) σ 0 [va_rf l0, .int l1, .int l2, .int l3, U_, U_, U_, U_, U_, U_] [] := by
  refine G_null 1 dX1_find_2_0 rfl ?_
  refine G_astore 3 [va_rf l0, .int l1, .int l2, .int l3, va_rf none, U_, U_, U_, U_, U_] dX1_find_2_1 (Nat.le_of_ble_eq_true rfl) rfl rfl ?_
  refine G_iconst (v := 3) 4 dX1_find_2_3 (by decide) rfl ?_
  refine G_newI (N := 3) (rc) (rs) 6 dX1_find_2_4 rfl (by decide) rfl (Nat.le_refl _) (Nat.le_refl _) q232 (fun z1 => ?_)
  generalize hn2 : nx σ = n2 at z1 ⊢
  generalize hs3 : nA σ 1 3 = s3
  have x4 : ∀ a, ¬ kd σ a = 0 → kd s3 a = kd σ a := by subst hs3 hn2; exact kdAx z1
  have c5 : kd s3 n2 = 1 := by subst hs3 hn2; exact kdA_self
  have h := h n2 hn2.symm z1 s3 hs3.symm
  refine G_dup 7 dX1_find_2_6 (rf_cat _) rfl ?_
  refine G_iconst (v := 0) 8 dX1_find_2_7 (by decide) rfl ?_
  refine G_iconst (v := 0) 9 dX1_find_2_8 (by decide) rfl ?_
  obtain ⟨c6, h⟩ := h
  refine G_iast (a := n2) 10 dX1_find_2_9 rfl rfl c5 c6 ?_
  generalize hs7 : sAI s3 n2 (0 : Int32).toNatClampNeg 0 = s7
  have x8 : ∀ a, ¬ kd s3 a = 0 → kd s7 a = kd s3 a := by subst hs7; exact fun a _ => congrFun kd_sAI a
  have h := h s7 hs7.symm
  refine G_dup 11 dX1_find_2_10 (rf_cat _) rfl ?_
  refine G_iconst (v := 1) 12 dX1_find_2_11 (by decide) rfl ?_
  refine G_iconst (v := 0) 13 dX1_find_2_12 (by decide) rfl ?_
  have c5 := kdE x8 c5 (by decide)
  obtain ⟨c9, h⟩ := h
  refine G_iast (a := n2) 14 dX1_find_2_13 rfl rfl c5 c9 ?_
  generalize hs10 : sAI s7 n2 (1 : Int32).toNatClampNeg 0 = s10
  have x11 : ∀ a, ¬ kd s7 a = 0 → kd s10 a = kd s7 a := by subst hs10; exact fun a _ => congrFun kd_sAI a
  have h := h s10 hs10.symm
  refine G_dup 15 dX1_find_2_14 (rf_cat _) rfl ?_
  refine G_iconst (v := 2) 16 dX1_find_2_15 (by decide) rfl ?_
  refine G_iconst (v := 0) 17 dX1_find_2_16 (by decide) rfl ?_
  have c5 := kdE x11 c5 (by decide)
  obtain ⟨c12, h⟩ := h
  refine G_iast (a := n2) 18 dX1_find_2_17 rfl rfl c5 c12 ?_
  generalize hs13 : sAI s10 n2 (2 : Int32).toNatClampNeg 0 = s13
  have x14 : ∀ a, ¬ kd s10 a = 0 → kd s13 a = kd s10 a := by subst hs13; exact fun a _ => congrFun kd_sAI a
  have h := h s13 hs13.symm
  refine G_astore 20 [va_rf l0, .int l1, .int l2, .int l3, va_rf none, va_rf (some n2), U_, U_, U_, U_] dX1_find_2_18 (Nat.le_of_ble_eq_true rfl) rfl rfl ?_
  refine G_iconst (v := 0) 21 dX1_find_2_20 (by decide) rfl ?_
  refine G_istore 23 [va_rf l0, .int l1, .int l2, .int l3, va_rf none, va_rf (some n2), .int 0, U_, U_, U_] dX1_find_2_21 (Nat.le_of_ble_eq_true rfl) rfl rfl ?_
  exact h
set_option maxHeartbeats 4000000 in
theorem bX1_find_2n_23 {w : Wt} {K : Sg → Option Nat → Prop} {rc rs : Nat} {σ : Sg} (l0 : Option Nat) (l1 : Int32) (l2 : Int32) (l3 : Int32) (l4 : Option Nat) (l5 : Option Nat) (l6 : Int32) (v7 : Value) (v8 : Value) (v9 : Value) (h : ∃ a1, l0 = some a1 ∧ kd σ a1 = 11 ∧ ∃ a4, FR σ 3 a1 = some a4 ∧ kd σ a4 = 20 ∧ CalI w mJ2_size σ [va_rf (FR σ 3 a1)] (fun s6 x7 => Ext σ s6 → ((x7 ≤ l6 → K s6 l4) ∧ (¬ x7 ≤ l6 → ∃ a12, FR s6 3 a1 = some a12 ∧ kd s6 a12 = 20 ∧ CalR w mJ2_get s6 [va_rf (FR s6 3 a1), .int l6] (fun s14 x15 => Ext s6 s14 → (x15 = none ∨ ∃ b, x15 = some b ∧ kd s14 b = 15) ∧ ∃ a20, x15 = some a20 ∧ kd s14 a20 = 15 ∧ CalI w mX5_side s14 [va_rf x15, .int l2, .int l3] (fun s22 x23 => Ext s14 s22 → ((¬ FI s22 35 a20 = 0 → G w mX1_find_2n (KR K) (rc + 2) (rs + 6) s22 23 [va_rf l0, .int l1, .int l2, .int l3, va_rf l4, va_rf l5, .int (l6 + 1), va_rf x15, .int x23, v9] []) ∧ (FI s22 35 a20 = 0 → ((FI s22 33 a20 < l1 → G w mX1_find_2n (KR K) (rc + 2) (rs + 6) s22 23 [va_rf l0, .int l1, .int l2, .int l3, va_rf l4, va_rf l5, .int (l6 + 1), va_rf x15, .int x23, v9] []) ∧ (¬ FI s22 33 a20 < l1 → ((x23 = (-9) → G w mX1_find_2n (KR K) (rc + 2) (rs + 6) s22 23 [va_rf l0, .int l1, .int l2, .int l3, va_rf l4, va_rf l5, .int (l6 + 1), va_rf x15, .int x23, v9] []) ∧ (¬ x23 = (-9) → ∀ n31, n31 = nx s22 → kd s22 n31 = 0 → ∀ s32, s32 = nA s22 1 3 → vp_in 0 (ln s32 n31) ∧ ∀ s36, s36 = sAI s32 n31 (0 : Int32).toNatClampNeg (FI s32 33 a20) → vp_in 1 (ln s36 n31) ∧ ∀ s39, s39 = sAI s36 n31 (1 : Int32).toNatClampNeg (FI s36 34 a20) → vp_in 2 (ln s39 n31) ∧ ∀ s42, s42 = sAI s39 n31 (2 : Int32).toNatClampNeg l6 → ((l4 = none → ∀ n46, n46 = nx s42 → kd s42 n46 = 0 → ∀ s47, s47 = nO s42 18 → CalV w mX8_init s47 [va_rf (some n46), .int l6, .int x23, .int l3] (fun s50 => Ext s47 s50 → G w mX1_find_2n (KR K) (rc) (rs) s50 23 [va_rf l0, .int l1, .int l2, .int l3, va_rf (some n46), va_rf (some n31), .int (l6 + 1), va_rf x15, .int x23, va_rf (some n31)] [])) ∧ (¬ l4 = none → CalI w mX0_isAhead s42 [va_rf (some n31), va_rf l5] (fun s53 x54 => Ext s42 s53 → ((x54 = 0 → G w mX1_find_2n (KR K) (rc + 1) (rs + 3) s53 23 [va_rf l0, .int l1, .int l2, .int l3, va_rf l4, va_rf l5, .int (l6 + 1), va_rf x15, .int x23, va_rf (some n31)] []) ∧ (¬ x54 = 0 → ∀ n59, n59 = nx s53 → kd s53 n59 = 0 → ∀ s60, s60 = nO s53 18 → CalV w mX8_init s60 [va_rf (some n59), .int l6, .int x23, .int l3] (fun s63 => Ext s60 s63 → G w mX1_find_2n (KR K) (rc) (rs) s63 23 [va_rf l0, .int l1, .int l2, .int l3, va_rf (some n59), va_rf (some n31), .int (l6 + 1), va_rf x15, .int x23, va_rf (some n31)] [])))))))))))))))))) : G w mX1_find_2n (KR K) (rc + 2) (rs + 6) σ 23 [va_rf l0, .int l1, .int l2, .int l3, va_rf l4, va_rf l5, .int l6, v7, v8, v9] [] := by
  refine G_iload 25 dX1_find_2_23 rfl rfl ?_
  refine G_aload_n 26 dX1_find_2_25 rfl rfl ?_
  obtain ⟨a1, e2, h⟩ := h
  obtain ⟨c3, h⟩ := h
  refine G_getR (f := 3) (a := a1) "" 29 dX1_find_2_26 (Or.inl q184) (Or.inl rfl) rfl e2 (hf3 c3) rfl ?_
  obtain ⟨a4, e5, h⟩ := h
  obtain ⟨c8, h⟩ := h
  refine G_invF (N := mJ2_size) (x := ⟨"java/util/List", "size", "()I"⟩) (As := []) (st := [.int l6]) (t := (FR σ 3 a1)) (b := a4) (rc + 2) (rs + 6) 34 dX1_find_2_29 q1387 q308 q310 q35 q312 q306 q305 q311 q309 q307 rfl ax31 ⟨Nat.le_of_ble_eq_true rfl, Nat.le_of_ble_eq_true rfl⟩ rfl (Nat.le_trans (w_I w_0) (Nat.le_of_ble_eq_true rfl)) e5 (rk20 c8) (le_b mJ2_size_c (Nat.le_refl _)) (le_b mJ2_size_s (Nat.le_refl _)) rfl (Cal.mono h ?_)
  rintro s6 v ⟨x7, rfl, h⟩ hx9
  have h := h hx9
  have x10 := hx9.x
  show G w mX1_find_2n (KR K) (rc + 2) (rs + 6) s6 34 [va_rf l0, .int l1, .int l2, .int l3, va_rf l4, va_rf l5, .int l6, v7, v8, v9] [.int x7, .int l6]
  refine G_icmp_ge 151 37 dX1_find_2_34 (by decide) rfl (fun u11 => ?_) (fun u11 => ?_)
  · have h := h.1 u11
    refine G_aload 153 dX1_find_2_151 rfl rfl ?_
    exact G_aret dX1_find_2_153 rfl (Or.inl ⟨_, rfl⟩) ⟨_, rfl, h⟩
  · have h := h.2 u11
    refine G_aload_n 38 dX1_find_2_37 rfl rfl ?_
    have c3 := kdE x10 c3 (by decide)
    refine G_getR (f := 3) (a := a1) "" 41 dX1_find_2_38 (Or.inl q184) (Or.inl rfl) rfl e2 (hf3 c3) rfl ?_
    refine G_iload 43 dX1_find_2_41 rfl rfl ?_
    obtain ⟨a12, e13, h⟩ := h
    obtain ⟨c16, h⟩ := h
    refine G_invF (N := mJ2_get) (x := ⟨"java/util/List", "get", "(I)Ljava/lang/Object;"⟩) (As := [.int l6]) (st := []) (t := (FR s6 3 a1)) (b := a12) (rc + 2) (rs + 6) 48 dX1_find_2_43 q1425 q1393 q1395 q35 q1397 q1392 q1391 q1396 q1394 q307 rfl ax32 ⟨Nat.le_of_ble_eq_true rfl, Nat.le_of_ble_eq_true rfl⟩ rfl (Nat.zero_le _) e13 (rk20 c16) (le_b mJ2_get_c (Nat.le_refl _)) (le_b mJ2_get_s (Nat.le_refl _)) rfl (Cal.mono h ?_)
    rintro s14 v ⟨x15, rfl, h⟩ hx17
    have h := h hx17
    have x18 := hx17.x
    show G w mX1_find_2n (KR K) (rc + 2) (rs + 6) s14 48 [va_rf l0, .int l1, .int l2, .int l3, va_rf l4, va_rf l5, .int l6, v7, v8, v9] [va_rf x15]
    obtain ⟨c19, h⟩ := h
    refine G_cast 51 dX1_find_2_48 q464 rfl (c19.imp id (fun ⟨b, e, k⟩ => ⟨b, e, co4 k⟩)) ?_
    refine G_astore 53 [va_rf l0, .int l1, .int l2, .int l3, va_rf l4, va_rf l5, .int l6, va_rf x15, v8, v9] dX1_find_2_51 (Nat.le_of_ble_eq_true rfl) rfl rfl ?_
    refine G_aload 55 dX1_find_2_53 rfl rfl ?_
    refine G_iload_n 56 dX1_find_2_55 rfl rfl ?_
    refine G_iload_n 57 dX1_find_2_56 rfl rfl ?_
    obtain ⟨a20, e21, h⟩ := h
    obtain ⟨c24, h⟩ := h
    refine G_invV (N := mX5_side) (As := [.int l2, .int l3]) (st := []) (t := x15) (b := a20) (rc + 2) (rs + 6) 60 dX1_find_2_57 q1906 q1907 q1908 q47 q1909 rfl rfl mX5_side_args ⟨Nat.le_of_ble_eq_true rfl, Nat.le_of_ble_eq_true rfl⟩ rfl (Nat.zero_le _) e21 (rk15 c24) (le_b mX5_side_c (Nat.le_refl _)) (le_b mX5_side_s (Nat.le_refl _)) rfl (Cal.mono h ?_)
    rintro s22 v ⟨x23, rfl, h⟩ hx25
    have h := h hx25
    have x26 := hx25.x
    show G w mX1_find_2n (KR K) (rc + 2) (rs + 6) s22 60 [va_rf l0, .int l1, .int l2, .int l3, va_rf l4, va_rf l5, .int l6, va_rf x15, v8, v9] [.int x23]
    refine G_istore 62 [va_rf l0, .int l1, .int l2, .int l3, va_rf l4, va_rf l5, .int l6, va_rf x15, .int x23, v9] dX1_find_2_60 (Nat.le_of_ble_eq_true rfl) rfl rfl ?_
    refine G_aload 64 dX1_find_2_62 rfl rfl ?_
    have c24 := kdE x26 c24 (by decide)
    refine G_getI (f := 35) (a := a20) "TrophyPlates" 67 dX1_find_2_64 (Or.inr q482) (Or.inl rfl) rfl e21 (hf35 c24) rfl ?_
    refine G_if_ne 145 70 dX1_find_2_67 (by decide) rfl (fun u27 => ?_) (fun u27 => ?_)
    · have h := h.1 u27
      refine G_iinc 148 [va_rf l0, .int l1, .int l2, .int l3, va_rf l4, va_rf l5, .int (l6 + 1), va_rf x15, .int x23, v9] dX1_find_2_145 rfl rfl (Nat.le_of_ble_eq_true rfl) rfl rfl ?_
      refine G_goto 23 dX1_find_2_148 (by decide) ?_
      exact h
    · have h := h.2 u27
      refine G_aload 72 dX1_find_2_70 rfl rfl ?_
      refine G_getI (f := 33) (a := a20) "TrophyPlates" 75 dX1_find_2_72 (Or.inr q476) (Or.inl rfl) rfl e21 (hf33 c24) rfl ?_
      refine G_iload_n 76 dX1_find_2_75 rfl rfl ?_
      refine G_icmp_lt 145 79 dX1_find_2_76 (by decide) rfl (fun u28 => ?_) (fun u28 => ?_)
      · have h := h.1 u28
        refine G_iinc 148 [va_rf l0, .int l1, .int l2, .int l3, va_rf l4, va_rf l5, .int (l6 + 1), va_rf x15, .int x23, v9] dX1_find_2_145 rfl rfl (Nat.le_of_ble_eq_true rfl) rfl rfl ?_
        refine G_goto 23 dX1_find_2_148 (by decide) ?_
        exact h
      · have h := h.2 u28
        refine G_iload 81 dX1_find_2_79 rfl rfl ?_
        refine G_bipush (v := (-9)) 83 dX1_find_2_81 (by decide) rfl ?_
        refine G_icmp_eq 145 86 dX1_find_2_83 (by decide) rfl (fun u29 => ?_) (fun u29 => ?_)
        · have h := h.1 u29
          refine G_iinc 148 [va_rf l0, .int l1, .int l2, .int l3, va_rf l4, va_rf l5, .int (l6 + 1), va_rf x15, .int x23, v9] dX1_find_2_145 rfl rfl (Nat.le_of_ble_eq_true rfl) rfl rfl ?_
          refine G_goto 23 dX1_find_2_148 (by decide) ?_
          exact h
        · have h := h.2 u29
          refine G_iconst (v := 3) 87 dX1_find_2_86 (by decide) rfl ?_
          refine G_newI (N := 3) (rc + 1) (rs + 3) 89 dX1_find_2_87 rfl (by decide) rfl (Nat.le_refl _) (Nat.le_refl _) q232 (fun z30 => ?_)
          generalize hn31 : nx s22 = n31 at z30 ⊢
          generalize hs32 : nA s22 1 3 = s32
          have x33 : ∀ a, ¬ kd s22 a = 0 → kd s32 a = kd s22 a := by subst hs32 hn31; exact kdAx z30
          have c34 : kd s32 n31 = 1 := by subst hs32 hn31; exact kdA_self
          have h := h n31 hn31.symm z30 s32 hs32.symm
          refine G_dup 90 dX1_find_2_89 (rf_cat _) rfl ?_
          refine G_iconst (v := 0) 91 dX1_find_2_90 (by decide) rfl ?_
          refine G_aload 93 dX1_find_2_91 rfl rfl ?_
          have c24 := kdE x33 c24 (by decide)
          refine G_getI (f := 33) (a := a20) "TrophyPlates" 96 dX1_find_2_93 (Or.inr q476) (Or.inl rfl) rfl e21 (hf33 c24) rfl ?_
          obtain ⟨c35, h⟩ := h
          refine G_iast (a := n31) 97 dX1_find_2_96 rfl rfl c34 c35 ?_
          generalize hs36 : sAI s32 n31 (0 : Int32).toNatClampNeg (FI s32 33 a20) = s36
          have x37 : ∀ a, ¬ kd s32 a = 0 → kd s36 a = kd s32 a := by subst hs36; exact fun a _ => congrFun kd_sAI a
          have h := h s36 hs36.symm
          refine G_dup 98 dX1_find_2_97 (rf_cat _) rfl ?_
          refine G_iconst (v := 1) 99 dX1_find_2_98 (by decide) rfl ?_
          refine G_aload 101 dX1_find_2_99 rfl rfl ?_
          have c24 := kdE x37 c24 (by decide)
          refine G_getI (f := 34) (a := a20) "TrophyPlates" 104 dX1_find_2_101 (Or.inr q480) (Or.inl rfl) rfl e21 (hf34 c24) rfl ?_
          have c34 := kdE x37 c34 (by decide)
          obtain ⟨c38, h⟩ := h
          refine G_iast (a := n31) 105 dX1_find_2_104 rfl rfl c34 c38 ?_
          generalize hs39 : sAI s36 n31 (1 : Int32).toNatClampNeg (FI s36 34 a20) = s39
          have x40 : ∀ a, ¬ kd s36 a = 0 → kd s39 a = kd s36 a := by subst hs39; exact fun a _ => congrFun kd_sAI a
          have h := h s39 hs39.symm
          refine G_dup 106 dX1_find_2_105 (rf_cat _) rfl ?_
          refine G_iconst (v := 2) 107 dX1_find_2_106 (by decide) rfl ?_
          refine G_iload 109 dX1_find_2_107 rfl rfl ?_
          have c34 := kdE x40 c34 (by decide)
          obtain ⟨c41, h⟩ := h
          refine G_iast (a := n31) 110 dX1_find_2_109 rfl rfl c34 c41 ?_
          generalize hs42 : sAI s39 n31 (2 : Int32).toNatClampNeg l6 = s42
          have x43 : ∀ a, ¬ kd s39 a = 0 → kd s42 a = kd s39 a := by subst hs42; exact fun a _ => congrFun kd_sAI a
          have h := h s42 hs42.symm
          refine G_astore 112 [va_rf l0, .int l1, .int l2, .int l3, va_rf l4, va_rf l5, .int l6, va_rf x15, .int x23, va_rf (some n31)] dX1_find_2_110 (Nat.le_of_ble_eq_true rfl) rfl rfl ?_
          refine G_aload 114 dX1_find_2_112 rfl rfl ?_
          refine G_ifnull 127 117 dX1_find_2_114 (by decide) rfl (fun u44 => ?_) (fun u44 => ?_)
          · have h := h.1 u44
            refine G_new (cc := 8) (kn := 18) (q := (RX8, TX8, 3)) (rc) (rs) 130 dX1_find_2_127 rfl q1921 q1922 q77 rfl rfl (Nat.le_refl _) (Nat.le_refl _) (fun z45 => ?_)
            generalize hn46 : nx s42 = n46 at z45 ⊢
            generalize hs47 : nO s42 18 = s47
            have x48 : ∀ a, ¬ kd s42 a = 0 → kd s47 a = kd s42 a := by subst hs47 hn46; exact kdNx z45
            have c49 : kd s47 n46 = 18 := by subst hs47 hn46; exact kdO_self
            have h := h n46 hn46.symm z45 s47 hs47.symm
            refine G_dup 131 dX1_find_2_130 (rf_cat _) rfl ?_
            refine G_iload 133 dX1_find_2_131 rfl rfl ?_
            refine G_iload 135 dX1_find_2_133 rfl rfl ?_
            refine G_iload_n 136 dX1_find_2_135 rfl rfl ?_
            refine G_invI (N := mX8_init) (As := [.int l6, .int x23, .int l3]) (st := [va_rf (some n46)]) (t := (some n46)) (b := n46) (rc) (rs) "" 139 dX1_find_2_136 (Or.inl q1923) q1924 q77 q1925 rfl rfl rfl mX8_init_args ⟨Nat.le_of_ble_eq_true rfl, Nat.le_of_ble_eq_true rfl⟩ rfl rfl (Nat.le_trans (w_R w_0) (Nat.le_of_ble_eq_true rfl)) (le_b mX8_init_c (Nat.le_refl _)) (le_b mX8_init_s (Nat.le_refl _)) rfl (Cal.mono h ?_)
            rintro s50 v ⟨rfl, h⟩ hx51
            have h := h hx51
            have x52 := hx51.x
            show G w mX1_find_2n (KR K) (rc) (rs) s50 139 [va_rf l0, .int l1, .int l2, .int l3, va_rf l4, va_rf l5, .int l6, va_rf x15, .int x23, va_rf (some n31)] [va_rf (some n46)]
            refine G_astore 141 [va_rf l0, .int l1, .int l2, .int l3, va_rf (some n46), va_rf l5, .int l6, va_rf x15, .int x23, va_rf (some n31)] dX1_find_2_139 (Nat.le_of_ble_eq_true rfl) rfl rfl ?_
            refine G_aload 143 dX1_find_2_141 rfl rfl ?_
            refine G_astore 145 [va_rf l0, .int l1, .int l2, .int l3, va_rf (some n46), va_rf (some n31), .int l6, va_rf x15, .int x23, va_rf (some n31)] dX1_find_2_143 (Nat.le_of_ble_eq_true rfl) rfl rfl ?_
            refine G_iinc 148 [va_rf l0, .int l1, .int l2, .int l3, va_rf (some n46), va_rf (some n31), .int (l6 + 1), va_rf x15, .int x23, va_rf (some n31)] dX1_find_2_145 rfl rfl (Nat.le_of_ble_eq_true rfl) rfl rfl ?_
            refine G_goto 23 dX1_find_2_148 (by decide) ?_
            exact h
          · have h := h.2 u44
            refine G_aload 119 dX1_find_2_117 rfl rfl ?_
            refine G_aload 121 dX1_find_2_119 rfl rfl ?_
            refine G_invS (N := mX0_isAhead) (As := [va_rf (some n31), va_rf l5]) (st := []) (rc + 1) (rs + 3) "TrophyPlates" 124 dX1_find_2_121 (Or.inr q1918) q1919 q31 q1920 rfl mX0_isAhead_args ⟨Nat.le_of_ble_eq_true rfl, Nat.le_of_ble_eq_true rfl⟩ rfl (Nat.zero_le _) (le_b mX0_isAhead_c (Nat.le_refl _)) (le_b mX0_isAhead_s (Nat.le_refl _)) rfl (Cal.mono h ?_)
            rintro s53 v ⟨x54, rfl, h⟩ hx55
            have h := h hx55
            have x56 := hx55.x
            show G w mX1_find_2n (KR K) (rc + 1) (rs + 3) s53 124 [va_rf l0, .int l1, .int l2, .int l3, va_rf l4, va_rf l5, .int l6, va_rf x15, .int x23, va_rf (some n31)] [.int x54]
            refine G_if_eq 145 127 dX1_find_2_124 (by decide) rfl (fun u57 => ?_) (fun u57 => ?_)
            · have h := h.1 u57
              refine G_iinc 148 [va_rf l0, .int l1, .int l2, .int l3, va_rf l4, va_rf l5, .int (l6 + 1), va_rf x15, .int x23, va_rf (some n31)] dX1_find_2_145 rfl rfl (Nat.le_of_ble_eq_true rfl) rfl rfl ?_
              refine G_goto 23 dX1_find_2_148 (by decide) ?_
              exact h
            · have h := h.2 u57
              refine G_new (cc := 8) (kn := 18) (q := (RX8, TX8, 3)) (rc) (rs) 130 dX1_find_2_127 rfl q1921 q1922 q77 rfl rfl (Nat.le_refl _) (Nat.le_refl _) (fun z58 => ?_)
              generalize hn59 : nx s53 = n59 at z58 ⊢
              generalize hs60 : nO s53 18 = s60
              have x61 : ∀ a, ¬ kd s53 a = 0 → kd s60 a = kd s53 a := by subst hs60 hn59; exact kdNx z58
              have c62 : kd s60 n59 = 18 := by subst hs60 hn59; exact kdO_self
              have h := h n59 hn59.symm z58 s60 hs60.symm
              refine G_dup 131 dX1_find_2_130 (rf_cat _) rfl ?_
              refine G_iload 133 dX1_find_2_131 rfl rfl ?_
              refine G_iload 135 dX1_find_2_133 rfl rfl ?_
              refine G_iload_n 136 dX1_find_2_135 rfl rfl ?_
              refine G_invI (N := mX8_init) (As := [.int l6, .int x23, .int l3]) (st := [va_rf (some n59)]) (t := (some n59)) (b := n59) (rc) (rs) "" 139 dX1_find_2_136 (Or.inl q1923) q1924 q77 q1925 rfl rfl rfl mX8_init_args ⟨Nat.le_of_ble_eq_true rfl, Nat.le_of_ble_eq_true rfl⟩ rfl rfl (Nat.le_trans (w_R w_0) (Nat.le_of_ble_eq_true rfl)) (le_b mX8_init_c (Nat.le_refl _)) (le_b mX8_init_s (Nat.le_refl _)) rfl (Cal.mono h ?_)
              rintro s63 v ⟨rfl, h⟩ hx64
              have h := h hx64
              have x65 := hx64.x
              show G w mX1_find_2n (KR K) (rc) (rs) s63 139 [va_rf l0, .int l1, .int l2, .int l3, va_rf l4, va_rf l5, .int l6, va_rf x15, .int x23, va_rf (some n31)] [va_rf (some n59)]
              refine G_astore 141 [va_rf l0, .int l1, .int l2, .int l3, va_rf (some n59), va_rf l5, .int l6, va_rf x15, .int x23, va_rf (some n31)] dX1_find_2_139 (Nat.le_of_ble_eq_true rfl) rfl rfl ?_
              refine G_aload 143 dX1_find_2_141 rfl rfl ?_
              refine G_astore 145 [va_rf l0, .int l1, .int l2, .int l3, va_rf (some n59), va_rf (some n31), .int l6, va_rf x15, .int x23, va_rf (some n31)] dX1_find_2_143 (Nat.le_of_ble_eq_true rfl) rfl rfl ?_
              refine G_iinc 148 [va_rf l0, .int l1, .int l2, .int l3, va_rf (some n59), va_rf (some n31), .int (l6 + 1), va_rf x15, .int x23, va_rf (some n31)] dX1_find_2_145 rfl rfl (Nat.le_of_ble_eq_true rfl) rfl rfl ?_
              refine G_goto 23 dX1_find_2_148 (by decide) ?_
              exact h
theorem eX1_find_2n {w : Wt} {K : Sg → Option Nat → Prop} {σ : Sg} (l0 : Option Nat) (l1 : Int32) (l2 : Int32) (l3 : Int32) (h : G w mX1_find_2n (KR K) 1 3 σ 0 [va_rf l0, .int l1, .int l2, .int l3, U_, U_, U_, U_, U_, U_] []) : CalR w mX1_find_2n σ [va_rf l0, .int l1, .int l2, .int l3] K :=
  Cal.start 6 mX1_find_2_plain (catR (catI (catI (catI cat0)))) (Nat.le_of_ble_eq_true rfl) rfl h
set_option maxHeartbeats 4000000 in
theorem bX1_fix_0 {w : Wt} {K : Sg → Prop} {rc rs : Nat} {σ : Sg} (l0 : Option Nat) (h : ∃ a1, l0 = some a1 ∧ kd σ a1 = 11 ∧ ∃ a4, FR σ 3 a1 = some a4 ∧ kd σ a4 = 20 ∧ CalR w mJ2_get σ [va_rf (FR σ 3 a1), .int (FI σ 9 a1)] (fun s6 x7 => Ext σ s6 → (x7 = none ∨ ∃ b, x7 = some b ∧ kd s6 b = 15) ∧ ∃ a12, x7 = some a12 ∧ kd s6 a12 = 15 ∧ ∃ a15, FR s6 8 a1 = some a15 ∧ kd s6 a15 = 17 ∧ ∃ a18, FR s6 36 a12 = some a18 ∧ kd s6 a18 = 1 ∧ vp_in (FI s6 10 a1) (ln s6 a18) ∧ ∀ s22, s22 = sAI s6 a18 (FI s6 10 a1).toNatClampNeg (FI s6 42 a15) → ∀ s24, s24 = sFI s22 35 a12 2 → ∃ a26, FR s24 8 a1 = some a26 ∧ kd s24 a26 = 17 ∧ CalR w mJ26_valueOf s24 [.int (FI s24 9 a1)] (fun s29 x30 => Ext s24 s29 → ∃ a33, FR s24 5 a1 = some a33 ∧ kd s29 a33 = 21 ∧ CalR w mJ4_put s29 [va_rf (FR s24 5 a1), va_rf (FR s24 39 a26), va_rf x30] (fun s35 x36 => Ext s29 s35 → (x36 = none ∨ ∃ b, x36 = some b ∧ kd s35 b ∈ [29, 6]) ∧ ∃ a41, FR s35 8 a1 = some a41 ∧ kd s35 a41 = 17 ∧ ∃ a44, FR s35 39 a41 = some a44 ∧ kd s35 a44 = 16 ∧ CalI w mX1_platesOn s35 [va_rf l0, .int (FI s35 37 a44)] (fun s47 x48 => Ext s35 s47 → ∃ a51, FR s47 6 a1 = some a51 ∧ kd s47 a51 ∈ [1, 5] ∧ vp_in (FI s35 37 a44) (ln s47 a51) ∧ ((x48 ≤ AI s47 a51 (FI s35 37 a44).toNatClampNeg → ∃ a56, FR s47 4 a1 = some a56 ∧ kd s47 a56 = 20 ∧ CalI w mJ2_remove_2 s47 [va_rf (FR s47 4 a1), va_rf (FR s47 8 a1)] (fun s58 x59 => Ext s47 s58 → ∀ s63, s63 = sFI s58 12 a1 ((FI s58 12 a1) + 1) → CalV w mX1_rest s63 [va_rf l0] (fun s65 => Ext s63 s65 → K s65))) ∧ (¬ x48 ≤ AI s47 a51 (FI s35 37 a44).toNatClampNeg → CalI w mX1_year s47 [va_rf l0, .int (FI s35 37 a44), .int 0] (fun s68 x69 => Ext s47 s68 → CalI w mX1_takeOff s68 [va_rf l0, .int (FI s35 37 a44), .int x69] (fun s72 x73 => Ext s68 s72 → ∃ a76, FR s72 4 a1 = some a76 ∧ kd s72 a76 = 20 ∧ CalI w mJ2_remove_2 s72 [va_rf (FR s72 4 a1), va_rf (FR s72 8 a1)] (fun s78 x79 => Ext s72 s78 → ∀ s83, s83 = sFI s78 12 a1 ((FI s78 12 a1) + 1) → CalV w mX1_rest s83 [va_rf l0] (fun s85 => Ext s83 s85 → K s85))))))))))) : G w mX1_fix (KV K) (rc + 51) (rs + 587) σ 0 [va_rf l0, U_, U_, U_, U_] [] := by
  refine G_aload_n 1 dX1_fix_0 rfl rfl ?_
  obtain ⟨a1, e2, h⟩ := h
  obtain ⟨c3, h⟩ := h
  refine G_getR (f := 3) (a := a1) "" 4 dX1_fix_1 (Or.inl q184) (Or.inl rfl) rfl e2 (hf3 c3) rfl ?_
  refine G_aload_n 5 dX1_fix_4 rfl rfl ?_
  refine G_getI (f := 9) (a := a1) "" 8 dX1_fix_5 (Or.inl q196) (Or.inl rfl) rfl e2 (hf9 c3) rfl ?_
  obtain ⟨a4, e5, h⟩ := h
  obtain ⟨c8, h⟩ := h
  refine G_invF (N := mJ2_get) (x := ⟨"java/util/List", "get", "(I)Ljava/lang/Object;"⟩) (As := [.int (FI σ 9 a1)]) (st := []) (t := (FR σ 3 a1)) (b := a4) (rc + 51) (rs + 587) 13 dX1_fix_8 q1425 q1393 q1395 q35 q1397 q1392 q1391 q1396 q1394 q307 rfl ax32 ⟨Nat.le_of_ble_eq_true rfl, Nat.le_of_ble_eq_true rfl⟩ rfl (Nat.zero_le _) e5 (rk20 c8) (le_b mJ2_get_c (Nat.le_refl _)) (le_b mJ2_get_s (Nat.le_refl _)) rfl (Cal.mono h ?_)
  rintro s6 v ⟨x7, rfl, h⟩ hx9
  have h := h hx9
  have x10 := hx9.x
  show G w mX1_fix (KV K) (rc + 51) (rs + 587) s6 13 [va_rf l0, U_, U_, U_, U_] [va_rf x7]
  obtain ⟨c11, h⟩ := h
  refine G_cast 16 dX1_fix_13 q464 rfl (c11.imp id (fun ⟨b, e, k⟩ => ⟨b, e, co4 k⟩)) ?_
  refine G_astore_n 17 [va_rf l0, va_rf x7, U_, U_, U_] dX1_fix_16 (Nat.le_of_ble_eq_true rfl) rfl rfl ?_
  refine G_aload_n 18 dX1_fix_17 rfl rfl ?_
  obtain ⟨a12, e13, h⟩ := h
  obtain ⟨c14, h⟩ := h
  refine G_getR (f := 36) (a := a12) "TrophyPlates" 21 dX1_fix_18 (Or.inr q486) (Or.inl rfl) rfl e13 (hf36 c14) rfl ?_
  refine G_aload_n 22 dX1_fix_21 rfl rfl ?_
  have c3 := kdE x10 c3 (by decide)
  refine G_getI (f := 10) (a := a1) "" 25 dX1_fix_22 (Or.inl q198) (Or.inl rfl) rfl e2 (hf10 c3) rfl ?_
  refine G_aload_n 26 dX1_fix_25 rfl rfl ?_
  refine G_getR (f := 8) (a := a1) "" 29 dX1_fix_26 (Or.inl q194) (Or.inl rfl) rfl e2 (hf8 c3) rfl ?_
  obtain ⟨a15, e16, h⟩ := h
  obtain ⟨c17, h⟩ := h
  refine G_getI (f := 42) (a := a15) "TrophyPlates" 32 dX1_fix_29 (Or.inr q1751) (Or.inl rfl) rfl e16 (hf42 c17) rfl ?_
  obtain ⟨a18, e19, h⟩ := h
  obtain ⟨c20, h⟩ := h
  obtain ⟨c21, h⟩ := h
  refine G_iast (a := a18) 33 dX1_fix_32 rfl e19 c20 c21 ?_
  generalize hs22 : sAI s6 a18 (FI s6 10 a1).toNatClampNeg (FI s6 42 a15) = s22
  have x23 : ∀ a, ¬ kd s6 a = 0 → kd s22 a = kd s6 a := by subst hs22; exact fun a _ => congrFun kd_sAI a
  have h := h s22 hs22.symm
  refine G_aload_n 34 dX1_fix_33 rfl rfl ?_
  refine G_iconst (v := 2) 35 dX1_fix_34 (by decide) rfl ?_
  have c14 := kdE x23 c14 (by decide)
  refine G_putI (f := 35) (a := a12) "TrophyPlates" 38 dX1_fix_35 (Or.inr ⟨q482, rfl⟩) (Or.inl rfl) rfl e13 (hp35 c14) (nk35 c14) (Or.inl rfl) rfl rfl rfl ?_
  generalize hs24 : sFI s22 35 a12 2 = s24
  have x25 : ∀ a, ¬ kd s22 a = 0 → kd s24 a = kd s22 a := by subst hs24; exact fun a _ => congrFun kd_sFI a
  have h := h s24 hs24.symm
  refine G_aload_n 39 dX1_fix_38 rfl rfl ?_
  have c3 := kdE x23 c3 (by decide)
  have c3 := kdE x25 c3 (by decide)
  refine G_getR (f := 5) (a := a1) "" 42 dX1_fix_39 (Or.inl q188) (Or.inl rfl) rfl e2 (hf5 c3) rfl ?_
  refine G_aload_n 43 dX1_fix_42 rfl rfl ?_
  refine G_getR (f := 8) (a := a1) "" 46 dX1_fix_43 (Or.inl q194) (Or.inl rfl) rfl e2 (hf8 c3) rfl ?_
  obtain ⟨a26, e27, h⟩ := h
  obtain ⟨c28, h⟩ := h
  refine G_getR (f := 39) (a := a26) "TrophyPlates" 49 dX1_fix_46 (Or.inr q1744) (Or.inl rfl) rfl e27 (hf39 c28) rfl ?_
  refine G_aload_n 50 dX1_fix_49 rfl rfl ?_
  refine G_getI (f := 9) (a := a1) "" 53 dX1_fix_50 (Or.inl q196) (Or.inl rfl) rfl e2 (hf9 c3) rfl ?_
  refine G_invS (N := mJ26_valueOf) (As := [.int (FI s24 9 a1)]) (st := [va_rf (FR s24 39 a26), va_rf (FR s24 5 a1)]) (rc + 50) (rs + 586) "" 56 dX1_fix_53 (Or.inl q1954) q1955 q64 q1956 rfl mJ26_valueOf_args ⟨Nat.le_of_ble_eq_true rfl, Nat.le_of_ble_eq_true rfl⟩ rfl (Nat.le_trans (w_R (w_R w_0)) (Nat.le_of_ble_eq_true rfl)) (le_b mJ26_valueOf_c (Nat.le_refl _)) (le_b mJ26_valueOf_s (Nat.le_refl _)) rfl (Cal.mono h ?_)
  rintro s29 v ⟨x30, rfl, h⟩ hx31
  have h := h hx31
  have x32 := hx31.x
  show G w mX1_fix (KV K) (rc + 50) (rs + 586) s29 56 [va_rf l0, va_rf x7, U_, U_, U_] [va_rf x30, va_rf (FR s24 39 a26), va_rf (FR s24 5 a1)]
  obtain ⟨a33, e34, h⟩ := h
  obtain ⟨c37, h⟩ := h
  refine G_invF (N := mJ4_put) (x := ⟨"java/util/Map", "put", "(Ljava/lang/Object;Ljava/lang/Object;)Ljava/lang/Object;"⟩) (As := [va_rf (FR s24 39 a26), va_rf x30]) (st := []) (t := (FR s24 5 a1)) (b := a33) (rc + 25) (rs + 136) 61 dX1_fix_56 q802 q1369 q807 q37 q809 q804 q803 q808 q1370 q602 rfl ax28 ⟨Nat.le_of_ble_eq_true rfl, Nat.le_of_ble_eq_true rfl⟩ rfl (Nat.zero_le _) e34 (rk21 c37) (le_b mJ4_put_c (Nat.le_refl _)) (le_b mJ4_put_s (Nat.le_refl _)) rfl (Cal.mono h ?_)
  rintro s35 v ⟨x36, rfl, h⟩ hx38
  have h := h hx38
  have x39 := hx38.x
  show G w mX1_fix (KV K) (rc + 25) (rs + 136) s35 61 [va_rf l0, va_rf x7, U_, U_, U_] [va_rf x36]
  obtain ⟨c40, h⟩ := h
  refine G_cast 64 dX1_fix_61 q800 rfl (c40.imp id (fun ⟨b, e, k⟩ => ⟨b, e, co7 k⟩)) ?_
  refine G_astore_n 65 [va_rf l0, va_rf x7, va_rf x36, U_, U_] dX1_fix_64 (Nat.le_of_ble_eq_true rfl) rfl rfl ?_
  refine G_aload_n 66 dX1_fix_65 rfl rfl ?_
  have c3 := kdE x32 c3 (by decide)
  have c3 := kdE x39 c3 (by decide)
  refine G_getR (f := 8) (a := a1) "" 69 dX1_fix_66 (Or.inl q194) (Or.inl rfl) rfl e2 (hf8 c3) rfl ?_
  obtain ⟨a41, e42, h⟩ := h
  obtain ⟨c43, h⟩ := h
  refine G_getR (f := 39) (a := a41) "TrophyPlates" 72 dX1_fix_69 (Or.inr q1744) (Or.inl rfl) rfl e42 (hf39 c43) rfl ?_
  obtain ⟨a44, e45, h⟩ := h
  obtain ⟨c46, h⟩ := h
  refine G_getI (f := 37) (a := a44) "TrophyPlates" 75 dX1_fix_72 (Or.inr q1457) (Or.inl rfl) rfl e45 (hf37 c46) rfl ?_
  refine G_istore_n 76 [va_rf l0, va_rf x7, va_rf x36, .int (FI s35 37 a44), U_] dX1_fix_75 (Nat.le_of_ble_eq_true rfl) rfl rfl ?_
  refine G_aload_n 77 dX1_fix_76 rfl rfl ?_
  refine G_iload_n 78 dX1_fix_77 rfl rfl ?_
  refine G_invV (N := mX1_platesOn) (As := [.int (FI s35 37 a44)]) (st := []) (t := l0) (b := a1) (rc + 23) (rs + 129) 81 dX1_fix_78 q1973 q1974 q1975 q32 q1976 rfl rfl mX1_platesOn_args ⟨Nat.le_of_ble_eq_true rfl, Nat.le_of_ble_eq_true rfl⟩ rfl (Nat.zero_le _) e2 (rk11 c3) (le_b mX1_platesOn_c (Nat.le_refl _)) (le_b mX1_platesOn_s (Nat.le_refl _)) rfl (Cal.mono h ?_)
  rintro s47 v ⟨x48, rfl, h⟩ hx49
  have h := h hx49
  have x50 := hx49.x
  show G w mX1_fix (KV K) (rc + 23) (rs + 129) s47 81 [va_rf l0, va_rf x7, va_rf x36, .int (FI s35 37 a44), U_] [.int x48]
  refine G_aload_n 82 dX1_fix_81 rfl rfl ?_
  have c3 := kdE x50 c3 (by decide)
  refine G_getR (f := 6) (a := a1) "" 85 dX1_fix_82 (Or.inl q190) (Or.inl rfl) rfl e2 (hf6 c3) rfl ?_
  refine G_iload_n 86 dX1_fix_85 rfl rfl ?_
  obtain ⟨a51, e52, h⟩ := h
  obtain ⟨c53, h⟩ := h
  obtain ⟨c54, h⟩ := h
  refine G_iald (a := a51) 87 dX1_fix_86 rfl e52 c53 c54 ?_
  refine G_icmp_le 103 90 dX1_fix_87 (by decide) rfl (fun u55 => ?_) (fun u55 => ?_)
  · have h := h.1 u55
    refine G_aload_n 104 dX1_fix_103 rfl rfl ?_
    refine G_getR (f := 4) (a := a1) "" 107 dX1_fix_104 (Or.inl q186) (Or.inl rfl) rfl e2 (hf4 c3) rfl ?_
    refine G_aload_n 108 dX1_fix_107 rfl rfl ?_
    refine G_getR (f := 8) (a := a1) "" 111 dX1_fix_108 (Or.inl q194) (Or.inl rfl) rfl e2 (hf8 c3) rfl ?_
    obtain ⟨a56, e57, h⟩ := h
    obtain ⟨c60, h⟩ := h
    refine G_invF (N := mJ2_remove_2) (x := ⟨"java/util/List", "remove", "(Ljava/lang/Object;)Z"⟩) (As := [va_rf (FR s47 8 a1)]) (st := []) (t := (FR s47 4 a1)) (b := a56) (rc + 23) (rs + 129) 116 dX1_fix_111 q1993 q1996 q1998 q35 q2000 q1995 q1994 q1999 q1997 q307 rfl ax37 ⟨Nat.le_of_ble_eq_true rfl, Nat.le_of_ble_eq_true rfl⟩ rfl (Nat.zero_le _) e57 (rk20 c60) (le_b mJ2_remove_2_c (Nat.le_refl _)) (le_b mJ2_remove_2_s (Nat.le_refl _)) rfl (Cal.mono h ?_)
    rintro s58 v ⟨x59, rfl, h⟩ hx61
    have h := h hx61
    have x62 := hx61.x
    show G w mX1_fix (KV K) (rc + 23) (rs + 129) s58 116 [va_rf l0, va_rf x7, va_rf x36, .int (FI s35 37 a44), U_] [.int x59]
    refine G_istore 118 [va_rf l0, va_rf x7, va_rf x36, .int (FI s35 37 a44), .int x59] dX1_fix_116 (Nat.le_of_ble_eq_true rfl) rfl rfl ?_
    refine G_aload_n 119 dX1_fix_118 rfl rfl ?_
    refine G_dup 120 dX1_fix_119 (rf_cat _) rfl ?_
    have c3 := kdE x62 c3 (by decide)
    refine G_getI (f := 12) (a := a1) "" 123 dX1_fix_120 (Or.inl q201) (Or.inl rfl) rfl e2 (hf12 c3) rfl ?_
    refine G_iconst (v := 1) 124 dX1_fix_123 (by decide) rfl ?_
    refine G_iadd 125 dX1_fix_124 rfl ?_
    refine G_putI (f := 12) (a := a1) "" 128 dX1_fix_125 (Or.inl q201) (Or.inl rfl) rfl e2 (hp12 c3) (nk12 c3) (Or.inl rfl) rfl rfl rfl ?_
    generalize hs63 : sFI s58 12 a1 ((FI s58 12 a1) + 1) = s63
    have x64 : ∀ a, ¬ kd s58 a = 0 → kd s63 a = kd s58 a := by subst hs63; exact fun a _ => congrFun kd_sFI a
    have h := h s63 hs63.symm
    refine G_aload_n 129 dX1_fix_128 rfl rfl ?_
    have c3 := kdE x64 c3 (by decide)
    refine G_invV (N := mX1_rest) (As := []) (st := []) (t := l0) (b := a1) (rc + 23) (rs + 129) 132 dX1_fix_129 q1827 q1829 qs10 q32 q1830 rfl rfl mX1_rest_args ⟨Nat.le_of_ble_eq_true rfl, Nat.le_of_ble_eq_true rfl⟩ rfl (Nat.zero_le _) e2 (rk11 c3) (le_b mX1_rest_c (Nat.le_refl _)) (le_b mX1_rest_s (Nat.le_refl _)) rfl (Cal.mono h ?_)
    rintro s65 v ⟨rfl, h⟩ hx66
    have h := h hx66
    have x67 := hx66.x
    show G w mX1_fix (KV K) (rc + 23) (rs + 129) s65 132 [va_rf l0, va_rf x7, va_rf x36, .int (FI s35 37 a44), .int x59] []
    exact G_ret dX1_fix_132 rfl ⟨rfl, h⟩
  · have h := h.2 u55
    refine G_aload_n 91 dX1_fix_90 rfl rfl ?_
    refine G_iload_n 92 dX1_fix_91 rfl rfl ?_
    refine G_aload_n 93 dX1_fix_92 rfl rfl ?_
    refine G_iload_n 94 dX1_fix_93 rfl rfl ?_
    refine G_iconst (v := 0) 95 dX1_fix_94 (by decide) rfl ?_
    refine G_invV (N := mX1_year) (As := [.int (FI s35 37 a44), .int 0]) (st := [.int (FI s35 37 a44), va_rf l0]) (t := l0) (b := a1) (rc + 21) (rs + 122) 98 dX1_fix_95 q1987 q1988 q1989 q32 q1990 rfl rfl mX1_year_args ⟨Nat.le_of_ble_eq_true rfl, Nat.le_of_ble_eq_true rfl⟩ rfl (Nat.le_trans (w_I (w_R w_0)) (Nat.le_of_ble_eq_true rfl)) e2 (rk11 c3) (le_b mX1_year_c (Nat.le_refl _)) (le_b mX1_year_s (Nat.le_refl _)) rfl (Cal.mono h ?_)
    rintro s68 v ⟨x69, rfl, h⟩ hx70
    have h := h hx70
    have x71 := hx70.x
    show G w mX1_fix (KV K) (rc + 21) (rs + 122) s68 98 [va_rf l0, va_rf x7, va_rf x36, .int (FI s35 37 a44), U_] [.int x69, .int (FI s35 37 a44), va_rf l0]
    have c3 := kdE x71 c3 (by decide)
    refine G_invV (N := mX1_takeOff) (As := [.int (FI s35 37 a44), .int x69]) (st := []) (t := l0) (b := a1) (rc) (rs) 101 dX1_fix_98 q1991 q1498 q1499 q32 q1500 rfl rfl mX1_takeOff_args ⟨Nat.le_of_ble_eq_true rfl, Nat.le_of_ble_eq_true rfl⟩ rfl (Nat.zero_le _) e2 (rk11 c3) (le_b mX1_takeOff_c (Nat.le_refl _)) (le_b mX1_takeOff_s (Nat.le_refl _)) rfl (Cal.mono h ?_)
    rintro s72 v ⟨x73, rfl, h⟩ hx74
    have h := h hx74
    have x75 := hx74.x
    show G w mX1_fix (KV K) (rc) (rs) s72 101 [va_rf l0, va_rf x7, va_rf x36, .int (FI s35 37 a44), U_] [.int x73]
    refine G_istore 103 [va_rf l0, va_rf x7, va_rf x36, .int (FI s35 37 a44), .int x73] dX1_fix_101 (Nat.le_of_ble_eq_true rfl) rfl rfl ?_
    refine G_aload_n 104 dX1_fix_103 rfl rfl ?_
    have c3 := kdE x75 c3 (by decide)
    refine G_getR (f := 4) (a := a1) "" 107 dX1_fix_104 (Or.inl q186) (Or.inl rfl) rfl e2 (hf4 c3) rfl ?_
    refine G_aload_n 108 dX1_fix_107 rfl rfl ?_
    refine G_getR (f := 8) (a := a1) "" 111 dX1_fix_108 (Or.inl q194) (Or.inl rfl) rfl e2 (hf8 c3) rfl ?_
    obtain ⟨a76, e77, h⟩ := h
    obtain ⟨c80, h⟩ := h
    refine G_invF (N := mJ2_remove_2) (x := ⟨"java/util/List", "remove", "(Ljava/lang/Object;)Z"⟩) (As := [va_rf (FR s72 8 a1)]) (st := []) (t := (FR s72 4 a1)) (b := a76) (rc) (rs) 116 dX1_fix_111 q1993 q1996 q1998 q35 q2000 q1995 q1994 q1999 q1997 q307 rfl ax37 ⟨Nat.le_of_ble_eq_true rfl, Nat.le_of_ble_eq_true rfl⟩ rfl (Nat.zero_le _) e77 (rk20 c80) (le_b mJ2_remove_2_c (Nat.le_refl _)) (le_b mJ2_remove_2_s (Nat.le_refl _)) rfl (Cal.mono h ?_)
    rintro s78 v ⟨x79, rfl, h⟩ hx81
    have h := h hx81
    have x82 := hx81.x
    show G w mX1_fix (KV K) (rc) (rs) s78 116 [va_rf l0, va_rf x7, va_rf x36, .int (FI s35 37 a44), .int x73] [.int x79]
    refine G_istore 118 [va_rf l0, va_rf x7, va_rf x36, .int (FI s35 37 a44), .int x79] dX1_fix_116 (Nat.le_of_ble_eq_true rfl) rfl rfl ?_
    refine G_aload_n 119 dX1_fix_118 rfl rfl ?_
    refine G_dup 120 dX1_fix_119 (rf_cat _) rfl ?_
    have c3 := kdE x82 c3 (by decide)
    refine G_getI (f := 12) (a := a1) "" 123 dX1_fix_120 (Or.inl q201) (Or.inl rfl) rfl e2 (hf12 c3) rfl ?_
    refine G_iconst (v := 1) 124 dX1_fix_123 (by decide) rfl ?_
    refine G_iadd 125 dX1_fix_124 rfl ?_
    refine G_putI (f := 12) (a := a1) "" 128 dX1_fix_125 (Or.inl q201) (Or.inl rfl) rfl e2 (hp12 c3) (nk12 c3) (Or.inl rfl) rfl rfl rfl ?_
    generalize hs83 : sFI s78 12 a1 ((FI s78 12 a1) + 1) = s83
    have x84 : ∀ a, ¬ kd s78 a = 0 → kd s83 a = kd s78 a := by subst hs83; exact fun a _ => congrFun kd_sFI a
    have h := h s83 hs83.symm
    refine G_aload_n 129 dX1_fix_128 rfl rfl ?_
    have c3 := kdE x84 c3 (by decide)
    refine G_invV (N := mX1_rest) (As := []) (st := []) (t := l0) (b := a1) (rc) (rs) 132 dX1_fix_129 q1827 q1829 qs10 q32 q1830 rfl rfl mX1_rest_args ⟨Nat.le_of_ble_eq_true rfl, Nat.le_of_ble_eq_true rfl⟩ rfl (Nat.zero_le _) e2 (rk11 c3) (le_b mX1_rest_c (Nat.le_refl _)) (le_b mX1_rest_s (Nat.le_refl _)) rfl (Cal.mono h ?_)
    rintro s85 v ⟨rfl, h⟩ hx86
    have h := h hx86
    have x87 := hx86.x
    show G w mX1_fix (KV K) (rc) (rs) s85 132 [va_rf l0, va_rf x7, va_rf x36, .int (FI s35 37 a44), .int x79] []
    exact G_ret dX1_fix_132 rfl ⟨rfl, h⟩
theorem eX1_fix {w : Wt} {K : Sg → Prop} {σ : Sg} (l0 : Option Nat) (h : G w mX1_fix (KV K) 51 587 σ 0 [va_rf l0, U_, U_, U_, U_] []) : CalV w mX1_fix σ [va_rf l0] K :=
  Cal.start 4 mX1_fix_plain (catR cat0) (Nat.le_of_ble_eq_true rfl) rfl h
set_option maxHeartbeats 4000000 in
theorem bX1_platesOn_0 {w : Wt} {K : Sg → Int32 → Prop} {rc rs : Nat} {σ : Sg} (l0 : Option Nat) (l1 : Int32) (h : ∃ a1, l0 = some a1 ∧ kd σ a1 = 11 ∧ ∃ a4, FR σ 5 a1 = some a4 ∧ kd σ a4 = 21 ∧ CalR w mJ5_keySet σ [va_rf (FR σ 5 a1)] (fun s6 x7 => Ext σ s6 → ∃ a11, x7 = some a11 ∧ kd s6 a11 = 26 ∧ CalR w mJ21_iterator s6 [va_rf x7] (fun s13 x14 => Ext s6 s13 → G w mX1_platesOn (KI K) (rc) (rs) s13 17 [va_rf l0, .int l1, .int 0, va_rf x14, U_] []))) : G w mX1_platesOn (KI K) (rc + 2) (rs + 7) σ 0 [va_rf l0, .int l1, U_, U_, U_] [] := by
  refine G_iconst (v := 0) 1 dX1_platesOn_0 (by decide) rfl ?_
  refine G_istore_n 2 [va_rf l0, .int l1, .int 0, U_, U_] dX1_platesOn_1 (Nat.le_of_ble_eq_true rfl) rfl rfl ?_
  refine G_aload_n 3 dX1_platesOn_2 rfl rfl ?_
  obtain ⟨a1, e2, h⟩ := h
  obtain ⟨c3, h⟩ := h
  refine G_getR (f := 5) (a := a1) "" 6 dX1_platesOn_3 (Or.inl q188) (Or.inl rfl) rfl e2 (hf5 c3) rfl ?_
  obtain ⟨a4, e5, h⟩ := h
  obtain ⟨c8, h⟩ := h
  refine G_invF (N := mJ5_keySet) (x := ⟨"java/util/Map", "keySet", "()Ljava/util/Set;"⟩) (As := []) (st := []) (t := (FR σ 5 a1)) (b := a4) (rc + 1) (rs + 5) 11 dX1_platesOn_6 q1978 q1984 q690 q38 q691 q1980 q1979 q1986 q1985 q602 rfl ax38 ⟨Nat.le_of_ble_eq_true rfl, Nat.le_of_ble_eq_true rfl⟩ rfl (Nat.zero_le _) e5 (rk21 c8) (le_b mJ5_keySet_c (Nat.le_refl _)) (le_b mJ5_keySet_s (Nat.le_refl _)) rfl (Cal.mono h ?_)
  rintro s6 v ⟨x7, rfl, h⟩ hx9
  have h := h hx9
  have x10 := hx9.x
  show G w mX1_platesOn (KI K) (rc + 1) (rs + 5) s6 11 [va_rf l0, .int l1, .int 0, U_, U_] [va_rf x7]
  obtain ⟨a11, e12, h⟩ := h
  obtain ⟨c15, h⟩ := h
  refine G_invF (N := mJ21_iterator) (x := ⟨"java/util/Set", "iterator", "()Ljava/util/Iterator;"⟩) (As := []) (st := []) (t := x7) (b := a11) (rc) (rs) 16 dX1_platesOn_11 q627 q754 q756 q59 q758 q629 q628 q757 q755 q753 rfl ax26 ⟨Nat.le_of_ble_eq_true rfl, Nat.le_of_ble_eq_true rfl⟩ rfl (Nat.zero_le _) e12 (rk26 c15) (le_b mJ21_iterator_c (Nat.le_refl _)) (le_b mJ21_iterator_s (Nat.le_refl _)) rfl (Cal.mono h ?_)
  rintro s13 v ⟨x14, rfl, h⟩ hx16
  have h := h hx16
  have x17 := hx16.x
  show G w mX1_platesOn (KI K) (rc) (rs) s13 16 [va_rf l0, .int l1, .int 0, U_, U_] [va_rf x14]
  refine G_astore_n 17 [va_rf l0, .int l1, .int 0, va_rf x14, U_] dX1_platesOn_16 (Nat.le_of_ble_eq_true rfl) rfl rfl ?_
  exact h
set_option maxHeartbeats 4000000 in
theorem bX1_platesOn_17 {w : Wt} {K : Sg → Int32 → Prop} {rc rs : Nat} {σ : Sg} (l0 : Option Nat) (l1 : Int32) (l2 : Int32) (l3 : Option Nat) (v4 : Value) (h : ∃ a1, l3 = some a1 ∧ kd σ a1 = 28 ∧ CalI w mJ22_hasNext σ [va_rf l3] (fun s3 x4 => Ext σ s3 → ((x4 = 0 → K s3 l2) ∧ (¬ x4 = 0 → CalR w mJ24_next s3 [va_rf l3] (fun s9 x10 => Ext s3 s9 → (x10 = none ∨ ∃ b, x10 = some b ∧ kd s9 b = 16) ∧ ∃ a14, x10 = some a14 ∧ kd s9 a14 = 16 ∧ ((¬ FI s9 37 a14 = l1 → G w mX1_platesOn (KI K) (rc) (rs) s9 17 [va_rf l0, .int l1, .int (l2 + 0), va_rf l3, va_rf x10] []) ∧ (FI s9 37 a14 = l1 → G w mX1_platesOn (KI K) (rc) (rs) s9 17 [va_rf l0, .int l1, .int (l2 + 1), va_rf l3, va_rf x10] []))))))) : G w mX1_platesOn (KI K) (rc) (rs) σ 17 [va_rf l0, .int l1, .int l2, va_rf l3, v4] [] := by
  refine G_aload_n 18 dX1_platesOn_17 rfl rfl ?_
  obtain ⟨a1, e2, h⟩ := h
  obtain ⟨c5, h⟩ := h
  refine G_invF (N := mJ22_hasNext) (x := ⟨"java/util/Iterator", "hasNext", "()Z"⟩) (As := []) (st := []) (t := l3) (b := a1) (rc) (rs) 23 dX1_platesOn_18 q371 q396 q392 q60 q394 q373 q372 q393 q397 q395 rfl ax25 ⟨Nat.le_of_ble_eq_true rfl, Nat.le_of_ble_eq_true rfl⟩ rfl (Nat.zero_le _) e2 (rk28 c5) (le_b mJ22_hasNext_c (Nat.le_refl _)) (le_b mJ22_hasNext_s (Nat.le_refl _)) rfl (Cal.mono h ?_)
  rintro s3 v ⟨x4, rfl, h⟩ hx6
  have h := h hx6
  have x7 := hx6.x
  show G w mX1_platesOn (KI K) (rc) (rs) s3 23 [va_rf l0, .int l1, .int l2, va_rf l3, v4] [.int x4]
  refine G_if_eq 57 26 dX1_platesOn_23 (by decide) rfl (fun u8 => ?_) (fun u8 => ?_)
  · have h := h.1 u8
    refine G_iload_n 58 dX1_platesOn_57 rfl rfl ?_
    exact G_iret dX1_platesOn_58 rfl ⟨_, rfl, h⟩
  · have h := h.2 u8
    refine G_aload_n 27 dX1_platesOn_26 rfl rfl ?_
    have c5 := kdE x7 c5 (by decide)
    refine G_invF (N := mJ24_next) (x := ⟨"java/util/Iterator", "next", "()Ljava/lang/Object;"⟩) (As := []) (st := []) (t := l3) (b := a1) (rc) (rs) 32 dX1_platesOn_27 q399 q449 q451 q62 q453 q401 q400 q452 q450 q395 rfl ax24 ⟨Nat.le_of_ble_eq_true rfl, Nat.le_of_ble_eq_true rfl⟩ rfl (Nat.zero_le _) e2 (rk28 c5) (le_b mJ24_next_c (Nat.le_refl _)) (le_b mJ24_next_s (Nat.le_refl _)) rfl (Cal.mono h ?_)
    rintro s9 v ⟨x10, rfl, h⟩ hx11
    have h := h hx11
    have x12 := hx11.x
    show G w mX1_platesOn (KI K) (rc) (rs) s9 32 [va_rf l0, .int l1, .int l2, va_rf l3, v4] [va_rf x10]
    obtain ⟨c13, h⟩ := h
    refine G_cast 35 dX1_platesOn_32 q786 rfl (c13.imp id (fun ⟨b, e, k⟩ => ⟨b, e, co0 k⟩)) ?_
    refine G_astore 37 [va_rf l0, .int l1, .int l2, va_rf l3, va_rf x10] dX1_platesOn_35 (Nat.le_of_ble_eq_true rfl) rfl rfl ?_
    refine G_iload_n 38 dX1_platesOn_37 rfl rfl ?_
    refine G_aload 40 dX1_platesOn_38 rfl rfl ?_
    obtain ⟨a14, e15, h⟩ := h
    obtain ⟨c16, h⟩ := h
    refine G_getI (f := 37) (a := a14) "TrophyPlates" 43 dX1_platesOn_40 (Or.inr q1457) (Or.inl rfl) rfl e15 (hf37 c16) rfl ?_
    refine G_iload_n 44 dX1_platesOn_43 rfl rfl ?_
    refine G_icmp_ne 51 47 dX1_platesOn_44 (by decide) rfl (fun u17 => ?_) (fun u17 => ?_)
    · have h := h.1 u17
      refine G_iconst (v := 0) 52 dX1_platesOn_51 (by decide) rfl ?_
      refine G_iadd 53 dX1_platesOn_52 rfl ?_
      refine G_istore_n 54 [va_rf l0, .int l1, .int (l2 + 0), va_rf l3, va_rf x10] dX1_platesOn_53 (Nat.le_of_ble_eq_true rfl) rfl rfl ?_
      refine G_goto 17 dX1_platesOn_54 (by decide) ?_
      exact h
    · have h := h.2 u17
      refine G_iconst (v := 1) 48 dX1_platesOn_47 (by decide) rfl ?_
      refine G_goto 52 dX1_platesOn_48 (by decide) ?_
      refine G_iadd 53 dX1_platesOn_52 rfl ?_
      refine G_istore_n 54 [va_rf l0, .int l1, .int (l2 + 1), va_rf l3, va_rf x10] dX1_platesOn_53 (Nat.le_of_ble_eq_true rfl) rfl rfl ?_
      refine G_goto 17 dX1_platesOn_54 (by decide) ?_
      exact h
theorem eX1_platesOn {w : Wt} {K : Sg → Int32 → Prop} {σ : Sg} (l0 : Option Nat) (l1 : Int32) (h : G w mX1_platesOn (KI K) 2 7 σ 0 [va_rf l0, .int l1, U_, U_, U_] []) : CalI w mX1_platesOn σ [va_rf l0, .int l1] K :=
  Cal.start 3 mX1_platesOn_plain (catR (catI cat0)) (Nat.le_of_ble_eq_true rfl) rfl h
set_option maxHeartbeats 4000000 in
theorem bX1_year_0 {w : Wt} {K : Sg → Int32 → Prop} {rc rs : Nat} {σ : Sg} (l0 : Option Nat) (l1 : Int32) (l2 : Int32) (h : ∃ a1, l0 = some a1 ∧ kd σ a1 = 11 ∧ ∃ a4, FR σ 5 a1 = some a4 ∧ kd σ a4 = 21 ∧ CalR w mJ5_keySet σ [va_rf (FR σ 5 a1)] (fun s6 x7 => Ext σ s6 → ∃ a11, x7 = some a11 ∧ kd s6 a11 = 26 ∧ CalR w mJ21_iterator s6 [va_rf x7] (fun s13 x14 => Ext s6 s13 → G w mX1_year (KI K) (rc) (rs) s13 19 [va_rf l0, .int l1, .int l2, .int (-9), va_rf x14, U_, U_] []))) : G w mX1_year (KI K) (rc + 2) (rs + 7) σ 0 [va_rf l0, .int l1, .int l2, U_, U_, U_, U_] [] := by
  refine G_bipush (v := (-9)) 2 dX1_year_0 (by decide) rfl ?_
  refine G_istore_n 3 [va_rf l0, .int l1, .int l2, .int (-9), U_, U_, U_] dX1_year_2 (Nat.le_of_ble_eq_true rfl) rfl rfl ?_
  refine G_aload_n 4 dX1_year_3 rfl rfl ?_
  obtain ⟨a1, e2, h⟩ := h
  obtain ⟨c3, h⟩ := h
  refine G_getR (f := 5) (a := a1) "" 7 dX1_year_4 (Or.inl q188) (Or.inl rfl) rfl e2 (hf5 c3) rfl ?_
  obtain ⟨a4, e5, h⟩ := h
  obtain ⟨c8, h⟩ := h
  refine G_invF (N := mJ5_keySet) (x := ⟨"java/util/Map", "keySet", "()Ljava/util/Set;"⟩) (As := []) (st := []) (t := (FR σ 5 a1)) (b := a4) (rc + 1) (rs + 5) 12 dX1_year_7 q1978 q1984 q690 q38 q691 q1980 q1979 q1986 q1985 q602 rfl ax38 ⟨Nat.le_of_ble_eq_true rfl, Nat.le_of_ble_eq_true rfl⟩ rfl (Nat.zero_le _) e5 (rk21 c8) (le_b mJ5_keySet_c (Nat.le_refl _)) (le_b mJ5_keySet_s (Nat.le_refl _)) rfl (Cal.mono h ?_)
  rintro s6 v ⟨x7, rfl, h⟩ hx9
  have h := h hx9
  have x10 := hx9.x
  show G w mX1_year (KI K) (rc + 1) (rs + 5) s6 12 [va_rf l0, .int l1, .int l2, .int (-9), U_, U_, U_] [va_rf x7]
  obtain ⟨a11, e12, h⟩ := h
  obtain ⟨c15, h⟩ := h
  refine G_invF (N := mJ21_iterator) (x := ⟨"java/util/Set", "iterator", "()Ljava/util/Iterator;"⟩) (As := []) (st := []) (t := x7) (b := a11) (rc) (rs) 17 dX1_year_12 q627 q754 q756 q59 q758 q629 q628 q757 q755 q753 rfl ax26 ⟨Nat.le_of_ble_eq_true rfl, Nat.le_of_ble_eq_true rfl⟩ rfl (Nat.zero_le _) e12 (rk26 c15) (le_b mJ21_iterator_c (Nat.le_refl _)) (le_b mJ21_iterator_s (Nat.le_refl _)) rfl (Cal.mono h ?_)
  rintro s13 v ⟨x14, rfl, h⟩ hx16
  have h := h hx16
  have x17 := hx16.x
  show G w mX1_year (KI K) (rc) (rs) s13 17 [va_rf l0, .int l1, .int l2, .int (-9), U_, U_, U_] [va_rf x14]
  refine G_astore 19 [va_rf l0, .int l1, .int l2, .int (-9), va_rf x14, U_, U_] dX1_year_17 (Nat.le_of_ble_eq_true rfl) rfl rfl ?_
  exact h
set_option maxHeartbeats 4000000 in
theorem bX1_year_19 {w : Wt} {K : Sg → Int32 → Prop} {rc rs : Nat} {σ : Sg} (l0 : Option Nat) (l1 : Int32) (l2 : Int32) (l3 : Int32) (l4 : Option Nat) (v5 : Value) (v6 : Value) (h : ∃ a1, l4 = some a1 ∧ kd σ a1 = 28 ∧ CalI w mJ22_hasNext σ [va_rf l4] (fun s3 x4 => Ext σ s3 → ((x4 = 0 → K s3 l3) ∧ (¬ x4 = 0 → CalR w mJ24_next s3 [va_rf l4] (fun s9 x10 => Ext s3 s9 → (x10 = none ∨ ∃ b, x10 = some b ∧ kd s9 b = 16) ∧ ((l3 = (-9) → ∃ a15, x10 = some a15 ∧ kd s9 a15 = 16 ∧ ((¬ FI s9 37 a15 = l1 → G w mX1_year (KI K) (rc) (rs) s9 19 [va_rf l0, .int l1, .int l2, .int l3, va_rf l4, va_rf x10, .int 1] []) ∧ (FI s9 37 a15 = l1 → G w mX1_year (KI K) (rc) (rs) s9 19 [va_rf l0, .int l1, .int l2, .int (FI s9 38 a15), va_rf l4, va_rf x10, .int 1] []))) ∧ (¬ l3 = (-9) → ((l2 = 0 → ∃ a20, x10 = some a20 ∧ kd s9 a20 = 16 ∧ ((l3 ≤ FI s9 38 a20 → ((¬ FI s9 37 a20 = l1 → G w mX1_year (KI K) (rc) (rs) s9 19 [va_rf l0, .int l1, .int l2, .int l3, va_rf l4, va_rf x10, .int 0] []) ∧ (FI s9 37 a20 = l1 → G w mX1_year (KI K) (rc) (rs) s9 19 [va_rf l0, .int l1, .int l2, .int l3, va_rf l4, va_rf x10, .int 0] []))) ∧ (¬ l3 ≤ FI s9 38 a20 → ((¬ FI s9 37 a20 = l1 → G w mX1_year (KI K) (rc) (rs) s9 19 [va_rf l0, .int l1, .int l2, .int l3, va_rf l4, va_rf x10, .int 1] []) ∧ (FI s9 37 a20 = l1 → G w mX1_year (KI K) (rc) (rs) s9 19 [va_rf l0, .int l1, .int l2, .int (FI s9 38 a20), va_rf l4, va_rf x10, .int 1] []))))) ∧ (¬ l2 = 0 → ∃ a26, x10 = some a26 ∧ kd s9 a26 = 16 ∧ ((FI s9 38 a26 ≤ l3 → ((¬ FI s9 37 a26 = l1 → G w mX1_year (KI K) (rc) (rs) s9 19 [va_rf l0, .int l1, .int l2, .int l3, va_rf l4, va_rf x10, .int 0] []) ∧ (FI s9 37 a26 = l1 → G w mX1_year (KI K) (rc) (rs) s9 19 [va_rf l0, .int l1, .int l2, .int l3, va_rf l4, va_rf x10, .int 0] []))) ∧ (¬ FI s9 38 a26 ≤ l3 → ((¬ FI s9 37 a26 = l1 → G w mX1_year (KI K) (rc) (rs) s9 19 [va_rf l0, .int l1, .int l2, .int l3, va_rf l4, va_rf x10, .int 1] []) ∧ (FI s9 37 a26 = l1 → G w mX1_year (KI K) (rc) (rs) s9 19 [va_rf l0, .int l1, .int l2, .int (FI s9 38 a26), va_rf l4, va_rf x10, .int 1] []))))))))))))) : G w mX1_year (KI K) (rc) (rs) σ 19 [va_rf l0, .int l1, .int l2, .int l3, va_rf l4, v5, v6] [] := by
  refine G_aload 21 dX1_year_19 rfl rfl ?_
  obtain ⟨a1, e2, h⟩ := h
  obtain ⟨c5, h⟩ := h
  refine G_invF (N := mJ22_hasNext) (x := ⟨"java/util/Iterator", "hasNext", "()Z"⟩) (As := []) (st := []) (t := l4) (b := a1) (rc) (rs) 26 dX1_year_21 q371 q396 q392 q60 q394 q373 q372 q393 q397 q395 rfl ax25 ⟨Nat.le_of_ble_eq_true rfl, Nat.le_of_ble_eq_true rfl⟩ rfl (Nat.zero_le _) e2 (rk28 c5) (le_b mJ22_hasNext_c (Nat.le_refl _)) (le_b mJ22_hasNext_s (Nat.le_refl _)) rfl (Cal.mono h ?_)
  rintro s3 v ⟨x4, rfl, h⟩ hx6
  have h := h hx6
  have x7 := hx6.x
  show G w mX1_year (KI K) (rc) (rs) s3 26 [va_rf l0, .int l1, .int l2, .int l3, va_rf l4, v5, v6] [.int x4]
  refine G_if_eq 106 29 dX1_year_26 (by decide) rfl (fun u8 => ?_) (fun u8 => ?_)
  · have h := h.1 u8
    refine G_iload_n 107 dX1_year_106 rfl rfl ?_
    exact G_iret dX1_year_107 rfl ⟨_, rfl, h⟩
  · have h := h.2 u8
    refine G_aload 31 dX1_year_29 rfl rfl ?_
    have c5 := kdE x7 c5 (by decide)
    refine G_invF (N := mJ24_next) (x := ⟨"java/util/Iterator", "next", "()Ljava/lang/Object;"⟩) (As := []) (st := []) (t := l4) (b := a1) (rc) (rs) 36 dX1_year_31 q399 q449 q451 q62 q453 q401 q400 q452 q450 q395 rfl ax24 ⟨Nat.le_of_ble_eq_true rfl, Nat.le_of_ble_eq_true rfl⟩ rfl (Nat.zero_le _) e2 (rk28 c5) (le_b mJ24_next_c (Nat.le_refl _)) (le_b mJ24_next_s (Nat.le_refl _)) rfl (Cal.mono h ?_)
    rintro s9 v ⟨x10, rfl, h⟩ hx11
    have h := h hx11
    have x12 := hx11.x
    show G w mX1_year (KI K) (rc) (rs) s9 36 [va_rf l0, .int l1, .int l2, .int l3, va_rf l4, v5, v6] [va_rf x10]
    obtain ⟨c13, h⟩ := h
    refine G_cast 39 dX1_year_36 q786 rfl (c13.imp id (fun ⟨b, e, k⟩ => ⟨b, e, co0 k⟩)) ?_
    refine G_astore 41 [va_rf l0, .int l1, .int l2, .int l3, va_rf l4, va_rf x10, v6] dX1_year_39 (Nat.le_of_ble_eq_true rfl) rfl rfl ?_
    refine G_iload_n 42 dX1_year_41 rfl rfl ?_
    refine G_bipush (v := (-9)) 44 dX1_year_42 (by decide) rfl ?_
    refine G_icmp_eq 72 47 dX1_year_44 (by decide) rfl (fun u14 => ?_) (fun u14 => ?_)
    · have h := h.1 u14
      refine G_iconst (v := 1) 73 dX1_year_72 (by decide) rfl ?_
      refine G_goto 77 dX1_year_73 (by decide) ?_
      refine G_istore 79 [va_rf l0, .int l1, .int l2, .int l3, va_rf l4, va_rf x10, .int 1] dX1_year_77 (Nat.le_of_ble_eq_true rfl) rfl rfl ?_
      refine G_aload 81 dX1_year_79 rfl rfl ?_
      obtain ⟨a15, e16, h⟩ := h
      obtain ⟨c17, h⟩ := h
      refine G_getI (f := 37) (a := a15) "TrophyPlates" 84 dX1_year_81 (Or.inr q1457) (Or.inl rfl) rfl e16 (hf37 c17) rfl ?_
      refine G_iload_n 85 dX1_year_84 rfl rfl ?_
      refine G_icmp_ne 101 88 dX1_year_85 (by decide) rfl (fun u18 => ?_) (fun u18 => ?_)
      · have h := h.1 u18
        refine G_iload_n 102 dX1_year_101 rfl rfl ?_
        refine G_istore_n 103 [va_rf l0, .int l1, .int l2, .int l3, va_rf l4, va_rf x10, .int 1] dX1_year_102 (Nat.le_of_ble_eq_true rfl) rfl rfl ?_
        refine G_goto 19 dX1_year_103 (by decide) ?_
        exact h
      · have h := h.2 u18
        refine G_iload 90 dX1_year_88 rfl rfl ?_
        refine G_if_eq 101 93 dX1_year_90 (by decide) rfl (fun q => absurd q (by decide)) (fun _ => ?_)
        refine G_aload 95 dX1_year_93 rfl rfl ?_
        refine G_getI (f := 38) (a := a15) "TrophyPlates" 98 dX1_year_95 (Or.inr q1460) (Or.inl rfl) rfl e16 (hf38 c17) rfl ?_
        refine G_goto 102 dX1_year_98 (by decide) ?_
        refine G_istore_n 103 [va_rf l0, .int l1, .int l2, .int (FI s9 38 a15), va_rf l4, va_rf x10, .int 1] dX1_year_102 (Nat.le_of_ble_eq_true rfl) rfl rfl ?_
        refine G_goto 19 dX1_year_103 (by decide) ?_
        exact h
    · have h := h.2 u14
      refine G_iload_n 48 dX1_year_47 rfl rfl ?_
      refine G_if_eq 63 51 dX1_year_48 (by decide) rfl (fun u19 => ?_) (fun u19 => ?_)
      · have h := h.1 u19
        refine G_aload 65 dX1_year_63 rfl rfl ?_
        obtain ⟨a20, e21, h⟩ := h
        obtain ⟨c22, h⟩ := h
        refine G_getI (f := 38) (a := a20) "TrophyPlates" 68 dX1_year_65 (Or.inr q1460) (Or.inl rfl) rfl e21 (hf38 c22) rfl ?_
        refine G_iload_n 69 dX1_year_68 rfl rfl ?_
        refine G_icmp_ge 76 72 dX1_year_69 (by decide) rfl (fun u23 => ?_) (fun u23 => ?_)
        · have h := h.1 u23
          refine G_iconst (v := 0) 77 dX1_year_76 (by decide) rfl ?_
          refine G_istore 79 [va_rf l0, .int l1, .int l2, .int l3, va_rf l4, va_rf x10, .int 0] dX1_year_77 (Nat.le_of_ble_eq_true rfl) rfl rfl ?_
          refine G_aload 81 dX1_year_79 rfl rfl ?_
          refine G_getI (f := 37) (a := a20) "TrophyPlates" 84 dX1_year_81 (Or.inr q1457) (Or.inl rfl) rfl e21 (hf37 c22) rfl ?_
          refine G_iload_n 85 dX1_year_84 rfl rfl ?_
          refine G_icmp_ne 101 88 dX1_year_85 (by decide) rfl (fun u24 => ?_) (fun u24 => ?_)
          · have h := h.1 u24
            refine G_iload_n 102 dX1_year_101 rfl rfl ?_
            refine G_istore_n 103 [va_rf l0, .int l1, .int l2, .int l3, va_rf l4, va_rf x10, .int 0] dX1_year_102 (Nat.le_of_ble_eq_true rfl) rfl rfl ?_
            refine G_goto 19 dX1_year_103 (by decide) ?_
            exact h
          · have h := h.2 u24
            refine G_iload 90 dX1_year_88 rfl rfl ?_
            refine G_if_eq 101 93 dX1_year_90 (by decide) rfl (fun _ => ?_) (fun q => absurd q (by decide))
            refine G_iload_n 102 dX1_year_101 rfl rfl ?_
            refine G_istore_n 103 [va_rf l0, .int l1, .int l2, .int l3, va_rf l4, va_rf x10, .int 0] dX1_year_102 (Nat.le_of_ble_eq_true rfl) rfl rfl ?_
            refine G_goto 19 dX1_year_103 (by decide) ?_
            exact h
        · have h := h.2 u23
          refine G_iconst (v := 1) 73 dX1_year_72 (by decide) rfl ?_
          refine G_goto 77 dX1_year_73 (by decide) ?_
          refine G_istore 79 [va_rf l0, .int l1, .int l2, .int l3, va_rf l4, va_rf x10, .int 1] dX1_year_77 (Nat.le_of_ble_eq_true rfl) rfl rfl ?_
          refine G_aload 81 dX1_year_79 rfl rfl ?_
          refine G_getI (f := 37) (a := a20) "TrophyPlates" 84 dX1_year_81 (Or.inr q1457) (Or.inl rfl) rfl e21 (hf37 c22) rfl ?_
          refine G_iload_n 85 dX1_year_84 rfl rfl ?_
          refine G_icmp_ne 101 88 dX1_year_85 (by decide) rfl (fun u25 => ?_) (fun u25 => ?_)
          · have h := h.1 u25
            refine G_iload_n 102 dX1_year_101 rfl rfl ?_
            refine G_istore_n 103 [va_rf l0, .int l1, .int l2, .int l3, va_rf l4, va_rf x10, .int 1] dX1_year_102 (Nat.le_of_ble_eq_true rfl) rfl rfl ?_
            refine G_goto 19 dX1_year_103 (by decide) ?_
            exact h
          · have h := h.2 u25
            refine G_iload 90 dX1_year_88 rfl rfl ?_
            refine G_if_eq 101 93 dX1_year_90 (by decide) rfl (fun q => absurd q (by decide)) (fun _ => ?_)
            refine G_aload 95 dX1_year_93 rfl rfl ?_
            refine G_getI (f := 38) (a := a20) "TrophyPlates" 98 dX1_year_95 (Or.inr q1460) (Or.inl rfl) rfl e21 (hf38 c22) rfl ?_
            refine G_goto 102 dX1_year_98 (by decide) ?_
            refine G_istore_n 103 [va_rf l0, .int l1, .int l2, .int (FI s9 38 a20), va_rf l4, va_rf x10, .int 1] dX1_year_102 (Nat.le_of_ble_eq_true rfl) rfl rfl ?_
            refine G_goto 19 dX1_year_103 (by decide) ?_
            exact h
      · have h := h.2 u19
        refine G_aload 53 dX1_year_51 rfl rfl ?_
        obtain ⟨a26, e27, h⟩ := h
        obtain ⟨c28, h⟩ := h
        refine G_getI (f := 38) (a := a26) "TrophyPlates" 56 dX1_year_53 (Or.inr q1460) (Or.inl rfl) rfl e27 (hf38 c28) rfl ?_
        refine G_iload_n 57 dX1_year_56 rfl rfl ?_
        refine G_icmp_le 76 60 dX1_year_57 (by decide) rfl (fun u29 => ?_) (fun u29 => ?_)
        · have h := h.1 u29
          refine G_iconst (v := 0) 77 dX1_year_76 (by decide) rfl ?_
          refine G_istore 79 [va_rf l0, .int l1, .int l2, .int l3, va_rf l4, va_rf x10, .int 0] dX1_year_77 (Nat.le_of_ble_eq_true rfl) rfl rfl ?_
          refine G_aload 81 dX1_year_79 rfl rfl ?_
          refine G_getI (f := 37) (a := a26) "TrophyPlates" 84 dX1_year_81 (Or.inr q1457) (Or.inl rfl) rfl e27 (hf37 c28) rfl ?_
          refine G_iload_n 85 dX1_year_84 rfl rfl ?_
          refine G_icmp_ne 101 88 dX1_year_85 (by decide) rfl (fun u30 => ?_) (fun u30 => ?_)
          · have h := h.1 u30
            refine G_iload_n 102 dX1_year_101 rfl rfl ?_
            refine G_istore_n 103 [va_rf l0, .int l1, .int l2, .int l3, va_rf l4, va_rf x10, .int 0] dX1_year_102 (Nat.le_of_ble_eq_true rfl) rfl rfl ?_
            refine G_goto 19 dX1_year_103 (by decide) ?_
            exact h
          · have h := h.2 u30
            refine G_iload 90 dX1_year_88 rfl rfl ?_
            refine G_if_eq 101 93 dX1_year_90 (by decide) rfl (fun _ => ?_) (fun q => absurd q (by decide))
            refine G_iload_n 102 dX1_year_101 rfl rfl ?_
            refine G_istore_n 103 [va_rf l0, .int l1, .int l2, .int l3, va_rf l4, va_rf x10, .int 0] dX1_year_102 (Nat.le_of_ble_eq_true rfl) rfl rfl ?_
            refine G_goto 19 dX1_year_103 (by decide) ?_
            exact h
        · have h := h.2 u29
          refine G_goto 72 dX1_year_60 (by decide) ?_
          refine G_iconst (v := 1) 73 dX1_year_72 (by decide) rfl ?_
          refine G_goto 77 dX1_year_73 (by decide) ?_
          refine G_istore 79 [va_rf l0, .int l1, .int l2, .int l3, va_rf l4, va_rf x10, .int 1] dX1_year_77 (Nat.le_of_ble_eq_true rfl) rfl rfl ?_
          refine G_aload 81 dX1_year_79 rfl rfl ?_
          refine G_getI (f := 37) (a := a26) "TrophyPlates" 84 dX1_year_81 (Or.inr q1457) (Or.inl rfl) rfl e27 (hf37 c28) rfl ?_
          refine G_iload_n 85 dX1_year_84 rfl rfl ?_
          refine G_icmp_ne 101 88 dX1_year_85 (by decide) rfl (fun u31 => ?_) (fun u31 => ?_)
          · have h := h.1 u31
            refine G_iload_n 102 dX1_year_101 rfl rfl ?_
            refine G_istore_n 103 [va_rf l0, .int l1, .int l2, .int l3, va_rf l4, va_rf x10, .int 1] dX1_year_102 (Nat.le_of_ble_eq_true rfl) rfl rfl ?_
            refine G_goto 19 dX1_year_103 (by decide) ?_
            exact h
          · have h := h.2 u31
            refine G_iload 90 dX1_year_88 rfl rfl ?_
            refine G_if_eq 101 93 dX1_year_90 (by decide) rfl (fun q => absurd q (by decide)) (fun _ => ?_)
            refine G_aload 95 dX1_year_93 rfl rfl ?_
            refine G_getI (f := 38) (a := a26) "TrophyPlates" 98 dX1_year_95 (Or.inr q1460) (Or.inl rfl) rfl e27 (hf38 c28) rfl ?_
            refine G_goto 102 dX1_year_98 (by decide) ?_
            refine G_istore_n 103 [va_rf l0, .int l1, .int l2, .int (FI s9 38 a26), va_rf l4, va_rf x10, .int 1] dX1_year_102 (Nat.le_of_ble_eq_true rfl) rfl rfl ?_
            refine G_goto 19 dX1_year_103 (by decide) ?_
            exact h
theorem eX1_year {w : Wt} {K : Sg → Int32 → Prop} {σ : Sg} (l0 : Option Nat) (l1 : Int32) (l2 : Int32) (h : G w mX1_year (KI K) 2 7 σ 0 [va_rf l0, .int l1, .int l2, U_, U_, U_, U_] []) : CalI w mX1_year σ [va_rf l0, .int l1, .int l2] K :=
  Cal.start 4 mX1_year_plain (catR (catI (catI cat0))) (Nat.le_of_ble_eq_true rfl) rfl h
set_option maxHeartbeats 4000000 in
theorem bX1_slip_0 {w : Wt} {K : Sg → Int32 → Prop} {rc rs : Nat} {σ : Sg} (l0 : Option Nat) (h : ∃ a1, l0 = some a1 ∧ kd σ a1 = 11 ∧ ∀ s4, s4 = sFI σ 13 a1 ((FI σ 13 a1) + 1) → ∃ a6, FR s4 3 a1 = some a6 ∧ kd s4 a6 = 20 ∧ CalR w mJ2_get s4 [va_rf (FR s4 3 a1), .int (FI s4 9 a1)] (fun s8 x9 => Ext s4 s8 → (x9 = none ∨ ∃ b, x9 = some b ∧ kd s8 b = 15) ∧ ∃ a14, x9 = some a14 ∧ kd s8 a14 = 15 ∧ ∃ a17, FR s8 8 a1 = some a17 ∧ kd s8 a17 = 17 ∧ ∃ a20, FR s8 36 a14 = some a20 ∧ kd s8 a20 = 1 ∧ vp_in (FI s8 10 a1) (ln s8 a20) ∧ ∀ s24, s24 = sAI s8 a20 (FI s8 10 a1).toNatClampNeg (FI s8 42 a17) → ∃ a26, FR s24 8 a1 = some a26 ∧ kd s24 a26 = 17 ∧ CalI w mX5_isReady s24 [va_rf x9, .int (1 - (FI s24 10 a1)), .int (FI s24 42 a26)] (fun s29 x30 => Ext s24 s29 → ((x30 = 0 → ∃ a34, FR s29 8 a1 = some a34 ∧ kd s29 a34 = 17 ∧ CalI w mX5_canBeGround s29 [va_rf x9, .int (FI s29 10 a1), .int (FI s29 42 a34)] (fun s37 x38 => Ext s29 s37 → ((x38 = 0 → ∀ s42, s42 = sFI s37 35 a14 3 → CalV w mX1_rest s42 [va_rf l0] (fun s44 => Ext s42 s44 → K s44 3)) ∧ (¬ x38 = 0 → CalV w mX1_grind s37 [va_rf l0, .int (FI s37 9 a1), .int (FI s37 10 a1)] (fun s47 => Ext s37 s47 → ∃ a50, FR s47 8 a1 = some a50 ∧ kd s47 a50 = 17 ∧ CalI w mX7_effort s47 [va_rf (FR s47 8 a1)] (fun s52 x53 => Ext s47 s52 → ∀ s57, s57 = sFI s52 11 a1 (x53 + 10) → K s57 2)))))) ∧ (¬ x30 = 0 → ∀ s59, s59 = sFI s29 10 a1 (1 - (FI s29 10 a1)) → ∃ a61, FR s59 8 a1 = some a61 ∧ kd s59 a61 = 17 ∧ CalI w mX7_effort s59 [va_rf (FR s59 8 a1)] (fun s63 x64 => Ext s59 s63 → ∀ s68, s68 = sFI s63 11 a1 x64 → K s68 1)))))) : G w mX1_slip (KI K) (rc) (rs) σ 0 [va_rf l0, U_] [] := by
  refine G_aload_n 1 dX1_slip_0 rfl rfl ?_
  refine G_dup 2 dX1_slip_1 (rf_cat _) rfl ?_
  obtain ⟨a1, e2, h⟩ := h
  obtain ⟨c3, h⟩ := h
  refine G_getI (f := 13) (a := a1) "" 5 dX1_slip_2 (Or.inl q203) (Or.inl rfl) rfl e2 (hf13 c3) rfl ?_
  refine G_iconst (v := 1) 6 dX1_slip_5 (by decide) rfl ?_
  refine G_iadd 7 dX1_slip_6 rfl ?_
  refine G_putI (f := 13) (a := a1) "" 10 dX1_slip_7 (Or.inl q203) (Or.inl rfl) rfl e2 (hp13 c3) (nk13 c3) (Or.inl rfl) rfl rfl rfl ?_
  generalize hs4 : sFI σ 13 a1 ((FI σ 13 a1) + 1) = s4
  have x5 : ∀ a, ¬ kd σ a = 0 → kd s4 a = kd σ a := by subst hs4; exact fun a _ => congrFun kd_sFI a
  have h := h s4 hs4.symm
  refine G_aload_n 11 dX1_slip_10 rfl rfl ?_
  have c3 := kdE x5 c3 (by decide)
  refine G_getR (f := 3) (a := a1) "" 14 dX1_slip_11 (Or.inl q184) (Or.inl rfl) rfl e2 (hf3 c3) rfl ?_
  refine G_aload_n 15 dX1_slip_14 rfl rfl ?_
  refine G_getI (f := 9) (a := a1) "" 18 dX1_slip_15 (Or.inl q196) (Or.inl rfl) rfl e2 (hf9 c3) rfl ?_
  obtain ⟨a6, e7, h⟩ := h
  obtain ⟨c10, h⟩ := h
  refine G_invF (N := mJ2_get) (x := ⟨"java/util/List", "get", "(I)Ljava/lang/Object;"⟩) (As := [.int (FI s4 9 a1)]) (st := []) (t := (FR s4 3 a1)) (b := a6) (rc) (rs) 23 dX1_slip_18 q1425 q1393 q1395 q35 q1397 q1392 q1391 q1396 q1394 q307 rfl ax32 ⟨Nat.le_of_ble_eq_true rfl, Nat.le_of_ble_eq_true rfl⟩ rfl (Nat.zero_le _) e7 (rk20 c10) (le_b mJ2_get_c (Nat.le_refl _)) (le_b mJ2_get_s (Nat.le_refl _)) rfl (Cal.mono h ?_)
  rintro s8 v ⟨x9, rfl, h⟩ hx11
  have h := h hx11
  have x12 := hx11.x
  show G w mX1_slip (KI K) (rc) (rs) s8 23 [va_rf l0, U_] [va_rf x9]
  obtain ⟨c13, h⟩ := h
  refine G_cast 26 dX1_slip_23 q464 rfl (c13.imp id (fun ⟨b, e, k⟩ => ⟨b, e, co4 k⟩)) ?_
  refine G_astore_n 27 [va_rf l0, va_rf x9] dX1_slip_26 (Nat.le_of_ble_eq_true rfl) rfl rfl ?_
  refine G_aload_n 28 dX1_slip_27 rfl rfl ?_
  obtain ⟨a14, e15, h⟩ := h
  obtain ⟨c16, h⟩ := h
  refine G_getR (f := 36) (a := a14) "TrophyPlates" 31 dX1_slip_28 (Or.inr q486) (Or.inl rfl) rfl e15 (hf36 c16) rfl ?_
  refine G_aload_n 32 dX1_slip_31 rfl rfl ?_
  have c3 := kdE x12 c3 (by decide)
  refine G_getI (f := 10) (a := a1) "" 35 dX1_slip_32 (Or.inl q198) (Or.inl rfl) rfl e2 (hf10 c3) rfl ?_
  refine G_aload_n 36 dX1_slip_35 rfl rfl ?_
  refine G_getR (f := 8) (a := a1) "" 39 dX1_slip_36 (Or.inl q194) (Or.inl rfl) rfl e2 (hf8 c3) rfl ?_
  obtain ⟨a17, e18, h⟩ := h
  obtain ⟨c19, h⟩ := h
  refine G_getI (f := 42) (a := a17) "TrophyPlates" 42 dX1_slip_39 (Or.inr q1751) (Or.inl rfl) rfl e18 (hf42 c19) rfl ?_
  obtain ⟨a20, e21, h⟩ := h
  obtain ⟨c22, h⟩ := h
  obtain ⟨c23, h⟩ := h
  refine G_iast (a := a20) 43 dX1_slip_42 rfl e21 c22 c23 ?_
  generalize hs24 : sAI s8 a20 (FI s8 10 a1).toNatClampNeg (FI s8 42 a17) = s24
  have x25 : ∀ a, ¬ kd s8 a = 0 → kd s24 a = kd s8 a := by subst hs24; exact fun a _ => congrFun kd_sAI a
  have h := h s24 hs24.symm
  refine G_aload_n 44 dX1_slip_43 rfl rfl ?_
  refine G_iconst (v := 1) 45 dX1_slip_44 (by decide) rfl ?_
  refine G_aload_n 46 dX1_slip_45 rfl rfl ?_
  have c3 := kdE x25 c3 (by decide)
  refine G_getI (f := 10) (a := a1) "" 49 dX1_slip_46 (Or.inl q198) (Or.inl rfl) rfl e2 (hf10 c3) rfl ?_
  refine G_isub 50 dX1_slip_49 rfl ?_
  refine G_aload_n 51 dX1_slip_50 rfl rfl ?_
  refine G_getR (f := 8) (a := a1) "" 54 dX1_slip_51 (Or.inl q194) (Or.inl rfl) rfl e2 (hf8 c3) rfl ?_
  obtain ⟨a26, e27, h⟩ := h
  obtain ⟨c28, h⟩ := h
  refine G_getI (f := 42) (a := a26) "TrophyPlates" 57 dX1_slip_54 (Or.inr q1751) (Or.inl rfl) rfl e27 (hf42 c28) rfl ?_
  have c16 := kdE x25 c16 (by decide)
  refine G_invV (N := mX5_isReady) (As := [.int (1 - (FI s24 10 a1)), .int (FI s24 42 a26)]) (st := []) (t := x9) (b := a14) (rc) (rs) 60 dX1_slip_57 q2010 q1915 q1916 q47 q1917 rfl rfl mX5_isReady_args ⟨Nat.le_of_ble_eq_true rfl, Nat.le_of_ble_eq_true rfl⟩ rfl (Nat.zero_le _) e15 (rk15 c16) (le_b mX5_isReady_c (Nat.le_refl _)) (le_b mX5_isReady_s (Nat.le_refl _)) rfl (Cal.mono h ?_)
  rintro s29 v ⟨x30, rfl, h⟩ hx31
  have h := h hx31
  have x32 := hx31.x
  show G w mX1_slip (KI K) (rc) (rs) s29 60 [va_rf l0, va_rf x9] [.int x30]
  refine G_if_eq 86 63 dX1_slip_60 (by decide) rfl (fun u33 => ?_) (fun u33 => ?_)
  · have h := h.1 u33
    refine G_aload_n 87 dX1_slip_86 rfl rfl ?_
    refine G_aload_n 88 dX1_slip_87 rfl rfl ?_
    have c3 := kdE x32 c3 (by decide)
    refine G_getI (f := 10) (a := a1) "" 91 dX1_slip_88 (Or.inl q198) (Or.inl rfl) rfl e2 (hf10 c3) rfl ?_
    refine G_aload_n 92 dX1_slip_91 rfl rfl ?_
    refine G_getR (f := 8) (a := a1) "" 95 dX1_slip_92 (Or.inl q194) (Or.inl rfl) rfl e2 (hf8 c3) rfl ?_
    obtain ⟨a34, e35, h⟩ := h
    obtain ⟨c36, h⟩ := h
    refine G_getI (f := 42) (a := a34) "TrophyPlates" 98 dX1_slip_95 (Or.inr q1751) (Or.inl rfl) rfl e35 (hf42 c36) rfl ?_
    have c16 := kdE x32 c16 (by decide)
    refine G_invV (N := mX5_canBeGround) (As := [.int (FI s29 10 a1), .int (FI s29 42 a34)]) (st := []) (t := x9) (b := a14) (rc) (rs) 101 dX1_slip_98 q2011 q1911 q1912 q47 q1913 rfl rfl mX5_canBeGround_args ⟨Nat.le_of_ble_eq_true rfl, Nat.le_of_ble_eq_true rfl⟩ rfl (Nat.zero_le _) e15 (rk15 c16) (le_b mX5_canBeGround_c (Nat.le_refl _)) (le_b mX5_canBeGround_s (Nat.le_refl _)) rfl (Cal.mono h ?_)
    rintro s37 v ⟨x38, rfl, h⟩ hx39
    have h := h hx39
    have x40 := hx39.x
    show G w mX1_slip (KI K) (rc) (rs) s37 101 [va_rf l0, va_rf x9] [.int x38]
    refine G_if_eq 132 104 dX1_slip_101 (by decide) rfl (fun u41 => ?_) (fun u41 => ?_)
    · have h := h.1 u41
      refine G_aload_n 133 dX1_slip_132 rfl rfl ?_
      refine G_iconst (v := 3) 134 dX1_slip_133 (by decide) rfl ?_
      have c16 := kdE x40 c16 (by decide)
      refine G_putI (f := 35) (a := a14) "TrophyPlates" 137 dX1_slip_134 (Or.inr ⟨q482, rfl⟩) (Or.inl rfl) rfl e15 (hp35 c16) (nk35 c16) (Or.inl rfl) rfl rfl rfl ?_
      generalize hs42 : sFI s37 35 a14 3 = s42
      have x43 : ∀ a, ¬ kd s37 a = 0 → kd s42 a = kd s37 a := by subst hs42; exact fun a _ => congrFun kd_sFI a
      have h := h s42 hs42.symm
      refine G_aload_n 138 dX1_slip_137 rfl rfl ?_
      have c3 := kdE x40 c3 (by decide)
      have c3 := kdE x43 c3 (by decide)
      refine G_invV (N := mX1_rest) (As := []) (st := []) (t := l0) (b := a1) (rc) (rs) 141 dX1_slip_138 q1827 q1829 qs10 q32 q1830 rfl rfl mX1_rest_args ⟨Nat.le_of_ble_eq_true rfl, Nat.le_of_ble_eq_true rfl⟩ rfl (Nat.zero_le _) e2 (rk11 c3) (le_b mX1_rest_c (Nat.le_refl _)) (le_b mX1_rest_s (Nat.le_refl _)) rfl (Cal.mono h ?_)
      rintro s44 v ⟨rfl, h⟩ hx45
      have h := h hx45
      have x46 := hx45.x
      show G w mX1_slip (KI K) (rc) (rs) s44 141 [va_rf l0, va_rf x9] []
      refine G_iconst (v := 3) 142 dX1_slip_141 (by decide) rfl ?_
      exact G_iret dX1_slip_142 rfl ⟨_, rfl, h⟩
    · have h := h.2 u41
      refine G_aload_n 105 dX1_slip_104 rfl rfl ?_
      refine G_aload_n 106 dX1_slip_105 rfl rfl ?_
      have c3 := kdE x40 c3 (by decide)
      refine G_getI (f := 9) (a := a1) "" 109 dX1_slip_106 (Or.inl q196) (Or.inl rfl) rfl e2 (hf9 c3) rfl ?_
      refine G_aload_n 110 dX1_slip_109 rfl rfl ?_
      refine G_getI (f := 10) (a := a1) "" 113 dX1_slip_110 (Or.inl q198) (Or.inl rfl) rfl e2 (hf10 c3) rfl ?_
      refine G_invV (N := mX1_grind) (As := [.int (FI s37 9 a1), .int (FI s37 10 a1)]) (st := []) (t := l0) (b := a1) (rc) (rs) 116 dX1_slip_113 q1948 q1422 qs6 q32 q1423 rfl rfl mX1_grind_args ⟨Nat.le_of_ble_eq_true rfl, Nat.le_of_ble_eq_true rfl⟩ rfl (Nat.zero_le _) e2 (rk11 c3) (le_b mX1_grind_c (Nat.le_refl _)) (le_b mX1_grind_s (Nat.le_refl _)) rfl (Cal.mono h ?_)
      rintro s47 v ⟨rfl, h⟩ hx48
      have h := h hx48
      have x49 := hx48.x
      show G w mX1_slip (KI K) (rc) (rs) s47 116 [va_rf l0, va_rf x9] []
      refine G_aload_n 117 dX1_slip_116 rfl rfl ?_
      refine G_aload_n 118 dX1_slip_117 rfl rfl ?_
      have c3 := kdE x49 c3 (by decide)
      refine G_getR (f := 8) (a := a1) "" 121 dX1_slip_118 (Or.inl q194) (Or.inl rfl) rfl e2 (hf8 c3) rfl ?_
      obtain ⟨a50, e51, h⟩ := h
      obtain ⟨c54, h⟩ := h
      refine G_invV (N := mX7_effort) (As := []) (st := [va_rf l0]) (t := (FR s47 8 a1)) (b := a50) (rc) (rs) 124 dX1_slip_121 q1943 q1944 q1945 q76 q1946 rfl rfl mX7_effort_args ⟨Nat.le_of_ble_eq_true rfl, Nat.le_of_ble_eq_true rfl⟩ rfl (Nat.le_trans (w_R w_0) (Nat.le_of_ble_eq_true rfl)) e51 (rk17 c54) (le_b mX7_effort_c (Nat.le_refl _)) (le_b mX7_effort_s (Nat.le_refl _)) rfl (Cal.mono h ?_)
      rintro s52 v ⟨x53, rfl, h⟩ hx55
      have h := h hx55
      have x56 := hx55.x
      show G w mX1_slip (KI K) (rc) (rs) s52 124 [va_rf l0, va_rf x9] [.int x53, va_rf l0]
      refine G_bipush (v := 10) 126 dX1_slip_124 (by decide) rfl ?_
      refine G_iadd 127 dX1_slip_126 rfl ?_
      have c3 := kdE x56 c3 (by decide)
      refine G_putI (f := 11) (a := a1) "" 130 dX1_slip_127 (Or.inl q199) (Or.inl rfl) rfl e2 (hp11 c3) (nk11 c3) (Or.inl rfl) rfl rfl rfl ?_
      generalize hs57 : sFI s52 11 a1 (x53 + 10) = s57
      have x58 : ∀ a, ¬ kd s52 a = 0 → kd s57 a = kd s52 a := by subst hs57; exact fun a _ => congrFun kd_sFI a
      have h := h s57 hs57.symm
      refine G_iconst (v := 2) 131 dX1_slip_130 (by decide) rfl ?_
      exact G_iret dX1_slip_131 rfl ⟨_, rfl, h⟩
  · have h := h.2 u33
    refine G_aload_n 64 dX1_slip_63 rfl rfl ?_
    refine G_iconst (v := 1) 65 dX1_slip_64 (by decide) rfl ?_
    refine G_aload_n 66 dX1_slip_65 rfl rfl ?_
    have c3 := kdE x32 c3 (by decide)
    refine G_getI (f := 10) (a := a1) "" 69 dX1_slip_66 (Or.inl q198) (Or.inl rfl) rfl e2 (hf10 c3) rfl ?_
    refine G_isub 70 dX1_slip_69 rfl ?_
    refine G_putI (f := 10) (a := a1) "" 73 dX1_slip_70 (Or.inl q198) (Or.inl rfl) rfl e2 (hp10 c3) (nk10 c3) (Or.inl rfl) rfl rfl rfl ?_
    generalize hs59 : sFI s29 10 a1 (1 - (FI s29 10 a1)) = s59
    have x60 : ∀ a, ¬ kd s29 a = 0 → kd s59 a = kd s29 a := by subst hs59; exact fun a _ => congrFun kd_sFI a
    have h := h s59 hs59.symm
    refine G_aload_n 74 dX1_slip_73 rfl rfl ?_
    refine G_aload_n 75 dX1_slip_74 rfl rfl ?_
    have c3 := kdE x60 c3 (by decide)
    refine G_getR (f := 8) (a := a1) "" 78 dX1_slip_75 (Or.inl q194) (Or.inl rfl) rfl e2 (hf8 c3) rfl ?_
    obtain ⟨a61, e62, h⟩ := h
    obtain ⟨c65, h⟩ := h
    refine G_invV (N := mX7_effort) (As := []) (st := [va_rf l0]) (t := (FR s59 8 a1)) (b := a61) (rc) (rs) 81 dX1_slip_78 q1943 q1944 q1945 q76 q1946 rfl rfl mX7_effort_args ⟨Nat.le_of_ble_eq_true rfl, Nat.le_of_ble_eq_true rfl⟩ rfl (Nat.le_trans (w_R w_0) (Nat.le_of_ble_eq_true rfl)) e62 (rk17 c65) (le_b mX7_effort_c (Nat.le_refl _)) (le_b mX7_effort_s (Nat.le_refl _)) rfl (Cal.mono h ?_)
    rintro s63 v ⟨x64, rfl, h⟩ hx66
    have h := h hx66
    have x67 := hx66.x
    show G w mX1_slip (KI K) (rc) (rs) s63 81 [va_rf l0, va_rf x9] [.int x64, va_rf l0]
    have c3 := kdE x67 c3 (by decide)
    refine G_putI (f := 11) (a := a1) "" 84 dX1_slip_81 (Or.inl q199) (Or.inl rfl) rfl e2 (hp11 c3) (nk11 c3) (Or.inl rfl) rfl rfl rfl ?_
    generalize hs68 : sFI s63 11 a1 x64 = s68
    have x69 : ∀ a, ¬ kd s63 a = 0 → kd s68 a = kd s63 a := by subst hs68; exact fun a _ => congrFun kd_sFI a
    have h := h s68 hs68.symm
    refine G_iconst (v := 1) 85 dX1_slip_84 (by decide) rfl ?_
    exact G_iret dX1_slip_85 rfl ⟨_, rfl, h⟩
theorem eX1_slip {w : Wt} {K : Sg → Int32 → Prop} {σ : Sg} (l0 : Option Nat) (h : G w mX1_slip (KI K) 0 0 σ 0 [va_rf l0, U_] []) : CalI w mX1_slip σ [va_rf l0] K :=
  Cal.start 1 mX1_slip_plain (catR cat0) (Nat.le_of_ble_eq_true rfl) rfl h
set_option maxHeartbeats 4000000 in
theorem bX1_times_0 {w : Wt} {K : Sg → Option Nat → Prop} {rc rs : Nat} {σ : Sg} (l0 : Option Nat) (h : ∃ a1, l0 = some a1 ∧ kd σ a1 = 11 ∧ CalR w mX1_copy σ [va_rf l0] (fun s3 x4 => Ext σ s3 → ∀ n9, n9 = nx s3 → kd s3 n9 = 0 → ∀ s10, s10 = nO s3 21 → CalV w mJ5_init s10 [va_rf (some n9)] (fun s13 => Ext s10 s13 → G w mX1_times (KR K) (rc) (rs) s13 18 [va_rf l0, va_rf x4, va_rf (some n9), .int 0, .int (-1), U_, U_] []))) : G w mX1_times (KR K) (rc + 601) (rs + 10012) σ 0 [va_rf l0, U_, U_, U_, U_, U_, U_] [] := by
  refine G_aload_n 1 dX1_times_0 rfl rfl ?_
  obtain ⟨a1, e2, h⟩ := h
  obtain ⟨c5, h⟩ := h
  refine G_invV (N := mX1_copy) (As := []) (st := []) (t := l0) (b := a1) (rc + 1) (rs + 12) 4 dX1_times_1 q2101 q337 q338 q32 q339 rfl rfl mX1_copy_args ⟨Nat.le_of_ble_eq_true rfl, Nat.le_of_ble_eq_true rfl⟩ rfl (Nat.zero_le _) e2 (rk11 c5) (le_b mX1_copy_c (Nat.le_refl _)) (le_b mX1_copy_s (Nat.le_refl _)) rfl (Cal.mono h ?_)
  rintro s3 v ⟨x4, rfl, h⟩ hx6
  have h := h hx6
  have x7 := hx6.x
  show G w mX1_times (KR K) (rc + 1) (rs + 12) s3 4 [va_rf l0, U_, U_, U_, U_, U_, U_] [va_rf x4]
  refine G_astore_n 5 [va_rf l0, va_rf x4, U_, U_, U_, U_, U_] dX1_times_4 (Nat.le_of_ble_eq_true rfl) rfl rfl ?_
  refine G_new (cc := 11) (kn := 21) (q := (RJ5, TJ5, 12)) (rc) (rs) 8 dX1_times_5 rfl q122 q123 q38 rfl rfl (Nat.le_refl _) (Nat.le_refl _) (fun z8 => ?_)
  generalize hn9 : nx s3 = n9 at z8 ⊢
  generalize hs10 : nO s3 21 = s10
  have x11 : ∀ a, ¬ kd s3 a = 0 → kd s10 a = kd s3 a := by subst hs10 hn9; exact kdNx z8
  have c12 : kd s10 n9 = 21 := by subst hs10 hn9; exact kdO_self
  have h := h n9 hn9.symm z8 s10 hs10.symm
  refine G_dup 9 dX1_times_8 (rf_cat _) rfl ?_
  refine G_invI (N := mJ5_init) (As := []) (st := [va_rf (some n9)]) (t := (some n9)) (b := n9) (rc) (rs) "" 12 dX1_times_9 (Or.inl q124) q125 q38 q126 rfl rfl rfl mJ5_init_args ⟨Nat.le_of_ble_eq_true rfl, Nat.le_of_ble_eq_true rfl⟩ rfl rfl (Nat.le_trans (w_R w_0) (Nat.le_of_ble_eq_true rfl)) (le_b mJ5_init_c (Nat.le_refl _)) (le_b mJ5_init_s (Nat.le_refl _)) rfl (Cal.mono h ?_)
  rintro s13 v ⟨rfl, h⟩ hx14
  have h := h hx14
  have x15 := hx14.x
  show G w mX1_times (KR K) (rc) (rs) s13 12 [va_rf l0, va_rf x4, U_, U_, U_, U_, U_] [va_rf (some n9)]
  refine G_astore_n 13 [va_rf l0, va_rf x4, va_rf (some n9), U_, U_, U_, U_] dX1_times_12 (Nat.le_of_ble_eq_true rfl) rfl rfl ?_
  refine G_iconst (v := 0) 14 dX1_times_13 (by decide) rfl ?_
  refine G_istore_n 15 [va_rf l0, va_rf x4, va_rf (some n9), .int 0, U_, U_, U_] dX1_times_14 (Nat.le_of_ble_eq_true rfl) rfl rfl ?_
  refine G_iconst (v := (-1)) 16 dX1_times_15 (by decide) rfl ?_
  refine G_istore 18 [va_rf l0, va_rf x4, va_rf (some n9), .int 0, .int (-1), U_, U_] dX1_times_16 (Nat.le_of_ble_eq_true rfl) rfl rfl ?_
  exact h
set_option maxHeartbeats 4000000 in
theorem bX1_times_18 {w : Wt} {K : Sg → Option Nat → Prop} {rc rs : Nat} {σ : Sg} (l0 : Option Nat) (l1 : Option Nat) (l2 : Option Nat) (l3 : Int32) (l4 : Int32) (v5 : Value) (v6 : Value) (h : ((l4 = 0 → K σ l2) ∧ (¬ l4 = 0 → ∃ a2, l1 = some a2 ∧ kd σ a2 = 11 ∧ ((¬ FR σ 8 a2 = none → CalI w mX1_step σ [va_rf l1, .int 100000] (fun s6 x7 => Ext σ s6 → ((FR σ 8 a2 = none → G w mX1_times (KR K) (rc + 86) (rs + 631) s6 18 [va_rf l0, va_rf l1, va_rf l2, .int (l3 + x7), .int x7, va_rf (FR σ 8 a2), v6] []) ∧ (¬ FR σ 8 a2 = none → ∃ a11, FR σ 8 a2 = some a11 ∧ kd s6 a11 = 17 ∧ CalR w mJ26_valueOf s6 [.int (l3 + x7)] (fun s14 x15 => Ext s6 s14 → ∃ a18, l2 = some a18 ∧ kd s14 a18 = 21 ∧ CalR w mJ4_put s14 [va_rf l2, va_rf (FR s6 39 a11), va_rf x15] (fun s20 x21 => Ext s14 s20 → (x21 = none ∨ ∃ b, x21 = some b ∧ kd s20 b ∈ [29, 6]) ∧ G w mX1_times (KR K) (rc + 60) (rs + 180) s20 18 [va_rf l0, va_rf l1, va_rf l2, .int (l3 + x7), .int x7, va_rf (FR σ 8 a2), va_rf x21] [])))))) ∧ (FR σ 8 a2 = none → CalI w mX1_begin σ [va_rf l1] (fun s26 x27 => Ext σ s26 → ((x27 = 0 → CalI w mX1_step s26 [va_rf l1, .int 100000] (fun s31 x32 => Ext s26 s31 → G w mX1_times (KR K) (rc + 26) (rs + 451) s31 18 [va_rf l0, va_rf l1, va_rf l2, .int (l3 + x32), .int x32, va_rf none, v6] [])) ∧ (¬ x27 = 0 → CalI w mX1_step s26 [va_rf l1, .int 100000] (fun s35 x36 => Ext s26 s35 → ((FR s26 8 a2 = none → G w mX1_times (KR K) (rc + 26) (rs + 451) s35 18 [va_rf l0, va_rf l1, va_rf l2, .int (l3 + x36), .int x36, va_rf (FR s26 8 a2), v6] []) ∧ (¬ FR s26 8 a2 = none → ∃ a40, FR s26 8 a2 = some a40 ∧ kd s35 a40 = 17 ∧ CalR w mJ26_valueOf s35 [.int (l3 + x36)] (fun s43 x44 => Ext s35 s43 → ∃ a47, l2 = some a47 ∧ kd s43 a47 = 21 ∧ CalR w mJ4_put s43 [va_rf l2, va_rf (FR s35 39 a40), va_rf x44] (fun s49 x50 => Ext s43 s49 → (x50 = none ∨ ∃ b, x50 = some b ∧ kd s49 b ∈ [29, 6]) ∧ G w mX1_times (KR K) (rc) (rs) s49 18 [va_rf l0, va_rf l1, va_rf l2, .int (l3 + x36), .int x36, va_rf (FR s26 8 a2), va_rf x50] []))))))))))))) : G w mX1_times (KR K) (rc + 197) (rs + 1398) σ 18 [va_rf l0, va_rf l1, va_rf l2, .int l3, .int l4, v5, v6] [] := by
  refine G_iload 20 dX1_times_18 rfl rfl ?_
  refine G_if_eq 89 23 dX1_times_20 (by decide) rfl (fun u1 => ?_) (fun u1 => ?_)
  · have h := h.1 u1
    refine G_aload_n 90 dX1_times_89 rfl rfl ?_
    exact G_aret dX1_times_90 rfl (Or.inl ⟨_, rfl⟩) ⟨_, rfl, h⟩
  · have h := h.2 u1
    refine G_aload_n 24 dX1_times_23 rfl rfl ?_
    obtain ⟨a2, e3, h⟩ := h
    obtain ⟨c4, h⟩ := h
    refine G_getR (f := 8) (a := a2) "" 27 dX1_times_24 (Or.inl q194) (Or.inl rfl) rfl e3 (hf8 c4) rfl ?_
    refine G_ifnonnull 37 30 dX1_times_27 (by decide) rfl (fun u5 => ?_) (fun u5 => ?_)
    · have h := h.1 u5
      refine G_aload_n 38 dX1_times_37 rfl rfl ?_
      refine G_getR (f := 8) (a := a2) "" 41 dX1_times_38 (Or.inl q194) (Or.inl rfl) rfl e3 (hf8 c4) rfl ?_
      refine G_goto 45 dX1_times_41 (by decide) ?_
      refine G_astore 47 [va_rf l0, va_rf l1, va_rf l2, .int l3, .int l4, va_rf (FR σ 8 a2), v6] dX1_times_45 (Nat.le_of_ble_eq_true rfl) rfl rfl ?_
      refine G_aload_n 48 dX1_times_47 rfl rfl ?_
      refine G_ldcw (v := 100000) 51 dX1_times_48 q2102 rfl ?_
      refine G_invV (N := mX1_step) (As := [.int 100000]) (st := []) (t := l1) (b := a2) (rc + 86) (rs + 631) 54 dX1_times_51 q1839 q1841 qs11 q32 q1842 rfl rfl mX1_step_args ⟨Nat.le_of_ble_eq_true rfl, Nat.le_of_ble_eq_true rfl⟩ rfl (Nat.zero_le _) e3 (rk11 c4) (le_b mX1_step_c (Nat.le_refl _)) (le_b mX1_step_s (Nat.le_refl _)) rfl (Cal.mono h ?_)
      rintro s6 v ⟨x7, rfl, h⟩ hx8
      have h := h hx8
      have x9 := hx8.x
      show G w mX1_times (KR K) (rc + 86) (rs + 631) s6 54 [va_rf l0, va_rf l1, va_rf l2, .int l3, .int l4, va_rf (FR σ 8 a2), v6] [.int x7]
      refine G_istore 56 [va_rf l0, va_rf l1, va_rf l2, .int l3, .int x7, va_rf (FR σ 8 a2), v6] dX1_times_54 (Nat.le_of_ble_eq_true rfl) rfl rfl ?_
      refine G_iload_n 57 dX1_times_56 rfl rfl ?_
      refine G_iload 59 dX1_times_57 rfl rfl ?_
      refine G_iadd 60 dX1_times_59 rfl ?_
      refine G_istore_n 61 [va_rf l0, va_rf l1, va_rf l2, .int (l3 + x7), .int x7, va_rf (FR σ 8 a2), v6] dX1_times_60 (Nat.le_of_ble_eq_true rfl) rfl rfl ?_
      refine G_aload 63 dX1_times_61 rfl rfl ?_
      refine G_ifnull 86 66 dX1_times_63 (by decide) rfl (fun u10 => ?_) (fun u10 => ?_)
      · have h := h.1 u10
        refine G_goto 18 dX1_times_86 (by decide) ?_
        exact h
      · have h := h.2 u10
        refine G_aload_n 67 dX1_times_66 rfl rfl ?_
        refine G_aload 69 dX1_times_67 rfl rfl ?_
        obtain ⟨a11, e12, h⟩ := h
        obtain ⟨c13, h⟩ := h
        refine G_getR (f := 39) (a := a11) "TrophyPlates" 72 dX1_times_69 (Or.inr q1744) (Or.inl rfl) rfl e12 (hf39 c13) rfl ?_
        refine G_iload_n 73 dX1_times_72 rfl rfl ?_
        refine G_invS (N := mJ26_valueOf) (As := [.int (l3 + x7)]) (st := [va_rf (FR s6 39 a11), va_rf l2]) (rc + 85) (rs + 630) "" 76 dX1_times_73 (Or.inl q1954) q1955 q64 q1956 rfl mJ26_valueOf_args ⟨Nat.le_of_ble_eq_true rfl, Nat.le_of_ble_eq_true rfl⟩ rfl (Nat.le_trans (w_R (w_R w_0)) (Nat.le_of_ble_eq_true rfl)) (le_b mJ26_valueOf_c (Nat.le_refl _)) (le_b mJ26_valueOf_s (Nat.le_refl _)) rfl (Cal.mono h ?_)
        rintro s14 v ⟨x15, rfl, h⟩ hx16
        have h := h hx16
        have x17 := hx16.x
        show G w mX1_times (KR K) (rc + 85) (rs + 630) s14 76 [va_rf l0, va_rf l1, va_rf l2, .int (l3 + x7), .int x7, va_rf (FR σ 8 a2), v6] [va_rf x15, va_rf (FR s6 39 a11), va_rf l2]
        obtain ⟨a18, e19, h⟩ := h
        obtain ⟨c22, h⟩ := h
        refine G_invF (N := mJ4_put) (x := ⟨"java/util/Map", "put", "(Ljava/lang/Object;Ljava/lang/Object;)Ljava/lang/Object;"⟩) (As := [va_rf (FR s6 39 a11), va_rf x15]) (st := []) (t := l2) (b := a18) (rc + 60) (rs + 180) 81 dX1_times_76 q802 q1369 q807 q37 q809 q804 q803 q808 q1370 q602 rfl ax28 ⟨Nat.le_of_ble_eq_true rfl, Nat.le_of_ble_eq_true rfl⟩ rfl (Nat.zero_le _) e19 (rk21 c22) (le_b mJ4_put_c (Nat.le_refl _)) (le_b mJ4_put_s (Nat.le_refl _)) rfl (Cal.mono h ?_)
        rintro s20 v ⟨x21, rfl, h⟩ hx23
        have h := h hx23
        have x24 := hx23.x
        show G w mX1_times (KR K) (rc + 60) (rs + 180) s20 81 [va_rf l0, va_rf l1, va_rf l2, .int (l3 + x7), .int x7, va_rf (FR σ 8 a2), v6] [va_rf x21]
        obtain ⟨c25, h⟩ := h
        refine G_cast 84 dX1_times_81 q800 rfl (c25.imp id (fun ⟨b, e, k⟩ => ⟨b, e, co7 k⟩)) ?_
        refine G_astore 86 [va_rf l0, va_rf l1, va_rf l2, .int (l3 + x7), .int x7, va_rf (FR σ 8 a2), va_rf x21] dX1_times_84 (Nat.le_of_ble_eq_true rfl) rfl rfl ?_
        refine G_goto 18 dX1_times_86 (by decide) ?_
        exact h
    · have h := h.2 u5
      refine G_aload_n 31 dX1_times_30 rfl rfl ?_
      refine G_invV (N := mX1_begin) (As := []) (st := []) (t := l1) (b := a2) (rc + 137) (rs + 1218) 34 dX1_times_31 q1843 q1845 qs12 q32 q1846 rfl rfl mX1_begin_args ⟨Nat.le_of_ble_eq_true rfl, Nat.le_of_ble_eq_true rfl⟩ rfl (Nat.zero_le _) e3 (rk11 c4) (le_b mX1_begin_c (Nat.le_refl _)) (le_b mX1_begin_s (Nat.le_refl _)) rfl (Cal.mono h ?_)
      rintro s26 v ⟨x27, rfl, h⟩ hx28
      have h := h hx28
      have x29 := hx28.x
      show G w mX1_times (KR K) (rc + 137) (rs + 1218) s26 34 [va_rf l0, va_rf l1, va_rf l2, .int l3, .int l4, v5, v6] [.int x27]
      refine G_if_eq 44 37 dX1_times_34 (by decide) rfl (fun u30 => ?_) (fun u30 => ?_)
      · have h := h.1 u30
        refine G_null 45 dX1_times_44 rfl ?_
        refine G_astore 47 [va_rf l0, va_rf l1, va_rf l2, .int l3, .int l4, va_rf none, v6] dX1_times_45 (Nat.le_of_ble_eq_true rfl) rfl rfl ?_
        refine G_aload_n 48 dX1_times_47 rfl rfl ?_
        refine G_ldcw (v := 100000) 51 dX1_times_48 q2102 rfl ?_
        have c4 := kdE x29 c4 (by decide)
        refine G_invV (N := mX1_step) (As := [.int 100000]) (st := []) (t := l1) (b := a2) (rc + 26) (rs + 451) 54 dX1_times_51 q1839 q1841 qs11 q32 q1842 rfl rfl mX1_step_args ⟨Nat.le_of_ble_eq_true rfl, Nat.le_of_ble_eq_true rfl⟩ rfl (Nat.zero_le _) e3 (rk11 c4) (le_b mX1_step_c (Nat.le_refl _)) (le_b mX1_step_s (Nat.le_refl _)) rfl (Cal.mono h ?_)
        rintro s31 v ⟨x32, rfl, h⟩ hx33
        have h := h hx33
        have x34 := hx33.x
        show G w mX1_times (KR K) (rc + 26) (rs + 451) s31 54 [va_rf l0, va_rf l1, va_rf l2, .int l3, .int l4, va_rf none, v6] [.int x32]
        refine G_istore 56 [va_rf l0, va_rf l1, va_rf l2, .int l3, .int x32, va_rf none, v6] dX1_times_54 (Nat.le_of_ble_eq_true rfl) rfl rfl ?_
        refine G_iload_n 57 dX1_times_56 rfl rfl ?_
        refine G_iload 59 dX1_times_57 rfl rfl ?_
        refine G_iadd 60 dX1_times_59 rfl ?_
        refine G_istore_n 61 [va_rf l0, va_rf l1, va_rf l2, .int (l3 + x32), .int x32, va_rf none, v6] dX1_times_60 (Nat.le_of_ble_eq_true rfl) rfl rfl ?_
        refine G_aload 63 dX1_times_61 rfl rfl ?_
        refine G_ifnull 86 66 dX1_times_63 (by decide) rfl (fun _ => ?_) (fun q => absurd rfl q)
        refine G_goto 18 dX1_times_86 (by decide) ?_
        exact h
      · have h := h.2 u30
        refine G_aload_n 38 dX1_times_37 rfl rfl ?_
        have c4 := kdE x29 c4 (by decide)
        refine G_getR (f := 8) (a := a2) "" 41 dX1_times_38 (Or.inl q194) (Or.inl rfl) rfl e3 (hf8 c4) rfl ?_
        refine G_goto 45 dX1_times_41 (by decide) ?_
        refine G_astore 47 [va_rf l0, va_rf l1, va_rf l2, .int l3, .int l4, va_rf (FR s26 8 a2), v6] dX1_times_45 (Nat.le_of_ble_eq_true rfl) rfl rfl ?_
        refine G_aload_n 48 dX1_times_47 rfl rfl ?_
        refine G_ldcw (v := 100000) 51 dX1_times_48 q2102 rfl ?_
        refine G_invV (N := mX1_step) (As := [.int 100000]) (st := []) (t := l1) (b := a2) (rc + 26) (rs + 451) 54 dX1_times_51 q1839 q1841 qs11 q32 q1842 rfl rfl mX1_step_args ⟨Nat.le_of_ble_eq_true rfl, Nat.le_of_ble_eq_true rfl⟩ rfl (Nat.zero_le _) e3 (rk11 c4) (le_b mX1_step_c (Nat.le_refl _)) (le_b mX1_step_s (Nat.le_refl _)) rfl (Cal.mono h ?_)
        rintro s35 v ⟨x36, rfl, h⟩ hx37
        have h := h hx37
        have x38 := hx37.x
        show G w mX1_times (KR K) (rc + 26) (rs + 451) s35 54 [va_rf l0, va_rf l1, va_rf l2, .int l3, .int l4, va_rf (FR s26 8 a2), v6] [.int x36]
        refine G_istore 56 [va_rf l0, va_rf l1, va_rf l2, .int l3, .int x36, va_rf (FR s26 8 a2), v6] dX1_times_54 (Nat.le_of_ble_eq_true rfl) rfl rfl ?_
        refine G_iload_n 57 dX1_times_56 rfl rfl ?_
        refine G_iload 59 dX1_times_57 rfl rfl ?_
        refine G_iadd 60 dX1_times_59 rfl ?_
        refine G_istore_n 61 [va_rf l0, va_rf l1, va_rf l2, .int (l3 + x36), .int x36, va_rf (FR s26 8 a2), v6] dX1_times_60 (Nat.le_of_ble_eq_true rfl) rfl rfl ?_
        refine G_aload 63 dX1_times_61 rfl rfl ?_
        refine G_ifnull 86 66 dX1_times_63 (by decide) rfl (fun u39 => ?_) (fun u39 => ?_)
        · have h := h.1 u39
          refine G_goto 18 dX1_times_86 (by decide) ?_
          exact h
        · have h := h.2 u39
          refine G_aload_n 67 dX1_times_66 rfl rfl ?_
          refine G_aload 69 dX1_times_67 rfl rfl ?_
          obtain ⟨a40, e41, h⟩ := h
          obtain ⟨c42, h⟩ := h
          refine G_getR (f := 39) (a := a40) "TrophyPlates" 72 dX1_times_69 (Or.inr q1744) (Or.inl rfl) rfl e41 (hf39 c42) rfl ?_
          refine G_iload_n 73 dX1_times_72 rfl rfl ?_
          refine G_invS (N := mJ26_valueOf) (As := [.int (l3 + x36)]) (st := [va_rf (FR s35 39 a40), va_rf l2]) (rc + 25) (rs + 450) "" 76 dX1_times_73 (Or.inl q1954) q1955 q64 q1956 rfl mJ26_valueOf_args ⟨Nat.le_of_ble_eq_true rfl, Nat.le_of_ble_eq_true rfl⟩ rfl (Nat.le_trans (w_R (w_R w_0)) (Nat.le_of_ble_eq_true rfl)) (le_b mJ26_valueOf_c (Nat.le_refl _)) (le_b mJ26_valueOf_s (Nat.le_refl _)) rfl (Cal.mono h ?_)
          rintro s43 v ⟨x44, rfl, h⟩ hx45
          have h := h hx45
          have x46 := hx45.x
          show G w mX1_times (KR K) (rc + 25) (rs + 450) s43 76 [va_rf l0, va_rf l1, va_rf l2, .int (l3 + x36), .int x36, va_rf (FR s26 8 a2), v6] [va_rf x44, va_rf (FR s35 39 a40), va_rf l2]
          obtain ⟨a47, e48, h⟩ := h
          obtain ⟨c51, h⟩ := h
          refine G_invF (N := mJ4_put) (x := ⟨"java/util/Map", "put", "(Ljava/lang/Object;Ljava/lang/Object;)Ljava/lang/Object;"⟩) (As := [va_rf (FR s35 39 a40), va_rf x44]) (st := []) (t := l2) (b := a47) (rc) (rs) 81 dX1_times_76 q802 q1369 q807 q37 q809 q804 q803 q808 q1370 q602 rfl ax28 ⟨Nat.le_of_ble_eq_true rfl, Nat.le_of_ble_eq_true rfl⟩ rfl (Nat.zero_le _) e48 (rk21 c51) (le_b mJ4_put_c (Nat.le_refl _)) (le_b mJ4_put_s (Nat.le_refl _)) rfl (Cal.mono h ?_)
          rintro s49 v ⟨x50, rfl, h⟩ hx52
          have h := h hx52
          have x53 := hx52.x
          show G w mX1_times (KR K) (rc) (rs) s49 81 [va_rf l0, va_rf l1, va_rf l2, .int (l3 + x36), .int x36, va_rf (FR s26 8 a2), v6] [va_rf x50]
          obtain ⟨c54, h⟩ := h
          refine G_cast 84 dX1_times_81 q800 rfl (c54.imp id (fun ⟨b, e, k⟩ => ⟨b, e, co7 k⟩)) ?_
          refine G_astore 86 [va_rf l0, va_rf l1, va_rf l2, .int (l3 + x36), .int x36, va_rf (FR s26 8 a2), va_rf x50] dX1_times_84 (Nat.le_of_ble_eq_true rfl) rfl rfl ?_
          refine G_goto 18 dX1_times_86 (by decide) ?_
          exact h
theorem eX1_times {w : Wt} {K : Sg → Option Nat → Prop} {σ : Sg} (l0 : Option Nat) (h : G w mX1_times (KR K) 2700 26000 σ 0 [va_rf l0, U_, U_, U_, U_, U_, U_] []) : CalR w mX1_times σ [va_rf l0] K :=
  Cal.start 6 mX1_times_plain (catR cat0) (Nat.le_of_ble_eq_true rfl) rfl h
set_option maxHeartbeats 4000000 in
theorem bX0_init_0 {w : Wt} {K : Sg → Prop} {rc rs : Nat} {σ : Sg} (l0 : Option Nat) (h : ∃ a1, l0 = some a1 ∧ ∀ n4, n4 = nx σ → kd σ n4 = 0 → ∀ s5, s5 = nO σ 11 → CalV w mX1_init s5 [va_rf (some n4)] (fun s8 => Ext s5 s8 → kd s8 a1 = 10 ∧ ∀ s12, s12 = sFR s8 0 a1 (some n4) → ∀ n15, n15 = nx s12 → kd s12 n15 = 0 → ∀ s16, s16 = nO s12 12 → CalV w mX2_init s16 [va_rf (some n15)] (fun s19 => Ext s16 s19 → ∀ s22, s22 = sFR s19 1 a1 (some n15) → ∀ n25, n25 = nx s22 → kd s22 n25 = 0 → ∀ s26, s26 = nO s22 23 → CalV w mJ7_init s26 [va_rf (some n25)] (fun s29 => Ext s26 s29 → ∀ s32, s32 = sFR s29 2 a1 (some n25) → K s32)))) : G w mX0_init (KV K) (rc + 8) (rs + 56) σ 0 [va_rf l0] [] := by
  refine G_aload_n 1 dX0_init_0 rfl rfl ?_
  obtain ⟨a1, e2, h⟩ := h
  refine G_objInit (b := a1) 4 dX0_init_1 q84 q85 q86 rfl e2 (Nat.zero_le _) (Nat.le_of_ble_eq_true rfl) (Nat.le_of_ble_eq_true rfl) ?_
  refine G_aload_n 5 dX0_init_4 rfl rfl ?_
  refine G_new (cc := 1) (kn := 11) (q := (RX1, TX1, 12)) (rc + 7) (rs + 44) 8 dX0_init_5 rfl q87 q88 q32 rfl rfl (Nat.le_refl _) (Nat.le_refl _) (fun z3 => ?_)
  generalize hn4 : nx σ = n4 at z3 ⊢
  generalize hs5 : nO σ 11 = s5
  have x6 : ∀ a, ¬ kd σ a = 0 → kd s5 a = kd σ a := by subst hs5 hn4; exact kdNx z3
  have c7 : kd s5 n4 = 11 := by subst hs5 hn4; exact kdO_self
  have h := h n4 hn4.symm z3 s5 hs5.symm
  refine G_dup 9 dX0_init_8 (rf_cat _) rfl ?_
  refine G_invI (N := mX1_init) (As := []) (st := [va_rf (some n4), va_rf l0]) (t := (some n4)) (b := n4) (rc + 3) (rs + 23) "TrophyPlates" 12 dX0_init_9 (Or.inr q89) q90 q32 q91 rfl rfl rfl mX1_init_args ⟨Nat.le_of_ble_eq_true rfl, Nat.le_of_ble_eq_true rfl⟩ rfl rfl (Nat.le_trans (w_R (w_R w_0)) (Nat.le_of_ble_eq_true rfl)) (le_b mX1_init_c (Nat.le_refl _)) (le_b mX1_init_s (Nat.le_refl _)) rfl (Cal.mono h ?_)
  rintro s8 v ⟨rfl, h⟩ hx9
  have h := h hx9
  have x10 := hx9.x
  show G w mX0_init (KV K) (rc + 3) (rs + 23) s8 12 [va_rf l0] [va_rf (some n4), va_rf l0]
  obtain ⟨c11, h⟩ := h
  refine G_putR (f := 0) (a := a1) "" 15 dX0_init_12 (Or.inl q286) (Or.inl rfl) rfl e2 (hp0 c11) (nk0 c11) (Or.inl rfl) (fun y => by cases y <;> rfl) (fun y => by cases y <;> rfl) rfl ?_
  generalize hs12 : sFR s8 0 a1 (some n4) = s12
  have x13 : ∀ a, ¬ kd s8 a = 0 → kd s12 a = kd s8 a := by subst hs12; exact fun a _ => congrFun kd_sFR a
  have h := h s12 hs12.symm
  refine G_aload_n 16 dX0_init_15 rfl rfl ?_
  refine G_new (cc := 2) (kn := 12) (q := (RX2, TX2, 3)) (rc + 2) (rs + 20) 19 dX0_init_16 rfl q233 q234 q39 rfl rfl (Nat.le_refl _) (Nat.le_refl _) (fun z14 => ?_)
  generalize hn15 : nx s12 = n15 at z14 ⊢
  generalize hs16 : nO s12 12 = s16
  have x17 : ∀ a, ¬ kd s12 a = 0 → kd s16 a = kd s12 a := by subst hs16 hn15; exact kdNx z14
  have c18 : kd s16 n15 = 12 := by subst hs16 hn15; exact kdO_self
  have h := h n15 hn15.symm z14 s16 hs16.symm
  refine G_dup 20 dX0_init_19 (rf_cat _) rfl ?_
  refine G_invI (N := mX2_init) (As := []) (st := [va_rf (some n15), va_rf l0]) (t := (some n15)) (b := n15) (rc + 2) (rs + 20) "" 23 dX0_init_20 (Or.inl q235) q236 q39 q237 rfl rfl rfl mX2_init_args ⟨Nat.le_of_ble_eq_true rfl, Nat.le_of_ble_eq_true rfl⟩ rfl rfl (Nat.le_trans (w_R (w_R w_0)) (Nat.le_of_ble_eq_true rfl)) (le_b mX2_init_c (Nat.le_refl _)) (le_b mX2_init_s (Nat.le_refl _)) rfl (Cal.mono h ?_)
  rintro s19 v ⟨rfl, h⟩ hx20
  have h := h hx20
  have x21 := hx20.x
  show G w mX0_init (KV K) (rc + 2) (rs + 20) s19 23 [va_rf l0] [va_rf (some n15), va_rf l0]
  have c11 := kdE x13 c11 (by decide)
  have c11 := kdE x17 c11 (by decide)
  have c11 := kdE x21 c11 (by decide)
  refine G_putR (f := 1) (a := a1) "" 26 dX0_init_23 (Or.inl q287) (Or.inl rfl) rfl e2 (hp1 c11) (nk1 c11) (Or.inr ⟨rfl, rfl, rfl⟩) (fun y => by cases y <;> rfl) (fun y => by cases y <;> rfl) rfl ?_
  generalize hs22 : sFR s19 1 a1 (some n15) = s22
  have x23 : ∀ a, ¬ kd s19 a = 0 → kd s22 a = kd s19 a := by subst hs22; exact fun a _ => congrFun kd_sFR a
  have h := h s22 hs22.symm
  refine G_aload_n 27 dX0_init_26 rfl rfl ?_
  refine G_new (cc := 13) (kn := 23) (q := (RJ7, TJ7, 4)) (rc + 1) (rs + 16) 30 dX0_init_27 rfl q253 q254 q41 rfl rfl (Nat.le_refl _) (Nat.le_refl _) (fun z24 => ?_)
  generalize hn25 : nx s22 = n25 at z24 ⊢
  generalize hs26 : nO s22 23 = s26
  have x27 : ∀ a, ¬ kd s22 a = 0 → kd s26 a = kd s22 a := by subst hs26 hn25; exact kdNx z24
  have c28 : kd s26 n25 = 23 := by subst hs26 hn25; exact kdO_self
  have h := h n25 hn25.symm z24 s26 hs26.symm
  refine G_dup 31 dX0_init_30 (rf_cat _) rfl ?_
  refine G_invI (N := mJ7_init) (As := []) (st := [va_rf (some n25), va_rf l0]) (t := (some n25)) (b := n25) (rc) (rs) "" 34 dX0_init_31 (Or.inl q255) q256 q41 q257 rfl rfl rfl mJ7_init_args ⟨Nat.le_of_ble_eq_true rfl, Nat.le_of_ble_eq_true rfl⟩ rfl rfl (Nat.le_trans (w_R (w_R w_0)) (Nat.le_of_ble_eq_true rfl)) (le_b mJ7_init_c (Nat.le_refl _)) (le_b mJ7_init_s (Nat.le_refl _)) rfl (Cal.mono h ?_)
  rintro s29 v ⟨rfl, h⟩ hx30
  have h := h hx30
  have x31 := hx30.x
  show G w mX0_init (KV K) (rc) (rs) s29 34 [va_rf l0] [va_rf (some n25), va_rf l0]
  have c11 := kdE x23 c11 (by decide)
  have c11 := kdE x27 c11 (by decide)
  have c11 := kdE x31 c11 (by decide)
  refine G_putR (f := 2) (a := a1) "" 37 dX0_init_34 (Or.inl q288) (Or.inl rfl) rfl e2 (hp2 c11) (nk2 c11) (Or.inr ⟨rfl, rfl, rfl⟩) (fun y => by cases y <;> rfl) (fun y => by cases y <;> rfl) rfl ?_
  generalize hs32 : sFR s29 2 a1 (some n25) = s32
  have x33 : ∀ a, ¬ kd s29 a = 0 → kd s32 a = kd s29 a := by subst hs32; exact fun a _ => congrFun kd_sFR a
  have h := h s32 hs32.symm
  exact G_ret dX0_init_37 rfl ⟨rfl, h⟩
theorem eX0_init {w : Wt} {K : Sg → Prop} {σ : Sg} (l0 : Option Nat) (h : G w mX0_init (KV K) 8 56 σ 0 [va_rf l0] []) : CalV w mX0_init σ [va_rf l0] K :=
  Cal.start 0 mX0_init_plain (catR cat0) (Nat.le_of_ble_eq_true rfl) rfl h
set_option maxHeartbeats 4000000 in
theorem bX0_cut_0 {w : Wt} {K : Sg → Int32 → Prop} {rc rs : Nat} {σ : Sg} (l0 : Option Nat) (l1 : Int32) (l2 : Int32) (h : CalI w mX0_isBetween σ [.int l1, .int 10, .int 200] (fun s1 x2 => Ext σ s1 → ((x2 = 0 → K s1 (-1)) ∧ (¬ x2 = 0 → CalI w mX0_isBetween s1 [.int l2, .int 5, .int 30] (fun s6 x7 => Ext s1 s6 → ((¬ x7 = 0 → ∃ a11, l0 = some a11 ∧ kd s6 a11 = 10 ∧ ∃ a14, FR s6 0 a11 = some a14 ∧ kd s6 a14 = 11 ∧ ∃ a17, FR s6 3 a14 = some a17 ∧ kd s6 a17 = 20 ∧ CalI w mJ2_size s6 [va_rf (FR s6 3 a14)] (fun s19 x20 => Ext s6 s19 → ((¬ x20 = 20 → CalR w mX0_act s19 [va_rf l0] (fun s25 x26 => Ext s19 s25 → ∃ a29, x26 = some a29 ∧ kd s25 a29 = 11 ∧ ∀ n33, n33 = nx s25 → kd s25 n33 = 0 → ∀ s34, s34 = nO s25 15 → CalV w mX5_init_2 s34 [va_rf (some n33), .int l1, .int l2] (fun s37 => Ext s34 s37 → ∃ a40, FR s25 3 a29 = some a40 ∧ kd s37 a40 = 20 ∧ CalI w mJ2_add s37 [va_rf (FR s25 3 a29), va_rf (some n33)] (fun s42 x43 => Ext s37 s42 → ∃ a47, FR s42 0 a11 = some a47 ∧ kd s42 a47 = 11 ∧ ∃ a50, FR s42 3 a47 = some a50 ∧ kd s42 a50 = 20 ∧ CalI w mJ2_size s42 [va_rf (FR s42 3 a47)] (fun s52 x53 => Ext s42 s52 → K s52 (x53 - 1)))))) ∧ (x20 = 20 → K s19 (-3))))) ∧ (x7 = 0 → K s6 (-1)))))))) : G w mX0_cut (KI K) (rc + 604) (rs + 10030) σ 0 [va_rf l0, .int l1, .int l2, U_] [] := by
  refine G_iload_n 1 dX0_cut_0 rfl rfl ?_
  refine G_bipush (v := 10) 3 dX0_cut_1 (by decide) rfl ?_
  refine G_sipush (v := 200) 6 dX0_cut_3 (by decide) rfl ?_
  refine G_invS (N := mX0_isBetween) (As := [.int l1, .int 10, .int 200]) (st := []) (rc + 604) (rs + 10030) "" 9 dX0_cut_6 (Or.inl q300) q301 q31 q302 rfl mX0_isBetween_args ⟨Nat.le_of_ble_eq_true rfl, Nat.le_of_ble_eq_true rfl⟩ rfl (Nat.zero_le _) (le_b mX0_isBetween_c (Nat.le_refl _)) (le_b mX0_isBetween_s (Nat.le_refl _)) rfl (Cal.mono h ?_)
  rintro s1 v ⟨x2, rfl, h⟩ hx3
  have h := h hx3
  have x4 := hx3.x
  show G w mX0_cut (KI K) (rc + 604) (rs + 10030) s1 9 [va_rf l0, .int l1, .int l2, U_] [.int x2]
  refine G_if_eq 22 12 dX0_cut_9 (by decide) rfl (fun u5 => ?_) (fun u5 => ?_)
  · have h := h.1 u5
    refine G_iconst (v := (-1)) 23 dX0_cut_22 (by decide) rfl ?_
    exact G_iret dX0_cut_23 rfl ⟨_, rfl, h⟩
  · have h := h.2 u5
    refine G_iload_n 13 dX0_cut_12 rfl rfl ?_
    refine G_iconst (v := 5) 14 dX0_cut_13 (by decide) rfl ?_
    refine G_bipush (v := 30) 16 dX0_cut_14 (by decide) rfl ?_
    refine G_invS (N := mX0_isBetween) (As := [.int l2, .int 5, .int 30]) (st := []) (rc + 604) (rs + 10030) "" 19 dX0_cut_16 (Or.inl q300) q301 q31 q302 rfl mX0_isBetween_args ⟨Nat.le_of_ble_eq_true rfl, Nat.le_of_ble_eq_true rfl⟩ rfl (Nat.zero_le _) (le_b mX0_isBetween_c (Nat.le_refl _)) (le_b mX0_isBetween_s (Nat.le_refl _)) rfl (Cal.mono h ?_)
    rintro s6 v ⟨x7, rfl, h⟩ hx8
    have h := h hx8
    have x9 := hx8.x
    show G w mX0_cut (KI K) (rc + 604) (rs + 10030) s6 19 [va_rf l0, .int l1, .int l2, U_] [.int x7]
    refine G_if_ne 24 22 dX0_cut_19 (by decide) rfl (fun u10 => ?_) (fun u10 => ?_)
    · have h := h.1 u10
      refine G_aload_n 25 dX0_cut_24 rfl rfl ?_
      obtain ⟨a11, e12, h⟩ := h
      obtain ⟨c13, h⟩ := h
      refine G_getR (f := 0) (a := a11) "" 28 dX0_cut_25 (Or.inl q286) (Or.inl rfl) rfl e12 (hf0 c13) rfl ?_
      obtain ⟨a14, e15, h⟩ := h
      obtain ⟨c16, h⟩ := h
      refine G_getR (f := 3) (a := a14) "TrophyPlates" 31 dX0_cut_28 (Or.inr q185) (Or.inl rfl) rfl e15 (hf3 c16) rfl ?_
      obtain ⟨a17, e18, h⟩ := h
      obtain ⟨c21, h⟩ := h
      refine G_invF (N := mJ2_size) (x := ⟨"java/util/List", "size", "()I"⟩) (As := []) (st := []) (t := (FR s6 3 a14)) (b := a17) (rc + 604) (rs + 10030) 36 dX0_cut_31 q304 q308 q310 q35 q312 q306 q305 q311 q309 q307 rfl ax31 ⟨Nat.le_of_ble_eq_true rfl, Nat.le_of_ble_eq_true rfl⟩ rfl (Nat.zero_le _) e18 (rk20 c21) (le_b mJ2_size_c (Nat.le_refl _)) (le_b mJ2_size_s (Nat.le_refl _)) rfl (Cal.mono h ?_)
      rintro s19 v ⟨x20, rfl, h⟩ hx22
      have h := h hx22
      have x23 := hx22.x
      show G w mX0_cut (KI K) (rc + 604) (rs + 10030) s19 36 [va_rf l0, .int l1, .int l2, U_] [.int x20]
      refine G_bipush (v := 20) 38 dX0_cut_36 (by decide) rfl ?_
      refine G_icmp_ne 44 41 dX0_cut_38 (by decide) rfl (fun u24 => ?_) (fun u24 => ?_)
      · have h := h.1 u24
        refine G_aload_n 45 dX0_cut_44 rfl rfl ?_
        have c13 := kdE x23 c13 (by decide)
        refine G_invV (N := mX0_act) (As := []) (st := []) (t := l0) (b := a11) (rc + 3) (rs + 28) 48 dX0_cut_45 q313 q315 qs0 q31 q316 rfl rfl mX0_act_args ⟨Nat.le_of_ble_eq_true rfl, Nat.le_of_ble_eq_true rfl⟩ rfl (Nat.zero_le _) e12 (rk10 c13) (le_b mX0_act_c (Nat.le_refl _)) (le_b mX0_act_s (Nat.le_refl _)) rfl (Cal.mono h ?_)
        rintro s25 v ⟨x26, rfl, h⟩ hx27
        have h := h hx27
        have x28 := hx27.x
        show G w mX0_cut (KI K) (rc + 3) (rs + 28) s25 48 [va_rf l0, .int l1, .int l2, U_] [va_rf x26]
        obtain ⟨a29, e30, h⟩ := h
        obtain ⟨c31, h⟩ := h
        refine G_getR (f := 3) (a := a29) "TrophyPlates" 51 dX0_cut_48 (Or.inr q185) (Or.inl rfl) rfl e30 (hf3 c31) rfl ?_
        refine G_new (cc := 5) (kn := 15) (q := (RX5, TX5, 4)) (rc + 2) (rs + 24) 54 dX0_cut_51 rfl q1372 q470 q47 rfl rfl (Nat.le_refl _) (Nat.le_refl _) (fun z32 => ?_)
        generalize hn33 : nx s25 = n33 at z32 ⊢
        generalize hs34 : nO s25 15 = s34
        have x35 : ∀ a, ¬ kd s25 a = 0 → kd s34 a = kd s25 a := by subst hs34 hn33; exact kdNx z32
        have c36 : kd s34 n33 = 15 := by subst hs34 hn33; exact kdO_self
        have h := h n33 hn33.symm z32 s34 hs34.symm
        refine G_dup 55 dX0_cut_54 (rf_cat _) rfl ?_
        refine G_iload_n 56 dX0_cut_55 rfl rfl ?_
        refine G_iload_n 57 dX0_cut_56 rfl rfl ?_
        refine G_invI (N := mX5_init_2) (As := [.int l1, .int l2]) (st := [va_rf (some n33), va_rf (FR s25 3 a29)]) (t := (some n33)) (b := n33) (rc + 1) (rs + 22) "" 60 dX0_cut_57 (Or.inl q1373) q1374 q47 q1375 rfl rfl rfl mX5_init_2_args ⟨Nat.le_of_ble_eq_true rfl, Nat.le_of_ble_eq_true rfl⟩ rfl rfl (Nat.le_trans (w_R (w_R w_0)) (Nat.le_of_ble_eq_true rfl)) (le_b mX5_init_2_c (Nat.le_refl _)) (le_b mX5_init_2_s (Nat.le_refl _)) rfl (Cal.mono h ?_)
        rintro s37 v ⟨rfl, h⟩ hx38
        have h := h hx38
        have x39 := hx38.x
        show G w mX0_cut (KI K) (rc + 1) (rs + 22) s37 60 [va_rf l0, .int l1, .int l2, U_] [va_rf (some n33), va_rf (FR s25 3 a29)]
        obtain ⟨a40, e41, h⟩ := h
        obtain ⟨c44, h⟩ := h
        refine G_invF (N := mJ2_add) (x := ⟨"java/util/List", "add", "(Ljava/lang/Object;)Z"⟩) (As := [va_rf (some n33)]) (st := []) (t := (FR s25 3 a29)) (b := a40) (rc) (rs) 65 dX0_cut_60 q1377 q500 q502 q35 q504 q499 q498 q503 q501 q307 rfl ax23 ⟨Nat.le_of_ble_eq_true rfl, Nat.le_of_ble_eq_true rfl⟩ rfl (Nat.zero_le _) e41 (rk20 c44) (le_b mJ2_add_c (Nat.le_refl _)) (le_b mJ2_add_s (Nat.le_refl _)) rfl (Cal.mono h ?_)
        rintro s42 v ⟨x43, rfl, h⟩ hx45
        have h := h hx45
        have x46 := hx45.x
        show G w mX0_cut (KI K) (rc) (rs) s42 65 [va_rf l0, .int l1, .int l2, U_] [.int x43]
        refine G_istore_n 66 [va_rf l0, .int l1, .int l2, .int x43] dX0_cut_65 (Nat.le_of_ble_eq_true rfl) rfl rfl ?_
        refine G_aload_n 67 dX0_cut_66 rfl rfl ?_
        have c13 := kdE x28 c13 (by decide)
        have c13 := kdE x35 c13 (by decide)
        have c13 := kdE x39 c13 (by decide)
        have c13 := kdE x46 c13 (by decide)
        refine G_getR (f := 0) (a := a11) "" 70 dX0_cut_67 (Or.inl q286) (Or.inl rfl) rfl e12 (hf0 c13) rfl ?_
        obtain ⟨a47, e48, h⟩ := h
        obtain ⟨c49, h⟩ := h
        refine G_getR (f := 3) (a := a47) "TrophyPlates" 73 dX0_cut_70 (Or.inr q185) (Or.inl rfl) rfl e48 (hf3 c49) rfl ?_
        obtain ⟨a50, e51, h⟩ := h
        obtain ⟨c54, h⟩ := h
        refine G_invF (N := mJ2_size) (x := ⟨"java/util/List", "size", "()I"⟩) (As := []) (st := []) (t := (FR s42 3 a47)) (b := a50) (rc) (rs) 78 dX0_cut_73 q304 q308 q310 q35 q312 q306 q305 q311 q309 q307 rfl ax31 ⟨Nat.le_of_ble_eq_true rfl, Nat.le_of_ble_eq_true rfl⟩ rfl (Nat.zero_le _) e51 (rk20 c54) (le_b mJ2_size_c (Nat.le_refl _)) (le_b mJ2_size_s (Nat.le_refl _)) rfl (Cal.mono h ?_)
        rintro s52 v ⟨x53, rfl, h⟩ hx55
        have h := h hx55
        have x56 := hx55.x
        show G w mX0_cut (KI K) (rc) (rs) s52 78 [va_rf l0, .int l1, .int l2, .int x43] [.int x53]
        refine G_iconst (v := 1) 79 dX0_cut_78 (by decide) rfl ?_
        refine G_isub 80 dX0_cut_79 rfl ?_
        exact G_iret dX0_cut_80 rfl ⟨_, rfl, h⟩
      · have h := h.2 u24
        refine G_bipush (v := (-3)) 43 dX0_cut_41 (by decide) rfl ?_
        exact G_iret dX0_cut_43 rfl ⟨_, rfl, h⟩
    · have h := h.2 u10
      refine G_iconst (v := (-1)) 23 dX0_cut_22 (by decide) rfl ?_
      exact G_iret dX0_cut_23 rfl ⟨_, rfl, h⟩
theorem eX0_cut {w : Wt} {K : Sg → Int32 → Prop} {σ : Sg} (l0 : Option Nat) (l1 : Int32) (l2 : Int32) (h : G w mX0_cut (KI K) 604 10030 σ 0 [va_rf l0, .int l1, .int l2, U_] []) : CalI w mX0_cut σ [va_rf l0, .int l1, .int l2] K :=
  Cal.start 1 mX0_cut_plain (catR (catI (catI cat0))) (Nat.le_of_ble_eq_true rfl) rfl h
set_option maxHeartbeats 4000000 in
theorem bX0_isBetween_0 {w : Wt} {K : Sg → Int32 → Prop} {rc rs : Nat} {σ : Sg} (l0 : Int32) (l1 : Int32) (l2 : Int32) (h : ((l0 < l1 → K σ 0) ∧ (¬ l0 < l1 → ((l2 < l0 → K σ 0) ∧ (¬ l2 < l0 → K σ 1))))) : G w mX0_isBetween (KI K) (rc) (rs) σ 0 [.int l0, .int l1, .int l2] [] := by
  refine G_iload_n 1 dX0_isBetween_0 rfl rfl ?_
  refine G_iload_n 2 dX0_isBetween_1 rfl rfl ?_
  refine G_icmp_lt 14 5 dX0_isBetween_2 (by decide) rfl (fun u1 => ?_) (fun u1 => ?_)
  · have h := h.1 u1
    refine G_iconst (v := 0) 15 dX0_isBetween_14 (by decide) rfl ?_
    exact G_zret dX0_isBetween_15 rfl rfl ⟨_, rfl, h⟩
  · have h := h.2 u1
    refine G_iload_n 6 dX0_isBetween_5 rfl rfl ?_
    refine G_iload_n 7 dX0_isBetween_6 rfl rfl ?_
    refine G_icmp_gt 14 10 dX0_isBetween_7 (by decide) rfl (fun u2 => ?_) (fun u2 => ?_)
    · have h := h.1 u2
      refine G_iconst (v := 0) 15 dX0_isBetween_14 (by decide) rfl ?_
      exact G_zret dX0_isBetween_15 rfl rfl ⟨_, rfl, h⟩
    · have h := h.2 u2
      refine G_iconst (v := 1) 11 dX0_isBetween_10 (by decide) rfl ?_
      refine G_goto 15 dX0_isBetween_11 (by decide) ?_
      exact G_zret dX0_isBetween_15 rfl rfl ⟨_, rfl, h⟩
theorem eX0_isBetween {w : Wt} {K : Sg → Int32 → Prop} {σ : Sg} (l0 : Int32) (l1 : Int32) (l2 : Int32) (h : G w mX0_isBetween (KI K) 0 0 σ 0 [.int l0, .int l1, .int l2] []) : CalI w mX0_isBetween σ [.int l0, .int l1, .int l2] K :=
  Cal.start 0 mX0_isBetween_plain (catI (catI (catI cat0))) (Nat.le_of_ble_eq_true rfl) rfl h
set_option maxHeartbeats 4000000 in
theorem bX0_act_0 {w : Wt} {K : Sg → Option Nat → Prop} {rc rs : Nat} {σ : Sg} (l0 : Option Nat) (h : ∃ a1, l0 = some a1 ∧ kd σ a1 = 10 ∧ ∃ a4, FR σ 1 a1 = some a4 ∧ kd σ a4 = 12 ∧ CalV w mX2_push σ [va_rf (FR σ 1 a1), va_rf (FR σ 0 a1)] (fun s6 => Ext σ s6 → ∃ a10, FR s6 0 a1 = some a10 ∧ kd s6 a10 = 11 ∧ CalR w mX1_copy s6 [va_rf (FR s6 0 a1)] (fun s12 x13 => Ext s6 s12 → ∀ s17, s17 = sFR s12 0 a1 x13 → K s17 (FR s17 0 a1)))) : G w mX0_act (KR K) (rc + 601) (rs + 10002) σ 0 [va_rf l0] [] := by
  refine G_aload_n 1 dX0_act_0 rfl rfl ?_
  obtain ⟨a1, e2, h⟩ := h
  obtain ⟨c3, h⟩ := h
  refine G_getR (f := 1) (a := a1) "" 4 dX0_act_1 (Or.inl q287) (Or.inl rfl) rfl e2 (hf1 c3) rfl ?_
  refine G_aload_n 5 dX0_act_4 rfl rfl ?_
  refine G_getR (f := 0) (a := a1) "" 8 dX0_act_5 (Or.inl q286) (Or.inl rfl) rfl e2 (hf0 c3) rfl ?_
  obtain ⟨a4, e5, h⟩ := h
  obtain ⟨c7, h⟩ := h
  refine G_invV (N := mX2_push) (As := [va_rf (FR σ 0 a1)]) (st := []) (t := (FR σ 1 a1)) (b := a4) (rc + 600) (rs + 10000) 11 dX0_act_8 q317 q318 q319 q39 q320 rfl rfl mX2_push_args ⟨Nat.le_of_ble_eq_true rfl, Nat.le_of_ble_eq_true rfl⟩ rfl (Nat.zero_le _) e5 (rk12 c7) (le_b mX2_push_c (Nat.le_refl _)) (le_b mX2_push_s (Nat.le_refl _)) rfl (Cal.mono h ?_)
  rintro s6 v ⟨rfl, h⟩ hx8
  have h := h hx8
  have x9 := hx8.x
  show G w mX0_act (KR K) (rc + 600) (rs + 10000) s6 11 [va_rf l0] []
  refine G_aload_n 12 dX0_act_11 rfl rfl ?_
  refine G_aload_n 13 dX0_act_12 rfl rfl ?_
  have c3 := kdE x9 c3 (by decide)
  refine G_getR (f := 0) (a := a1) "" 16 dX0_act_13 (Or.inl q286) (Or.inl rfl) rfl e2 (hf0 c3) rfl ?_
  obtain ⟨a10, e11, h⟩ := h
  obtain ⟨c14, h⟩ := h
  refine G_invV (N := mX1_copy) (As := []) (st := [va_rf l0]) (t := (FR s6 0 a1)) (b := a10) (rc) (rs) 19 dX0_act_16 q336 q337 q338 q32 q339 rfl rfl mX1_copy_args ⟨Nat.le_of_ble_eq_true rfl, Nat.le_of_ble_eq_true rfl⟩ rfl (Nat.le_trans (w_R w_0) (Nat.le_of_ble_eq_true rfl)) e11 (rk11 c14) (le_b mX1_copy_c (Nat.le_refl _)) (le_b mX1_copy_s (Nat.le_refl _)) rfl (Cal.mono h ?_)
  rintro s12 v ⟨x13, rfl, h⟩ hx15
  have h := h hx15
  have x16 := hx15.x
  show G w mX0_act (KR K) (rc) (rs) s12 19 [va_rf l0] [va_rf x13, va_rf l0]
  have c3 := kdE x16 c3 (by decide)
  refine G_putR (f := 0) (a := a1) "" 22 dX0_act_19 (Or.inl q286) (Or.inl rfl) rfl e2 (hp0 c3) (nk0 c3) (Or.inl rfl) (fun y => by cases y <;> rfl) (fun y => by cases y <;> rfl) rfl ?_
  generalize hs17 : sFR s12 0 a1 x13 = s17
  have x18 : ∀ a, ¬ kd s12 a = 0 → kd s17 a = kd s12 a := by subst hs17; exact fun a _ => congrFun kd_sFR a
  have h := h s17 hs17.symm
  refine G_aload_n 23 dX0_act_22 rfl rfl ?_
  have c3 := kdE x18 c3 (by decide)
  refine G_getR (f := 0) (a := a1) "" 26 dX0_act_23 (Or.inl q286) (Or.inl rfl) rfl e2 (hf0 c3) rfl ?_
  exact G_aret dX0_act_26 rfl (Or.inl ⟨_, rfl⟩) ⟨_, rfl, h⟩
theorem eX0_act {w : Wt} {K : Sg → Option Nat → Prop} {σ : Sg} (l0 : Option Nat) (h : G w mX0_act (KR K) 601 10002 σ 0 [va_rf l0] []) : CalR w mX0_act σ [va_rf l0] K :=
  Cal.start 0 mX0_act_plain (catR cat0) (Nat.le_of_ble_eq_true rfl) rfl h
set_option maxHeartbeats 4000000 in
theorem bX0_spoil_0 {w : Wt} {K : Sg → Int32 → Prop} {rc rs : Nat} {σ : Sg} (l0 : Option Nat) (l1 : Int32) (h : ∃ a1, l0 = some a1 ∧ kd σ a1 = 10 ∧ ∃ a4, FR σ 0 a1 = some a4 ∧ kd σ a4 = 11 ∧ CalI w mX1_isPlate σ [va_rf (FR σ 0 a1), .int l1] (fun s6 x7 => Ext σ s6 → ((¬ x7 = 0 → ∃ a12, FR s6 0 a1 = some a12 ∧ kd s6 a12 = 11 ∧ ∃ a15, FR s6 3 a12 = some a15 ∧ kd s6 a15 = 20 ∧ CalR w mJ2_get s6 [va_rf (FR s6 3 a12), .int l1] (fun s17 x18 => Ext s6 s17 → (x18 = none ∨ ∃ b, x18 = some b ∧ kd s17 b = 15) ∧ ∃ a23, x18 = some a23 ∧ kd s17 a23 = 15 ∧ ((FI s17 35 a23 = 0 → CalR w mX0_act s17 [va_rf l0] (fun s27 x28 => Ext s17 s27 → ∃ a31, x28 = some a31 ∧ kd s27 a31 = 11 ∧ ∃ a34, FR s27 3 a31 = some a34 ∧ kd s27 a34 = 20 ∧ CalR w mJ2_get s27 [va_rf (FR s27 3 a31), .int l1] (fun s36 x37 => Ext s27 s36 → (x37 = none ∨ ∃ b, x37 = some b ∧ kd s36 b = 15) ∧ ∃ a42, x37 = some a42 ∧ kd s36 a42 = 15 ∧ ∀ s45, s45 = sFI s36 35 a42 3 → ∃ a47, FR s45 0 a1 = some a47 ∧ kd s45 a47 = 11 ∧ CalI w mX1_platesIn s45 [va_rf (FR s45 0 a1), .int 3] (fun s49 x50 => Ext s45 s49 → K s49 x50)))) ∧ (¬ FI s17 35 a23 = 0 → K s17 (-2))))) ∧ (x7 = 0 → K s6 (-1))))) : G w mX0_spoil (KI K) (rc + 602) (rs + 10006) σ 0 [va_rf l0, .int l1] [] := by
  refine G_aload_n 1 dX0_spoil_0 rfl rfl ?_
  obtain ⟨a1, e2, h⟩ := h
  obtain ⟨c3, h⟩ := h
  refine G_getR (f := 0) (a := a1) "" 4 dX0_spoil_1 (Or.inl q286) (Or.inl rfl) rfl e2 (hf0 c3) rfl ?_
  refine G_iload_n 5 dX0_spoil_4 rfl rfl ?_
  obtain ⟨a4, e5, h⟩ := h
  obtain ⟨c8, h⟩ := h
  refine G_invV (N := mX1_isPlate) (As := [.int l1]) (st := []) (t := (FR σ 0 a1)) (b := a4) (rc + 602) (rs + 10006) 8 dX0_spoil_5 q1382 q1383 q1384 q32 q1385 rfl rfl mX1_isPlate_args ⟨Nat.le_of_ble_eq_true rfl, Nat.le_of_ble_eq_true rfl⟩ rfl (Nat.zero_le _) e5 (rk11 c8) (le_b mX1_isPlate_c (Nat.le_refl _)) (le_b mX1_isPlate_s (Nat.le_refl _)) rfl (Cal.mono h ?_)
  rintro s6 v ⟨x7, rfl, h⟩ hx9
  have h := h hx9
  have x10 := hx9.x
  show G w mX0_spoil (KI K) (rc + 602) (rs + 10006) s6 8 [va_rf l0, .int l1] [.int x7]
  refine G_if_ne 13 11 dX0_spoil_8 (by decide) rfl (fun u11 => ?_) (fun u11 => ?_)
  · have h := h.1 u11
    refine G_aload_n 14 dX0_spoil_13 rfl rfl ?_
    have c3 := kdE x10 c3 (by decide)
    refine G_getR (f := 0) (a := a1) "" 17 dX0_spoil_14 (Or.inl q286) (Or.inl rfl) rfl e2 (hf0 c3) rfl ?_
    obtain ⟨a12, e13, h⟩ := h
    obtain ⟨c14, h⟩ := h
    refine G_getR (f := 3) (a := a12) "TrophyPlates" 20 dX0_spoil_17 (Or.inr q185) (Or.inl rfl) rfl e13 (hf3 c14) rfl ?_
    refine G_iload_n 21 dX0_spoil_20 rfl rfl ?_
    obtain ⟨a15, e16, h⟩ := h
    obtain ⟨c19, h⟩ := h
    refine G_invF (N := mJ2_get) (x := ⟨"java/util/List", "get", "(I)Ljava/lang/Object;"⟩) (As := [.int l1]) (st := []) (t := (FR s6 3 a12)) (b := a15) (rc + 602) (rs + 10006) 26 dX0_spoil_21 q1390 q1393 q1395 q35 q1397 q1392 q1391 q1396 q1394 q307 rfl ax32 ⟨Nat.le_of_ble_eq_true rfl, Nat.le_of_ble_eq_true rfl⟩ rfl (Nat.zero_le _) e16 (rk20 c19) (le_b mJ2_get_c (Nat.le_refl _)) (le_b mJ2_get_s (Nat.le_refl _)) rfl (Cal.mono h ?_)
    rintro s17 v ⟨x18, rfl, h⟩ hx20
    have h := h hx20
    have x21 := hx20.x
    show G w mX0_spoil (KI K) (rc + 602) (rs + 10006) s17 26 [va_rf l0, .int l1] [va_rf x18]
    obtain ⟨c22, h⟩ := h
    refine G_cast 29 dX0_spoil_26 q1372 rfl (c22.imp id (fun ⟨b, e, k⟩ => ⟨b, e, co4 k⟩)) ?_
    obtain ⟨a23, e24, h⟩ := h
    obtain ⟨c25, h⟩ := h
    refine G_getI (f := 35) (a := a23) "TrophyPlates" 32 dX0_spoil_29 (Or.inr q483) (Or.inl rfl) rfl e24 (hf35 c25) rfl ?_
    refine G_if_eq 38 35 dX0_spoil_32 (by decide) rfl (fun u26 => ?_) (fun u26 => ?_)
    · have h := h.1 u26
      refine G_aload_n 39 dX0_spoil_38 rfl rfl ?_
      have c3 := kdE x21 c3 (by decide)
      refine G_invV (N := mX0_act) (As := []) (st := []) (t := l0) (b := a1) (rc + 1) (rs + 4) 42 dX0_spoil_39 q313 q315 qs0 q31 q316 rfl rfl mX0_act_args ⟨Nat.le_of_ble_eq_true rfl, Nat.le_of_ble_eq_true rfl⟩ rfl (Nat.zero_le _) e2 (rk10 c3) (le_b mX0_act_c (Nat.le_refl _)) (le_b mX0_act_s (Nat.le_refl _)) rfl (Cal.mono h ?_)
      rintro s27 v ⟨x28, rfl, h⟩ hx29
      have h := h hx29
      have x30 := hx29.x
      show G w mX0_spoil (KI K) (rc + 1) (rs + 4) s27 42 [va_rf l0, .int l1] [va_rf x28]
      obtain ⟨a31, e32, h⟩ := h
      obtain ⟨c33, h⟩ := h
      refine G_getR (f := 3) (a := a31) "TrophyPlates" 45 dX0_spoil_42 (Or.inr q185) (Or.inl rfl) rfl e32 (hf3 c33) rfl ?_
      refine G_iload_n 46 dX0_spoil_45 rfl rfl ?_
      obtain ⟨a34, e35, h⟩ := h
      obtain ⟨c38, h⟩ := h
      refine G_invF (N := mJ2_get) (x := ⟨"java/util/List", "get", "(I)Ljava/lang/Object;"⟩) (As := [.int l1]) (st := []) (t := (FR s27 3 a31)) (b := a34) (rc + 1) (rs + 4) 51 dX0_spoil_46 q1390 q1393 q1395 q35 q1397 q1392 q1391 q1396 q1394 q307 rfl ax32 ⟨Nat.le_of_ble_eq_true rfl, Nat.le_of_ble_eq_true rfl⟩ rfl (Nat.zero_le _) e35 (rk20 c38) (le_b mJ2_get_c (Nat.le_refl _)) (le_b mJ2_get_s (Nat.le_refl _)) rfl (Cal.mono h ?_)
      rintro s36 v ⟨x37, rfl, h⟩ hx39
      have h := h hx39
      have x40 := hx39.x
      show G w mX0_spoil (KI K) (rc + 1) (rs + 4) s36 51 [va_rf l0, .int l1] [va_rf x37]
      obtain ⟨c41, h⟩ := h
      refine G_cast 54 dX0_spoil_51 q1372 rfl (c41.imp id (fun ⟨b, e, k⟩ => ⟨b, e, co4 k⟩)) ?_
      refine G_iconst (v := 3) 55 dX0_spoil_54 (by decide) rfl ?_
      obtain ⟨a42, e43, h⟩ := h
      obtain ⟨c44, h⟩ := h
      refine G_putI (f := 35) (a := a42) "TrophyPlates" 58 dX0_spoil_55 (Or.inr ⟨q483, rfl⟩) (Or.inl rfl) rfl e43 (hp35 c44) (nk35 c44) (Or.inl rfl) rfl rfl rfl ?_
      generalize hs45 : sFI s36 35 a42 3 = s45
      have x46 : ∀ a, ¬ kd s36 a = 0 → kd s45 a = kd s36 a := by subst hs45; exact fun a _ => congrFun kd_sFI a
      have h := h s45 hs45.symm
      refine G_aload_n 59 dX0_spoil_58 rfl rfl ?_
      have c3 := kdE x30 c3 (by decide)
      have c3 := kdE x40 c3 (by decide)
      have c3 := kdE x46 c3 (by decide)
      refine G_getR (f := 0) (a := a1) "" 62 dX0_spoil_59 (Or.inl q286) (Or.inl rfl) rfl e2 (hf0 c3) rfl ?_
      refine G_iconst (v := 3) 63 dX0_spoil_62 (by decide) rfl ?_
      obtain ⟨a47, e48, h⟩ := h
      obtain ⟨c51, h⟩ := h
      refine G_invV (N := mX1_platesIn) (As := [.int 3]) (st := []) (t := (FR s45 0 a1)) (b := a47) (rc) (rs) 66 dX0_spoil_63 q1408 q1409 q1410 q32 q1411 rfl rfl mX1_platesIn_args ⟨Nat.le_of_ble_eq_true rfl, Nat.le_of_ble_eq_true rfl⟩ rfl (Nat.zero_le _) e48 (rk11 c51) (le_b mX1_platesIn_c (Nat.le_refl _)) (le_b mX1_platesIn_s (Nat.le_refl _)) rfl (Cal.mono h ?_)
      rintro s49 v ⟨x50, rfl, h⟩ hx52
      have h := h hx52
      have x53 := hx52.x
      show G w mX0_spoil (KI K) (rc) (rs) s49 66 [va_rf l0, .int l1] [.int x50]
      exact G_iret dX0_spoil_66 rfl ⟨_, rfl, h⟩
    · have h := h.2 u26
      refine G_bipush (v := (-2)) 37 dX0_spoil_35 (by decide) rfl ?_
      exact G_iret dX0_spoil_37 rfl ⟨_, rfl, h⟩
  · have h := h.2 u11
    refine G_iconst (v := (-1)) 12 dX0_spoil_11 (by decide) rfl ?_
    exact G_iret dX0_spoil_12 rfl ⟨_, rfl, h⟩
theorem eX0_spoil {w : Wt} {K : Sg → Int32 → Prop} {σ : Sg} (l0 : Option Nat) (l1 : Int32) (h : G w mX0_spoil (KI K) 602 10006 σ 0 [va_rf l0, .int l1] []) : CalI w mX0_spoil σ [va_rf l0, .int l1] K :=
  Cal.start 0 mX0_spoil_plain (catR (catI cat0)) (Nat.le_of_ble_eq_true rfl) rfl h
set_option maxHeartbeats 4000000 in
theorem bX0_grind_0 {w : Wt} {K : Sg → Int32 → Prop} {rc rs : Nat} {σ : Sg} (l0 : Option Nat) (l1 : Int32) (l2 : Int32) (h : ∃ a1, l0 = some a1 ∧ kd σ a1 = 10 ∧ ∃ a4, FR σ 0 a1 = some a4 ∧ kd σ a4 = 11 ∧ CalI w mX1_isPlate σ [va_rf (FR σ 0 a1), .int l1] (fun s6 x7 => Ext σ s6 → ((x7 = 0 → K s6 (-1)) ∧ (¬ x7 = 0 → CalI w mX0_isBetween s6 [.int l2, .int 0, .int 1] (fun s12 x13 => Ext s6 s12 → ((¬ x13 = 0 → ∃ a17, FR s12 0 a1 = some a17 ∧ kd s12 a17 = 11 ∧ ∃ a20, FR s12 3 a17 = some a20 ∧ kd s12 a20 = 20 ∧ CalR w mJ2_get s12 [va_rf (FR s12 3 a17), .int l1] (fun s22 x23 => Ext s12 s22 → (x23 = none ∨ ∃ b, x23 = some b ∧ kd s22 b = 15) ∧ ∃ a28, x23 = some a28 ∧ kd s22 a28 = 15 ∧ ((¬ FI s22 35 a28 = 0 → K s22 (-2)) ∧ (FI s22 35 a28 = 0 → ∃ a32, FR s22 36 a28 = some a32 ∧ kd s22 a32 ∈ [1, 5] ∧ vp_in l2 (ln s22 a32) ∧ ((AI s22 a32 l2.toNatClampNeg = 0 → K s22 (-2)) ∧ (¬ AI s22 a32 l2.toNatClampNeg = 0 → CalI w mX5_thicknessWithout s22 [va_rf x23, .int l2] (fun s37 x38 => Ext s22 s37 → ∃ a41, FR s37 36 a28 = some a41 ∧ kd s37 a41 ∈ [1, 5] ∧ vp_in (1 - l2) (ln s37 a41) ∧ ((2 ≤ x38 - (AI s37 a41 (1 - l2).toNatClampNeg) → CalR w mX0_act s37 [va_rf l0] (fun s46 x47 => Ext s37 s46 → ∃ a50, x47 = some a50 ∧ kd s46 a50 = 11 ∧ CalV w mX1_grind s46 [va_rf x47, .int l1, .int l2] (fun s52 => Ext s46 s52 → ∃ a56, FR s52 0 a1 = some a56 ∧ kd s52 a56 = 11 ∧ ∃ a59, FR s52 3 a56 = some a59 ∧ kd s52 a59 = 20 ∧ CalR w mJ2_get s52 [va_rf (FR s52 3 a56), .int l1] (fun s61 x62 => Ext s52 s61 → (x62 = none ∨ ∃ b, x62 = some b ∧ kd s61 b = 15) ∧ ∃ a67, x62 = some a67 ∧ kd s61 a67 = 15 ∧ K s61 (FI s61 34 a67))))) ∧ (¬ 2 ≤ x38 - (AI s37 a41 (1 - l2).toNatClampNeg) → K s37 (-2)))))))))) ∧ (x13 = 0 → K s12 (-1)))))))) : G w mX0_grind (KI K) (rc + 601) (rs + 10002) σ 0 [va_rf l0, .int l1, .int l2, U_] [] := by
  refine G_aload_n 1 dX0_grind_0 rfl rfl ?_
  obtain ⟨a1, e2, h⟩ := h
  obtain ⟨c3, h⟩ := h
  refine G_getR (f := 0) (a := a1) "" 4 dX0_grind_1 (Or.inl q286) (Or.inl rfl) rfl e2 (hf0 c3) rfl ?_
  refine G_iload_n 5 dX0_grind_4 rfl rfl ?_
  obtain ⟨a4, e5, h⟩ := h
  obtain ⟨c8, h⟩ := h
  refine G_invV (N := mX1_isPlate) (As := [.int l1]) (st := []) (t := (FR σ 0 a1)) (b := a4) (rc + 601) (rs + 10002) 8 dX0_grind_5 q1382 q1383 q1384 q32 q1385 rfl rfl mX1_isPlate_args ⟨Nat.le_of_ble_eq_true rfl, Nat.le_of_ble_eq_true rfl⟩ rfl (Nat.zero_le _) e5 (rk11 c8) (le_b mX1_isPlate_c (Nat.le_refl _)) (le_b mX1_isPlate_s (Nat.le_refl _)) rfl (Cal.mono h ?_)
  rintro s6 v ⟨x7, rfl, h⟩ hx9
  have h := h hx9
  have x10 := hx9.x
  show G w mX0_grind (KI K) (rc + 601) (rs + 10002) s6 8 [va_rf l0, .int l1, .int l2, U_] [.int x7]
  refine G_if_eq 20 11 dX0_grind_8 (by decide) rfl (fun u11 => ?_) (fun u11 => ?_)
  · have h := h.1 u11
    refine G_iconst (v := (-1)) 21 dX0_grind_20 (by decide) rfl ?_
    exact G_iret dX0_grind_21 rfl ⟨_, rfl, h⟩
  · have h := h.2 u11
    refine G_iload_n 12 dX0_grind_11 rfl rfl ?_
    refine G_iconst (v := 0) 13 dX0_grind_12 (by decide) rfl ?_
    refine G_iconst (v := 1) 14 dX0_grind_13 (by decide) rfl ?_
    refine G_invS (N := mX0_isBetween) (As := [.int l2, .int 0, .int 1]) (st := []) (rc + 601) (rs + 10002) "" 17 dX0_grind_14 (Or.inl q300) q301 q31 q302 rfl mX0_isBetween_args ⟨Nat.le_of_ble_eq_true rfl, Nat.le_of_ble_eq_true rfl⟩ rfl (Nat.zero_le _) (le_b mX0_isBetween_c (Nat.le_refl _)) (le_b mX0_isBetween_s (Nat.le_refl _)) rfl (Cal.mono h ?_)
    rintro s12 v ⟨x13, rfl, h⟩ hx14
    have h := h hx14
    have x15 := hx14.x
    show G w mX0_grind (KI K) (rc + 601) (rs + 10002) s12 17 [va_rf l0, .int l1, .int l2, U_] [.int x13]
    refine G_if_ne 22 20 dX0_grind_17 (by decide) rfl (fun u16 => ?_) (fun u16 => ?_)
    · have h := h.1 u16
      refine G_aload_n 23 dX0_grind_22 rfl rfl ?_
      have c3 := kdE x10 c3 (by decide)
      have c3 := kdE x15 c3 (by decide)
      refine G_getR (f := 0) (a := a1) "" 26 dX0_grind_23 (Or.inl q286) (Or.inl rfl) rfl e2 (hf0 c3) rfl ?_
      obtain ⟨a17, e18, h⟩ := h
      obtain ⟨c19, h⟩ := h
      refine G_getR (f := 3) (a := a17) "TrophyPlates" 29 dX0_grind_26 (Or.inr q185) (Or.inl rfl) rfl e18 (hf3 c19) rfl ?_
      refine G_iload_n 30 dX0_grind_29 rfl rfl ?_
      obtain ⟨a20, e21, h⟩ := h
      obtain ⟨c24, h⟩ := h
      refine G_invF (N := mJ2_get) (x := ⟨"java/util/List", "get", "(I)Ljava/lang/Object;"⟩) (As := [.int l1]) (st := []) (t := (FR s12 3 a17)) (b := a20) (rc + 601) (rs + 10002) 35 dX0_grind_30 q1390 q1393 q1395 q35 q1397 q1392 q1391 q1396 q1394 q307 rfl ax32 ⟨Nat.le_of_ble_eq_true rfl, Nat.le_of_ble_eq_true rfl⟩ rfl (Nat.zero_le _) e21 (rk20 c24) (le_b mJ2_get_c (Nat.le_refl _)) (le_b mJ2_get_s (Nat.le_refl _)) rfl (Cal.mono h ?_)
      rintro s22 v ⟨x23, rfl, h⟩ hx25
      have h := h hx25
      have x26 := hx25.x
      show G w mX0_grind (KI K) (rc + 601) (rs + 10002) s22 35 [va_rf l0, .int l1, .int l2, U_] [va_rf x23]
      obtain ⟨c27, h⟩ := h
      refine G_cast 38 dX0_grind_35 q1372 rfl (c27.imp id (fun ⟨b, e, k⟩ => ⟨b, e, co4 k⟩)) ?_
      refine G_astore_n 39 [va_rf l0, .int l1, .int l2, va_rf x23] dX0_grind_38 (Nat.le_of_ble_eq_true rfl) rfl rfl ?_
      refine G_aload_n 40 dX0_grind_39 rfl rfl ?_
      obtain ⟨a28, e29, h⟩ := h
      obtain ⟨c30, h⟩ := h
      refine G_getI (f := 35) (a := a28) "TrophyPlates" 43 dX0_grind_40 (Or.inr q483) (Or.inl rfl) rfl e29 (hf35 c30) rfl ?_
      refine G_if_ne 73 46 dX0_grind_43 (by decide) rfl (fun u31 => ?_) (fun u31 => ?_)
      · have h := h.1 u31
        refine G_bipush (v := (-2)) 75 dX0_grind_73 (by decide) rfl ?_
        exact G_iret dX0_grind_75 rfl ⟨_, rfl, h⟩
      · have h := h.2 u31
        refine G_aload_n 47 dX0_grind_46 rfl rfl ?_
        refine G_getR (f := 36) (a := a28) "TrophyPlates" 50 dX0_grind_47 (Or.inr q485) (Or.inl rfl) rfl e29 (hf36 c30) rfl ?_
        refine G_iload_n 51 dX0_grind_50 rfl rfl ?_
        obtain ⟨a32, e33, h⟩ := h
        obtain ⟨c34, h⟩ := h
        obtain ⟨c35, h⟩ := h
        refine G_iald (a := a32) 52 dX0_grind_51 rfl e33 c34 c35 ?_
        refine G_if_eq 73 55 dX0_grind_52 (by decide) rfl (fun u36 => ?_) (fun u36 => ?_)
        · have h := h.1 u36
          refine G_bipush (v := (-2)) 75 dX0_grind_73 (by decide) rfl ?_
          exact G_iret dX0_grind_75 rfl ⟨_, rfl, h⟩
        · have h := h.2 u36
          refine G_aload_n 56 dX0_grind_55 rfl rfl ?_
          refine G_iload_n 57 dX0_grind_56 rfl rfl ?_
          refine G_invV (N := mX5_thicknessWithout) (As := [.int l2]) (st := []) (t := x23) (b := a28) (rc + 601) (rs + 10002) 60 dX0_grind_57 q1416 q1417 q1418 q47 q1419 rfl rfl mX5_thicknessWithout_args ⟨Nat.le_of_ble_eq_true rfl, Nat.le_of_ble_eq_true rfl⟩ rfl (Nat.zero_le _) e29 (rk15 c30) (le_b mX5_thicknessWithout_c (Nat.le_refl _)) (le_b mX5_thicknessWithout_s (Nat.le_refl _)) rfl (Cal.mono h ?_)
          rintro s37 v ⟨x38, rfl, h⟩ hx39
          have h := h hx39
          have x40 := hx39.x
          show G w mX0_grind (KI K) (rc + 601) (rs + 10002) s37 60 [va_rf l0, .int l1, .int l2, va_rf x23] [.int x38]
          refine G_aload_n 61 dX0_grind_60 rfl rfl ?_
          have c30 := kdE x40 c30 (by decide)
          refine G_getR (f := 36) (a := a28) "TrophyPlates" 64 dX0_grind_61 (Or.inr q485) (Or.inl rfl) rfl e29 (hf36 c30) rfl ?_
          refine G_iconst (v := 1) 65 dX0_grind_64 (by decide) rfl ?_
          refine G_iload_n 66 dX0_grind_65 rfl rfl ?_
          refine G_isub 67 dX0_grind_66 rfl ?_
          obtain ⟨a41, e42, h⟩ := h
          obtain ⟨c43, h⟩ := h
          obtain ⟨c44, h⟩ := h
          refine G_iald (a := a41) 68 dX0_grind_67 rfl e42 c43 c44 ?_
          refine G_isub 69 dX0_grind_68 rfl ?_
          refine G_iconst (v := 2) 70 dX0_grind_69 (by decide) rfl ?_
          refine G_icmp_ge 76 73 dX0_grind_70 (by decide) rfl (fun u45 => ?_) (fun u45 => ?_)
          · have h := h.1 u45
            refine G_aload_n 77 dX0_grind_76 rfl rfl ?_
            have c3 := kdE x26 c3 (by decide)
            have c3 := kdE x40 c3 (by decide)
            refine G_invV (N := mX0_act) (As := []) (st := []) (t := l0) (b := a1) (rc) (rs) 80 dX0_grind_77 q313 q315 qs0 q31 q316 rfl rfl mX0_act_args ⟨Nat.le_of_ble_eq_true rfl, Nat.le_of_ble_eq_true rfl⟩ rfl (Nat.zero_le _) e2 (rk10 c3) (le_b mX0_act_c (Nat.le_refl _)) (le_b mX0_act_s (Nat.le_refl _)) rfl (Cal.mono h ?_)
            rintro s46 v ⟨x47, rfl, h⟩ hx48
            have h := h hx48
            have x49 := hx48.x
            show G w mX0_grind (KI K) (rc) (rs) s46 80 [va_rf l0, .int l1, .int l2, va_rf x23] [va_rf x47]
            refine G_iload_n 81 dX0_grind_80 rfl rfl ?_
            refine G_iload_n 82 dX0_grind_81 rfl rfl ?_
            obtain ⟨a50, e51, h⟩ := h
            obtain ⟨c53, h⟩ := h
            refine G_invN (N := mX1_grind) (host := "TrophyPlates") (As := [.int l1, .int l2]) (st := []) (t := x47) (b := a50) (rc) (rs) 85 dX0_grind_82 q1420 q1422 qs6 q32 q1423 rfl mX1_grind_args ⟨Nat.le_of_ble_eq_true rfl, Nat.le_of_ble_eq_true rfl⟩ rfl (Nat.zero_le _) e51 (rk11 c53) (le_b mX1_grind_c (Nat.le_refl _)) (le_b mX1_grind_s (Nat.le_refl _)) rfl (Cal.mono h ?_)
            rintro s52 v ⟨rfl, h⟩ hx54
            have h := h hx54
            have x55 := hx54.x
            show G w mX0_grind (KI K) (rc) (rs) s52 85 [va_rf l0, .int l1, .int l2, va_rf x23] []
            refine G_aload_n 86 dX0_grind_85 rfl rfl ?_
            have c3 := kdE x49 c3 (by decide)
            have c3 := kdE x55 c3 (by decide)
            refine G_getR (f := 0) (a := a1) "" 89 dX0_grind_86 (Or.inl q286) (Or.inl rfl) rfl e2 (hf0 c3) rfl ?_
            obtain ⟨a56, e57, h⟩ := h
            obtain ⟨c58, h⟩ := h
            refine G_getR (f := 3) (a := a56) "TrophyPlates" 92 dX0_grind_89 (Or.inr q185) (Or.inl rfl) rfl e57 (hf3 c58) rfl ?_
            refine G_iload_n 93 dX0_grind_92 rfl rfl ?_
            obtain ⟨a59, e60, h⟩ := h
            obtain ⟨c63, h⟩ := h
            refine G_invF (N := mJ2_get) (x := ⟨"java/util/List", "get", "(I)Ljava/lang/Object;"⟩) (As := [.int l1]) (st := []) (t := (FR s52 3 a56)) (b := a59) (rc) (rs) 98 dX0_grind_93 q1390 q1393 q1395 q35 q1397 q1392 q1391 q1396 q1394 q307 rfl ax32 ⟨Nat.le_of_ble_eq_true rfl, Nat.le_of_ble_eq_true rfl⟩ rfl (Nat.zero_le _) e60 (rk20 c63) (le_b mJ2_get_c (Nat.le_refl _)) (le_b mJ2_get_s (Nat.le_refl _)) rfl (Cal.mono h ?_)
            rintro s61 v ⟨x62, rfl, h⟩ hx64
            have h := h hx64
            have x65 := hx64.x
            show G w mX0_grind (KI K) (rc) (rs) s61 98 [va_rf l0, .int l1, .int l2, va_rf x23] [va_rf x62]
            obtain ⟨c66, h⟩ := h
            refine G_cast 101 dX0_grind_98 q1372 rfl (c66.imp id (fun ⟨b, e, k⟩ => ⟨b, e, co4 k⟩)) ?_
            obtain ⟨a67, e68, h⟩ := h
            obtain ⟨c69, h⟩ := h
            refine G_getI (f := 34) (a := a67) "TrophyPlates" 104 dX0_grind_101 (Or.inr q479) (Or.inl rfl) rfl e68 (hf34 c69) rfl ?_
            exact G_iret dX0_grind_104 rfl ⟨_, rfl, h⟩
          · have h := h.2 u45
            refine G_bipush (v := (-2)) 75 dX0_grind_73 (by decide) rfl ?_
            exact G_iret dX0_grind_75 rfl ⟨_, rfl, h⟩
    · have h := h.2 u16
      refine G_iconst (v := (-1)) 21 dX0_grind_20 (by decide) rfl ?_
      exact G_iret dX0_grind_21 rfl ⟨_, rfl, h⟩
theorem eX0_grind {w : Wt} {K : Sg → Int32 → Prop} {σ : Sg} (l0 : Option Nat) (l1 : Int32) (l2 : Int32) (h : G w mX0_grind (KI K) 601 10002 σ 0 [va_rf l0, .int l1, .int l2, U_] []) : CalI w mX0_grind σ [va_rf l0, .int l1, .int l2] K :=
  Cal.start 1 mX0_grind_plain (catR (catI (catI cat0))) (Nat.le_of_ble_eq_true rfl) rfl h
set_option maxHeartbeats 4000000 in
theorem bX0_addShield_0 {w : Wt} {K : Sg → Int32 → Prop} {rc rs : Nat} {σ : Sg} (l0 : Option Nat) (l1 : Int32) (h : CalI w mX0_isBetween σ [.int l1, .int 2, .int 6] (fun s1 x2 => Ext σ s1 → ((¬ x2 = 0 → ∃ a6, l0 = some a6 ∧ kd s1 a6 = 10 ∧ ∃ a9, FR s1 0 a6 = some a9 ∧ kd s1 a9 = 11 ∧ ((¬ FI s1 7 a9 = 3 → CalR w mX0_act s1 [va_rf l0] (fun s13 x14 => Ext s1 s13 → ∃ a17, x14 = some a17 ∧ kd s13 a17 = 11 ∧ ∃ a20, FR s13 6 a17 = some a20 ∧ kd s13 a20 = 1 ∧ vp_in (FI s13 7 a17) (ln s13 a20) ∧ ∀ s24, s24 = sAI s13 a20 (FI s13 7 a17).toNatClampNeg l1 → ∀ s26, s26 = sFI s24 7 a17 ((FI s24 7 a17) + 1) → K s26 ((FI s26 7 a17) - 1))) ∧ (FI s1 7 a9 = 3 → K s1 (-3)))) ∧ (x2 = 0 → K s1 (-1))))) : G w mX0_addShield (KI K) (rc + 601) (rs + 10002) σ 0 [va_rf l0, .int l1, U_] [] := by
  refine G_iload_n 1 dX0_addShield_0 rfl rfl ?_
  refine G_iconst (v := 2) 2 dX0_addShield_1 (by decide) rfl ?_
  refine G_bipush (v := 6) 4 dX0_addShield_2 (by decide) rfl ?_
  refine G_invS (N := mX0_isBetween) (As := [.int l1, .int 2, .int 6]) (st := []) (rc + 601) (rs + 10002) "" 7 dX0_addShield_4 (Or.inl q300) q301 q31 q302 rfl mX0_isBetween_args ⟨Nat.le_of_ble_eq_true rfl, Nat.le_of_ble_eq_true rfl⟩ rfl (Nat.zero_le _) (le_b mX0_isBetween_c (Nat.le_refl _)) (le_b mX0_isBetween_s (Nat.le_refl _)) rfl (Cal.mono h ?_)
  rintro s1 v ⟨x2, rfl, h⟩ hx3
  have h := h hx3
  have x4 := hx3.x
  show G w mX0_addShield (KI K) (rc + 601) (rs + 10002) s1 7 [va_rf l0, .int l1, U_] [.int x2]
  refine G_if_ne 12 10 dX0_addShield_7 (by decide) rfl (fun u5 => ?_) (fun u5 => ?_)
  · have h := h.1 u5
    refine G_aload_n 13 dX0_addShield_12 rfl rfl ?_
    obtain ⟨a6, e7, h⟩ := h
    obtain ⟨c8, h⟩ := h
    refine G_getR (f := 0) (a := a6) "" 16 dX0_addShield_13 (Or.inl q286) (Or.inl rfl) rfl e7 (hf0 c8) rfl ?_
    obtain ⟨a9, e10, h⟩ := h
    obtain ⟨c11, h⟩ := h
    refine G_getI (f := 7) (a := a9) "TrophyPlates" 19 dX0_addShield_16 (Or.inr q193) (Or.inl rfl) rfl e10 (hf7 c11) rfl ?_
    refine G_iconst (v := 3) 20 dX0_addShield_19 (by decide) rfl ?_
    refine G_icmp_ne 26 23 dX0_addShield_20 (by decide) rfl (fun u12 => ?_) (fun u12 => ?_)
    · have h := h.1 u12
      refine G_aload_n 27 dX0_addShield_26 rfl rfl ?_
      refine G_invV (N := mX0_act) (As := []) (st := []) (t := l0) (b := a6) (rc) (rs) 30 dX0_addShield_27 q313 q315 qs0 q31 q316 rfl rfl mX0_act_args ⟨Nat.le_of_ble_eq_true rfl, Nat.le_of_ble_eq_true rfl⟩ rfl (Nat.zero_le _) e7 (rk10 c8) (le_b mX0_act_c (Nat.le_refl _)) (le_b mX0_act_s (Nat.le_refl _)) rfl (Cal.mono h ?_)
      rintro s13 v ⟨x14, rfl, h⟩ hx15
      have h := h hx15
      have x16 := hx15.x
      show G w mX0_addShield (KI K) (rc) (rs) s13 30 [va_rf l0, .int l1, U_] [va_rf x14]
      refine G_astore_n 31 [va_rf l0, .int l1, va_rf x14] dX0_addShield_30 (Nat.le_of_ble_eq_true rfl) rfl rfl ?_
      refine G_aload_n 32 dX0_addShield_31 rfl rfl ?_
      obtain ⟨a17, e18, h⟩ := h
      obtain ⟨c19, h⟩ := h
      refine G_getR (f := 6) (a := a17) "TrophyPlates" 35 dX0_addShield_32 (Or.inr q191) (Or.inl rfl) rfl e18 (hf6 c19) rfl ?_
      refine G_aload_n 36 dX0_addShield_35 rfl rfl ?_
      refine G_getI (f := 7) (a := a17) "TrophyPlates" 39 dX0_addShield_36 (Or.inr q193) (Or.inl rfl) rfl e18 (hf7 c19) rfl ?_
      refine G_iload_n 40 dX0_addShield_39 rfl rfl ?_
      obtain ⟨a20, e21, h⟩ := h
      obtain ⟨c22, h⟩ := h
      obtain ⟨c23, h⟩ := h
      refine G_iast (a := a20) 41 dX0_addShield_40 rfl e21 c22 c23 ?_
      generalize hs24 : sAI s13 a20 (FI s13 7 a17).toNatClampNeg l1 = s24
      have x25 : ∀ a, ¬ kd s13 a = 0 → kd s24 a = kd s13 a := by subst hs24; exact fun a _ => congrFun kd_sAI a
      have h := h s24 hs24.symm
      refine G_aload_n 42 dX0_addShield_41 rfl rfl ?_
      refine G_dup 43 dX0_addShield_42 (rf_cat _) rfl ?_
      have c19 := kdE x25 c19 (by decide)
      refine G_getI (f := 7) (a := a17) "TrophyPlates" 46 dX0_addShield_43 (Or.inr q193) (Or.inl rfl) rfl e18 (hf7 c19) rfl ?_
      refine G_iconst (v := 1) 47 dX0_addShield_46 (by decide) rfl ?_
      refine G_iadd 48 dX0_addShield_47 rfl ?_
      refine G_putI (f := 7) (a := a17) "TrophyPlates" 51 dX0_addShield_48 (Or.inr ⟨q193, rfl⟩) (Or.inl rfl) rfl e18 (hp7 c19) (nk7 c19) (Or.inl rfl) rfl rfl rfl ?_
      generalize hs26 : sFI s24 7 a17 ((FI s24 7 a17) + 1) = s26
      have x27 : ∀ a, ¬ kd s24 a = 0 → kd s26 a = kd s24 a := by subst hs26; exact fun a _ => congrFun kd_sFI a
      have h := h s26 hs26.symm
      refine G_aload_n 52 dX0_addShield_51 rfl rfl ?_
      have c19 := kdE x27 c19 (by decide)
      refine G_getI (f := 7) (a := a17) "TrophyPlates" 55 dX0_addShield_52 (Or.inr q193) (Or.inl rfl) rfl e18 (hf7 c19) rfl ?_
      refine G_iconst (v := 1) 56 dX0_addShield_55 (by decide) rfl ?_
      refine G_isub 57 dX0_addShield_56 rfl ?_
      exact G_iret dX0_addShield_57 rfl ⟨_, rfl, h⟩
    · have h := h.2 u12
      refine G_bipush (v := (-3)) 25 dX0_addShield_23 (by decide) rfl ?_
      exact G_iret dX0_addShield_25 rfl ⟨_, rfl, h⟩
  · have h := h.2 u5
    refine G_iconst (v := (-1)) 11 dX0_addShield_10 (by decide) rfl ?_
    exact G_iret dX0_addShield_11 rfl ⟨_, rfl, h⟩
theorem eX0_addShield {w : Wt} {K : Sg → Int32 → Prop} {σ : Sg} (l0 : Option Nat) (l1 : Int32) (h : G w mX0_addShield (KI K) 601 10002 σ 0 [va_rf l0, .int l1, U_] []) : CalI w mX0_addShield σ [va_rf l0, .int l1] K :=
  Cal.start 1 mX0_addShield_plain (catR (catI cat0)) (Nat.le_of_ble_eq_true rfl) rfl h
set_option maxHeartbeats 4000000 in
theorem bX0_takeOff_0 {w : Wt} {K : Sg → Int32 → Prop} {rc rs : Nat} {σ : Sg} (l0 : Option Nat) (l1 : Int32) (l2 : Int32) (h : ∃ a1, l0 = some a1 ∧ kd σ a1 = 10 ∧ CalI w mX0_isPlace σ [va_rf l0, .int l1, .int l2] (fun s3 x4 => Ext σ s3 → ((¬ x4 = 0 → ∃ a9, FR s3 0 a1 = some a9 ∧ kd s3 a9 = 11 ∧ CalI w mX1_plateFor s3 [va_rf (FR s3 0 a1), .int l1, .int l2] (fun s11 x12 => Ext s3 s11 → ((¬ x12 = (-9) → CalR w mX0_act s11 [va_rf l0] (fun s17 x18 => Ext s11 s17 → ∃ a21, x18 = some a21 ∧ kd s17 a21 = 11 ∧ CalI w mX1_takeOff s17 [va_rf x18, .int l1, .int l2] (fun s23 x24 => Ext s17 s23 → K s23 x24))) ∧ (x12 = (-9) → K s11 (-2))))) ∧ (x4 = 0 → K s3 (-1))))) : G w mX0_takeOff (KI K) (rc + 623) (rs + 10126) σ 0 [va_rf l0, .int l1, .int l2] [] := by
  refine G_aload_n 1 dX0_takeOff_0 rfl rfl ?_
  refine G_iload_n 2 dX0_takeOff_1 rfl rfl ?_
  refine G_iload_n 3 dX0_takeOff_2 rfl rfl ?_
  obtain ⟨a1, e2, h⟩ := h
  obtain ⟨c5, h⟩ := h
  refine G_invV (N := mX0_isPlace) (As := [.int l1, .int l2]) (st := []) (t := l0) (b := a1) (rc + 623) (rs + 10126) 6 dX0_takeOff_3 q1439 q1441 qs7 q31 q1442 rfl rfl mX0_isPlace_args ⟨Nat.le_of_ble_eq_true rfl, Nat.le_of_ble_eq_true rfl⟩ rfl (Nat.zero_le _) e2 (rk10 c5) (le_b mX0_isPlace_c (Nat.le_refl _)) (le_b mX0_isPlace_s (Nat.le_refl _)) rfl (Cal.mono h ?_)
  rintro s3 v ⟨x4, rfl, h⟩ hx6
  have h := h hx6
  have x7 := hx6.x
  show G w mX0_takeOff (KI K) (rc + 623) (rs + 10126) s3 6 [va_rf l0, .int l1, .int l2] [.int x4]
  refine G_if_ne 11 9 dX0_takeOff_6 (by decide) rfl (fun u8 => ?_) (fun u8 => ?_)
  · have h := h.1 u8
    refine G_aload_n 12 dX0_takeOff_11 rfl rfl ?_
    have c5 := kdE x7 c5 (by decide)
    refine G_getR (f := 0) (a := a1) "" 15 dX0_takeOff_12 (Or.inl q286) (Or.inl rfl) rfl e2 (hf0 c5) rfl ?_
    refine G_iload_n 16 dX0_takeOff_15 rfl rfl ?_
    refine G_iload_n 17 dX0_takeOff_16 rfl rfl ?_
    obtain ⟨a9, e10, h⟩ := h
    obtain ⟨c13, h⟩ := h
    refine G_invV (N := mX1_plateFor) (As := [.int l1, .int l2]) (st := []) (t := (FR s3 0 a1)) (b := a9) (rc + 622) (rs + 10124) 20 dX0_takeOff_17 q1447 q1448 q1449 q32 q1450 rfl rfl mX1_plateFor_args ⟨Nat.le_of_ble_eq_true rfl, Nat.le_of_ble_eq_true rfl⟩ rfl (Nat.zero_le _) e10 (rk11 c13) (le_b mX1_plateFor_c (Nat.le_refl _)) (le_b mX1_plateFor_s (Nat.le_refl _)) rfl (Cal.mono h ?_)
    rintro s11 v ⟨x12, rfl, h⟩ hx14
    have h := h hx14
    have x15 := hx14.x
    show G w mX0_takeOff (KI K) (rc + 622) (rs + 10124) s11 20 [va_rf l0, .int l1, .int l2] [.int x12]
    refine G_bipush (v := (-9)) 22 dX0_takeOff_20 (by decide) rfl ?_
    refine G_icmp_ne 28 25 dX0_takeOff_22 (by decide) rfl (fun u16 => ?_) (fun u16 => ?_)
    · have h := h.1 u16
      refine G_aload_n 29 dX0_takeOff_28 rfl rfl ?_
      have c5 := kdE x15 c5 (by decide)
      refine G_invV (N := mX0_act) (As := []) (st := []) (t := l0) (b := a1) (rc + 21) (rs + 122) 32 dX0_takeOff_29 q313 q315 qs0 q31 q316 rfl rfl mX0_act_args ⟨Nat.le_of_ble_eq_true rfl, Nat.le_of_ble_eq_true rfl⟩ rfl (Nat.zero_le _) e2 (rk10 c5) (le_b mX0_act_c (Nat.le_refl _)) (le_b mX0_act_s (Nat.le_refl _)) rfl (Cal.mono h ?_)
      rintro s17 v ⟨x18, rfl, h⟩ hx19
      have h := h hx19
      have x20 := hx19.x
      show G w mX0_takeOff (KI K) (rc + 21) (rs + 122) s17 32 [va_rf l0, .int l1, .int l2] [va_rf x18]
      refine G_iload_n 33 dX0_takeOff_32 rfl rfl ?_
      refine G_iload_n 34 dX0_takeOff_33 rfl rfl ?_
      obtain ⟨a21, e22, h⟩ := h
      obtain ⟨c25, h⟩ := h
      refine G_invV (N := mX1_takeOff) (As := [.int l1, .int l2]) (st := []) (t := x18) (b := a21) (rc) (rs) 37 dX0_takeOff_34 q1497 q1498 q1499 q32 q1500 rfl rfl mX1_takeOff_args ⟨Nat.le_of_ble_eq_true rfl, Nat.le_of_ble_eq_true rfl⟩ rfl (Nat.zero_le _) e22 (rk11 c25) (le_b mX1_takeOff_c (Nat.le_refl _)) (le_b mX1_takeOff_s (Nat.le_refl _)) rfl (Cal.mono h ?_)
      rintro s23 v ⟨x24, rfl, h⟩ hx26
      have h := h hx26
      have x27 := hx26.x
      show G w mX0_takeOff (KI K) (rc) (rs) s23 37 [va_rf l0, .int l1, .int l2] [.int x24]
      exact G_iret dX0_takeOff_37 rfl ⟨_, rfl, h⟩
    · have h := h.2 u16
      refine G_bipush (v := (-2)) 27 dX0_takeOff_25 (by decide) rfl ?_
      exact G_iret dX0_takeOff_27 rfl ⟨_, rfl, h⟩
  · have h := h.2 u8
    refine G_iconst (v := (-1)) 10 dX0_takeOff_9 (by decide) rfl ?_
    exact G_iret dX0_takeOff_10 rfl ⟨_, rfl, h⟩
theorem eX0_takeOff {w : Wt} {K : Sg → Int32 → Prop} {σ : Sg} (l0 : Option Nat) (l1 : Int32) (l2 : Int32) (h : G w mX0_takeOff (KI K) 623 10126 σ 0 [va_rf l0, .int l1, .int l2] []) : CalI w mX0_takeOff σ [va_rf l0, .int l1, .int l2] K :=
  Cal.start 0 mX0_takeOff_plain (catR (catI (catI cat0))) (Nat.le_of_ble_eq_true rfl) rfl h
set_option maxHeartbeats 4000000 in
theorem bX0_isPlace_0 {w : Wt} {K : Sg → Int32 → Prop} {rc rs : Nat} {σ : Sg} (l0 : Option Nat) (l1 : Int32) (l2 : Int32) (h : ∃ a1, l0 = some a1 ∧ kd σ a1 = 10 ∧ ∃ a4, FR σ 0 a1 = some a4 ∧ kd σ a4 = 11 ∧ CalI w mX1_isShield σ [va_rf (FR σ 0 a1), .int l1] (fun s6 x7 => Ext σ s6 → ((x7 = 0 → K s6 0) ∧ (¬ x7 = 0 → CalI w mX0_isBetween s6 [.int l2, .int 1, .int 999] (fun s12 x13 => Ext s6 s12 → ((x13 = 0 → K s12 0) ∧ (¬ x13 = 0 → K s12 1))))))) : G w mX0_isPlace (KI K) (rc) (rs) σ 0 [va_rf l0, .int l1, .int l2] [] := by
  refine G_aload_n 1 dX0_isPlace_0 rfl rfl ?_
  obtain ⟨a1, e2, h⟩ := h
  obtain ⟨c3, h⟩ := h
  refine G_getR (f := 0) (a := a1) "" 4 dX0_isPlace_1 (Or.inl q286) (Or.inl rfl) rfl e2 (hf0 c3) rfl ?_
  refine G_iload_n 5 dX0_isPlace_4 rfl rfl ?_
  obtain ⟨a4, e5, h⟩ := h
  obtain ⟨c8, h⟩ := h
  refine G_invV (N := mX1_isShield) (As := [.int l1]) (st := []) (t := (FR σ 0 a1)) (b := a4) (rc) (rs) 8 dX0_isPlace_5 q1443 q1444 q1445 q32 q1446 rfl rfl mX1_isShield_args ⟨Nat.le_of_ble_eq_true rfl, Nat.le_of_ble_eq_true rfl⟩ rfl (Nat.zero_le _) e5 (rk11 c8) (le_b mX1_isShield_c (Nat.le_refl _)) (le_b mX1_isShield_s (Nat.le_refl _)) rfl (Cal.mono h ?_)
  rintro s6 v ⟨x7, rfl, h⟩ hx9
  have h := h hx9
  have x10 := hx9.x
  show G w mX0_isPlace (KI K) (rc) (rs) s6 8 [va_rf l0, .int l1, .int l2] [.int x7]
  refine G_if_eq 26 11 dX0_isPlace_8 (by decide) rfl (fun u11 => ?_) (fun u11 => ?_)
  · have h := h.1 u11
    refine G_iconst (v := 0) 27 dX0_isPlace_26 (by decide) rfl ?_
    exact G_zret dX0_isPlace_27 rfl rfl ⟨_, rfl, h⟩
  · have h := h.2 u11
    refine G_iload_n 12 dX0_isPlace_11 rfl rfl ?_
    refine G_iconst (v := 1) 13 dX0_isPlace_12 (by decide) rfl ?_
    refine G_sipush (v := 999) 16 dX0_isPlace_13 (by decide) rfl ?_
    refine G_invS (N := mX0_isBetween) (As := [.int l2, .int 1, .int 999]) (st := []) (rc) (rs) "" 19 dX0_isPlace_16 (Or.inl q300) q301 q31 q302 rfl mX0_isBetween_args ⟨Nat.le_of_ble_eq_true rfl, Nat.le_of_ble_eq_true rfl⟩ rfl (Nat.zero_le _) (le_b mX0_isBetween_c (Nat.le_refl _)) (le_b mX0_isBetween_s (Nat.le_refl _)) rfl (Cal.mono h ?_)
    rintro s12 v ⟨x13, rfl, h⟩ hx14
    have h := h hx14
    have x15 := hx14.x
    show G w mX0_isPlace (KI K) (rc) (rs) s12 19 [va_rf l0, .int l1, .int l2] [.int x13]
    refine G_if_eq 26 22 dX0_isPlace_19 (by decide) rfl (fun u16 => ?_) (fun u16 => ?_)
    · have h := h.1 u16
      refine G_iconst (v := 0) 27 dX0_isPlace_26 (by decide) rfl ?_
      exact G_zret dX0_isPlace_27 rfl rfl ⟨_, rfl, h⟩
    · have h := h.2 u16
      refine G_iconst (v := 1) 23 dX0_isPlace_22 (by decide) rfl ?_
      refine G_goto 27 dX0_isPlace_23 (by decide) ?_
      exact G_zret dX0_isPlace_27 rfl rfl ⟨_, rfl, h⟩
theorem eX0_isPlace {w : Wt} {K : Sg → Int32 → Prop} {σ : Sg} (l0 : Option Nat) (l1 : Int32) (l2 : Int32) (h : G w mX0_isPlace (KI K) 0 0 σ 0 [va_rf l0, .int l1, .int l2] []) : CalI w mX0_isPlace σ [va_rf l0, .int l1, .int l2] K :=
  Cal.start 0 mX0_isPlace_plain (catR (catI (catI cat0))) (Nat.le_of_ble_eq_true rfl) rfl h
set_option maxHeartbeats 4000000 in
theorem bX0_append_0 {w : Wt} {K : Sg → Int32 → Prop} {rc rs : Nat} {σ : Sg} (l0 : Option Nat) (l1 : Int32) (h : CalI w mX0_isBetween σ [.int l1, .int 97, .int 122] (fun s1 x2 => Ext σ s1 → ((¬ x2 = 0 → ∃ a6, l0 = some a6 ∧ kd s1 a6 = 10 ∧ ∃ a9, FR s1 2 a6 = some a9 ∧ kd s1 a9 = 23 ∧ CalI w mJ7_length s1 [va_rf (FR s1 2 a6)] (fun s11 x12 => Ext s1 s11 → ((¬ x12 = 12 → ∃ a17, FR s11 2 a6 = some a17 ∧ kd s11 a17 = 23 ∧ CalR w mJ7_append s11 [va_rf (FR s11 2 a6), .int ((l1.toUInt32 % 65536).toInt32)] (fun s19 x20 => Ext s11 s19 → ∃ a24, FR s19 2 a6 = some a24 ∧ kd s19 a24 = 23 ∧ CalI w mJ7_length s19 [va_rf (FR s19 2 a6)] (fun s26 x27 => Ext s19 s26 → K s26 x27))) ∧ (x12 = 12 → K s11 (-3))))) ∧ (x2 = 0 → K s1 (-1))))) : G w mX0_append (KI K) (rc) (rs) σ 0 [va_rf l0, .int l1] [] := by
  refine G_iload_n 1 dX0_append_0 rfl rfl ?_
  refine G_bipush (v := 97) 3 dX0_append_1 (by decide) rfl ?_
  refine G_bipush (v := 122) 5 dX0_append_3 (by decide) rfl ?_
  refine G_invS (N := mX0_isBetween) (As := [.int l1, .int 97, .int 122]) (st := []) (rc) (rs) "" 8 dX0_append_5 (Or.inl q300) q301 q31 q302 rfl mX0_isBetween_args ⟨Nat.le_of_ble_eq_true rfl, Nat.le_of_ble_eq_true rfl⟩ rfl (Nat.zero_le _) (le_b mX0_isBetween_c (Nat.le_refl _)) (le_b mX0_isBetween_s (Nat.le_refl _)) rfl (Cal.mono h ?_)
  rintro s1 v ⟨x2, rfl, h⟩ hx3
  have h := h hx3
  have x4 := hx3.x
  show G w mX0_append (KI K) (rc) (rs) s1 8 [va_rf l0, .int l1] [.int x2]
  refine G_if_ne 13 11 dX0_append_8 (by decide) rfl (fun u5 => ?_) (fun u5 => ?_)
  · have h := h.1 u5
    refine G_aload_n 14 dX0_append_13 rfl rfl ?_
    obtain ⟨a6, e7, h⟩ := h
    obtain ⟨c8, h⟩ := h
    refine G_getR (f := 2) (a := a6) "" 17 dX0_append_14 (Or.inl q288) (Or.inl rfl) rfl e7 (hf2 c8) rfl ?_
    obtain ⟨a9, e10, h⟩ := h
    obtain ⟨c13, h⟩ := h
    refine G_invV (N := mJ7_length) (As := []) (st := []) (t := (FR s1 2 a6)) (b := a9) (rc) (rs) 20 dX0_append_17 q1537 q1538 q1539 q41 q1540 rfl rfl mJ7_length_args ⟨Nat.le_of_ble_eq_true rfl, Nat.le_of_ble_eq_true rfl⟩ rfl (Nat.zero_le _) e10 (rk23 c13) (le_b mJ7_length_c (Nat.le_refl _)) (le_b mJ7_length_s (Nat.le_refl _)) rfl (Cal.mono h ?_)
    rintro s11 v ⟨x12, rfl, h⟩ hx14
    have h := h hx14
    have x15 := hx14.x
    show G w mX0_append (KI K) (rc) (rs) s11 20 [va_rf l0, .int l1] [.int x12]
    refine G_bipush (v := 12) 22 dX0_append_20 (by decide) rfl ?_
    refine G_icmp_ne 28 25 dX0_append_22 (by decide) rfl (fun u16 => ?_) (fun u16 => ?_)
    · have h := h.1 u16
      refine G_aload_n 29 dX0_append_28 rfl rfl ?_
      have c8 := kdE x15 c8 (by decide)
      refine G_getR (f := 2) (a := a6) "" 32 dX0_append_29 (Or.inl q288) (Or.inl rfl) rfl e7 (hf2 c8) rfl ?_
      refine G_iload_n 33 dX0_append_32 rfl rfl ?_
      refine G_i2c 34 dX0_append_33 rfl ?_
      obtain ⟨a17, e18, h⟩ := h
      obtain ⟨c21, h⟩ := h
      refine G_invV (N := mJ7_append) (As := [.int ((l1.toUInt32 % 65536).toInt32)]) (st := []) (t := (FR s11 2 a6)) (b := a17) (rc) (rs) 37 dX0_append_34 q1544 q1545 q1546 q41 q1547 rfl rfl mJ7_append_args ⟨Nat.le_of_ble_eq_true rfl, Nat.le_of_ble_eq_true rfl⟩ rfl (Nat.zero_le _) e18 (rk23 c21) (le_b mJ7_append_c (Nat.le_refl _)) (le_b mJ7_append_s (Nat.le_refl _)) rfl (Cal.mono h ?_)
      rintro s19 v ⟨x20, rfl, h⟩ hx22
      have h := h hx22
      have x23 := hx22.x
      show G w mX0_append (KI K) (rc) (rs) s19 37 [va_rf l0, .int l1] [va_rf x20]
      refine G_pop 38 dX0_append_37 (rf_cat _) rfl ?_
      refine G_aload_n 39 dX0_append_38 rfl rfl ?_
      have c8 := kdE x23 c8 (by decide)
      refine G_getR (f := 2) (a := a6) "" 42 dX0_append_39 (Or.inl q288) (Or.inl rfl) rfl e7 (hf2 c8) rfl ?_
      obtain ⟨a24, e25, h⟩ := h
      obtain ⟨c28, h⟩ := h
      refine G_invV (N := mJ7_length) (As := []) (st := []) (t := (FR s19 2 a6)) (b := a24) (rc) (rs) 45 dX0_append_42 q1537 q1538 q1539 q41 q1540 rfl rfl mJ7_length_args ⟨Nat.le_of_ble_eq_true rfl, Nat.le_of_ble_eq_true rfl⟩ rfl (Nat.zero_le _) e25 (rk23 c28) (le_b mJ7_length_c (Nat.le_refl _)) (le_b mJ7_length_s (Nat.le_refl _)) rfl (Cal.mono h ?_)
      rintro s26 v ⟨x27, rfl, h⟩ hx29
      have h := h hx29
      have x30 := hx29.x
      show G w mX0_append (KI K) (rc) (rs) s26 45 [va_rf l0, .int l1] [.int x27]
      exact G_iret dX0_append_45 rfl ⟨_, rfl, h⟩
    · have h := h.2 u16
      refine G_bipush (v := (-3)) 27 dX0_append_25 (by decide) rfl ?_
      exact G_iret dX0_append_27 rfl ⟨_, rfl, h⟩
  · have h := h.2 u5
    refine G_iconst (v := (-1)) 12 dX0_append_11 (by decide) rfl ?_
    exact G_iret dX0_append_12 rfl ⟨_, rfl, h⟩
theorem eX0_append {w : Wt} {K : Sg → Int32 → Prop} {σ : Sg} (l0 : Option Nat) (l1 : Int32) (h : G w mX0_append (KI K) 0 0 σ 0 [va_rf l0, .int l1] []) : CalI w mX0_append σ [va_rf l0, .int l1] K :=
  Cal.start 0 mX0_append_plain (catR (catI cat0)) (Nat.le_of_ble_eq_true rfl) rfl h
set_option maxHeartbeats 4000000 in
theorem bX0_clearText_0 {w : Wt} {K : Sg → Int32 → Prop} {rc rs : Nat} {σ : Sg} (l0 : Option Nat) (h : ∃ a1, l0 = some a1 ∧ kd σ a1 = 10 ∧ ∃ a4, FR σ 2 a1 = some a4 ∧ kd σ a4 = 23 ∧ CalI w mJ7_length σ [va_rf (FR σ 2 a1)] (fun s6 x7 => Ext σ s6 → ∃ a11, FR s6 2 a1 = some a11 ∧ kd s6 a11 = 23 ∧ CalV w mJ7_setLength s6 [va_rf (FR s6 2 a1), .int 0] (fun s13 => Ext s6 s13 → K s13 x7))) : G w mX0_clearText (KI K) (rc) (rs) σ 0 [va_rf l0, U_] [] := by
  refine G_aload_n 1 dX0_clearText_0 rfl rfl ?_
  obtain ⟨a1, e2, h⟩ := h
  obtain ⟨c3, h⟩ := h
  refine G_getR (f := 2) (a := a1) "" 4 dX0_clearText_1 (Or.inl q288) (Or.inl rfl) rfl e2 (hf2 c3) rfl ?_
  obtain ⟨a4, e5, h⟩ := h
  obtain ⟨c8, h⟩ := h
  refine G_invV (N := mJ7_length) (As := []) (st := []) (t := (FR σ 2 a1)) (b := a4) (rc) (rs) 7 dX0_clearText_4 q1537 q1538 q1539 q41 q1540 rfl rfl mJ7_length_args ⟨Nat.le_of_ble_eq_true rfl, Nat.le_of_ble_eq_true rfl⟩ rfl (Nat.zero_le _) e5 (rk23 c8) (le_b mJ7_length_c (Nat.le_refl _)) (le_b mJ7_length_s (Nat.le_refl _)) rfl (Cal.mono h ?_)
  rintro s6 v ⟨x7, rfl, h⟩ hx9
  have h := h hx9
  have x10 := hx9.x
  show G w mX0_clearText (KI K) (rc) (rs) s6 7 [va_rf l0, U_] [.int x7]
  refine G_istore_n 8 [va_rf l0, .int x7] dX0_clearText_7 (Nat.le_of_ble_eq_true rfl) rfl rfl ?_
  refine G_aload_n 9 dX0_clearText_8 rfl rfl ?_
  have c3 := kdE x10 c3 (by decide)
  refine G_getR (f := 2) (a := a1) "" 12 dX0_clearText_9 (Or.inl q288) (Or.inl rfl) rfl e2 (hf2 c3) rfl ?_
  refine G_iconst (v := 0) 13 dX0_clearText_12 (by decide) rfl ?_
  obtain ⟨a11, e12, h⟩ := h
  obtain ⟨c14, h⟩ := h
  refine G_invV (N := mJ7_setLength) (As := [.int 0]) (st := []) (t := (FR s6 2 a1)) (b := a11) (rc) (rs) 16 dX0_clearText_13 q1610 q1611 q1612 q41 q1613 rfl rfl mJ7_setLength_args ⟨Nat.le_of_ble_eq_true rfl, Nat.le_of_ble_eq_true rfl⟩ rfl (Nat.zero_le _) e12 (rk23 c14) (le_b mJ7_setLength_c (Nat.le_refl _)) (le_b mJ7_setLength_s (Nat.le_refl _)) rfl (Cal.mono h ?_)
  rintro s13 v ⟨rfl, h⟩ hx15
  have h := h hx15
  have x16 := hx15.x
  show G w mX0_clearText (KI K) (rc) (rs) s13 16 [va_rf l0, .int x7] []
  refine G_iload_n 17 dX0_clearText_16 rfl rfl ?_
  exact G_iret dX0_clearText_17 rfl ⟨_, rfl, h⟩
theorem eX0_clearText {w : Wt} {K : Sg → Int32 → Prop} {σ : Sg} (l0 : Option Nat) (h : G w mX0_clearText (KI K) 0 0 σ 0 [va_rf l0, U_] []) : CalI w mX0_clearText σ [va_rf l0] K :=
  Cal.start 1 mX0_clearText_plain (catR cat0) (Nat.le_of_ble_eq_true rfl) rfl h
set_option maxHeartbeats 4000000 in
theorem bX0_order_0 {w : Wt} {K : Sg → Int32 → Prop} {rc rs : Nat} {σ : Sg} (l0 : Option Nat) (l1 : Int32) (l2 : Int32) (l3 : Int32) (l4 : Int32) (l5 : Int32) (h : ∃ a1, l0 = some a1 ∧ kd σ a1 = 10 ∧ CalI w mX0_isPlace σ [va_rf l0, .int l1, .int l2] (fun s3 x4 => Ext σ s3 → ((x4 = 0 → K s3 (-1)) ∧ (¬ x4 = 0 → CalI w mX0_isSize s3 [.int l3] (fun s9 x10 => Ext s3 s9 → ((x10 = 0 → K s9 (-1)) ∧ (¬ x10 = 0 → CalI w mX0_isDepth s9 [.int l4] (fun s14 x15 => Ext s9 s14 → ((x15 = 0 → K s14 (-1)) ∧ (¬ x15 = 0 → CalI w mX0_isBetween s14 [.int l5, .int 0, .int 1] (fun s19 x20 => Ext s14 s19 → ((¬ x20 = 0 → ∀ n25, n25 = nx s19 → kd s19 n25 = 0 → ∀ s26, s26 = nO s19 16 → CalV w mX6_init s26 [va_rf (some n25), .int l1, .int l2] (fun s29 => Ext s26 s29 → ∃ a32, FR s29 2 a1 = some a32 ∧ kd s29 a32 = 23 ∧ CalI w mJ7_length s29 [va_rf (FR s29 2 a1)] (fun s34 x35 => Ext s29 s34 → ((x35 = 0 → K s34 (-2)) ∧ (¬ x35 = 0 → ∃ a40, FR s34 0 a1 = some a40 ∧ kd s34 a40 = 11 ∧ CalI w mX1_plateFor s34 [va_rf (FR s34 0 a1), .int l1, .int l2] (fun s42 x43 => Ext s34 s42 → ((¬ x43 = (-9) → K s42 (-2)) ∧ (x43 = (-9) → ∃ a48, FR s42 0 a1 = some a48 ∧ kd s42 a48 = 11 ∧ CalI w mX1_isOrdered s42 [va_rf (FR s42 0 a1), va_rf (some n25)] (fun s50 x51 => Ext s42 s50 → ((x51 = 0 → ∃ a56, FR s50 0 a1 = some a56 ∧ kd s50 a56 = 11 ∧ ∃ a59, FR s50 4 a56 = some a59 ∧ kd s50 a59 = 20 ∧ CalI w mJ2_size s50 [va_rf (FR s50 4 a56)] (fun s61 x62 => Ext s50 s61 → ((¬ x62 = 10 → ∀ n68, n68 = nx s61 → kd s61 n68 = 0 → ∀ s69, s69 = nO s61 17 → ∃ a72, FR s69 2 a1 = some a72 ∧ kd s69 a72 = 23 ∧ CalR w mJ7_toString s69 [va_rf (FR s69 2 a1)] (fun s74 x75 => Ext s69 s74 → ((¬ l5 = 1 → CalV w mX7_init s74 [va_rf (some n68), va_rf (some n25), va_rf x75, .int l3, .int l4, .int 0] (fun s80 => Ext s74 s80 → ∃ a83, FR s80 2 a1 = some a83 ∧ kd s80 a83 = 23 ∧ CalV w mJ7_setLength s80 [va_rf (FR s80 2 a1), .int 0] (fun s85 => Ext s80 s85 → CalR w mX0_act s85 [va_rf l0] (fun s89 x90 => Ext s85 s89 → ∃ a93, x90 = some a93 ∧ kd s89 a93 = 11 ∧ CalI w mX1_line s89 [va_rf x90, va_rf (some n68)] (fun s95 x96 => Ext s89 s95 → K s95 x96))))) ∧ (l5 = 1 → CalV w mX7_init s74 [va_rf (some n68), va_rf (some n25), va_rf x75, .int l3, .int l4, .int 1] (fun s100 => Ext s74 s100 → ∃ a103, FR s100 2 a1 = some a103 ∧ kd s100 a103 = 23 ∧ CalV w mJ7_setLength s100 [va_rf (FR s100 2 a1), .int 0] (fun s105 => Ext s100 s105 → CalR w mX0_act s105 [va_rf l0] (fun s109 x110 => Ext s105 s109 → ∃ a113, x110 = some a113 ∧ kd s109 a113 = 11 ∧ CalI w mX1_line s109 [va_rf x110, va_rf (some n68)] (fun s115 x116 => Ext s109 s115 → K s115 x116)))))))) ∧ (x62 = 10 → K s61 (-3))))) ∧ (¬ x51 = 0 → K s50 (-2)))))))))))) ∧ (x20 = 0 → K s19 (-1)))))))))))))) : G w mX0_order (KI K) (rc + 878) (rs + 14753) σ 0 [va_rf l0, .int l1, .int l2, .int l3, .int l4, .int l5, U_, U_] [] := by
  refine G_aload_n 1 dX0_order_0 rfl rfl ?_
  refine G_iload_n 2 dX0_order_1 rfl rfl ?_
  refine G_iload_n 3 dX0_order_2 rfl rfl ?_
  obtain ⟨a1, e2, h⟩ := h
  obtain ⟨c5, h⟩ := h
  refine G_invV (N := mX0_isPlace) (As := [.int l1, .int l2]) (st := []) (t := l0) (b := a1) (rc + 878) (rs + 14753) 6 dX0_order_3 q1439 q1441 qs7 q31 q1442 rfl rfl mX0_isPlace_args ⟨Nat.le_of_ble_eq_true rfl, Nat.le_of_ble_eq_true rfl⟩ rfl (Nat.zero_le _) e2 (rk10 c5) (le_b mX0_isPlace_c (Nat.le_refl _)) (le_b mX0_isPlace_s (Nat.le_refl _)) rfl (Cal.mono h ?_)
  rintro s3 v ⟨x4, rfl, h⟩ hx6
  have h := h hx6
  have x7 := hx6.x
  show G w mX0_order (KI K) (rc + 878) (rs + 14753) s3 6 [va_rf l0, .int l1, .int l2, .int l3, .int l4, .int l5, U_, U_] [.int x4]
  refine G_if_eq 34 9 dX0_order_6 (by decide) rfl (fun u8 => ?_) (fun u8 => ?_)
  · have h := h.1 u8
    refine G_iconst (v := (-1)) 35 dX0_order_34 (by decide) rfl ?_
    exact G_iret dX0_order_35 rfl ⟨_, rfl, h⟩
  · have h := h.2 u8
    refine G_iload_n 10 dX0_order_9 rfl rfl ?_
    refine G_invS (N := mX0_isSize) (As := [.int l3]) (st := []) (rc + 878) (rs + 14753) "" 13 dX0_order_10 (Or.inl q1634) q1635 q31 q1636 rfl mX0_isSize_args ⟨Nat.le_of_ble_eq_true rfl, Nat.le_of_ble_eq_true rfl⟩ rfl (Nat.zero_le _) (le_b mX0_isSize_c (Nat.le_refl _)) (le_b mX0_isSize_s (Nat.le_refl _)) rfl (Cal.mono h ?_)
    rintro s9 v ⟨x10, rfl, h⟩ hx11
    have h := h hx11
    have x12 := hx11.x
    show G w mX0_order (KI K) (rc + 878) (rs + 14753) s9 13 [va_rf l0, .int l1, .int l2, .int l3, .int l4, .int l5, U_, U_] [.int x10]
    refine G_if_eq 34 16 dX0_order_13 (by decide) rfl (fun u13 => ?_) (fun u13 => ?_)
    · have h := h.1 u13
      refine G_iconst (v := (-1)) 35 dX0_order_34 (by decide) rfl ?_
      exact G_iret dX0_order_35 rfl ⟨_, rfl, h⟩
    · have h := h.2 u13
      refine G_iload 18 dX0_order_16 rfl rfl ?_
      refine G_invS (N := mX0_isDepth) (As := [.int l4]) (st := []) (rc + 878) (rs + 14753) "" 21 dX0_order_18 (Or.inl q1637) q1638 q31 q1639 rfl mX0_isDepth_args ⟨Nat.le_of_ble_eq_true rfl, Nat.le_of_ble_eq_true rfl⟩ rfl (Nat.zero_le _) (le_b mX0_isDepth_c (Nat.le_refl _)) (le_b mX0_isDepth_s (Nat.le_refl _)) rfl (Cal.mono h ?_)
      rintro s14 v ⟨x15, rfl, h⟩ hx16
      have h := h hx16
      have x17 := hx16.x
      show G w mX0_order (KI K) (rc + 878) (rs + 14753) s14 21 [va_rf l0, .int l1, .int l2, .int l3, .int l4, .int l5, U_, U_] [.int x15]
      refine G_if_eq 34 24 dX0_order_21 (by decide) rfl (fun u18 => ?_) (fun u18 => ?_)
      · have h := h.1 u18
        refine G_iconst (v := (-1)) 35 dX0_order_34 (by decide) rfl ?_
        exact G_iret dX0_order_35 rfl ⟨_, rfl, h⟩
      · have h := h.2 u18
        refine G_iload 26 dX0_order_24 rfl rfl ?_
        refine G_iconst (v := 0) 27 dX0_order_26 (by decide) rfl ?_
        refine G_iconst (v := 1) 28 dX0_order_27 (by decide) rfl ?_
        refine G_invS (N := mX0_isBetween) (As := [.int l5, .int 0, .int 1]) (st := []) (rc + 878) (rs + 14753) "" 31 dX0_order_28 (Or.inl q300) q301 q31 q302 rfl mX0_isBetween_args ⟨Nat.le_of_ble_eq_true rfl, Nat.le_of_ble_eq_true rfl⟩ rfl (Nat.zero_le _) (le_b mX0_isBetween_c (Nat.le_refl _)) (le_b mX0_isBetween_s (Nat.le_refl _)) rfl (Cal.mono h ?_)
        rintro s19 v ⟨x20, rfl, h⟩ hx21
        have h := h hx21
        have x22 := hx21.x
        show G w mX0_order (KI K) (rc + 878) (rs + 14753) s19 31 [va_rf l0, .int l1, .int l2, .int l3, .int l4, .int l5, U_, U_] [.int x20]
        refine G_if_ne 36 34 dX0_order_31 (by decide) rfl (fun u23 => ?_) (fun u23 => ?_)
        · have h := h.1 u23
          refine G_new (cc := 6) (kn := 16) (q := (RX6, TX6, 2)) (rc + 877) (rs + 14751) 39 dX0_order_36 rfl q1640 q1451 q74 rfl rfl (Nat.le_refl _) (Nat.le_refl _) (fun z24 => ?_)
          generalize hn25 : nx s19 = n25 at z24 ⊢
          generalize hs26 : nO s19 16 = s26
          have x27 : ∀ a, ¬ kd s19 a = 0 → kd s26 a = kd s19 a := by subst hs26 hn25; exact kdNx z24
          have c28 : kd s26 n25 = 16 := by subst hs26 hn25; exact kdO_self
          have h := h n25 hn25.symm z24 s26 hs26.symm
          refine G_dup 40 dX0_order_39 (rf_cat _) rfl ?_
          refine G_iload_n 41 dX0_order_40 rfl rfl ?_
          refine G_iload_n 42 dX0_order_41 rfl rfl ?_
          refine G_invI (N := mX6_init) (As := [.int l1, .int l2]) (st := [va_rf (some n25)]) (t := (some n25)) (b := n25) (rc + 877) (rs + 14751) "" 45 dX0_order_42 (Or.inl q1641) q1453 q74 q1454 rfl rfl rfl mX6_init_args ⟨Nat.le_of_ble_eq_true rfl, Nat.le_of_ble_eq_true rfl⟩ rfl rfl (Nat.le_trans (w_R w_0) (Nat.le_of_ble_eq_true rfl)) (le_b mX6_init_c (Nat.le_refl _)) (le_b mX6_init_s (Nat.le_refl _)) rfl (Cal.mono h ?_)
          rintro s29 v ⟨rfl, h⟩ hx30
          have h := h hx30
          have x31 := hx30.x
          show G w mX0_order (KI K) (rc + 877) (rs + 14751) s29 45 [va_rf l0, .int l1, .int l2, .int l3, .int l4, .int l5, U_, U_] [va_rf (some n25)]
          refine G_astore 47 [va_rf l0, .int l1, .int l2, .int l3, .int l4, .int l5, va_rf (some n25), U_] dX0_order_45 (Nat.le_of_ble_eq_true rfl) rfl rfl ?_
          refine G_aload_n 48 dX0_order_47 rfl rfl ?_
          have c5 := kdE x7 c5 (by decide)
          have c5 := kdE x12 c5 (by decide)
          have c5 := kdE x17 c5 (by decide)
          have c5 := kdE x22 c5 (by decide)
          have c5 := kdE x27 c5 (by decide)
          have c5 := kdE x31 c5 (by decide)
          refine G_getR (f := 2) (a := a1) "" 51 dX0_order_48 (Or.inl q288) (Or.inl rfl) rfl e2 (hf2 c5) rfl ?_
          obtain ⟨a32, e33, h⟩ := h
          obtain ⟨c36, h⟩ := h
          refine G_invV (N := mJ7_length) (As := []) (st := []) (t := (FR s29 2 a1)) (b := a32) (rc + 877) (rs + 14751) 54 dX0_order_51 q1537 q1538 q1539 q41 q1540 rfl rfl mJ7_length_args ⟨Nat.le_of_ble_eq_true rfl, Nat.le_of_ble_eq_true rfl⟩ rfl (Nat.zero_le _) e33 (rk23 c36) (le_b mJ7_length_c (Nat.le_refl _)) (le_b mJ7_length_s (Nat.le_refl _)) rfl (Cal.mono h ?_)
          rintro s34 v ⟨x35, rfl, h⟩ hx37
          have h := h hx37
          have x38 := hx37.x
          show G w mX0_order (KI K) (rc + 877) (rs + 14751) s34 54 [va_rf l0, .int l1, .int l2, .int l3, .int l4, .int l5, va_rf (some n25), U_] [.int x35]
          refine G_if_eq 83 57 dX0_order_54 (by decide) rfl (fun u39 => ?_) (fun u39 => ?_)
          · have h := h.1 u39
            refine G_bipush (v := (-2)) 85 dX0_order_83 (by decide) rfl ?_
            exact G_iret dX0_order_85 rfl ⟨_, rfl, h⟩
          · have h := h.2 u39
            refine G_aload_n 58 dX0_order_57 rfl rfl ?_
            have c5 := kdE x38 c5 (by decide)
            refine G_getR (f := 0) (a := a1) "" 61 dX0_order_58 (Or.inl q286) (Or.inl rfl) rfl e2 (hf0 c5) rfl ?_
            refine G_iload_n 62 dX0_order_61 rfl rfl ?_
            refine G_iload_n 63 dX0_order_62 rfl rfl ?_
            obtain ⟨a40, e41, h⟩ := h
            obtain ⟨c44, h⟩ := h
            refine G_invV (N := mX1_plateFor) (As := [.int l1, .int l2]) (st := []) (t := (FR s34 0 a1)) (b := a40) (rc + 876) (rs + 14749) 66 dX0_order_63 q1447 q1448 q1449 q32 q1450 rfl rfl mX1_plateFor_args ⟨Nat.le_of_ble_eq_true rfl, Nat.le_of_ble_eq_true rfl⟩ rfl (Nat.zero_le _) e41 (rk11 c44) (le_b mX1_plateFor_c (Nat.le_refl _)) (le_b mX1_plateFor_s (Nat.le_refl _)) rfl (Cal.mono h ?_)
            rintro s42 v ⟨x43, rfl, h⟩ hx45
            have h := h hx45
            have x46 := hx45.x
            show G w mX0_order (KI K) (rc + 876) (rs + 14749) s42 66 [va_rf l0, .int l1, .int l2, .int l3, .int l4, .int l5, va_rf (some n25), U_] [.int x43]
            refine G_bipush (v := (-9)) 68 dX0_order_66 (by decide) rfl ?_
            refine G_icmp_ne 83 71 dX0_order_68 (by decide) rfl (fun u47 => ?_) (fun u47 => ?_)
            · have h := h.1 u47
              refine G_bipush (v := (-2)) 85 dX0_order_83 (by decide) rfl ?_
              exact G_iret dX0_order_85 rfl ⟨_, rfl, h⟩
            · have h := h.2 u47
              refine G_aload_n 72 dX0_order_71 rfl rfl ?_
              have c5 := kdE x46 c5 (by decide)
              refine G_getR (f := 0) (a := a1) "" 75 dX0_order_72 (Or.inl q286) (Or.inl rfl) rfl e2 (hf0 c5) rfl ?_
              refine G_aload 77 dX0_order_75 rfl rfl ?_
              obtain ⟨a48, e49, h⟩ := h
              obtain ⟨c52, h⟩ := h
              refine G_invV (N := mX1_isOrdered) (As := [va_rf (some n25)]) (st := []) (t := (FR s42 0 a1)) (b := a48) (rc + 606) (rs + 10049) 80 dX0_order_77 q1642 q1643 q1644 q32 q1645 rfl rfl mX1_isOrdered_args ⟨Nat.le_of_ble_eq_true rfl, Nat.le_of_ble_eq_true rfl⟩ rfl (Nat.zero_le _) e49 (rk11 c52) (le_b mX1_isOrdered_c (Nat.le_refl _)) (le_b mX1_isOrdered_s (Nat.le_refl _)) rfl (Cal.mono h ?_)
              rintro s50 v ⟨x51, rfl, h⟩ hx53
              have h := h hx53
              have x54 := hx53.x
              show G w mX0_order (KI K) (rc + 606) (rs + 10049) s50 80 [va_rf l0, .int l1, .int l2, .int l3, .int l4, .int l5, va_rf (some n25), U_] [.int x51]
              refine G_if_eq 86 83 dX0_order_80 (by decide) rfl (fun u55 => ?_) (fun u55 => ?_)
              · have h := h.1 u55
                refine G_aload_n 87 dX0_order_86 rfl rfl ?_
                have c5 := kdE x54 c5 (by decide)
                refine G_getR (f := 0) (a := a1) "" 90 dX0_order_87 (Or.inl q286) (Or.inl rfl) rfl e2 (hf0 c5) rfl ?_
                obtain ⟨a56, e57, h⟩ := h
                obtain ⟨c58, h⟩ := h
                refine G_getR (f := 4) (a := a56) "TrophyPlates" 93 dX0_order_90 (Or.inr q187) (Or.inl rfl) rfl e57 (hf4 c58) rfl ?_
                obtain ⟨a59, e60, h⟩ := h
                obtain ⟨c63, h⟩ := h
                refine G_invF (N := mJ2_size) (x := ⟨"java/util/List", "size", "()I"⟩) (As := []) (st := []) (t := (FR s50 4 a56)) (b := a59) (rc + 606) (rs + 10049) 98 dX0_order_93 q304 q308 q310 q35 q312 q306 q305 q311 q309 q307 rfl ax31 ⟨Nat.le_of_ble_eq_true rfl, Nat.le_of_ble_eq_true rfl⟩ rfl (Nat.zero_le _) e60 (rk20 c63) (le_b mJ2_size_c (Nat.le_refl _)) (le_b mJ2_size_s (Nat.le_refl _)) rfl (Cal.mono h ?_)
                rintro s61 v ⟨x62, rfl, h⟩ hx64
                have h := h hx64
                have x65 := hx64.x
                show G w mX0_order (KI K) (rc + 606) (rs + 10049) s61 98 [va_rf l0, .int l1, .int l2, .int l3, .int l4, .int l5, va_rf (some n25), U_] [.int x62]
                refine G_bipush (v := 10) 100 dX0_order_98 (by decide) rfl ?_
                refine G_icmp_ne 106 103 dX0_order_100 (by decide) rfl (fun u66 => ?_) (fun u66 => ?_)
                · have h := h.1 u66
                  refine G_new (cc := 7) (kn := 17) (q := (RX7, TX7, 5)) (rc + 605) (rs + 10044) 109 dX0_order_106 rfl q1685 q1686 q76 rfl rfl (Nat.le_refl _) (Nat.le_refl _) (fun z67 => ?_)
                  generalize hn68 : nx s61 = n68 at z67 ⊢
                  generalize hs69 : nO s61 17 = s69
                  have x70 : ∀ a, ¬ kd s61 a = 0 → kd s69 a = kd s61 a := by subst hs69 hn68; exact kdNx z67
                  have c71 : kd s69 n68 = 17 := by subst hs69 hn68; exact kdO_self
                  have h := h n68 hn68.symm z67 s69 hs69.symm
                  refine G_dup 110 dX0_order_109 (rf_cat _) rfl ?_
                  refine G_aload 112 dX0_order_110 rfl rfl ?_
                  refine G_aload_n 113 dX0_order_112 rfl rfl ?_
                  have c5 := kdE x65 c5 (by decide)
                  have c5 := kdE x70 c5 (by decide)
                  refine G_getR (f := 2) (a := a1) "" 116 dX0_order_113 (Or.inl q288) (Or.inl rfl) rfl e2 (hf2 c5) rfl ?_
                  obtain ⟨a72, e73, h⟩ := h
                  obtain ⟨c76, h⟩ := h
                  refine G_invV (N := mJ7_toString) (As := []) (st := [va_rf (some n25), va_rf (some n68), va_rf (some n68)]) (t := (FR s69 2 a1)) (b := a72) (rc + 603) (rs + 10028) 119 dX0_order_116 q1687 q1688 q1689 q41 q1690 rfl rfl mJ7_toString_args ⟨Nat.le_of_ble_eq_true rfl, Nat.le_of_ble_eq_true rfl⟩ rfl (Nat.le_trans (w_R (w_R (w_R w_0))) (Nat.le_of_ble_eq_true rfl)) e73 (rk23 c76) (le_b mJ7_toString_c (Nat.le_refl _)) (le_b mJ7_toString_s (Nat.le_refl _)) rfl (Cal.mono h ?_)
                  rintro s74 v ⟨x75, rfl, h⟩ hx77
                  have h := h hx77
                  have x78 := hx77.x
                  show G w mX0_order (KI K) (rc + 603) (rs + 10028) s74 119 [va_rf l0, .int l1, .int l2, .int l3, .int l4, .int l5, va_rf (some n25), U_] [va_rf x75, va_rf (some n25), va_rf (some n68), va_rf (some n68)]
                  refine G_iload_n 120 dX0_order_119 rfl rfl ?_
                  refine G_iload 122 dX0_order_120 rfl rfl ?_
                  refine G_iload 124 dX0_order_122 rfl rfl ?_
                  refine G_iconst (v := 1) 125 dX0_order_124 (by decide) rfl ?_
                  refine G_icmp_ne 132 128 dX0_order_125 (by decide) rfl (fun u79 => ?_) (fun u79 => ?_)
                  · have h := h.1 u79
                    refine G_iconst (v := 0) 133 dX0_order_132 (by decide) rfl ?_
                    refine G_invI (N := mX7_init) (As := [va_rf (some n25), va_rf x75, .int l3, .int l4, .int 0]) (st := [va_rf (some n68)]) (t := (some n68)) (b := n68) (rc + 603) (rs + 10028) "" 136 dX0_order_133 (Or.inl q1739) q1740 q76 q1741 rfl rfl rfl mX7_init_args ⟨Nat.le_of_ble_eq_true rfl, Nat.le_of_ble_eq_true rfl⟩ rfl rfl (Nat.le_trans (w_R w_0) (Nat.le_of_ble_eq_true rfl)) (le_b mX7_init_c (Nat.le_refl _)) (le_b mX7_init_s (Nat.le_refl _)) rfl (Cal.mono h ?_)
                    rintro s80 v ⟨rfl, h⟩ hx81
                    have h := h hx81
                    have x82 := hx81.x
                    show G w mX0_order (KI K) (rc + 603) (rs + 10028) s80 136 [va_rf l0, .int l1, .int l2, .int l3, .int l4, .int l5, va_rf (some n25), U_] [va_rf (some n68)]
                    refine G_astore 138 [va_rf l0, .int l1, .int l2, .int l3, .int l4, .int l5, va_rf (some n25), va_rf (some n68)] dX0_order_136 (Nat.le_of_ble_eq_true rfl) rfl rfl ?_
                    refine G_aload_n 139 dX0_order_138 rfl rfl ?_
                    have c5 := kdE x78 c5 (by decide)
                    have c5 := kdE x82 c5 (by decide)
                    refine G_getR (f := 2) (a := a1) "" 142 dX0_order_139 (Or.inl q288) (Or.inl rfl) rfl e2 (hf2 c5) rfl ?_
                    refine G_iconst (v := 0) 143 dX0_order_142 (by decide) rfl ?_
                    obtain ⟨a83, e84, h⟩ := h
                    obtain ⟨c86, h⟩ := h
                    refine G_invV (N := mJ7_setLength) (As := [.int 0]) (st := []) (t := (FR s80 2 a1)) (b := a83) (rc + 603) (rs + 10028) 146 dX0_order_143 q1610 q1611 q1612 q41 q1613 rfl rfl mJ7_setLength_args ⟨Nat.le_of_ble_eq_true rfl, Nat.le_of_ble_eq_true rfl⟩ rfl (Nat.zero_le _) e84 (rk23 c86) (le_b mJ7_setLength_c (Nat.le_refl _)) (le_b mJ7_setLength_s (Nat.le_refl _)) rfl (Cal.mono h ?_)
                    rintro s85 v ⟨rfl, h⟩ hx87
                    have h := h hx87
                    have x88 := hx87.x
                    show G w mX0_order (KI K) (rc + 603) (rs + 10028) s85 146 [va_rf l0, .int l1, .int l2, .int l3, .int l4, .int l5, va_rf (some n25), va_rf (some n68)] []
                    refine G_aload_n 147 dX0_order_146 rfl rfl ?_
                    have c5 := kdE x88 c5 (by decide)
                    refine G_invV (N := mX0_act) (As := []) (st := []) (t := l0) (b := a1) (rc + 2) (rs + 26) 150 dX0_order_147 q313 q315 qs0 q31 q316 rfl rfl mX0_act_args ⟨Nat.le_of_ble_eq_true rfl, Nat.le_of_ble_eq_true rfl⟩ rfl (Nat.zero_le _) e2 (rk10 c5) (le_b mX0_act_c (Nat.le_refl _)) (le_b mX0_act_s (Nat.le_refl _)) rfl (Cal.mono h ?_)
                    rintro s89 v ⟨x90, rfl, h⟩ hx91
                    have h := h hx91
                    have x92 := hx91.x
                    show G w mX0_order (KI K) (rc + 2) (rs + 26) s89 150 [va_rf l0, .int l1, .int l2, .int l3, .int l4, .int l5, va_rf (some n25), va_rf (some n68)] [va_rf x90]
                    refine G_aload 152 dX0_order_150 rfl rfl ?_
                    obtain ⟨a93, e94, h⟩ := h
                    obtain ⟨c97, h⟩ := h
                    refine G_invV (N := mX1_line) (As := [va_rf (some n68)]) (st := []) (t := x90) (b := a93) (rc) (rs) 155 dX0_order_152 q1767 q1768 q1769 q32 q1770 rfl rfl mX1_line_args ⟨Nat.le_of_ble_eq_true rfl, Nat.le_of_ble_eq_true rfl⟩ rfl (Nat.zero_le _) e94 (rk11 c97) (le_b mX1_line_c (Nat.le_refl _)) (le_b mX1_line_s (Nat.le_refl _)) rfl (Cal.mono h ?_)
                    rintro s95 v ⟨x96, rfl, h⟩ hx98
                    have h := h hx98
                    have x99 := hx98.x
                    show G w mX0_order (KI K) (rc) (rs) s95 155 [va_rf l0, .int l1, .int l2, .int l3, .int l4, .int l5, va_rf (some n25), va_rf (some n68)] [.int x96]
                    exact G_iret dX0_order_155 rfl ⟨_, rfl, h⟩
                  · have h := h.2 u79
                    refine G_iconst (v := 1) 129 dX0_order_128 (by decide) rfl ?_
                    refine G_goto 133 dX0_order_129 (by decide) ?_
                    refine G_invI (N := mX7_init) (As := [va_rf (some n25), va_rf x75, .int l3, .int l4, .int 1]) (st := [va_rf (some n68)]) (t := (some n68)) (b := n68) (rc + 603) (rs + 10028) "" 136 dX0_order_133 (Or.inl q1739) q1740 q76 q1741 rfl rfl rfl mX7_init_args ⟨Nat.le_of_ble_eq_true rfl, Nat.le_of_ble_eq_true rfl⟩ rfl rfl (Nat.le_trans (w_R w_0) (Nat.le_of_ble_eq_true rfl)) (le_b mX7_init_c (Nat.le_refl _)) (le_b mX7_init_s (Nat.le_refl _)) rfl (Cal.mono h ?_)
                    rintro s100 v ⟨rfl, h⟩ hx101
                    have h := h hx101
                    have x102 := hx101.x
                    show G w mX0_order (KI K) (rc + 603) (rs + 10028) s100 136 [va_rf l0, .int l1, .int l2, .int l3, .int l4, .int l5, va_rf (some n25), U_] [va_rf (some n68)]
                    refine G_astore 138 [va_rf l0, .int l1, .int l2, .int l3, .int l4, .int l5, va_rf (some n25), va_rf (some n68)] dX0_order_136 (Nat.le_of_ble_eq_true rfl) rfl rfl ?_
                    refine G_aload_n 139 dX0_order_138 rfl rfl ?_
                    have c5 := kdE x78 c5 (by decide)
                    have c5 := kdE x102 c5 (by decide)
                    refine G_getR (f := 2) (a := a1) "" 142 dX0_order_139 (Or.inl q288) (Or.inl rfl) rfl e2 (hf2 c5) rfl ?_
                    refine G_iconst (v := 0) 143 dX0_order_142 (by decide) rfl ?_
                    obtain ⟨a103, e104, h⟩ := h
                    obtain ⟨c106, h⟩ := h
                    refine G_invV (N := mJ7_setLength) (As := [.int 0]) (st := []) (t := (FR s100 2 a1)) (b := a103) (rc + 603) (rs + 10028) 146 dX0_order_143 q1610 q1611 q1612 q41 q1613 rfl rfl mJ7_setLength_args ⟨Nat.le_of_ble_eq_true rfl, Nat.le_of_ble_eq_true rfl⟩ rfl (Nat.zero_le _) e104 (rk23 c106) (le_b mJ7_setLength_c (Nat.le_refl _)) (le_b mJ7_setLength_s (Nat.le_refl _)) rfl (Cal.mono h ?_)
                    rintro s105 v ⟨rfl, h⟩ hx107
                    have h := h hx107
                    have x108 := hx107.x
                    show G w mX0_order (KI K) (rc + 603) (rs + 10028) s105 146 [va_rf l0, .int l1, .int l2, .int l3, .int l4, .int l5, va_rf (some n25), va_rf (some n68)] []
                    refine G_aload_n 147 dX0_order_146 rfl rfl ?_
                    have c5 := kdE x108 c5 (by decide)
                    refine G_invV (N := mX0_act) (As := []) (st := []) (t := l0) (b := a1) (rc + 2) (rs + 26) 150 dX0_order_147 q313 q315 qs0 q31 q316 rfl rfl mX0_act_args ⟨Nat.le_of_ble_eq_true rfl, Nat.le_of_ble_eq_true rfl⟩ rfl (Nat.zero_le _) e2 (rk10 c5) (le_b mX0_act_c (Nat.le_refl _)) (le_b mX0_act_s (Nat.le_refl _)) rfl (Cal.mono h ?_)
                    rintro s109 v ⟨x110, rfl, h⟩ hx111
                    have h := h hx111
                    have x112 := hx111.x
                    show G w mX0_order (KI K) (rc + 2) (rs + 26) s109 150 [va_rf l0, .int l1, .int l2, .int l3, .int l4, .int l5, va_rf (some n25), va_rf (some n68)] [va_rf x110]
                    refine G_aload 152 dX0_order_150 rfl rfl ?_
                    obtain ⟨a113, e114, h⟩ := h
                    obtain ⟨c117, h⟩ := h
                    refine G_invV (N := mX1_line) (As := [va_rf (some n68)]) (st := []) (t := x110) (b := a113) (rc) (rs) 155 dX0_order_152 q1767 q1768 q1769 q32 q1770 rfl rfl mX1_line_args ⟨Nat.le_of_ble_eq_true rfl, Nat.le_of_ble_eq_true rfl⟩ rfl (Nat.zero_le _) e114 (rk11 c117) (le_b mX1_line_c (Nat.le_refl _)) (le_b mX1_line_s (Nat.le_refl _)) rfl (Cal.mono h ?_)
                    rintro s115 v ⟨x116, rfl, h⟩ hx118
                    have h := h hx118
                    have x119 := hx118.x
                    show G w mX0_order (KI K) (rc) (rs) s115 155 [va_rf l0, .int l1, .int l2, .int l3, .int l4, .int l5, va_rf (some n25), va_rf (some n68)] [.int x116]
                    exact G_iret dX0_order_155 rfl ⟨_, rfl, h⟩
                · have h := h.2 u66
                  refine G_bipush (v := (-3)) 105 dX0_order_103 (by decide) rfl ?_
                  exact G_iret dX0_order_105 rfl ⟨_, rfl, h⟩
              · have h := h.2 u55
                refine G_bipush (v := (-2)) 85 dX0_order_83 (by decide) rfl ?_
                exact G_iret dX0_order_85 rfl ⟨_, rfl, h⟩
        · have h := h.2 u23
          refine G_iconst (v := (-1)) 35 dX0_order_34 (by decide) rfl ?_
          exact G_iret dX0_order_35 rfl ⟨_, rfl, h⟩
theorem eX0_order {w : Wt} {K : Sg → Int32 → Prop} {σ : Sg} (l0 : Option Nat) (l1 : Int32) (l2 : Int32) (l3 : Int32) (l4 : Int32) (l5 : Int32) (h : G w mX0_order (KI K) 878 14753 σ 0 [va_rf l0, .int l1, .int l2, .int l3, .int l4, .int l5, U_, U_] []) : CalI w mX0_order σ [va_rf l0, .int l1, .int l2, .int l3, .int l4, .int l5] K :=
  Cal.start 2 mX0_order_plain (catR (catI (catI (catI (catI (catI cat0)))))) (Nat.le_of_ble_eq_true rfl) rfl h
set_option maxHeartbeats 4000000 in
theorem bX0_isSize_0 {w : Wt} {K : Sg → Int32 → Prop} {rc rs : Nat} {σ : Sg} (l0 : Int32) (h : CalI w mX0_isBetween σ [.int l0, .int 1, .int 4] (fun s1 x2 => Ext σ s1 → ((x2 = 0 ∨ x2 = 1) ∧ K s1 x2))) : G w mX0_isSize (KI K) (rc) (rs) σ 0 [.int l0] [] := by
  refine G_iload_n 1 dX0_isSize_0 rfl rfl ?_
  refine G_iconst (v := 1) 2 dX0_isSize_1 (by decide) rfl ?_
  refine G_iconst (v := 4) 3 dX0_isSize_2 (by decide) rfl ?_
  refine G_invS (N := mX0_isBetween) (As := [.int l0, .int 1, .int 4]) (st := []) (rc) (rs) "" 6 dX0_isSize_3 (Or.inl q300) q301 q31 q302 rfl mX0_isBetween_args ⟨Nat.le_of_ble_eq_true rfl, Nat.le_of_ble_eq_true rfl⟩ rfl (Nat.zero_le _) (le_b mX0_isBetween_c (Nat.le_refl _)) (le_b mX0_isBetween_s (Nat.le_refl _)) rfl (Cal.mono h ?_)
  rintro s1 v ⟨x2, rfl, h⟩ hx3
  have h := h hx3
  have x4 := hx3.x
  show G w mX0_isSize (KI K) (rc) (rs) s1 6 [.int l0] [.int x2]
  exact G_zret dX0_isSize_6 rfl (nar_bz h.1).1 ⟨_, rfl, h.2⟩
theorem eX0_isSize {w : Wt} {K : Sg → Int32 → Prop} {σ : Sg} (l0 : Int32) (h : G w mX0_isSize (KI K) 0 0 σ 0 [.int l0] []) : CalI w mX0_isSize σ [.int l0] K :=
  Cal.start 0 mX0_isSize_plain (catI cat0) (Nat.le_of_ble_eq_true rfl) rfl h
set_option maxHeartbeats 4000000 in
theorem bX0_isDepth_0 {w : Wt} {K : Sg → Int32 → Prop} {rc rs : Nat} {σ : Sg} (l0 : Int32) (h : CalI w mX0_isBetween σ [.int l0, .int 1, .int 5] (fun s1 x2 => Ext σ s1 → ((x2 = 0 ∨ x2 = 1) ∧ K s1 x2))) : G w mX0_isDepth (KI K) (rc) (rs) σ 0 [.int l0] [] := by
  refine G_iload_n 1 dX0_isDepth_0 rfl rfl ?_
  refine G_iconst (v := 1) 2 dX0_isDepth_1 (by decide) rfl ?_
  refine G_iconst (v := 5) 3 dX0_isDepth_2 (by decide) rfl ?_
  refine G_invS (N := mX0_isBetween) (As := [.int l0, .int 1, .int 5]) (st := []) (rc) (rs) "" 6 dX0_isDepth_3 (Or.inl q300) q301 q31 q302 rfl mX0_isBetween_args ⟨Nat.le_of_ble_eq_true rfl, Nat.le_of_ble_eq_true rfl⟩ rfl (Nat.zero_le _) (le_b mX0_isBetween_c (Nat.le_refl _)) (le_b mX0_isBetween_s (Nat.le_refl _)) rfl (Cal.mono h ?_)
  rintro s1 v ⟨x2, rfl, h⟩ hx3
  have h := h hx3
  have x4 := hx3.x
  show G w mX0_isDepth (KI K) (rc) (rs) s1 6 [.int l0] [.int x2]
  exact G_zret dX0_isDepth_6 rfl (nar_bz h.1).1 ⟨_, rfl, h.2⟩
theorem eX0_isDepth {w : Wt} {K : Sg → Int32 → Prop} {σ : Sg} (l0 : Int32) (h : G w mX0_isDepth (KI K) 0 0 σ 0 [.int l0] []) : CalI w mX0_isDepth σ [.int l0] K :=
  Cal.start 0 mX0_isDepth_plain (catI cat0) (Nat.le_of_ble_eq_true rfl) rfl h
set_option maxHeartbeats 4000000 in
theorem bX0_hurry_0 {w : Wt} {K : Sg → Int32 → Prop} {rc rs : Nat} {σ : Sg} (l0 : Option Nat) (l1 : Int32) (h : ∃ a1, l0 = some a1 ∧ kd σ a1 = 10 ∧ ∃ a4, FR σ 0 a1 = some a4 ∧ kd σ a4 = 11 ∧ CalI w mX1_isOrder σ [va_rf (FR σ 0 a1), .int l1] (fun s6 x7 => Ext σ s6 → ((¬ x7 = 0 → ∃ a12, FR s6 0 a1 = some a12 ∧ kd s6 a12 = 11 ∧ ∃ a15, FR s6 4 a12 = some a15 ∧ kd s6 a15 = 20 ∧ CalR w mJ2_get s6 [va_rf (FR s6 4 a12), .int l1] (fun s17 x18 => Ext s6 s17 → (x18 = none ∨ ∃ b, x18 = some b ∧ kd s17 b = 17) ∧ ∃ a23, x18 = some a23 ∧ kd s17 a23 = 17 ∧ ((FI s17 43 a23 = 0 → CalR w mX0_act s17 [va_rf l0] (fun s27 x28 => Ext s17 s27 → ∃ a31, x28 = some a31 ∧ kd s27 a31 = 11 ∧ CalI w mX1_hurry s27 [va_rf x28, .int l1] (fun s33 x34 => Ext s27 s33 → K s33 x34))) ∧ (¬ FI s17 43 a23 = 0 → K s17 (-2))))) ∧ (x7 = 0 → K s6 (-1))))) : G w mX0_hurry (KI K) (rc + 604) (rs + 10033) σ 0 [va_rf l0, .int l1] [] := by
  refine G_aload_n 1 dX0_hurry_0 rfl rfl ?_
  obtain ⟨a1, e2, h⟩ := h
  obtain ⟨c3, h⟩ := h
  refine G_getR (f := 0) (a := a1) "" 4 dX0_hurry_1 (Or.inl q286) (Or.inl rfl) rfl e2 (hf0 c3) rfl ?_
  refine G_iload_n 5 dX0_hurry_4 rfl rfl ?_
  obtain ⟨a4, e5, h⟩ := h
  obtain ⟨c8, h⟩ := h
  refine G_invV (N := mX1_isOrder) (As := [.int l1]) (st := []) (t := (FR σ 0 a1)) (b := a4) (rc + 604) (rs + 10033) 8 dX0_hurry_5 q1793 q1794 q1795 q32 q1796 rfl rfl mX1_isOrder_args ⟨Nat.le_of_ble_eq_true rfl, Nat.le_of_ble_eq_true rfl⟩ rfl (Nat.zero_le _) e5 (rk11 c8) (le_b mX1_isOrder_c (Nat.le_refl _)) (le_b mX1_isOrder_s (Nat.le_refl _)) rfl (Cal.mono h ?_)
  rintro s6 v ⟨x7, rfl, h⟩ hx9
  have h := h hx9
  have x10 := hx9.x
  show G w mX0_hurry (KI K) (rc + 604) (rs + 10033) s6 8 [va_rf l0, .int l1] [.int x7]
  refine G_if_ne 13 11 dX0_hurry_8 (by decide) rfl (fun u11 => ?_) (fun u11 => ?_)
  · have h := h.1 u11
    refine G_aload_n 14 dX0_hurry_13 rfl rfl ?_
    have c3 := kdE x10 c3 (by decide)
    refine G_getR (f := 0) (a := a1) "" 17 dX0_hurry_14 (Or.inl q286) (Or.inl rfl) rfl e2 (hf0 c3) rfl ?_
    obtain ⟨a12, e13, h⟩ := h
    obtain ⟨c14, h⟩ := h
    refine G_getR (f := 4) (a := a12) "TrophyPlates" 20 dX0_hurry_17 (Or.inr q187) (Or.inl rfl) rfl e13 (hf4 c14) rfl ?_
    refine G_iload_n 21 dX0_hurry_20 rfl rfl ?_
    obtain ⟨a15, e16, h⟩ := h
    obtain ⟨c19, h⟩ := h
    refine G_invF (N := mJ2_get) (x := ⟨"java/util/List", "get", "(I)Ljava/lang/Object;"⟩) (As := [.int l1]) (st := []) (t := (FR s6 4 a12)) (b := a15) (rc + 604) (rs + 10033) 26 dX0_hurry_21 q1390 q1393 q1395 q35 q1397 q1392 q1391 q1396 q1394 q307 rfl ax32 ⟨Nat.le_of_ble_eq_true rfl, Nat.le_of_ble_eq_true rfl⟩ rfl (Nat.zero_le _) e16 (rk20 c19) (le_b mJ2_get_c (Nat.le_refl _)) (le_b mJ2_get_s (Nat.le_refl _)) rfl (Cal.mono h ?_)
    rintro s17 v ⟨x18, rfl, h⟩ hx20
    have h := h hx20
    have x21 := hx20.x
    show G w mX0_hurry (KI K) (rc + 604) (rs + 10033) s17 26 [va_rf l0, .int l1] [va_rf x18]
    obtain ⟨c22, h⟩ := h
    refine G_cast 29 dX0_hurry_26 q1685 rfl (c22.imp id (fun ⟨b, e, k⟩ => ⟨b, e, co5 k⟩)) ?_
    obtain ⟨a23, e24, h⟩ := h
    obtain ⟨c25, h⟩ := h
    refine G_getI (f := 43) (a := a23) "TrophyPlates" 32 dX0_hurry_29 (Or.inr q1755) (Or.inl rfl) rfl e24 (hf43 c25) rfl ?_
    refine G_if_eq 40 35 dX0_hurry_32 (by decide) rfl (fun u26 => ?_) (fun u26 => ?_)
    · have h := h.1 u26
      refine G_aload_n 41 dX0_hurry_40 rfl rfl ?_
      have c3 := kdE x21 c3 (by decide)
      refine G_invV (N := mX0_act) (As := []) (st := []) (t := l0) (b := a1) (rc + 3) (rs + 31) 44 dX0_hurry_41 q313 q315 qs0 q31 q316 rfl rfl mX0_act_args ⟨Nat.le_of_ble_eq_true rfl, Nat.le_of_ble_eq_true rfl⟩ rfl (Nat.zero_le _) e2 (rk10 c3) (le_b mX0_act_c (Nat.le_refl _)) (le_b mX0_act_s (Nat.le_refl _)) rfl (Cal.mono h ?_)
      rintro s27 v ⟨x28, rfl, h⟩ hx29
      have h := h hx29
      have x30 := hx29.x
      show G w mX0_hurry (KI K) (rc + 3) (rs + 31) s27 44 [va_rf l0, .int l1] [va_rf x28]
      refine G_iload_n 45 dX0_hurry_44 rfl rfl ?_
      obtain ⟨a31, e32, h⟩ := h
      obtain ⟨c35, h⟩ := h
      refine G_invV (N := mX1_hurry) (As := [.int l1]) (st := []) (t := x28) (b := a31) (rc) (rs) 48 dX0_hurry_45 q1797 q1798 q1799 q32 q1800 rfl rfl mX1_hurry_args ⟨Nat.le_of_ble_eq_true rfl, Nat.le_of_ble_eq_true rfl⟩ rfl (Nat.zero_le _) e32 (rk11 c35) (le_b mX1_hurry_c (Nat.le_refl _)) (le_b mX1_hurry_s (Nat.le_refl _)) rfl (Cal.mono h ?_)
      rintro s33 v ⟨x34, rfl, h⟩ hx36
      have h := h hx36
      have x37 := hx36.x
      show G w mX0_hurry (KI K) (rc) (rs) s33 48 [va_rf l0, .int l1] [.int x34]
      exact G_iret dX0_hurry_48 rfl ⟨_, rfl, h⟩
    · have h := h.2 u26
      refine G_bipush (v := (-2)) 37 dX0_hurry_35 (by decide) rfl ?_
      refine G_goto 48 dX0_hurry_37 (by decide) ?_
      exact G_iret dX0_hurry_48 rfl ⟨_, rfl, h⟩
  · have h := h.2 u11
    refine G_iconst (v := (-1)) 12 dX0_hurry_11 (by decide) rfl ?_
    exact G_iret dX0_hurry_12 rfl ⟨_, rfl, h⟩
theorem eX0_hurry {w : Wt} {K : Sg → Int32 → Prop} {σ : Sg} (l0 : Option Nat) (l1 : Int32) (h : G w mX0_hurry (KI K) 604 10033 σ 0 [va_rf l0, .int l1] []) : CalI w mX0_hurry σ [va_rf l0, .int l1] K :=
  Cal.start 0 mX0_hurry_plain (catR (catI cat0)) (Nat.le_of_ble_eq_true rfl) rfl h
set_option maxHeartbeats 4000000 in
theorem bX0_cancel_0 {w : Wt} {K : Sg → Int32 → Prop} {rc rs : Nat} {σ : Sg} (l0 : Option Nat) (l1 : Int32) (h : ∃ a1, l0 = some a1 ∧ kd σ a1 = 10 ∧ ∃ a4, FR σ 0 a1 = some a4 ∧ kd σ a4 = 11 ∧ CalI w mX1_isOrder σ [va_rf (FR σ 0 a1), .int l1] (fun s6 x7 => Ext σ s6 → ((¬ x7 = 0 → CalR w mX0_act s6 [va_rf l0] (fun s12 x13 => Ext s6 s12 → ∃ a16, x13 = some a16 ∧ kd s12 a16 = 11 ∧ CalV w mX1_cancel s12 [va_rf x13, .int l1] (fun s18 => Ext s12 s18 → ∃ a22, FR s18 0 a1 = some a22 ∧ kd s18 a22 = 11 ∧ ∃ a25, FR s18 4 a22 = some a25 ∧ kd s18 a25 = 20 ∧ CalI w mJ2_size s18 [va_rf (FR s18 4 a22)] (fun s27 x28 => Ext s18 s27 → K s27 x28)))) ∧ (x7 = 0 → K s6 (-1))))) : G w mX0_cancel (KI K) (rc + 601) (rs + 10002) σ 0 [va_rf l0, .int l1] [] := by
  refine G_aload_n 1 dX0_cancel_0 rfl rfl ?_
  obtain ⟨a1, e2, h⟩ := h
  obtain ⟨c3, h⟩ := h
  refine G_getR (f := 0) (a := a1) "" 4 dX0_cancel_1 (Or.inl q286) (Or.inl rfl) rfl e2 (hf0 c3) rfl ?_
  refine G_iload_n 5 dX0_cancel_4 rfl rfl ?_
  obtain ⟨a4, e5, h⟩ := h
  obtain ⟨c8, h⟩ := h
  refine G_invV (N := mX1_isOrder) (As := [.int l1]) (st := []) (t := (FR σ 0 a1)) (b := a4) (rc + 601) (rs + 10002) 8 dX0_cancel_5 q1793 q1794 q1795 q32 q1796 rfl rfl mX1_isOrder_args ⟨Nat.le_of_ble_eq_true rfl, Nat.le_of_ble_eq_true rfl⟩ rfl (Nat.zero_le _) e5 (rk11 c8) (le_b mX1_isOrder_c (Nat.le_refl _)) (le_b mX1_isOrder_s (Nat.le_refl _)) rfl (Cal.mono h ?_)
  rintro s6 v ⟨x7, rfl, h⟩ hx9
  have h := h hx9
  have x10 := hx9.x
  show G w mX0_cancel (KI K) (rc + 601) (rs + 10002) s6 8 [va_rf l0, .int l1] [.int x7]
  refine G_if_ne 13 11 dX0_cancel_8 (by decide) rfl (fun u11 => ?_) (fun u11 => ?_)
  · have h := h.1 u11
    refine G_aload_n 14 dX0_cancel_13 rfl rfl ?_
    have c3 := kdE x10 c3 (by decide)
    refine G_invV (N := mX0_act) (As := []) (st := []) (t := l0) (b := a1) (rc) (rs) 17 dX0_cancel_14 q313 q315 qs0 q31 q316 rfl rfl mX0_act_args ⟨Nat.le_of_ble_eq_true rfl, Nat.le_of_ble_eq_true rfl⟩ rfl (Nat.zero_le _) e2 (rk10 c3) (le_b mX0_act_c (Nat.le_refl _)) (le_b mX0_act_s (Nat.le_refl _)) rfl (Cal.mono h ?_)
    rintro s12 v ⟨x13, rfl, h⟩ hx14
    have h := h hx14
    have x15 := hx14.x
    show G w mX0_cancel (KI K) (rc) (rs) s12 17 [va_rf l0, .int l1] [va_rf x13]
    refine G_iload_n 18 dX0_cancel_17 rfl rfl ?_
    obtain ⟨a16, e17, h⟩ := h
    obtain ⟨c19, h⟩ := h
    refine G_invV (N := mX1_cancel) (As := [.int l1]) (st := []) (t := x13) (b := a16) (rc) (rs) 21 dX0_cancel_18 q1823 q1824 q1825 q32 q1826 rfl rfl mX1_cancel_args ⟨Nat.le_of_ble_eq_true rfl, Nat.le_of_ble_eq_true rfl⟩ rfl (Nat.zero_le _) e17 (rk11 c19) (le_b mX1_cancel_c (Nat.le_refl _)) (le_b mX1_cancel_s (Nat.le_refl _)) rfl (Cal.mono h ?_)
    rintro s18 v ⟨rfl, h⟩ hx20
    have h := h hx20
    have x21 := hx20.x
    show G w mX0_cancel (KI K) (rc) (rs) s18 21 [va_rf l0, .int l1] []
    refine G_aload_n 22 dX0_cancel_21 rfl rfl ?_
    have c3 := kdE x15 c3 (by decide)
    have c3 := kdE x21 c3 (by decide)
    refine G_getR (f := 0) (a := a1) "" 25 dX0_cancel_22 (Or.inl q286) (Or.inl rfl) rfl e2 (hf0 c3) rfl ?_
    obtain ⟨a22, e23, h⟩ := h
    obtain ⟨c24, h⟩ := h
    refine G_getR (f := 4) (a := a22) "TrophyPlates" 28 dX0_cancel_25 (Or.inr q187) (Or.inl rfl) rfl e23 (hf4 c24) rfl ?_
    obtain ⟨a25, e26, h⟩ := h
    obtain ⟨c29, h⟩ := h
    refine G_invF (N := mJ2_size) (x := ⟨"java/util/List", "size", "()I"⟩) (As := []) (st := []) (t := (FR s18 4 a22)) (b := a25) (rc) (rs) 33 dX0_cancel_28 q304 q308 q310 q35 q312 q306 q305 q311 q309 q307 rfl ax31 ⟨Nat.le_of_ble_eq_true rfl, Nat.le_of_ble_eq_true rfl⟩ rfl (Nat.zero_le _) e26 (rk20 c29) (le_b mJ2_size_c (Nat.le_refl _)) (le_b mJ2_size_s (Nat.le_refl _)) rfl (Cal.mono h ?_)
    rintro s27 v ⟨x28, rfl, h⟩ hx30
    have h := h hx30
    have x31 := hx30.x
    show G w mX0_cancel (KI K) (rc) (rs) s27 33 [va_rf l0, .int l1] [.int x28]
    exact G_iret dX0_cancel_33 rfl ⟨_, rfl, h⟩
  · have h := h.2 u11
    refine G_iconst (v := (-1)) 12 dX0_cancel_11 (by decide) rfl ?_
    exact G_iret dX0_cancel_12 rfl ⟨_, rfl, h⟩
theorem eX0_cancel {w : Wt} {K : Sg → Int32 → Prop} {σ : Sg} (l0 : Option Nat) (l1 : Int32) (h : G w mX0_cancel (KI K) 601 10002 σ 0 [va_rf l0, .int l1] []) : CalI w mX0_cancel σ [va_rf l0, .int l1] K :=
  Cal.start 0 mX0_cancel_plain (catR (catI cat0)) (Nat.le_of_ble_eq_true rfl) rfl h
set_option maxHeartbeats 4000000 in
theorem bX0_work_0 {w : Wt} {K : Sg → Int32 → Prop} {rc rs : Nat} {σ : Sg} (l0 : Option Nat) (l1 : Int32) (h : CalI w mX0_isBetween σ [.int l1, .int 1, .int 600] (fun s1 x2 => Ext σ s1 → ((x2 = 0 → K s1 (-1)) ∧ (¬ x2 = 0 → ∃ a6, l0 = some a6 ∧ kd s1 a6 = 10 ∧ CalR w mX0_act s1 [va_rf l0] (fun s8 x9 => Ext s1 s8 → ∃ a13, x9 = some a13 ∧ kd s8 a13 = 11 ∧ CalI w mX1_work s8 [va_rf x9, .int l1] (fun s15 x16 => Ext s8 s15 → K s15 x16)))))) : G w mX0_work (KI K) (rc + 2101) (rs + 20002) σ 0 [va_rf l0, .int l1] [] := by
  refine G_iload_n 1 dX0_work_0 rfl rfl ?_
  refine G_iconst (v := 1) 2 dX0_work_1 (by decide) rfl ?_
  refine G_sipush (v := 600) 5 dX0_work_2 (by decide) rfl ?_
  refine G_invS (N := mX0_isBetween) (As := [.int l1, .int 1, .int 600]) (st := []) (rc + 2101) (rs + 20002) "" 8 dX0_work_5 (Or.inl q300) q301 q31 q302 rfl mX0_isBetween_args ⟨Nat.le_of_ble_eq_true rfl, Nat.le_of_ble_eq_true rfl⟩ rfl (Nat.zero_le _) (le_b mX0_isBetween_c (Nat.le_refl _)) (le_b mX0_isBetween_s (Nat.le_refl _)) rfl (Cal.mono h ?_)
  rintro s1 v ⟨x2, rfl, h⟩ hx3
  have h := h hx3
  have x4 := hx3.x
  show G w mX0_work (KI K) (rc + 2101) (rs + 20002) s1 8 [va_rf l0, .int l1] [.int x2]
  refine G_if_eq 22 11 dX0_work_8 (by decide) rfl (fun u5 => ?_) (fun u5 => ?_)
  · have h := h.1 u5
    refine G_iconst (v := (-1)) 23 dX0_work_22 (by decide) rfl ?_
    exact G_iret dX0_work_23 rfl ⟨_, rfl, h⟩
  · have h := h.2 u5
    refine G_aload_n 12 dX0_work_11 rfl rfl ?_
    obtain ⟨a6, e7, h⟩ := h
    obtain ⟨c10, h⟩ := h
    refine G_invV (N := mX0_act) (As := []) (st := []) (t := l0) (b := a6) (rc + 1500) (rs + 10000) 15 dX0_work_12 q313 q315 qs0 q31 q316 rfl rfl mX0_act_args ⟨Nat.le_of_ble_eq_true rfl, Nat.le_of_ble_eq_true rfl⟩ rfl (Nat.zero_le _) e7 (rk10 c10) (le_b mX0_act_c (Nat.le_refl _)) (le_b mX0_act_s (Nat.le_refl _)) rfl (Cal.mono h ?_)
    rintro s8 v ⟨x9, rfl, h⟩ hx11
    have h := h hx11
    have x12 := hx11.x
    show G w mX0_work (KI K) (rc + 1500) (rs + 10000) s8 15 [va_rf l0, .int l1] [va_rf x9]
    refine G_iload_n 16 dX0_work_15 rfl rfl ?_
    obtain ⟨a13, e14, h⟩ := h
    obtain ⟨c17, h⟩ := h
    refine G_invV (N := mX1_work) (As := [.int l1]) (st := []) (t := x9) (b := a13) (rc) (rs) 19 dX0_work_16 q1835 q1836 q1837 q32 q1838 rfl rfl mX1_work_args ⟨Nat.le_of_ble_eq_true rfl, Nat.le_of_ble_eq_true rfl⟩ rfl (Nat.zero_le _) e14 (rk11 c17) (le_b mX1_work_c (Nat.le_refl _)) (le_b mX1_work_s (Nat.le_refl _)) rfl (Cal.mono h ?_)
    rintro s15 v ⟨x16, rfl, h⟩ hx18
    have h := h hx18
    have x19 := hx18.x
    show G w mX0_work (KI K) (rc) (rs) s15 19 [va_rf l0, .int l1] [.int x16]
    refine G_goto 23 dX0_work_19 (by decide) ?_
    exact G_iret dX0_work_23 rfl ⟨_, rfl, h⟩
theorem eX0_work {w : Wt} {K : Sg → Int32 → Prop} {σ : Sg} (l0 : Option Nat) (l1 : Int32) (h : G w mX0_work (KI K) 2101 20002 σ 0 [va_rf l0, .int l1] []) : CalI w mX0_work σ [va_rf l0, .int l1] K :=
  Cal.start 0 mX0_work_plain (catR (catI cat0)) (Nat.le_of_ble_eq_true rfl) rfl h
set_option maxHeartbeats 4000000 in
theorem bX0_lengthOf_0 {w : Wt} {K : Sg → Int32 → Prop} {rc rs : Nat} {σ : Sg} (l0 : Option Nat) (l1 : Int32) (h : ∃ a1, l0 = some a1 ∧ ((kd σ a1 = 23 ∧ CalI w mJ7_length σ [va_rf l0] (fun s3 x4 => Ext σ s3 → CalI w mJ12_max s3 [.int 0, .int (x4 - 1)] (fun s8 x9 => Ext s3 s8 → G w mX0_lengthOf (KI K) (rc) (rs) s8 15 [va_rf l0, .int l1, .int x9, .int 0] []))) ∨ (kd σ a1 = 24 ∧ CalI w mJ8_length σ [va_rf l0] (fun s12 x13 => Ext σ s12 → CalI w mJ12_max s12 [.int 0, .int (x13 - 1)] (fun s17 x18 => Ext s12 s17 → G w mX0_lengthOf (KI K) (rc) (rs) s17 15 [va_rf l0, .int l1, .int x18, .int 0] []))))) : G w mX0_lengthOf (KI K) (rc) (rs) σ 0 [va_rf l0, .int l1, U_, U_] [] := by
  refine G_iconst (v := 0) 1 dX0_lengthOf_0 (by decide) rfl ?_
  refine G_aload_n 2 dX0_lengthOf_1 rfl rfl ?_
  obtain ⟨a1, e2, h⟩ := h
  rcases h with ⟨c5, h⟩ | ⟨c14, h⟩
  · refine G_invF (N := mJ7_length) (x := ⟨"java/lang/CharSequence", "length", "()I"⟩) (As := []) (st := [.int 0]) (t := l0) (b := a1) (rc) (rs) 7 dX0_lengthOf_2 q1855 q1865 q1538 q41 q1540 q1857 q1856 q1867 q1866 q1864 rfl ax20 ⟨Nat.le_of_ble_eq_true rfl, Nat.le_of_ble_eq_true rfl⟩ rfl (Nat.le_trans (w_I w_0) (Nat.le_of_ble_eq_true rfl)) e2 (rk23 c5) (le_b mJ7_length_c (Nat.le_refl _)) (le_b mJ7_length_s (Nat.le_refl _)) rfl (Cal.mono h ?_)
    rintro s3 v ⟨x4, rfl, h⟩ hx6
    have h := h hx6
    have x7 := hx6.x
    show G w mX0_lengthOf (KI K) (rc) (rs) s3 7 [va_rf l0, .int l1, U_, U_] [.int x4, .int 0]
    refine G_iconst (v := 1) 8 dX0_lengthOf_7 (by decide) rfl ?_
    refine G_isub 9 dX0_lengthOf_8 rfl ?_
    refine G_invS (N := mJ12_max) (As := [.int 0, .int (x4 - 1)]) (st := []) (rc) (rs) "" 12 dX0_lengthOf_9 (Or.inl q1868) q521 q49 q522 rfl mJ12_max_args ⟨Nat.le_of_ble_eq_true rfl, Nat.le_of_ble_eq_true rfl⟩ rfl (Nat.zero_le _) (le_b mJ12_max_c (Nat.le_refl _)) (le_b mJ12_max_s (Nat.le_refl _)) rfl (Cal.mono h ?_)
    rintro s8 v ⟨x9, rfl, h⟩ hx10
    have h := h hx10
    have x11 := hx10.x
    show G w mX0_lengthOf (KI K) (rc) (rs) s8 12 [va_rf l0, .int l1, U_, U_] [.int x9]
    refine G_istore_n 13 [va_rf l0, .int l1, .int x9, U_] dX0_lengthOf_12 (Nat.le_of_ble_eq_true rfl) rfl rfl ?_
    refine G_iconst (v := 0) 14 dX0_lengthOf_13 (by decide) rfl ?_
    refine G_istore_n 15 [va_rf l0, .int l1, .int x9, .int 0] dX0_lengthOf_14 (Nat.le_of_ble_eq_true rfl) rfl rfl ?_
    exact h
  · refine G_invF (N := mJ8_length) (x := ⟨"java/lang/CharSequence", "length", "()I"⟩) (As := []) (st := [.int 0]) (t := l0) (b := a1) (rc) (rs) 7 dX0_lengthOf_2 q1855 q1859 q1861 q42 q1863 q1857 q1856 q1862 q1860 q1858 rfl ax20 ⟨Nat.le_of_ble_eq_true rfl, Nat.le_of_ble_eq_true rfl⟩ rfl (Nat.le_trans (w_I w_0) (Nat.le_of_ble_eq_true rfl)) e2 (rk24 c14) (le_b mJ8_length_c (Nat.le_refl _)) (le_b mJ8_length_s (Nat.le_refl _)) rfl (Cal.mono h ?_)
    rintro s12 v ⟨x13, rfl, h⟩ hx15
    have h := h hx15
    have x16 := hx15.x
    show G w mX0_lengthOf (KI K) (rc) (rs) s12 7 [va_rf l0, .int l1, U_, U_] [.int x13, .int 0]
    refine G_iconst (v := 1) 8 dX0_lengthOf_7 (by decide) rfl ?_
    refine G_isub 9 dX0_lengthOf_8 rfl ?_
    refine G_invS (N := mJ12_max) (As := [.int 0, .int (x13 - 1)]) (st := []) (rc) (rs) "" 12 dX0_lengthOf_9 (Or.inl q1868) q521 q49 q522 rfl mJ12_max_args ⟨Nat.le_of_ble_eq_true rfl, Nat.le_of_ble_eq_true rfl⟩ rfl (Nat.zero_le _) (le_b mJ12_max_c (Nat.le_refl _)) (le_b mJ12_max_s (Nat.le_refl _)) rfl (Cal.mono h ?_)
    rintro s17 v ⟨x18, rfl, h⟩ hx19
    have h := h hx19
    have x20 := hx19.x
    show G w mX0_lengthOf (KI K) (rc) (rs) s17 12 [va_rf l0, .int l1, U_, U_] [.int x18]
    refine G_istore_n 13 [va_rf l0, .int l1, .int x18, U_] dX0_lengthOf_12 (Nat.le_of_ble_eq_true rfl) rfl rfl ?_
    refine G_iconst (v := 0) 14 dX0_lengthOf_13 (by decide) rfl ?_
    refine G_istore_n 15 [va_rf l0, .int l1, .int x18, .int 0] dX0_lengthOf_14 (Nat.le_of_ble_eq_true rfl) rfl rfl ?_
    exact h
set_option maxHeartbeats 4000000 in
theorem bX0_lengthOf_15 {w : Wt} {K : Sg → Int32 → Prop} {rc rs : Nat} {σ : Sg} (l0 : Option Nat) (l1 : Int32) (l2 : Int32) (l3 : Int32) (h : ∃ a1, l0 = some a1 ∧ ((kd σ a1 = 23 ∧ CalI w mJ7_length σ [va_rf l0] (fun s3 x4 => Ext σ s3 → ((x4 ≤ l3 → K s3 (l1 * l2)) ∧ (¬ x4 ≤ l3 → ((kd s3 a1 = 23 ∧ CalI w mJ7_charAt s3 [va_rf l0, .int l3] (fun s9 x10 => Ext s3 s9 → kd s9 (wa w 0) ∈ [1, 5] ∧ vp_in (x10 - 97) (ln s9 (wa w 0)) ∧ G w mX0_lengthOf (KI K) (rc) (rs) s9 15 [va_rf l0, .int l1, .int (l2 + (AI s9 (wa w 0) (x10 - 97).toNatClampNeg)), .int (l3 + 1)] [])) ∨ (kd s3 a1 = 24 ∧ CalI w mJ8_charAt s3 [va_rf l0, .int l3] (fun s16 x17 => Ext s3 s16 → kd s16 (wa w 0) ∈ [1, 5] ∧ vp_in (x17 - 97) (ln s16 (wa w 0)) ∧ G w mX0_lengthOf (KI K) (rc) (rs) s16 15 [va_rf l0, .int l1, .int (l2 + (AI s16 (wa w 0) (x17 - 97).toNatClampNeg)), .int (l3 + 1)] []))))))) ∨ (kd σ a1 = 24 ∧ CalI w mJ8_length σ [va_rf l0] (fun s23 x24 => Ext σ s23 → ((x24 ≤ l3 → K s23 (l1 * l2)) ∧ (¬ x24 ≤ l3 → ((kd s23 a1 = 23 ∧ CalI w mJ7_charAt s23 [va_rf l0, .int l3] (fun s29 x30 => Ext s23 s29 → kd s29 (wa w 0) ∈ [1, 5] ∧ vp_in (x30 - 97) (ln s29 (wa w 0)) ∧ G w mX0_lengthOf (KI K) (rc) (rs) s29 15 [va_rf l0, .int l1, .int (l2 + (AI s29 (wa w 0) (x30 - 97).toNatClampNeg)), .int (l3 + 1)] [])) ∨ (kd s23 a1 = 24 ∧ CalI w mJ8_charAt s23 [va_rf l0, .int l3] (fun s36 x37 => Ext s23 s36 → kd s36 (wa w 0) ∈ [1, 5] ∧ vp_in (x37 - 97) (ln s36 (wa w 0)) ∧ G w mX0_lengthOf (KI K) (rc) (rs) s36 15 [va_rf l0, .int l1, .int (l2 + (AI s36 (wa w 0) (x37 - 97).toNatClampNeg)), .int (l3 + 1)] []))))))))) : G w mX0_lengthOf (KI K) (rc) (rs) σ 15 [va_rf l0, .int l1, .int l2, .int l3] [] := by
  refine G_iload_n 16 dX0_lengthOf_15 rfl rfl ?_
  refine G_aload_n 17 dX0_lengthOf_16 rfl rfl ?_
  obtain ⟨a1, e2, h⟩ := h
  rcases h with ⟨c5, h⟩ | ⟨c25, h⟩
  · refine G_invF (N := mJ7_length) (x := ⟨"java/lang/CharSequence", "length", "()I"⟩) (As := []) (st := [.int l3]) (t := l0) (b := a1) (rc) (rs) 22 dX0_lengthOf_17 q1855 q1865 q1538 q41 q1540 q1857 q1856 q1867 q1866 q1864 rfl ax20 ⟨Nat.le_of_ble_eq_true rfl, Nat.le_of_ble_eq_true rfl⟩ rfl (Nat.le_trans (w_I w_0) (Nat.le_of_ble_eq_true rfl)) e2 (rk23 c5) (le_b mJ7_length_c (Nat.le_refl _)) (le_b mJ7_length_s (Nat.le_refl _)) rfl (Cal.mono h ?_)
    rintro s3 v ⟨x4, rfl, h⟩ hx6
    have h := h hx6
    have x7 := hx6.x
    show G w mX0_lengthOf (KI K) (rc) (rs) s3 22 [va_rf l0, .int l1, .int l2, .int l3] [.int x4, .int l3]
    refine G_icmp_ge 48 25 dX0_lengthOf_22 (by decide) rfl (fun u8 => ?_) (fun u8 => ?_)
    · have h := h.1 u8
      refine G_iload_n 49 dX0_lengthOf_48 rfl rfl ?_
      refine G_iload_n 50 dX0_lengthOf_49 rfl rfl ?_
      refine G_imul 51 dX0_lengthOf_50 rfl ?_
      exact G_iret dX0_lengthOf_51 rfl ⟨_, rfl, h⟩
    · have h := h.2 u8
      refine G_iload_n 26 dX0_lengthOf_25 rfl rfl ?_
      refine G_getS (host := "") (C := "TrophyPlates") (v := va_rf (some (wa w 0))) 29 dX0_lengthOf_26 (Or.inl q1869) (Or.inl rfl) rfl (List.mem_of_getElem? (i := 0) rfl) ?_
      refine G_aload_n 30 dX0_lengthOf_29 rfl rfl ?_
      refine G_iload_n 31 dX0_lengthOf_30 rfl rfl ?_
      rcases h with ⟨c11, h⟩ | ⟨c18, h⟩
      · refine G_invF (N := mJ7_charAt) (x := ⟨"java/lang/CharSequence", "charAt", "(I)C"⟩) (As := [.int l3]) (st := [va_rf (some (wa w 0)), .int l2]) (t := l0) (b := a1) (rc) (rs) 36 dX0_lengthOf_31 q1872 q1887 q1889 q41 q1891 q1874 q1873 q1890 q1888 q1864 rfl ax21 ⟨Nat.le_of_ble_eq_true rfl, Nat.le_of_ble_eq_true rfl⟩ rfl (Nat.le_trans (w_R (w_I w_0)) (Nat.le_of_ble_eq_true rfl)) e2 (rk23 c11) (le_b mJ7_charAt_c (Nat.le_refl _)) (le_b mJ7_charAt_s (Nat.le_refl _)) rfl (Cal.mono h ?_)
        rintro s9 v ⟨x10, rfl, h⟩ hx12
        have h := h hx12
        have x13 := hx12.x
        show G w mX0_lengthOf (KI K) (rc) (rs) s9 36 [va_rf l0, .int l1, .int l2, .int l3] [.int x10, va_rf (some (wa w 0)), .int l2]
        refine G_bipush (v := 97) 38 dX0_lengthOf_36 (by decide) rfl ?_
        refine G_isub 39 dX0_lengthOf_38 rfl ?_
        obtain ⟨c14, h⟩ := h
        obtain ⟨c15, h⟩ := h
        refine G_iald (a := (wa w 0)) 40 dX0_lengthOf_39 rfl rfl c14 c15 ?_
        refine G_iadd 41 dX0_lengthOf_40 rfl ?_
        refine G_istore_n 42 [va_rf l0, .int l1, .int (l2 + (AI s9 (wa w 0) (x10 - 97).toNatClampNeg)), .int l3] dX0_lengthOf_41 (Nat.le_of_ble_eq_true rfl) rfl rfl ?_
        refine G_iinc 45 [va_rf l0, .int l1, .int (l2 + (AI s9 (wa w 0) (x10 - 97).toNatClampNeg)), .int (l3 + 1)] dX0_lengthOf_42 rfl rfl (Nat.le_of_ble_eq_true rfl) rfl rfl ?_
        refine G_goto 15 dX0_lengthOf_45 (by decide) ?_
        exact h
      · refine G_invF (N := mJ8_charAt) (x := ⟨"java/lang/CharSequence", "charAt", "(I)C"⟩) (As := [.int l3]) (st := [va_rf (some (wa w 0)), .int l2]) (t := l0) (b := a1) (rc) (rs) 36 dX0_lengthOf_31 q1872 q1875 q1877 q42 q1879 q1874 q1873 q1878 q1876 q1858 rfl ax21 ⟨Nat.le_of_ble_eq_true rfl, Nat.le_of_ble_eq_true rfl⟩ rfl (Nat.le_trans (w_R (w_I w_0)) (Nat.le_of_ble_eq_true rfl)) e2 (rk24 c18) (le_b mJ8_charAt_c (Nat.le_refl _)) (le_b mJ8_charAt_s (Nat.le_refl _)) rfl (Cal.mono h ?_)
        rintro s16 v ⟨x17, rfl, h⟩ hx19
        have h := h hx19
        have x20 := hx19.x
        show G w mX0_lengthOf (KI K) (rc) (rs) s16 36 [va_rf l0, .int l1, .int l2, .int l3] [.int x17, va_rf (some (wa w 0)), .int l2]
        refine G_bipush (v := 97) 38 dX0_lengthOf_36 (by decide) rfl ?_
        refine G_isub 39 dX0_lengthOf_38 rfl ?_
        obtain ⟨c21, h⟩ := h
        obtain ⟨c22, h⟩ := h
        refine G_iald (a := (wa w 0)) 40 dX0_lengthOf_39 rfl rfl c21 c22 ?_
        refine G_iadd 41 dX0_lengthOf_40 rfl ?_
        refine G_istore_n 42 [va_rf l0, .int l1, .int (l2 + (AI s16 (wa w 0) (x17 - 97).toNatClampNeg)), .int l3] dX0_lengthOf_41 (Nat.le_of_ble_eq_true rfl) rfl rfl ?_
        refine G_iinc 45 [va_rf l0, .int l1, .int (l2 + (AI s16 (wa w 0) (x17 - 97).toNatClampNeg)), .int (l3 + 1)] dX0_lengthOf_42 rfl rfl (Nat.le_of_ble_eq_true rfl) rfl rfl ?_
        refine G_goto 15 dX0_lengthOf_45 (by decide) ?_
        exact h
  · refine G_invF (N := mJ8_length) (x := ⟨"java/lang/CharSequence", "length", "()I"⟩) (As := []) (st := [.int l3]) (t := l0) (b := a1) (rc) (rs) 22 dX0_lengthOf_17 q1855 q1859 q1861 q42 q1863 q1857 q1856 q1862 q1860 q1858 rfl ax20 ⟨Nat.le_of_ble_eq_true rfl, Nat.le_of_ble_eq_true rfl⟩ rfl (Nat.le_trans (w_I w_0) (Nat.le_of_ble_eq_true rfl)) e2 (rk24 c25) (le_b mJ8_length_c (Nat.le_refl _)) (le_b mJ8_length_s (Nat.le_refl _)) rfl (Cal.mono h ?_)
    rintro s23 v ⟨x24, rfl, h⟩ hx26
    have h := h hx26
    have x27 := hx26.x
    show G w mX0_lengthOf (KI K) (rc) (rs) s23 22 [va_rf l0, .int l1, .int l2, .int l3] [.int x24, .int l3]
    refine G_icmp_ge 48 25 dX0_lengthOf_22 (by decide) rfl (fun u28 => ?_) (fun u28 => ?_)
    · have h := h.1 u28
      refine G_iload_n 49 dX0_lengthOf_48 rfl rfl ?_
      refine G_iload_n 50 dX0_lengthOf_49 rfl rfl ?_
      refine G_imul 51 dX0_lengthOf_50 rfl ?_
      exact G_iret dX0_lengthOf_51 rfl ⟨_, rfl, h⟩
    · have h := h.2 u28
      refine G_iload_n 26 dX0_lengthOf_25 rfl rfl ?_
      refine G_getS (host := "") (C := "TrophyPlates") (v := va_rf (some (wa w 0))) 29 dX0_lengthOf_26 (Or.inl q1869) (Or.inl rfl) rfl (List.mem_of_getElem? (i := 0) rfl) ?_
      refine G_aload_n 30 dX0_lengthOf_29 rfl rfl ?_
      refine G_iload_n 31 dX0_lengthOf_30 rfl rfl ?_
      rcases h with ⟨c31, h⟩ | ⟨c38, h⟩
      · refine G_invF (N := mJ7_charAt) (x := ⟨"java/lang/CharSequence", "charAt", "(I)C"⟩) (As := [.int l3]) (st := [va_rf (some (wa w 0)), .int l2]) (t := l0) (b := a1) (rc) (rs) 36 dX0_lengthOf_31 q1872 q1887 q1889 q41 q1891 q1874 q1873 q1890 q1888 q1864 rfl ax21 ⟨Nat.le_of_ble_eq_true rfl, Nat.le_of_ble_eq_true rfl⟩ rfl (Nat.le_trans (w_R (w_I w_0)) (Nat.le_of_ble_eq_true rfl)) e2 (rk23 c31) (le_b mJ7_charAt_c (Nat.le_refl _)) (le_b mJ7_charAt_s (Nat.le_refl _)) rfl (Cal.mono h ?_)
        rintro s29 v ⟨x30, rfl, h⟩ hx32
        have h := h hx32
        have x33 := hx32.x
        show G w mX0_lengthOf (KI K) (rc) (rs) s29 36 [va_rf l0, .int l1, .int l2, .int l3] [.int x30, va_rf (some (wa w 0)), .int l2]
        refine G_bipush (v := 97) 38 dX0_lengthOf_36 (by decide) rfl ?_
        refine G_isub 39 dX0_lengthOf_38 rfl ?_
        obtain ⟨c34, h⟩ := h
        obtain ⟨c35, h⟩ := h
        refine G_iald (a := (wa w 0)) 40 dX0_lengthOf_39 rfl rfl c34 c35 ?_
        refine G_iadd 41 dX0_lengthOf_40 rfl ?_
        refine G_istore_n 42 [va_rf l0, .int l1, .int (l2 + (AI s29 (wa w 0) (x30 - 97).toNatClampNeg)), .int l3] dX0_lengthOf_41 (Nat.le_of_ble_eq_true rfl) rfl rfl ?_
        refine G_iinc 45 [va_rf l0, .int l1, .int (l2 + (AI s29 (wa w 0) (x30 - 97).toNatClampNeg)), .int (l3 + 1)] dX0_lengthOf_42 rfl rfl (Nat.le_of_ble_eq_true rfl) rfl rfl ?_
        refine G_goto 15 dX0_lengthOf_45 (by decide) ?_
        exact h
      · refine G_invF (N := mJ8_charAt) (x := ⟨"java/lang/CharSequence", "charAt", "(I)C"⟩) (As := [.int l3]) (st := [va_rf (some (wa w 0)), .int l2]) (t := l0) (b := a1) (rc) (rs) 36 dX0_lengthOf_31 q1872 q1875 q1877 q42 q1879 q1874 q1873 q1878 q1876 q1858 rfl ax21 ⟨Nat.le_of_ble_eq_true rfl, Nat.le_of_ble_eq_true rfl⟩ rfl (Nat.le_trans (w_R (w_I w_0)) (Nat.le_of_ble_eq_true rfl)) e2 (rk24 c38) (le_b mJ8_charAt_c (Nat.le_refl _)) (le_b mJ8_charAt_s (Nat.le_refl _)) rfl (Cal.mono h ?_)
        rintro s36 v ⟨x37, rfl, h⟩ hx39
        have h := h hx39
        have x40 := hx39.x
        show G w mX0_lengthOf (KI K) (rc) (rs) s36 36 [va_rf l0, .int l1, .int l2, .int l3] [.int x37, va_rf (some (wa w 0)), .int l2]
        refine G_bipush (v := 97) 38 dX0_lengthOf_36 (by decide) rfl ?_
        refine G_isub 39 dX0_lengthOf_38 rfl ?_
        obtain ⟨c41, h⟩ := h
        obtain ⟨c42, h⟩ := h
        refine G_iald (a := (wa w 0)) 40 dX0_lengthOf_39 rfl rfl c41 c42 ?_
        refine G_iadd 41 dX0_lengthOf_40 rfl ?_
        refine G_istore_n 42 [va_rf l0, .int l1, .int (l2 + (AI s36 (wa w 0) (x37 - 97).toNatClampNeg)), .int l3] dX0_lengthOf_41 (Nat.le_of_ble_eq_true rfl) rfl rfl ?_
        refine G_iinc 45 [va_rf l0, .int l1, .int (l2 + (AI s36 (wa w 0) (x37 - 97).toNatClampNeg)), .int (l3 + 1)] dX0_lengthOf_42 rfl rfl (Nat.le_of_ble_eq_true rfl) rfl rfl ?_
        refine G_goto 15 dX0_lengthOf_45 (by decide) ?_
        exact h
theorem eX0_lengthOf {w : Wt} {K : Sg → Int32 → Prop} {σ : Sg} (l0 : Option Nat) (l1 : Int32) (h : G w mX0_lengthOf (KI K) 0 0 σ 0 [va_rf l0, .int l1, U_, U_] []) : CalI w mX0_lengthOf σ [va_rf l0, .int l1] K :=
  Cal.start 2 mX0_lengthOf_plain (catR (catI cat0)) (Nat.le_of_ble_eq_true rfl) rfl h
set_option maxHeartbeats 4000000 in
theorem bX0_isAhead_0 {w : Wt} {K : Sg → Int32 → Prop} {rc rs : Nat} {σ : Sg} (l0 : Option Nat) (l1 : Option Nat) (h : G w mX0_isAhead (KI K) (rc) (rs) σ 2 [va_rf l0, va_rf l1, .int 0] []) : G w mX0_isAhead (KI K) (rc) (rs) σ 0 [va_rf l0, va_rf l1, U_] [] := by
  refine G_iconst (v := 0) 1 dX0_isAhead_0 (by decide) rfl ?_
  refine G_istore_n 2 [va_rf l0, va_rf l1, .int 0] dX0_isAhead_1 (Nat.le_of_ble_eq_true rfl) rfl rfl ?_
  exact h
set_option maxHeartbeats 4000000 in
theorem bX0_isAhead_2 {w : Wt} {K : Sg → Int32 → Prop} {rc rs : Nat} {σ : Sg} (l0 : Option Nat) (l1 : Option Nat) (l2 : Int32) (h : ∃ a1, l0 = some a1 ∧ kd σ a1 ∈ [1, 2, 3, 4, 5, 7, 8] ∧ ((nI (ln σ a1) ≤ l2 → K σ 0) ∧ (¬ nI (ln σ a1) ≤ l2 → kd σ a1 ∈ [1, 5] ∧ vp_in l2 (ln σ a1) ∧ ∃ a7, l1 = some a7 ∧ kd σ a7 ∈ [1, 5] ∧ vp_in l2 (ln σ a7) ∧ ((AI σ a1 l2.toNatClampNeg = AI σ a7 l2.toNatClampNeg → G w mX0_isAhead (KI K) (rc) (rs) σ 2 [va_rf l0, va_rf l1, .int (l2 + 1)] []) ∧ (¬ AI σ a1 l2.toNatClampNeg = AI σ a7 l2.toNatClampNeg → ((AI σ a7 l2.toNatClampNeg ≤ AI σ a1 l2.toNatClampNeg → K σ 0) ∧ (¬ AI σ a7 l2.toNatClampNeg ≤ AI σ a1 l2.toNatClampNeg → K σ 1))))))) : G w mX0_isAhead (KI K) (rc) (rs) σ 2 [va_rf l0, va_rf l1, .int l2] [] := by
  refine G_iload_n 3 dX0_isAhead_2 rfl rfl ?_
  refine G_aload_n 4 dX0_isAhead_3 rfl rfl ?_
  obtain ⟨a1, e2, h⟩ := h
  obtain ⟨c3, h⟩ := h
  refine G_alen (a := a1) 5 dX0_isAhead_4 rfl e2 c3 ?_
  refine G_icmp_ge 38 8 dX0_isAhead_5 (by decide) rfl (fun u4 => ?_) (fun u4 => ?_)
  · have h := h.1 u4
    refine G_iconst (v := 0) 39 dX0_isAhead_38 (by decide) rfl ?_
    exact G_zret dX0_isAhead_39 rfl rfl ⟨_, rfl, h⟩
  · have h := h.2 u4
    refine G_aload_n 9 dX0_isAhead_8 rfl rfl ?_
    refine G_iload_n 10 dX0_isAhead_9 rfl rfl ?_
    obtain ⟨c5, h⟩ := h
    obtain ⟨c6, h⟩ := h
    refine G_iald (a := a1) 11 dX0_isAhead_10 rfl e2 c5 c6 ?_
    refine G_aload_n 12 dX0_isAhead_11 rfl rfl ?_
    refine G_iload_n 13 dX0_isAhead_12 rfl rfl ?_
    obtain ⟨a7, e8, h⟩ := h
    obtain ⟨c9, h⟩ := h
    obtain ⟨c10, h⟩ := h
    refine G_iald (a := a7) 14 dX0_isAhead_13 rfl e8 c9 c10 ?_
    refine G_icmp_eq 32 17 dX0_isAhead_14 (by decide) rfl (fun u11 => ?_) (fun u11 => ?_)
    · have h := h.1 u11
      refine G_iinc 35 [va_rf l0, va_rf l1, .int (l2 + 1)] dX0_isAhead_32 rfl rfl (Nat.le_of_ble_eq_true rfl) rfl rfl ?_
      refine G_goto 2 dX0_isAhead_35 (by decide) ?_
      exact h
    · have h := h.2 u11
      refine G_aload_n 18 dX0_isAhead_17 rfl rfl ?_
      refine G_iload_n 19 dX0_isAhead_18 rfl rfl ?_
      refine G_iald (a := a1) 20 dX0_isAhead_19 rfl e2 c5 c6 ?_
      refine G_aload_n 21 dX0_isAhead_20 rfl rfl ?_
      refine G_iload_n 22 dX0_isAhead_21 rfl rfl ?_
      refine G_iald (a := a7) 23 dX0_isAhead_22 rfl e8 c9 c10 ?_
      refine G_icmp_ge 30 26 dX0_isAhead_23 (by decide) rfl (fun u12 => ?_) (fun u12 => ?_)
      · have h := h.1 u12
        refine G_iconst (v := 0) 31 dX0_isAhead_30 (by decide) rfl ?_
        exact G_zret dX0_isAhead_31 rfl rfl ⟨_, rfl, h⟩
      · have h := h.2 u12
        refine G_iconst (v := 1) 27 dX0_isAhead_26 (by decide) rfl ?_
        refine G_goto 31 dX0_isAhead_27 (by decide) ?_
        exact G_zret dX0_isAhead_31 rfl rfl ⟨_, rfl, h⟩
theorem eX0_isAhead {w : Wt} {K : Sg → Int32 → Prop} {σ : Sg} (l0 : Option Nat) (l1 : Option Nat) (h : G w mX0_isAhead (KI K) 0 0 σ 0 [va_rf l0, va_rf l1, U_] []) : CalI w mX0_isAhead σ [va_rf l0, va_rf l1] K :=
  Cal.start 1 mX0_isAhead_plain (catR (catR cat0)) (Nat.le_of_ble_eq_true rfl) rfl h
set_option maxHeartbeats 4000000 in
theorem bX0_slip_0 {w : Wt} {K : Sg → Int32 → Prop} {rc rs : Nat} {σ : Sg} (l0 : Option Nat) (h : ∃ a1, l0 = some a1 ∧ kd σ a1 = 10 ∧ ∃ a4, FR σ 0 a1 = some a4 ∧ kd σ a4 = 11 ∧ ((¬ FR σ 8 a4 = none → CalR w mX0_act σ [va_rf l0] (fun s8 x9 => Ext σ s8 → ∃ a12, x9 = some a12 ∧ kd s8 a12 = 11 ∧ CalI w mX1_slip s8 [va_rf x9] (fun s14 x15 => Ext s8 s14 → K s14 x15))) ∧ (FR σ 8 a4 = none → K σ (-2)))) : G w mX0_slip (KI K) (rc + 601) (rs + 10002) σ 0 [va_rf l0] [] := by
  refine G_aload_n 1 dX0_slip_0 rfl rfl ?_
  obtain ⟨a1, e2, h⟩ := h
  obtain ⟨c3, h⟩ := h
  refine G_getR (f := 0) (a := a1) "" 4 dX0_slip_1 (Or.inl q286) (Or.inl rfl) rfl e2 (hf0 c3) rfl ?_
  obtain ⟨a4, e5, h⟩ := h
  obtain ⟨c6, h⟩ := h
  refine G_getR (f := 8) (a := a4) "TrophyPlates" 7 dX0_slip_4 (Or.inr q195) (Or.inl rfl) rfl e5 (hf8 c6) rfl ?_
  refine G_ifnonnull 15 10 dX0_slip_7 (by decide) rfl (fun u7 => ?_) (fun u7 => ?_)
  · have h := h.1 u7
    refine G_aload_n 16 dX0_slip_15 rfl rfl ?_
    refine G_invV (N := mX0_act) (As := []) (st := []) (t := l0) (b := a1) (rc) (rs) 19 dX0_slip_16 q313 q315 qs0 q31 q316 rfl rfl mX0_act_args ⟨Nat.le_of_ble_eq_true rfl, Nat.le_of_ble_eq_true rfl⟩ rfl (Nat.zero_le _) e2 (rk10 c3) (le_b mX0_act_c (Nat.le_refl _)) (le_b mX0_act_s (Nat.le_refl _)) rfl (Cal.mono h ?_)
    rintro s8 v ⟨x9, rfl, h⟩ hx10
    have h := h hx10
    have x11 := hx10.x
    show G w mX0_slip (KI K) (rc) (rs) s8 19 [va_rf l0] [va_rf x9]
    obtain ⟨a12, e13, h⟩ := h
    obtain ⟨c16, h⟩ := h
    refine G_invV (N := mX1_slip) (As := []) (st := []) (t := x9) (b := a12) (rc) (rs) 22 dX0_slip_19 q2006 q2007 q2008 q32 q2009 rfl rfl mX1_slip_args ⟨Nat.le_of_ble_eq_true rfl, Nat.le_of_ble_eq_true rfl⟩ rfl (Nat.zero_le _) e13 (rk11 c16) (le_b mX1_slip_c (Nat.le_refl _)) (le_b mX1_slip_s (Nat.le_refl _)) rfl (Cal.mono h ?_)
    rintro s14 v ⟨x15, rfl, h⟩ hx17
    have h := h hx17
    have x18 := hx17.x
    show G w mX0_slip (KI K) (rc) (rs) s14 22 [va_rf l0] [.int x15]
    exact G_iret dX0_slip_22 rfl ⟨_, rfl, h⟩
  · have h := h.2 u7
    refine G_bipush (v := (-2)) 12 dX0_slip_10 (by decide) rfl ?_
    refine G_goto 22 dX0_slip_12 (by decide) ?_
    exact G_iret dX0_slip_22 rfl ⟨_, rfl, h⟩
theorem eX0_slip {w : Wt} {K : Sg → Int32 → Prop} {σ : Sg} (l0 : Option Nat) (h : G w mX0_slip (KI K) 601 10002 σ 0 [va_rf l0] []) : CalI w mX0_slip σ [va_rf l0] K :=
  Cal.start 0 mX0_slip_plain (catR cat0) (Nat.le_of_ble_eq_true rfl) rfl h
set_option maxHeartbeats 4000000 in
theorem bX0_undo_0 {w : Wt} {K : Sg → Int32 → Prop} {rc rs : Nat} {σ : Sg} (l0 : Option Nat) (h : ∃ a1, l0 = some a1 ∧ kd σ a1 = 10 ∧ ∃ a4, FR σ 1 a1 = some a4 ∧ kd σ a4 = 12 ∧ ((¬ FI σ 17 a4 = 0 → CalR w mX2_pop σ [va_rf (FR σ 1 a1)] (fun s8 x9 => Ext σ s8 → ∀ s12, s12 = sFR s8 0 a1 x9 → ∃ a14, FR s12 1 a1 = some a14 ∧ kd s12 a14 = 12 ∧ K s12 (FI s12 17 a14))) ∧ (FI σ 17 a4 = 0 → K σ (-2)))) : G w mX0_undo (KI K) (rc) (rs) σ 0 [va_rf l0] [] := by
  refine G_aload_n 1 dX0_undo_0 rfl rfl ?_
  obtain ⟨a1, e2, h⟩ := h
  obtain ⟨c3, h⟩ := h
  refine G_getR (f := 1) (a := a1) "" 4 dX0_undo_1 (Or.inl q287) (Or.inl rfl) rfl e2 (hf1 c3) rfl ?_
  obtain ⟨a4, e5, h⟩ := h
  obtain ⟨c6, h⟩ := h
  refine G_getI (f := 17) (a := a4) "TrophyPlates" 7 dX0_undo_4 (Or.inr q245) (Or.inl rfl) rfl e5 (hf17 c6) rfl ?_
  refine G_if_ne 13 10 dX0_undo_7 (by decide) rfl (fun u7 => ?_) (fun u7 => ?_)
  · have h := h.1 u7
    refine G_aload_n 14 dX0_undo_13 rfl rfl ?_
    refine G_aload_n 15 dX0_undo_14 rfl rfl ?_
    refine G_getR (f := 1) (a := a1) "" 18 dX0_undo_15 (Or.inl q287) (Or.inl rfl) rfl e2 (hf1 c3) rfl ?_
    refine G_invV (N := mX2_pop) (As := []) (st := [va_rf l0]) (t := (FR σ 1 a1)) (b := a4) (rc) (rs) 21 dX0_undo_18 q2016 q2017 q2018 q39 q2019 rfl rfl mX2_pop_args ⟨Nat.le_of_ble_eq_true rfl, Nat.le_of_ble_eq_true rfl⟩ rfl (Nat.le_trans (w_R w_0) (Nat.le_of_ble_eq_true rfl)) e5 (rk12 c6) (le_b mX2_pop_c (Nat.le_refl _)) (le_b mX2_pop_s (Nat.le_refl _)) rfl (Cal.mono h ?_)
    rintro s8 v ⟨x9, rfl, h⟩ hx10
    have h := h hx10
    have x11 := hx10.x
    show G w mX0_undo (KI K) (rc) (rs) s8 21 [va_rf l0] [va_rf x9, va_rf l0]
    have c3 := kdE x11 c3 (by decide)
    refine G_putR (f := 0) (a := a1) "" 24 dX0_undo_21 (Or.inl q286) (Or.inl rfl) rfl e2 (hp0 c3) (nk0 c3) (Or.inl rfl) (fun y => by cases y <;> rfl) (fun y => by cases y <;> rfl) rfl ?_
    generalize hs12 : sFR s8 0 a1 x9 = s12
    have x13 : ∀ a, ¬ kd s8 a = 0 → kd s12 a = kd s8 a := by subst hs12; exact fun a _ => congrFun kd_sFR a
    have h := h s12 hs12.symm
    refine G_aload_n 25 dX0_undo_24 rfl rfl ?_
    have c3 := kdE x13 c3 (by decide)
    refine G_getR (f := 1) (a := a1) "" 28 dX0_undo_25 (Or.inl q287) (Or.inl rfl) rfl e2 (hf1 c3) rfl ?_
    obtain ⟨a14, e15, h⟩ := h
    obtain ⟨c16, h⟩ := h
    refine G_getI (f := 17) (a := a14) "TrophyPlates" 31 dX0_undo_28 (Or.inr q245) (Or.inl rfl) rfl e15 (hf17 c16) rfl ?_
    exact G_iret dX0_undo_31 rfl ⟨_, rfl, h⟩
  · have h := h.2 u7
    refine G_bipush (v := (-2)) 12 dX0_undo_10 (by decide) rfl ?_
    exact G_iret dX0_undo_12 rfl ⟨_, rfl, h⟩
theorem eX0_undo {w : Wt} {K : Sg → Int32 → Prop} {σ : Sg} (l0 : Option Nat) (h : G w mX0_undo (KI K) 0 0 σ 0 [va_rf l0] []) : CalI w mX0_undo σ [va_rf l0] K :=
  Cal.start 0 mX0_undo_plain (catR cat0) (Nat.le_of_ble_eq_true rfl) rfl h
set_option maxHeartbeats 4000000 in
theorem bX0_count_0 {w : Wt} {K : Sg → Int32 → Prop} {rc rs : Nat} {σ : Sg} (l0 : Option Nat) (l1 : Int32) (h : (((l1 = 0 ∨ l1 = 1 ∨ l1 = 2 ∨ l1 = 3) → ∃ a1, l0 = some a1 ∧ kd σ a1 = 10 ∧ ∃ a4, FR σ 0 a1 = some a4 ∧ kd σ a4 = 11 ∧ CalI w mX1_platesIn σ [va_rf (FR σ 0 a1), .int l1] (fun s6 x7 => Ext σ s6 → K s6 x7)) ∧ ((l1 = 4) → ∃ a11, l0 = some a11 ∧ kd σ a11 = 10 ∧ ∃ a14, FR σ 0 a11 = some a14 ∧ kd σ a14 = 11 ∧ ∃ a17, FR σ 3 a14 = some a17 ∧ kd σ a17 = 20 ∧ CalI w mJ2_size σ [va_rf (FR σ 3 a14)] (fun s19 x20 => Ext σ s19 → K s19 x20)) ∧ ((l1 = 5) → ∃ a24, l0 = some a24 ∧ kd σ a24 = 10 ∧ ∃ a27, FR σ 0 a24 = some a27 ∧ kd σ a27 = 11 ∧ K σ (FI σ 7 a27)) ∧ ((l1 = 6) → ∃ a30, l0 = some a30 ∧ kd σ a30 = 10 ∧ ∃ a33, FR σ 0 a30 = some a33 ∧ kd σ a33 = 11 ∧ ∃ a36, FR σ 4 a33 = some a36 ∧ kd σ a36 = 20 ∧ CalI w mJ2_size σ [va_rf (FR σ 4 a33)] (fun s38 x39 => Ext σ s38 → K s38 x39)) ∧ ((l1 = 7) → ∃ a43, l0 = some a43 ∧ kd σ a43 = 10 ∧ ∃ a46, FR σ 0 a43 = some a46 ∧ kd σ a46 = 11 ∧ CalI w mX1_rushes σ [va_rf (FR σ 0 a43)] (fun s48 x49 => Ext σ s48 → K s48 x49)) ∧ ((l1 = 8) → ∃ a53, l0 = some a53 ∧ kd σ a53 = 10 ∧ ∃ a56, FR σ 0 a53 = some a56 ∧ kd σ a56 = 11 ∧ ((¬ FR σ 8 a56 = none → ∃ a60, FR σ 4 a56 = some a60 ∧ kd σ a60 = 20 ∧ CalI w mJ2_indexOf σ [va_rf (FR σ 4 a56), va_rf (FR σ 8 a56)] (fun s62 x63 => Ext σ s62 → K s62 x63)) ∧ (FR σ 8 a56 = none → K σ (-9)))) ∧ ((l1 = 9) → ∃ a67, l0 = some a67 ∧ kd σ a67 = 10 ∧ ∃ a70, FR σ 0 a67 = some a70 ∧ kd σ a70 = 11 ∧ K σ (FI σ 11 a70)) ∧ ((l1 = 10) → ∃ a73, l0 = some a73 ∧ kd σ a73 = 10 ∧ ∃ a76, FR σ 0 a73 = some a76 ∧ kd σ a76 = 11 ∧ K σ (FI σ 9 a76)) ∧ ((l1 = 11) → ∃ a79, l0 = some a79 ∧ kd σ a79 = 10 ∧ ∃ a82, FR σ 0 a79 = some a82 ∧ kd σ a82 = 11 ∧ K σ (FI σ 12 a82)) ∧ ((l1 = 12) → ∃ a85, l0 = some a85 ∧ kd σ a85 = 10 ∧ ∃ a88, FR σ 0 a85 = some a88 ∧ kd σ a88 = 11 ∧ K σ (FI σ 13 a88)) ∧ ((l1 = 13) → ∃ a91, l0 = some a91 ∧ kd σ a91 = 10 ∧ ∃ a94, FR σ 0 a91 = some a94 ∧ kd σ a94 = 11 ∧ K σ (FI σ 14 a94)) ∧ ((l1 = 14) → ∃ a97, l0 = some a97 ∧ kd σ a97 = 10 ∧ ∃ a100, FR σ 1 a97 = some a100 ∧ kd σ a100 = 12 ∧ K σ (FI σ 17 a100)) ∧ ((l1 = 15) → ∃ a103, l0 = some a103 ∧ kd σ a103 = 10 ∧ ∃ a106, FR σ 2 a103 = some a106 ∧ kd σ a106 = 23 ∧ CalI w mJ7_length σ [va_rf (FR σ 2 a103)] (fun s108 x109 => Ext σ s108 → K s108 x109)) ∧ (¬ l1 = 0 ∧ ¬ l1 = 1 ∧ ¬ l1 = 2 ∧ ¬ l1 = 3 ∧ ¬ l1 = 4 ∧ ¬ l1 = 5 ∧ ¬ l1 = 6 ∧ ¬ l1 = 7 ∧ ¬ l1 = 8 ∧ ¬ l1 = 9 ∧ ¬ l1 = 10 ∧ ¬ l1 = 11 ∧ ¬ l1 = 12 ∧ ¬ l1 = 13 ∧ ¬ l1 = 14 ∧ ¬ l1 = 15 → K σ (-1)))) : G w mX0_count (KI K) (rc + 1) (rs + 4) σ 0 [va_rf l0, .int l1] [] := by
  refine G_iload_n 1 dX0_count_0 rfl rfl ?_
  by_cases u113 : l1 = 0 ∨ l1 = 1 ∨ l1 = 2 ∨ l1 = 3
  · refine G_tableIn (off := 79) 80 dX0_count_1 (by rcases u113 with u113e | u113e | u113e | u113e <;> (rw [u113e]; decide)) (by rcases u113 with u113e | u113e | u113e | u113e <;> (rw [u113e]; decide)) (by rcases u113 with u113e | u113e | u113e | u113e <;> (rw [u113e]; rfl)) (by decide) ?_
    have h := h.1 u113
    refine G_aload_n 81 dX0_count_80 rfl rfl ?_
    obtain ⟨a1, e2, h⟩ := h
    obtain ⟨c3, h⟩ := h
    refine G_getR (f := 0) (a := a1) "" 84 dX0_count_81 (Or.inl q286) (Or.inl rfl) rfl e2 (hf0 c3) rfl ?_
    refine G_iload_n 85 dX0_count_84 rfl rfl ?_
    obtain ⟨a4, e5, h⟩ := h
    obtain ⟨c8, h⟩ := h
    refine G_invV (N := mX1_platesIn) (As := [.int l1]) (st := []) (t := (FR σ 0 a1)) (b := a4) (rc) (rs) 88 dX0_count_85 q1408 q1409 q1410 q32 q1411 rfl rfl mX1_platesIn_args ⟨Nat.le_of_ble_eq_true rfl, Nat.le_of_ble_eq_true rfl⟩ rfl (Nat.zero_le _) e5 (rk11 c8) (le_b mX1_platesIn_c (Nat.le_refl _)) (le_b mX1_platesIn_s (Nat.le_refl _)) rfl (Cal.mono h ?_)
    rintro s6 v ⟨x7, rfl, h⟩ hx9
    have h := h hx9
    have x10 := hx9.x
    show G w mX0_count (KI K) (rc) (rs) s6 88 [va_rf l0, .int l1] [.int x7]
    exact G_iret dX0_count_88 rfl ⟨_, rfl, h⟩
  have h := h.2
  rw [not_or, not_or, not_or] at u113
  by_cases u114 : l1 = 4
  · refine G_tableIn (off := 88) 89 dX0_count_1 (by have u114e := u114 <;> (rw [u114e]; decide)) (by have u114e := u114 <;> (rw [u114e]; decide)) (by have u114e := u114 <;> (rw [u114e]; rfl)) (by decide) ?_
    have h := h.1 u114
    refine G_aload_n 90 dX0_count_89 rfl rfl ?_
    obtain ⟨a11, e12, h⟩ := h
    obtain ⟨c13, h⟩ := h
    refine G_getR (f := 0) (a := a11) "" 93 dX0_count_90 (Or.inl q286) (Or.inl rfl) rfl e12 (hf0 c13) rfl ?_
    obtain ⟨a14, e15, h⟩ := h
    obtain ⟨c16, h⟩ := h
    refine G_getR (f := 3) (a := a14) "TrophyPlates" 96 dX0_count_93 (Or.inr q185) (Or.inl rfl) rfl e15 (hf3 c16) rfl ?_
    obtain ⟨a17, e18, h⟩ := h
    obtain ⟨c21, h⟩ := h
    refine G_invF (N := mJ2_size) (x := ⟨"java/util/List", "size", "()I"⟩) (As := []) (st := []) (t := (FR σ 3 a14)) (b := a17) (rc + 1) (rs + 4) 101 dX0_count_96 q304 q308 q310 q35 q312 q306 q305 q311 q309 q307 rfl ax31 ⟨Nat.le_of_ble_eq_true rfl, Nat.le_of_ble_eq_true rfl⟩ rfl (Nat.zero_le _) e18 (rk20 c21) (le_b mJ2_size_c (Nat.le_refl _)) (le_b mJ2_size_s (Nat.le_refl _)) rfl (Cal.mono h ?_)
    rintro s19 v ⟨x20, rfl, h⟩ hx22
    have h := h hx22
    have x23 := hx22.x
    show G w mX0_count (KI K) (rc + 1) (rs + 4) s19 101 [va_rf l0, .int l1] [.int x20]
    exact G_iret dX0_count_101 rfl ⟨_, rfl, h⟩
  have h := h.2
  by_cases u115 : l1 = 5
  · refine G_tableIn (off := 101) 102 dX0_count_1 (by have u115e := u115 <;> (rw [u115e]; decide)) (by have u115e := u115 <;> (rw [u115e]; decide)) (by have u115e := u115 <;> (rw [u115e]; rfl)) (by decide) ?_
    have h := h.1 u115
    refine G_aload_n 103 dX0_count_102 rfl rfl ?_
    obtain ⟨a24, e25, h⟩ := h
    obtain ⟨c26, h⟩ := h
    refine G_getR (f := 0) (a := a24) "" 106 dX0_count_103 (Or.inl q286) (Or.inl rfl) rfl e25 (hf0 c26) rfl ?_
    obtain ⟨a27, e28, h⟩ := h
    obtain ⟨c29, h⟩ := h
    refine G_getI (f := 7) (a := a27) "TrophyPlates" 109 dX0_count_106 (Or.inr q193) (Or.inl rfl) rfl e28 (hf7 c29) rfl ?_
    exact G_iret dX0_count_109 rfl ⟨_, rfl, h⟩
  have h := h.2
  by_cases u116 : l1 = 6
  · refine G_tableIn (off := 109) 110 dX0_count_1 (by have u116e := u116 <;> (rw [u116e]; decide)) (by have u116e := u116 <;> (rw [u116e]; decide)) (by have u116e := u116 <;> (rw [u116e]; rfl)) (by decide) ?_
    have h := h.1 u116
    refine G_aload_n 111 dX0_count_110 rfl rfl ?_
    obtain ⟨a30, e31, h⟩ := h
    obtain ⟨c32, h⟩ := h
    refine G_getR (f := 0) (a := a30) "" 114 dX0_count_111 (Or.inl q286) (Or.inl rfl) rfl e31 (hf0 c32) rfl ?_
    obtain ⟨a33, e34, h⟩ := h
    obtain ⟨c35, h⟩ := h
    refine G_getR (f := 4) (a := a33) "TrophyPlates" 117 dX0_count_114 (Or.inr q187) (Or.inl rfl) rfl e34 (hf4 c35) rfl ?_
    obtain ⟨a36, e37, h⟩ := h
    obtain ⟨c40, h⟩ := h
    refine G_invF (N := mJ2_size) (x := ⟨"java/util/List", "size", "()I"⟩) (As := []) (st := []) (t := (FR σ 4 a33)) (b := a36) (rc + 1) (rs + 4) 122 dX0_count_117 q304 q308 q310 q35 q312 q306 q305 q311 q309 q307 rfl ax31 ⟨Nat.le_of_ble_eq_true rfl, Nat.le_of_ble_eq_true rfl⟩ rfl (Nat.zero_le _) e37 (rk20 c40) (le_b mJ2_size_c (Nat.le_refl _)) (le_b mJ2_size_s (Nat.le_refl _)) rfl (Cal.mono h ?_)
    rintro s38 v ⟨x39, rfl, h⟩ hx41
    have h := h hx41
    have x42 := hx41.x
    show G w mX0_count (KI K) (rc + 1) (rs + 4) s38 122 [va_rf l0, .int l1] [.int x39]
    exact G_iret dX0_count_122 rfl ⟨_, rfl, h⟩
  have h := h.2
  by_cases u117 : l1 = 7
  · refine G_tableIn (off := 122) 123 dX0_count_1 (by have u117e := u117 <;> (rw [u117e]; decide)) (by have u117e := u117 <;> (rw [u117e]; decide)) (by have u117e := u117 <;> (rw [u117e]; rfl)) (by decide) ?_
    have h := h.1 u117
    refine G_aload_n 124 dX0_count_123 rfl rfl ?_
    obtain ⟨a43, e44, h⟩ := h
    obtain ⟨c45, h⟩ := h
    refine G_getR (f := 0) (a := a43) "" 127 dX0_count_124 (Or.inl q286) (Or.inl rfl) rfl e44 (hf0 c45) rfl ?_
    obtain ⟨a46, e47, h⟩ := h
    obtain ⟨c50, h⟩ := h
    refine G_invV (N := mX1_rushes) (As := []) (st := []) (t := (FR σ 0 a43)) (b := a46) (rc) (rs) 130 dX0_count_127 q2024 q1772 q1773 q32 q1774 rfl rfl mX1_rushes_args ⟨Nat.le_of_ble_eq_true rfl, Nat.le_of_ble_eq_true rfl⟩ rfl (Nat.zero_le _) e47 (rk11 c50) (le_b mX1_rushes_c (Nat.le_refl _)) (le_b mX1_rushes_s (Nat.le_refl _)) rfl (Cal.mono h ?_)
    rintro s48 v ⟨x49, rfl, h⟩ hx51
    have h := h hx51
    have x52 := hx51.x
    show G w mX0_count (KI K) (rc) (rs) s48 130 [va_rf l0, .int l1] [.int x49]
    exact G_iret dX0_count_130 rfl ⟨_, rfl, h⟩
  have h := h.2
  by_cases u118 : l1 = 8
  · refine G_tableIn (off := 130) 131 dX0_count_1 (by have u118e := u118 <;> (rw [u118e]; decide)) (by have u118e := u118 <;> (rw [u118e]; decide)) (by have u118e := u118 <;> (rw [u118e]; rfl)) (by decide) ?_
    have h := h.1 u118
    refine G_aload_n 132 dX0_count_131 rfl rfl ?_
    obtain ⟨a53, e54, h⟩ := h
    obtain ⟨c55, h⟩ := h
    refine G_getR (f := 0) (a := a53) "" 135 dX0_count_132 (Or.inl q286) (Or.inl rfl) rfl e54 (hf0 c55) rfl ?_
    obtain ⟨a56, e57, h⟩ := h
    obtain ⟨c58, h⟩ := h
    refine G_getR (f := 8) (a := a56) "TrophyPlates" 138 dX0_count_135 (Or.inr q195) (Or.inl rfl) rfl e57 (hf8 c58) rfl ?_
    refine G_ifnonnull 146 141 dX0_count_138 (by decide) rfl (fun u59 => ?_) (fun u59 => ?_)
    · have h := h.1 u59
      refine G_aload_n 147 dX0_count_146 rfl rfl ?_
      refine G_getR (f := 0) (a := a53) "" 150 dX0_count_147 (Or.inl q286) (Or.inl rfl) rfl e54 (hf0 c55) rfl ?_
      refine G_getR (f := 4) (a := a56) "TrophyPlates" 153 dX0_count_150 (Or.inr q187) (Or.inl rfl) rfl e57 (hf4 c58) rfl ?_
      refine G_aload_n 154 dX0_count_153 rfl rfl ?_
      refine G_getR (f := 0) (a := a53) "" 157 dX0_count_154 (Or.inl q286) (Or.inl rfl) rfl e54 (hf0 c55) rfl ?_
      refine G_getR (f := 8) (a := a56) "TrophyPlates" 160 dX0_count_157 (Or.inr q195) (Or.inl rfl) rfl e57 (hf8 c58) rfl ?_
      obtain ⟨a60, e61, h⟩ := h
      obtain ⟨c64, h⟩ := h
      refine G_invF (N := mJ2_indexOf) (x := ⟨"java/util/List", "indexOf", "(Ljava/lang/Object;)I"⟩) (As := [va_rf (FR σ 8 a56)]) (st := []) (t := (FR σ 4 a56)) (b := a60) (rc + 1) (rs + 4) 165 dX0_count_160 q2026 q2029 q2031 q35 q2033 q2028 q2027 q2032 q2030 q307 rfl ax39 ⟨Nat.le_of_ble_eq_true rfl, Nat.le_of_ble_eq_true rfl⟩ rfl (Nat.zero_le _) e61 (rk20 c64) (le_b mJ2_indexOf_c (Nat.le_refl _)) (le_b mJ2_indexOf_s (Nat.le_refl _)) rfl (Cal.mono h ?_)
      rintro s62 v ⟨x63, rfl, h⟩ hx65
      have h := h hx65
      have x66 := hx65.x
      show G w mX0_count (KI K) (rc + 1) (rs + 4) s62 165 [va_rf l0, .int l1] [.int x63]
      exact G_iret dX0_count_165 rfl ⟨_, rfl, h⟩
    · have h := h.2 u59
      refine G_bipush (v := (-9)) 143 dX0_count_141 (by decide) rfl ?_
      refine G_goto 165 dX0_count_143 (by decide) ?_
      exact G_iret dX0_count_165 rfl ⟨_, rfl, h⟩
  have h := h.2
  by_cases u119 : l1 = 9
  · refine G_tableIn (off := 165) 166 dX0_count_1 (by have u119e := u119 <;> (rw [u119e]; decide)) (by have u119e := u119 <;> (rw [u119e]; decide)) (by have u119e := u119 <;> (rw [u119e]; rfl)) (by decide) ?_
    have h := h.1 u119
    refine G_aload_n 167 dX0_count_166 rfl rfl ?_
    obtain ⟨a67, e68, h⟩ := h
    obtain ⟨c69, h⟩ := h
    refine G_getR (f := 0) (a := a67) "" 170 dX0_count_167 (Or.inl q286) (Or.inl rfl) rfl e68 (hf0 c69) rfl ?_
    obtain ⟨a70, e71, h⟩ := h
    obtain ⟨c72, h⟩ := h
    refine G_getI (f := 11) (a := a70) "TrophyPlates" 173 dX0_count_170 (Or.inr q200) (Or.inl rfl) rfl e71 (hf11 c72) rfl ?_
    exact G_iret dX0_count_173 rfl ⟨_, rfl, h⟩
  have h := h.2
  by_cases u120 : l1 = 10
  · refine G_tableIn (off := 173) 174 dX0_count_1 (by have u120e := u120 <;> (rw [u120e]; decide)) (by have u120e := u120 <;> (rw [u120e]; decide)) (by have u120e := u120 <;> (rw [u120e]; rfl)) (by decide) ?_
    have h := h.1 u120
    refine G_aload_n 175 dX0_count_174 rfl rfl ?_
    obtain ⟨a73, e74, h⟩ := h
    obtain ⟨c75, h⟩ := h
    refine G_getR (f := 0) (a := a73) "" 178 dX0_count_175 (Or.inl q286) (Or.inl rfl) rfl e74 (hf0 c75) rfl ?_
    obtain ⟨a76, e77, h⟩ := h
    obtain ⟨c78, h⟩ := h
    refine G_getI (f := 9) (a := a76) "TrophyPlates" 181 dX0_count_178 (Or.inr q197) (Or.inl rfl) rfl e77 (hf9 c78) rfl ?_
    exact G_iret dX0_count_181 rfl ⟨_, rfl, h⟩
  have h := h.2
  by_cases u121 : l1 = 11
  · refine G_tableIn (off := 181) 182 dX0_count_1 (by have u121e := u121 <;> (rw [u121e]; decide)) (by have u121e := u121 <;> (rw [u121e]; decide)) (by have u121e := u121 <;> (rw [u121e]; rfl)) (by decide) ?_
    have h := h.1 u121
    refine G_aload_n 183 dX0_count_182 rfl rfl ?_
    obtain ⟨a79, e80, h⟩ := h
    obtain ⟨c81, h⟩ := h
    refine G_getR (f := 0) (a := a79) "" 186 dX0_count_183 (Or.inl q286) (Or.inl rfl) rfl e80 (hf0 c81) rfl ?_
    obtain ⟨a82, e83, h⟩ := h
    obtain ⟨c84, h⟩ := h
    refine G_getI (f := 12) (a := a82) "TrophyPlates" 189 dX0_count_186 (Or.inr q202) (Or.inl rfl) rfl e83 (hf12 c84) rfl ?_
    exact G_iret dX0_count_189 rfl ⟨_, rfl, h⟩
  have h := h.2
  by_cases u122 : l1 = 12
  · refine G_tableIn (off := 189) 190 dX0_count_1 (by have u122e := u122 <;> (rw [u122e]; decide)) (by have u122e := u122 <;> (rw [u122e]; decide)) (by have u122e := u122 <;> (rw [u122e]; rfl)) (by decide) ?_
    have h := h.1 u122
    refine G_aload_n 191 dX0_count_190 rfl rfl ?_
    obtain ⟨a85, e86, h⟩ := h
    obtain ⟨c87, h⟩ := h
    refine G_getR (f := 0) (a := a85) "" 194 dX0_count_191 (Or.inl q286) (Or.inl rfl) rfl e86 (hf0 c87) rfl ?_
    obtain ⟨a88, e89, h⟩ := h
    obtain ⟨c90, h⟩ := h
    refine G_getI (f := 13) (a := a88) "TrophyPlates" 197 dX0_count_194 (Or.inr q204) (Or.inl rfl) rfl e89 (hf13 c90) rfl ?_
    exact G_iret dX0_count_197 rfl ⟨_, rfl, h⟩
  have h := h.2
  by_cases u123 : l1 = 13
  · refine G_tableIn (off := 197) 198 dX0_count_1 (by have u123e := u123 <;> (rw [u123e]; decide)) (by have u123e := u123 <;> (rw [u123e]; decide)) (by have u123e := u123 <;> (rw [u123e]; rfl)) (by decide) ?_
    have h := h.1 u123
    refine G_aload_n 199 dX0_count_198 rfl rfl ?_
    obtain ⟨a91, e92, h⟩ := h
    obtain ⟨c93, h⟩ := h
    refine G_getR (f := 0) (a := a91) "" 202 dX0_count_199 (Or.inl q286) (Or.inl rfl) rfl e92 (hf0 c93) rfl ?_
    obtain ⟨a94, e95, h⟩ := h
    obtain ⟨c96, h⟩ := h
    refine G_getI (f := 14) (a := a94) "TrophyPlates" 205 dX0_count_202 (Or.inr q206) (Or.inl rfl) rfl e95 (hf14 c96) rfl ?_
    exact G_iret dX0_count_205 rfl ⟨_, rfl, h⟩
  have h := h.2
  by_cases u124 : l1 = 14
  · refine G_tableIn (off := 205) 206 dX0_count_1 (by have u124e := u124 <;> (rw [u124e]; decide)) (by have u124e := u124 <;> (rw [u124e]; decide)) (by have u124e := u124 <;> (rw [u124e]; rfl)) (by decide) ?_
    have h := h.1 u124
    refine G_aload_n 207 dX0_count_206 rfl rfl ?_
    obtain ⟨a97, e98, h⟩ := h
    obtain ⟨c99, h⟩ := h
    refine G_getR (f := 1) (a := a97) "" 210 dX0_count_207 (Or.inl q287) (Or.inl rfl) rfl e98 (hf1 c99) rfl ?_
    obtain ⟨a100, e101, h⟩ := h
    obtain ⟨c102, h⟩ := h
    refine G_getI (f := 17) (a := a100) "TrophyPlates" 213 dX0_count_210 (Or.inr q245) (Or.inl rfl) rfl e101 (hf17 c102) rfl ?_
    exact G_iret dX0_count_213 rfl ⟨_, rfl, h⟩
  have h := h.2
  by_cases u125 : l1 = 15
  · refine G_tableIn (off := 213) 214 dX0_count_1 (by have u125e := u125 <;> (rw [u125e]; decide)) (by have u125e := u125 <;> (rw [u125e]; decide)) (by have u125e := u125 <;> (rw [u125e]; rfl)) (by decide) ?_
    have h := h.1 u125
    refine G_aload_n 215 dX0_count_214 rfl rfl ?_
    obtain ⟨a103, e104, h⟩ := h
    obtain ⟨c105, h⟩ := h
    refine G_getR (f := 2) (a := a103) "" 218 dX0_count_215 (Or.inl q288) (Or.inl rfl) rfl e104 (hf2 c105) rfl ?_
    obtain ⟨a106, e107, h⟩ := h
    obtain ⟨c110, h⟩ := h
    refine G_invV (N := mJ7_length) (As := []) (st := []) (t := (FR σ 2 a103)) (b := a106) (rc + 1) (rs + 4) 221 dX0_count_218 q1537 q1538 q1539 q41 q1540 rfl rfl mJ7_length_args ⟨Nat.le_of_ble_eq_true rfl, Nat.le_of_ble_eq_true rfl⟩ rfl (Nat.zero_le _) e107 (rk23 c110) (le_b mJ7_length_c (Nat.le_refl _)) (le_b mJ7_length_s (Nat.le_refl _)) rfl (Cal.mono h ?_)
    rintro s108 v ⟨x109, rfl, h⟩ hx111
    have h := h hx111
    have x112 := hx111.x
    show G w mX0_count (KI K) (rc + 1) (rs + 4) s108 221 [va_rf l0, .int l1] [.int x109]
    exact G_iret dX0_count_221 rfl ⟨_, rfl, h⟩
  have h := h.2
  have h := h ⟨u113.1, u113.2.1, u113.2.2.1, u113.2.2.2, u114, u115, u116, u117, u118, u119, u120, u121, u122, u123, u124, u125⟩
  by_cases r126 : l1.toInt < 0 ∨ 15 < l1.toInt
  · refine G_tableOut 222 dX0_count_1 r126 (by decide) ?_
    refine G_iconst (v := (-1)) 223 dX0_count_222 (by decide) rfl ?_
    exact G_iret dX0_count_223 rfl ⟨_, rfl, h⟩
  have := lv_neT (k := 0) (a := 0) u113.1 (by decide)
  have := lv_neT (k := 1) (a := 1) u113.2.1 (by decide)
  have := lv_neT (k := 2) (a := 2) u113.2.2.1 (by decide)
  have := lv_neT (k := 3) (a := 3) u113.2.2.2 (by decide)
  have := lv_neT (k := 4) (a := 4) u114 (by decide)
  have := lv_neT (k := 5) (a := 5) u115 (by decide)
  have := lv_neT (k := 6) (a := 6) u116 (by decide)
  have := lv_neT (k := 7) (a := 7) u117 (by decide)
  have := lv_neT (k := 8) (a := 8) u118 (by decide)
  have := lv_neT (k := 9) (a := 9) u119 (by decide)
  have := lv_neT (k := 10) (a := 10) u120 (by decide)
  have := lv_neT (k := 11) (a := 11) u121 (by decide)
  have := lv_neT (k := 12) (a := 12) u122 (by decide)
  have := lv_neT (k := 13) (a := 13) u123 (by decide)
  have := lv_neT (k := 14) (a := 14) u124 (by decide)
  have := lv_neT (k := 15) (a := 15) u125 (by decide)
  omega
theorem eX0_count {w : Wt} {K : Sg → Int32 → Prop} {σ : Sg} (l0 : Option Nat) (l1 : Int32) (h : G w mX0_count (KI K) 1 4 σ 0 [va_rf l0, .int l1] []) : CalI w mX0_count σ [va_rf l0, .int l1] K :=
  Cal.start 0 mX0_count_plain (catR (catI cat0)) (Nat.le_of_ble_eq_true rfl) rfl h
set_option maxHeartbeats 4000000 in
theorem bX0_plate_0 {w : Wt} {K : Sg → Int32 → Prop} {rc rs : Nat} {σ : Sg} (l0 : Option Nat) (l1 : Int32) (l2 : Int32) (h : ∃ a1, l0 = some a1 ∧ kd σ a1 = 10 ∧ ∃ a4, FR σ 0 a1 = some a4 ∧ kd σ a4 = 11 ∧ CalI w mX1_isPlate σ [va_rf (FR σ 0 a1), .int l1] (fun s6 x7 => Ext σ s6 → ((¬ x7 = 0 → ∃ a12, FR s6 0 a1 = some a12 ∧ kd s6 a12 = 11 ∧ ∃ a15, FR s6 3 a12 = some a15 ∧ kd s6 a15 = 20 ∧ CalR w mJ2_get s6 [va_rf (FR s6 3 a12), .int l1] (fun s17 x18 => Ext s6 s17 → (x18 = none ∨ ∃ b, x18 = some b ∧ kd s17 b = 15) ∧ (((l2 = 0) → ∃ a23, x18 = some a23 ∧ kd s17 a23 = 15 ∧ K s17 (FI s17 33 a23)) ∧ ((l2 = 1) → ∃ a26, x18 = some a26 ∧ kd s17 a26 = 15 ∧ K s17 (FI s17 34 a26)) ∧ ((l2 = 2) → ∃ a29, x18 = some a29 ∧ kd s17 a29 = 15 ∧ K s17 (FI s17 35 a29)) ∧ ((l2 = 3 ∨ l2 = 4) → ∃ a32, x18 = some a32 ∧ kd s17 a32 = 15 ∧ ∃ a35, FR s17 36 a32 = some a35 ∧ kd s17 a35 ∈ [1, 5] ∧ vp_in (l2 - 3) (ln s17 a35) ∧ K s17 (AI s17 a35 (l2 - 3).toNatClampNeg)) ∧ ((l2 = 5 ∨ l2 = 6) → CalR w mX0_whereIs s17 [va_rf l0, .int l1] (fun s39 x40 => Ext s17 s39 → ∃ a43, x40 = some a43 ∧ kd s39 a43 ∈ [1, 5] ∧ vp_in (l2 - 5) (ln s39 a43) ∧ K s39 (AI s39 a43 (l2 - 5).toNatClampNeg))) ∧ (¬ l2 = 0 ∧ ¬ l2 = 1 ∧ ¬ l2 = 2 ∧ ¬ l2 = 3 ∧ ¬ l2 = 4 ∧ ¬ l2 = 5 ∧ ¬ l2 = 6 → K s17 (-1))))) ∧ (x7 = 0 → K s6 (-1))))) : G w mX0_plate (KI K) (rc + 3) (rs + 9) σ 0 [va_rf l0, .int l1, .int l2, U_] [] := by
  refine G_aload_n 1 dX0_plate_0 rfl rfl ?_
  obtain ⟨a1, e2, h⟩ := h
  obtain ⟨c3, h⟩ := h
  refine G_getR (f := 0) (a := a1) "" 4 dX0_plate_1 (Or.inl q286) (Or.inl rfl) rfl e2 (hf0 c3) rfl ?_
  refine G_iload_n 5 dX0_plate_4 rfl rfl ?_
  obtain ⟨a4, e5, h⟩ := h
  obtain ⟨c8, h⟩ := h
  refine G_invV (N := mX1_isPlate) (As := [.int l1]) (st := []) (t := (FR σ 0 a1)) (b := a4) (rc + 3) (rs + 9) 8 dX0_plate_5 q1382 q1383 q1384 q32 q1385 rfl rfl mX1_isPlate_args ⟨Nat.le_of_ble_eq_true rfl, Nat.le_of_ble_eq_true rfl⟩ rfl (Nat.zero_le _) e5 (rk11 c8) (le_b mX1_isPlate_c (Nat.le_refl _)) (le_b mX1_isPlate_s (Nat.le_refl _)) rfl (Cal.mono h ?_)
  rintro s6 v ⟨x7, rfl, h⟩ hx9
  have h := h hx9
  have x10 := hx9.x
  show G w mX0_plate (KI K) (rc + 3) (rs + 9) s6 8 [va_rf l0, .int l1, .int l2, U_] [.int x7]
  refine G_if_ne 13 11 dX0_plate_8 (by decide) rfl (fun u11 => ?_) (fun u11 => ?_)
  · have h := h.1 u11
    refine G_aload_n 14 dX0_plate_13 rfl rfl ?_
    have c3 := kdE x10 c3 (by decide)
    refine G_getR (f := 0) (a := a1) "" 17 dX0_plate_14 (Or.inl q286) (Or.inl rfl) rfl e2 (hf0 c3) rfl ?_
    obtain ⟨a12, e13, h⟩ := h
    obtain ⟨c14, h⟩ := h
    refine G_getR (f := 3) (a := a12) "TrophyPlates" 20 dX0_plate_17 (Or.inr q185) (Or.inl rfl) rfl e13 (hf3 c14) rfl ?_
    refine G_iload_n 21 dX0_plate_20 rfl rfl ?_
    obtain ⟨a15, e16, h⟩ := h
    obtain ⟨c19, h⟩ := h
    refine G_invF (N := mJ2_get) (x := ⟨"java/util/List", "get", "(I)Ljava/lang/Object;"⟩) (As := [.int l1]) (st := []) (t := (FR s6 3 a12)) (b := a15) (rc + 3) (rs + 9) 26 dX0_plate_21 q1390 q1393 q1395 q35 q1397 q1392 q1391 q1396 q1394 q307 rfl ax32 ⟨Nat.le_of_ble_eq_true rfl, Nat.le_of_ble_eq_true rfl⟩ rfl (Nat.zero_le _) e16 (rk20 c19) (le_b mJ2_get_c (Nat.le_refl _)) (le_b mJ2_get_s (Nat.le_refl _)) rfl (Cal.mono h ?_)
    rintro s17 v ⟨x18, rfl, h⟩ hx20
    have h := h hx20
    have x21 := hx20.x
    show G w mX0_plate (KI K) (rc + 3) (rs + 9) s17 26 [va_rf l0, .int l1, .int l2, U_] [va_rf x18]
    obtain ⟨c22, h⟩ := h
    refine G_cast 29 dX0_plate_26 q1372 rfl (c22.imp id (fun ⟨b, e, k⟩ => ⟨b, e, co4 k⟩)) ?_
    refine G_astore_n 30 [va_rf l0, .int l1, .int l2, va_rf x18] dX0_plate_29 (Nat.le_of_ble_eq_true rfl) rfl rfl ?_
    refine G_iload_n 31 dX0_plate_30 rfl rfl ?_
    by_cases u47 : l2 = 0
    · refine G_tableIn (off := 41) 72 dX0_plate_31 (by have u47e := u47 <;> (rw [u47e]; decide)) (by have u47e := u47 <;> (rw [u47e]; decide)) (by have u47e := u47 <;> (rw [u47e]; rfl)) (by decide) ?_
      have h := h.1 u47
      refine G_aload_n 73 dX0_plate_72 rfl rfl ?_
      obtain ⟨a23, e24, h⟩ := h
      obtain ⟨c25, h⟩ := h
      refine G_getI (f := 33) (a := a23) "TrophyPlates" 76 dX0_plate_73 (Or.inr q477) (Or.inl rfl) rfl e24 (hf33 c25) rfl ?_
      exact G_iret dX0_plate_76 rfl ⟨_, rfl, h⟩
    have h := h.2
    by_cases u48 : l2 = 1
    · refine G_tableIn (off := 46) 77 dX0_plate_31 (by have u48e := u48 <;> (rw [u48e]; decide)) (by have u48e := u48 <;> (rw [u48e]; decide)) (by have u48e := u48 <;> (rw [u48e]; rfl)) (by decide) ?_
      have h := h.1 u48
      refine G_aload_n 78 dX0_plate_77 rfl rfl ?_
      obtain ⟨a26, e27, h⟩ := h
      obtain ⟨c28, h⟩ := h
      refine G_getI (f := 34) (a := a26) "TrophyPlates" 81 dX0_plate_78 (Or.inr q479) (Or.inl rfl) rfl e27 (hf34 c28) rfl ?_
      exact G_iret dX0_plate_81 rfl ⟨_, rfl, h⟩
    have h := h.2
    by_cases u49 : l2 = 2
    · refine G_tableIn (off := 51) 82 dX0_plate_31 (by have u49e := u49 <;> (rw [u49e]; decide)) (by have u49e := u49 <;> (rw [u49e]; decide)) (by have u49e := u49 <;> (rw [u49e]; rfl)) (by decide) ?_
      have h := h.1 u49
      refine G_aload_n 83 dX0_plate_82 rfl rfl ?_
      obtain ⟨a29, e30, h⟩ := h
      obtain ⟨c31, h⟩ := h
      refine G_getI (f := 35) (a := a29) "TrophyPlates" 86 dX0_plate_83 (Or.inr q483) (Or.inl rfl) rfl e30 (hf35 c31) rfl ?_
      exact G_iret dX0_plate_86 rfl ⟨_, rfl, h⟩
    have h := h.2
    by_cases u50 : l2 = 3 ∨ l2 = 4
    · refine G_tableIn (off := 56) 87 dX0_plate_31 (by rcases u50 with u50e | u50e <;> (rw [u50e]; decide)) (by rcases u50 with u50e | u50e <;> (rw [u50e]; decide)) (by rcases u50 with u50e | u50e <;> (rw [u50e]; rfl)) (by decide) ?_
      have h := h.1 u50
      refine G_aload_n 88 dX0_plate_87 rfl rfl ?_
      obtain ⟨a32, e33, h⟩ := h
      obtain ⟨c34, h⟩ := h
      refine G_getR (f := 36) (a := a32) "TrophyPlates" 91 dX0_plate_88 (Or.inr q485) (Or.inl rfl) rfl e33 (hf36 c34) rfl ?_
      refine G_iload_n 92 dX0_plate_91 rfl rfl ?_
      refine G_iconst (v := 3) 93 dX0_plate_92 (by decide) rfl ?_
      refine G_isub 94 dX0_plate_93 rfl ?_
      obtain ⟨a35, e36, h⟩ := h
      obtain ⟨c37, h⟩ := h
      obtain ⟨c38, h⟩ := h
      refine G_iald (a := a35) 95 dX0_plate_94 rfl e36 c37 c38 ?_
      exact G_iret dX0_plate_95 rfl ⟨_, rfl, h⟩
    have h := h.2
    rw [not_or] at u50
    by_cases u51 : l2 = 5 ∨ l2 = 6
    · refine G_tableIn (off := 65) 96 dX0_plate_31 (by rcases u51 with u51e | u51e <;> (rw [u51e]; decide)) (by rcases u51 with u51e | u51e <;> (rw [u51e]; decide)) (by rcases u51 with u51e | u51e <;> (rw [u51e]; rfl)) (by decide) ?_
      have h := h.1 u51
      refine G_aload_n 97 dX0_plate_96 rfl rfl ?_
      refine G_iload_n 98 dX0_plate_97 rfl rfl ?_
      have c3 := kdE x21 c3 (by decide)
      refine G_invV (N := mX0_whereIs) (As := [.int l1]) (st := []) (t := l0) (b := a1) (rc) (rs) 101 dX0_plate_98 q2042 q2044 qs15 q31 q2045 rfl rfl mX0_whereIs_args ⟨Nat.le_of_ble_eq_true rfl, Nat.le_of_ble_eq_true rfl⟩ rfl (Nat.zero_le _) e2 (rk10 c3) (le_b mX0_whereIs_c (Nat.le_refl _)) (le_b mX0_whereIs_s (Nat.le_refl _)) rfl (Cal.mono h ?_)
      rintro s39 v ⟨x40, rfl, h⟩ hx41
      have h := h hx41
      have x42 := hx41.x
      show G w mX0_plate (KI K) (rc) (rs) s39 101 [va_rf l0, .int l1, .int l2, va_rf x18] [va_rf x40]
      refine G_iload_n 102 dX0_plate_101 rfl rfl ?_
      refine G_iconst (v := 5) 103 dX0_plate_102 (by decide) rfl ?_
      refine G_isub 104 dX0_plate_103 rfl ?_
      obtain ⟨a43, e44, h⟩ := h
      obtain ⟨c45, h⟩ := h
      obtain ⟨c46, h⟩ := h
      refine G_iald (a := a43) 105 dX0_plate_104 rfl e44 c45 c46 ?_
      exact G_iret dX0_plate_105 rfl ⟨_, rfl, h⟩
    have h := h.2
    rw [not_or] at u51
    have h := h ⟨u47, u48, u49, u50.1, u50.2, u51.1, u51.2⟩
    by_cases r52 : l2.toInt < 0 ∨ 6 < l2.toInt
    · refine G_tableOut 106 dX0_plate_31 r52 (by decide) ?_
      refine G_iconst (v := (-1)) 107 dX0_plate_106 (by decide) rfl ?_
      exact G_iret dX0_plate_107 rfl ⟨_, rfl, h⟩
    have := lv_neT (k := 0) (a := 0) u47 (by decide)
    have := lv_neT (k := 1) (a := 1) u48 (by decide)
    have := lv_neT (k := 2) (a := 2) u49 (by decide)
    have := lv_neT (k := 3) (a := 3) u50.1 (by decide)
    have := lv_neT (k := 4) (a := 4) u50.2 (by decide)
    have := lv_neT (k := 5) (a := 5) u51.1 (by decide)
    have := lv_neT (k := 6) (a := 6) u51.2 (by decide)
    omega
  · have h := h.2 u11
    refine G_iconst (v := (-1)) 12 dX0_plate_11 (by decide) rfl ?_
    exact G_iret dX0_plate_12 rfl ⟨_, rfl, h⟩
theorem eX0_plate {w : Wt} {K : Sg → Int32 → Prop} {σ : Sg} (l0 : Option Nat) (l1 : Int32) (l2 : Int32) (h : G w mX0_plate (KI K) 3 9 σ 0 [va_rf l0, .int l1, .int l2, U_] []) : CalI w mX0_plate σ [va_rf l0, .int l1, .int l2] K :=
  Cal.start 1 mX0_plate_plain (catR (catI (catI cat0))) (Nat.le_of_ble_eq_true rfl) rfl h
set_option maxHeartbeats 4000000 in
theorem bX0_whereIs_0 {w : Wt} {K : Sg → Option Nat → Prop} {rc rs : Nat} {σ : Sg} (l0 : Option Nat) (l1 : Int32) (h : ∀ n2, n2 = nx σ → kd σ n2 = 0 → ∀ s3, s3 = nA σ 1 2 → vp_in 0 (ln s3 n2) ∧ ∀ s7, s7 = sAI s3 n2 (0 : Int32).toNatClampNeg (-9) → vp_in 1 (ln s7 n2) ∧ ∀ s10, s10 = sAI s7 n2 (1 : Int32).toNatClampNeg (-9) → ∃ a12, l0 = some a12 ∧ kd s10 a12 = 10 ∧ ∃ a15, FR s10 0 a12 = some a15 ∧ kd s10 a15 = 11 ∧ ∃ a18, FR s10 5 a15 = some a18 ∧ kd s10 a18 = 21 ∧ CalR w mJ5_entrySet s10 [va_rf (FR s10 5 a15)] (fun s20 x21 => Ext s10 s20 → ∃ a25, x21 = some a25 ∧ kd s20 a25 = 25 ∧ CalR w mJ16_iterator s20 [va_rf x21] (fun s27 x28 => Ext s20 s27 → G w mX0_whereIs (KR K) (rc) (rs) s27 32 [va_rf l0, .int l1, va_rf (some n2), va_rf x28, U_] []))) : G w mX0_whereIs (KR K) (rc + 3) (rs + 9) σ 0 [va_rf l0, .int l1, U_, U_, U_] [] := by
  refine G_iconst (v := 2) 1 dX0_whereIs_0 (by decide) rfl ?_
  refine G_newI (N := 2) (rc + 2) (rs + 7) 3 dX0_whereIs_1 rfl (by decide) rfl (Nat.le_refl _) (Nat.le_refl _) q232 (fun z1 => ?_)
  generalize hn2 : nx σ = n2 at z1 ⊢
  generalize hs3 : nA σ 1 2 = s3
  have x4 : ∀ a, ¬ kd σ a = 0 → kd s3 a = kd σ a := by subst hs3 hn2; exact kdAx z1
  have c5 : kd s3 n2 = 1 := by subst hs3 hn2; exact kdA_self
  have h := h n2 hn2.symm z1 s3 hs3.symm
  refine G_dup 4 dX0_whereIs_3 (rf_cat _) rfl ?_
  refine G_iconst (v := 0) 5 dX0_whereIs_4 (by decide) rfl ?_
  refine G_bipush (v := (-9)) 7 dX0_whereIs_5 (by decide) rfl ?_
  obtain ⟨c6, h⟩ := h
  refine G_iast (a := n2) 8 dX0_whereIs_7 rfl rfl c5 c6 ?_
  generalize hs7 : sAI s3 n2 (0 : Int32).toNatClampNeg (-9) = s7
  have x8 : ∀ a, ¬ kd s3 a = 0 → kd s7 a = kd s3 a := by subst hs7; exact fun a _ => congrFun kd_sAI a
  have h := h s7 hs7.symm
  refine G_dup 9 dX0_whereIs_8 (rf_cat _) rfl ?_
  refine G_iconst (v := 1) 10 dX0_whereIs_9 (by decide) rfl ?_
  refine G_bipush (v := (-9)) 12 dX0_whereIs_10 (by decide) rfl ?_
  have c5 := kdE x8 c5 (by decide)
  obtain ⟨c9, h⟩ := h
  refine G_iast (a := n2) 13 dX0_whereIs_12 rfl rfl c5 c9 ?_
  generalize hs10 : sAI s7 n2 (1 : Int32).toNatClampNeg (-9) = s10
  have x11 : ∀ a, ¬ kd s7 a = 0 → kd s10 a = kd s7 a := by subst hs10; exact fun a _ => congrFun kd_sAI a
  have h := h s10 hs10.symm
  refine G_astore_n 14 [va_rf l0, .int l1, va_rf (some n2), U_, U_] dX0_whereIs_13 (Nat.le_of_ble_eq_true rfl) rfl rfl ?_
  refine G_aload_n 15 dX0_whereIs_14 rfl rfl ?_
  obtain ⟨a12, e13, h⟩ := h
  obtain ⟨c14, h⟩ := h
  refine G_getR (f := 0) (a := a12) "" 18 dX0_whereIs_15 (Or.inl q286) (Or.inl rfl) rfl e13 (hf0 c14) rfl ?_
  obtain ⟨a15, e16, h⟩ := h
  obtain ⟨c17, h⟩ := h
  refine G_getR (f := 5) (a := a15) "TrophyPlates" 21 dX0_whereIs_18 (Or.inr q189) (Or.inl rfl) rfl e16 (hf5 c17) rfl ?_
  obtain ⟨a18, e19, h⟩ := h
  obtain ⟨c22, h⟩ := h
  refine G_invF (N := mJ5_entrySet) (x := ⟨"java/util/Map", "entrySet", "()Ljava/util/Set;"⟩) (As := []) (st := []) (t := (FR s10 5 a15)) (b := a18) (rc + 1) (rs + 5) 26 dX0_whereIs_21 q2047 q603 q605 q38 q607 q582 q581 q606 q604 q602 rfl ax27 ⟨Nat.le_of_ble_eq_true rfl, Nat.le_of_ble_eq_true rfl⟩ rfl (Nat.zero_le _) e19 (rk21 c22) (le_b mJ5_entrySet_c (Nat.le_refl _)) (le_b mJ5_entrySet_s (Nat.le_refl _)) rfl (Cal.mono h ?_)
  rintro s20 v ⟨x21, rfl, h⟩ hx23
  have h := h hx23
  have x24 := hx23.x
  show G w mX0_whereIs (KR K) (rc + 1) (rs + 5) s20 26 [va_rf l0, .int l1, va_rf (some n2), U_, U_] [va_rf x21]
  obtain ⟨a25, e26, h⟩ := h
  obtain ⟨c29, h⟩ := h
  refine G_invF (N := mJ16_iterator) (x := ⟨"java/util/Set", "iterator", "()Ljava/util/Iterator;"⟩) (As := []) (st := []) (t := x21) (b := a25) (rc) (rs) 31 dX0_whereIs_26 q2049 q723 q725 q54 q727 q629 q628 q726 q724 q722 rfl ax26 ⟨Nat.le_of_ble_eq_true rfl, Nat.le_of_ble_eq_true rfl⟩ rfl (Nat.zero_le _) e26 (rk25 c29) (le_b mJ16_iterator_c (Nat.le_refl _)) (le_b mJ16_iterator_s (Nat.le_refl _)) rfl (Cal.mono h ?_)
  rintro s27 v ⟨x28, rfl, h⟩ hx30
  have h := h hx30
  have x31 := hx30.x
  show G w mX0_whereIs (KR K) (rc) (rs) s27 31 [va_rf l0, .int l1, va_rf (some n2), U_, U_] [va_rf x28]
  refine G_astore_n 32 [va_rf l0, .int l1, va_rf (some n2), va_rf x28, U_] dX0_whereIs_31 (Nat.le_of_ble_eq_true rfl) rfl rfl ?_
  exact h
set_option maxHeartbeats 4000000 in
theorem bX0_whereIs_32 {w : Wt} {K : Sg → Option Nat → Prop} {rc rs : Nat} {σ : Sg} (l0 : Option Nat) (l1 : Int32) (l2 : Option Nat) (l3 : Option Nat) (v4 : Value) (h : ∃ a1, l3 = some a1 ∧ kd σ a1 = 27 ∧ CalI w mJ22_hasNext σ [va_rf l3] (fun s3 x4 => Ext σ s3 → ((x4 = 0 → K s3 l2) ∧ (¬ x4 = 0 → CalR w mJ23_next s3 [va_rf l3] (fun s9 x10 => Ext s3 s9 → (x10 = none ∨ ∃ b, x10 = some b ∧ kd s9 b ∈ [30, 31, 32]) ∧ ∃ a14, x10 = some a14 ∧ kd s9 a14 ∈ [30, 31, 32] ∧ CalR w mJ28_getValue s9 [va_rf x10] (fun s16 x17 => Ext s9 s16 → (x17 = none ∨ ∃ b, x17 = some b ∧ kd s16 b ∈ [29, 6]) ∧ ∃ a22, x17 = some a22 ∧ kd s16 a22 ∈ [29, 6] ∧ CalI w mJ26_intValue s16 [va_rf x17] (fun s24 x25 => Ext s16 s24 → ((¬ x25 = l1 → G w mX0_whereIs (KR K) (rc) (rs) s24 32 [va_rf l0, .int l1, va_rf l2, va_rf l3, va_rf x10] []) ∧ (x25 = l1 → CalR w mJ28_getKey s24 [va_rf x10] (fun s30 x31 => Ext s24 s30 → (x31 = none ∨ ∃ b, x31 = some b ∧ kd s30 b = 16) ∧ ∃ a35, x31 = some a35 ∧ kd s30 a35 = 16 ∧ ∃ a38, l2 = some a38 ∧ kd s30 a38 = 1 ∧ vp_in 0 (ln s30 a38) ∧ ∀ s42, s42 = sAI s30 a38 (0 : Int32).toNatClampNeg (FI s30 37 a35) → CalR w mJ28_getKey s42 [va_rf x10] (fun s44 x45 => Ext s42 s44 → (x45 = none ∨ ∃ b, x45 = some b ∧ kd s44 b = 16) ∧ ∃ a49, x45 = some a49 ∧ kd s44 a49 = 16 ∧ vp_in 1 (ln s44 a38) ∧ ∀ s53, s53 = sAI s44 a38 (1 : Int32).toNatClampNeg (FI s44 38 a49) → G w mX0_whereIs (KR K) (rc) (rs) s53 32 [va_rf l0, .int l1, va_rf l2, va_rf l3, va_rf x10] []))))))))))) : G w mX0_whereIs (KR K) (rc) (rs) σ 32 [va_rf l0, .int l1, va_rf l2, va_rf l3, v4] [] := by
  refine G_aload_n 33 dX0_whereIs_32 rfl rfl ?_
  obtain ⟨a1, e2, h⟩ := h
  obtain ⟨c5, h⟩ := h
  refine G_invF (N := mJ22_hasNext) (x := ⟨"java/util/Iterator", "hasNext", "()Z"⟩) (As := []) (st := []) (t := l3) (b := a1) (rc) (rs) 38 dX0_whereIs_33 q2051 q390 q392 q60 q394 q373 q372 q393 q391 q389 rfl ax25 ⟨Nat.le_of_ble_eq_true rfl, Nat.le_of_ble_eq_true rfl⟩ rfl (Nat.zero_le _) e2 (rk27 c5) (le_b mJ22_hasNext_c (Nat.le_refl _)) (le_b mJ22_hasNext_s (Nat.le_refl _)) rfl (Cal.mono h ?_)
  rintro s3 v ⟨x4, rfl, h⟩ hx6
  have h := h hx6
  have x7 := hx6.x
  show G w mX0_whereIs (KR K) (rc) (rs) s3 38 [va_rf l0, .int l1, va_rf l2, va_rf l3, v4] [.int x4]
  refine G_if_eq 104 41 dX0_whereIs_38 (by decide) rfl (fun u8 => ?_) (fun u8 => ?_)
  · have h := h.1 u8
    refine G_aload_n 105 dX0_whereIs_104 rfl rfl ?_
    exact G_aret dX0_whereIs_105 rfl (Or.inr ⟨_, rfl⟩) ⟨_, rfl, h⟩
  · have h := h.2 u8
    refine G_aload_n 42 dX0_whereIs_41 rfl rfl ?_
    have c5 := kdE x7 c5 (by decide)
    refine G_invF (N := mJ23_next) (x := ⟨"java/util/Iterator", "next", "()Ljava/lang/Object;"⟩) (As := []) (st := []) (t := l3) (b := a1) (rc) (rs) 47 dX0_whereIs_42 q2053 q434 q436 q61 q438 q401 q400 q437 q435 q389 rfl ax24 ⟨Nat.le_of_ble_eq_true rfl, Nat.le_of_ble_eq_true rfl⟩ rfl (Nat.zero_le _) e2 (rk27 c5) (le_b mJ23_next_c (Nat.le_refl _)) (le_b mJ23_next_s (Nat.le_refl _)) rfl (Cal.mono h ?_)
    rintro s9 v ⟨x10, rfl, h⟩ hx11
    have h := h hx11
    have x12 := hx11.x
    show G w mX0_whereIs (KR K) (rc) (rs) s9 47 [va_rf l0, .int l1, va_rf l2, va_rf l3, v4] [va_rf x10]
    obtain ⟨c13, h⟩ := h
    refine G_cast 50 dX0_whereIs_47 q2054 rfl (c13.imp id (fun ⟨b, e, k⟩ => ⟨b, e, co6 k⟩)) ?_
    refine G_astore 52 [va_rf l0, .int l1, va_rf l2, va_rf l3, va_rf x10] dX0_whereIs_50 (Nat.le_of_ble_eq_true rfl) rfl rfl ?_
    refine G_aload 54 dX0_whereIs_52 rfl rfl ?_
    obtain ⟨a14, e15, h⟩ := h
    obtain ⟨c18, h⟩ := h
    have fin : Cal w mJ28_getValue s9 [va_rf x10] (fun σ1 v => Ext s9 σ1 → G w mX0_whereIs (KR K) (rc) (rs) σ1 59 [va_rf l0, .int l1, va_rf l2, va_rf l3, va_rf x10] (v.toList ++ [])) := by
      refine Cal.mono h ?_
      rintro s16 v ⟨x17, rfl, h⟩ hx19
      have h := h hx19
      have x20 := hx19.x
      show G w mX0_whereIs (KR K) (rc) (rs) s16 59 [va_rf l0, .int l1, va_rf l2, va_rf l3, va_rf x10] [va_rf x17]
      obtain ⟨c21, h⟩ := h
      refine G_cast 62 dX0_whereIs_59 q2057 rfl (c21.imp id (fun ⟨b, e, k⟩ => ⟨b, e, co7 k⟩)) ?_
      obtain ⟨a22, e23, h⟩ := h
      obtain ⟨c26, h⟩ := h
      refine G_invV (N := mJ26_intValue) (As := []) (st := []) (t := x17) (b := a22) (rc) (rs) 65 dX0_whereIs_62 q2058 q1270 q1271 q64 q1272 rfl rfl mJ26_intValue_args ⟨Nat.le_of_ble_eq_true rfl, Nat.le_of_ble_eq_true rfl⟩ rfl (Nat.zero_le _) e23 (rk29 c26) (le_b mJ26_intValue_c (Nat.le_refl _)) (le_b mJ26_intValue_s (Nat.le_refl _)) rfl (Cal.mono h ?_)
      rintro s24 v ⟨x25, rfl, h⟩ hx27
      have h := h hx27
      have x28 := hx27.x
      show G w mX0_whereIs (KR K) (rc) (rs) s24 65 [va_rf l0, .int l1, va_rf l2, va_rf l3, va_rf x10] [.int x25]
      refine G_iload_n 66 dX0_whereIs_65 rfl rfl ?_
      refine G_icmp_ne 101 69 dX0_whereIs_66 (by decide) rfl (fun u29 => ?_) (fun u29 => ?_)
      · have h := h.1 u29
        refine G_goto 32 dX0_whereIs_101 (by decide) ?_
        exact h
      · have h := h.2 u29
        refine G_aload_n 70 dX0_whereIs_69 rfl rfl ?_
        refine G_iconst (v := 0) 71 dX0_whereIs_70 (by decide) rfl ?_
        refine G_aload 73 dX0_whereIs_71 rfl rfl ?_
        have c18 := kdM x20 c18 (by decide)
        have c18 := kdM x28 c18 (by decide)
        have fin : Cal w mJ28_getKey s24 [va_rf x10] (fun σ1 v => Ext s24 σ1 → G w mX0_whereIs (KR K) (rc) (rs) σ1 78 [va_rf l0, .int l1, va_rf l2, va_rf l3, va_rf x10] (v.toList ++ [.int 0, va_rf l2])) := by
          refine Cal.mono h ?_
          rintro s30 v ⟨x31, rfl, h⟩ hx32
          have h := h hx32
          have x33 := hx32.x
          show G w mX0_whereIs (KR K) (rc) (rs) s30 78 [va_rf l0, .int l1, va_rf l2, va_rf l3, va_rf x10] [va_rf x31, .int 0, va_rf l2]
          obtain ⟨c34, h⟩ := h
          refine G_cast 81 dX0_whereIs_78 q1640 rfl (c34.imp id (fun ⟨b, e, k⟩ => ⟨b, e, co0 k⟩)) ?_
          obtain ⟨a35, e36, h⟩ := h
          obtain ⟨c37, h⟩ := h
          refine G_getI (f := 37) (a := a35) "TrophyPlates" 84 dX0_whereIs_81 (Or.inr q1458) (Or.inl rfl) rfl e36 (hf37 c37) rfl ?_
          obtain ⟨a38, e39, h⟩ := h
          obtain ⟨c40, h⟩ := h
          obtain ⟨c41, h⟩ := h
          refine G_iast (a := a38) 85 dX0_whereIs_84 rfl e39 c40 c41 ?_
          generalize hs42 : sAI s30 a38 (0 : Int32).toNatClampNeg (FI s30 37 a35) = s42
          have x43 : ∀ a, ¬ kd s30 a = 0 → kd s42 a = kd s30 a := by subst hs42; exact fun a _ => congrFun kd_sAI a
          have h := h s42 hs42.symm
          refine G_aload_n 86 dX0_whereIs_85 rfl rfl ?_
          refine G_iconst (v := 1) 87 dX0_whereIs_86 (by decide) rfl ?_
          refine G_aload 89 dX0_whereIs_87 rfl rfl ?_
          have c18 := kdM x33 c18 (by decide)
          have c18 := kdM x43 c18 (by decide)
          have fin : Cal w mJ28_getKey s42 [va_rf x10] (fun σ1 v => Ext s42 σ1 → G w mX0_whereIs (KR K) (rc) (rs) σ1 94 [va_rf l0, .int l1, va_rf l2, va_rf l3, va_rf x10] (v.toList ++ [.int 1, va_rf l2])) := by
            refine Cal.mono h ?_
            rintro s44 v ⟨x45, rfl, h⟩ hx46
            have h := h hx46
            have x47 := hx46.x
            show G w mX0_whereIs (KR K) (rc) (rs) s44 94 [va_rf l0, .int l1, va_rf l2, va_rf l3, va_rf x10] [va_rf x45, .int 1, va_rf l2]
            obtain ⟨c48, h⟩ := h
            refine G_cast 97 dX0_whereIs_94 q1640 rfl (c48.imp id (fun ⟨b, e, k⟩ => ⟨b, e, co0 k⟩)) ?_
            obtain ⟨a49, e50, h⟩ := h
            obtain ⟨c51, h⟩ := h
            refine G_getI (f := 38) (a := a49) "TrophyPlates" 100 dX0_whereIs_97 (Or.inr q1461) (Or.inl rfl) rfl e50 (hf38 c51) rfl ?_
            have c40 := kdE x43 c40 (by decide)
            have c40 := kdE x47 c40 (by decide)
            obtain ⟨c52, h⟩ := h
            refine G_iast (a := a38) 101 dX0_whereIs_100 rfl e39 c40 c52 ?_
            generalize hs53 : sAI s44 a38 (1 : Int32).toNatClampNeg (FI s44 38 a49) = s53
            have x54 : ∀ a, ¬ kd s44 a = 0 → kd s53 a = kd s44 a := by subst hs53; exact fun a _ => congrFun kd_sAI a
            have h := h s53 hs53.symm
            refine G_goto 32 dX0_whereIs_101 (by decide) ?_
            exact h
          have k55 : kd s42 a14 ∈ [30, 31, 32] := c18
          simp only [List.mem_cons, List.not_mem_nil, or_false] at k55
          rcases k55 with k55 | k55 | k55
          · exact G_invF (N := mJ28_getKey) (x := ⟨"java/util/Map$Entry", "getKey", "()Ljava/lang/Object;"⟩) (As := []) (st := [.int 1, va_rf l2]) (t := x10) (b := a14) (rc) (rs) 94 dX0_whereIs_89 q2060 q777 q462 q66 q463 q775 q774 q779 q778 q776 rfl ax30 ⟨Nat.le_of_ble_eq_true rfl, Nat.le_of_ble_eq_true rfl⟩ rfl (Nat.le_trans (w_I (w_R w_0)) (Nat.le_of_ble_eq_true rfl)) e15 (rk30 k55) (le_b mJ28_getKey_c (Nat.le_refl _)) (le_b mJ28_getKey_s (Nat.le_refl _)) rfl fin
          · exact G_invF (N := mJ28_getKey) (x := ⟨"java/util/Map$Entry", "getKey", "()Ljava/lang/Object;"⟩) (As := []) (st := [.int 1, va_rf l2]) (t := x10) (b := a14) (rc) (rs) 94 dX0_whereIs_89 q2060 q784 q462 q66 q463 q775 q774 q779 q785 q783 rfl ax30 ⟨Nat.le_of_ble_eq_true rfl, Nat.le_of_ble_eq_true rfl⟩ rfl (Nat.le_trans (w_I (w_R w_0)) (Nat.le_of_ble_eq_true rfl)) e15 (rk31 k55) (le_b mJ28_getKey_c (Nat.le_refl _)) (le_b mJ28_getKey_s (Nat.le_refl _)) rfl fin
          · exact G_invF (N := mJ28_getKey) (x := ⟨"java/util/Map$Entry", "getKey", "()Ljava/lang/Object;"⟩) (As := []) (st := [.int 1, va_rf l2]) (t := x10) (b := a14) (rc) (rs) 94 dX0_whereIs_89 q2060 q781 q462 q66 q463 q775 q774 q779 q782 q780 rfl ax30 ⟨Nat.le_of_ble_eq_true rfl, Nat.le_of_ble_eq_true rfl⟩ rfl (Nat.le_trans (w_I (w_R w_0)) (Nat.le_of_ble_eq_true rfl)) e15 (rk32 k55) (le_b mJ28_getKey_c (Nat.le_refl _)) (le_b mJ28_getKey_s (Nat.le_refl _)) rfl fin
        have k56 : kd s24 a14 ∈ [30, 31, 32] := c18
        simp only [List.mem_cons, List.not_mem_nil, or_false] at k56
        rcases k56 with k56 | k56 | k56
        · exact G_invF (N := mJ28_getKey) (x := ⟨"java/util/Map$Entry", "getKey", "()Ljava/lang/Object;"⟩) (As := []) (st := [.int 0, va_rf l2]) (t := x10) (b := a14) (rc) (rs) 78 dX0_whereIs_73 q2060 q777 q462 q66 q463 q775 q774 q779 q778 q776 rfl ax30 ⟨Nat.le_of_ble_eq_true rfl, Nat.le_of_ble_eq_true rfl⟩ rfl (Nat.le_trans (w_I (w_R w_0)) (Nat.le_of_ble_eq_true rfl)) e15 (rk30 k56) (le_b mJ28_getKey_c (Nat.le_refl _)) (le_b mJ28_getKey_s (Nat.le_refl _)) rfl fin
        · exact G_invF (N := mJ28_getKey) (x := ⟨"java/util/Map$Entry", "getKey", "()Ljava/lang/Object;"⟩) (As := []) (st := [.int 0, va_rf l2]) (t := x10) (b := a14) (rc) (rs) 78 dX0_whereIs_73 q2060 q784 q462 q66 q463 q775 q774 q779 q785 q783 rfl ax30 ⟨Nat.le_of_ble_eq_true rfl, Nat.le_of_ble_eq_true rfl⟩ rfl (Nat.le_trans (w_I (w_R w_0)) (Nat.le_of_ble_eq_true rfl)) e15 (rk31 k56) (le_b mJ28_getKey_c (Nat.le_refl _)) (le_b mJ28_getKey_s (Nat.le_refl _)) rfl fin
        · exact G_invF (N := mJ28_getKey) (x := ⟨"java/util/Map$Entry", "getKey", "()Ljava/lang/Object;"⟩) (As := []) (st := [.int 0, va_rf l2]) (t := x10) (b := a14) (rc) (rs) 78 dX0_whereIs_73 q2060 q781 q462 q66 q463 q775 q774 q779 q782 q780 rfl ax30 ⟨Nat.le_of_ble_eq_true rfl, Nat.le_of_ble_eq_true rfl⟩ rfl (Nat.le_trans (w_I (w_R w_0)) (Nat.le_of_ble_eq_true rfl)) e15 (rk32 k56) (le_b mJ28_getKey_c (Nat.le_refl _)) (le_b mJ28_getKey_s (Nat.le_refl _)) rfl fin
    have k57 : kd s9 a14 ∈ [30, 31, 32] := c18
    simp only [List.mem_cons, List.not_mem_nil, or_false] at k57
    rcases k57 with k57 | k57 | k57
    · exact G_invF (N := mJ28_getValue) (x := ⟨"java/util/Map$Entry", "getValue", "()Ljava/lang/Object;"⟩) (As := []) (st := []) (t := x10) (b := a14) (rc) (rs) 59 dX0_whereIs_54 q2056 q791 q793 q66 q795 q790 q789 q794 q792 q776 rfl ax29 ⟨Nat.le_of_ble_eq_true rfl, Nat.le_of_ble_eq_true rfl⟩ rfl (Nat.zero_le _) e15 (rk30 k57) (le_b mJ28_getValue_c (Nat.le_refl _)) (le_b mJ28_getValue_s (Nat.le_refl _)) rfl fin
    · exact G_invF (N := mJ28_getValue) (x := ⟨"java/util/Map$Entry", "getValue", "()Ljava/lang/Object;"⟩) (As := []) (st := []) (t := x10) (b := a14) (rc) (rs) 59 dX0_whereIs_54 q2056 q798 q793 q66 q795 q790 q789 q794 q799 q783 rfl ax29 ⟨Nat.le_of_ble_eq_true rfl, Nat.le_of_ble_eq_true rfl⟩ rfl (Nat.zero_le _) e15 (rk31 k57) (le_b mJ28_getValue_c (Nat.le_refl _)) (le_b mJ28_getValue_s (Nat.le_refl _)) rfl fin
    · exact G_invF (N := mJ28_getValue) (x := ⟨"java/util/Map$Entry", "getValue", "()Ljava/lang/Object;"⟩) (As := []) (st := []) (t := x10) (b := a14) (rc) (rs) 59 dX0_whereIs_54 q2056 q796 q793 q66 q795 q790 q789 q794 q797 q780 rfl ax29 ⟨Nat.le_of_ble_eq_true rfl, Nat.le_of_ble_eq_true rfl⟩ rfl (Nat.zero_le _) e15 (rk32 k57) (le_b mJ28_getValue_c (Nat.le_refl _)) (le_b mJ28_getValue_s (Nat.le_refl _)) rfl fin
theorem eX0_whereIs {w : Wt} {K : Sg → Option Nat → Prop} {σ : Sg} (l0 : Option Nat) (l1 : Int32) (h : G w mX0_whereIs (KR K) 3 9 σ 0 [va_rf l0, .int l1, U_, U_, U_] []) : CalR w mX0_whereIs σ [va_rf l0, .int l1] K :=
  Cal.start 3 mX0_whereIs_plain (catR (catI cat0)) (Nat.le_of_ble_eq_true rfl) rfl h
set_option maxHeartbeats 4000000 in
theorem bX0_shield_0 {w : Wt} {K : Sg → Int32 → Prop} {rc rs : Nat} {σ : Sg} (l0 : Option Nat) (l1 : Int32) (l2 : Int32) (h : ∃ a1, l0 = some a1 ∧ kd σ a1 = 10 ∧ ∃ a4, FR σ 0 a1 = some a4 ∧ kd σ a4 = 11 ∧ CalI w mX1_isShield σ [va_rf (FR σ 0 a1), .int l1] (fun s6 x7 => Ext σ s6 → ((¬ x7 = 0 → ∃ a12, FR s6 0 a1 = some a12 ∧ kd s6 a12 = 11 ∧ CalI w mX1_platesOn s6 [va_rf (FR s6 0 a1), .int l1] (fun s14 x15 => Ext s6 s14 → ∃ a19, FR s14 0 a1 = some a19 ∧ kd s14 a19 = 11 ∧ CalI w mX1_year s14 [va_rf (FR s14 0 a1), .int l1, .int 0] (fun s21 x22 => Ext s14 s21 → ∃ a26, FR s21 0 a1 = some a26 ∧ kd s21 a26 = 11 ∧ CalI w mX1_year s21 [va_rf (FR s21 0 a1), .int l1, .int 1] (fun s28 x29 => Ext s21 s28 → (((l2 = 0) → ∃ a33, FR s28 0 a1 = some a33 ∧ kd s28 a33 = 11 ∧ ∃ a36, FR s28 6 a33 = some a36 ∧ kd s28 a36 ∈ [1, 5] ∧ vp_in l1 (ln s28 a36) ∧ K s28 (AI s28 a36 l1.toNatClampNeg)) ∧ ((l2 = 1) → K s28 x15) ∧ ((l2 = 2) → K s28 x22) ∧ ((l2 = 3) → K s28 x29) ∧ ((l2 = 4) → ((¬ x15 = 0 → K s28 (((x29 - x22) + 1) - x15)) ∧ (x15 = 0 → K s28 0))) ∧ (¬ l2 = 0 ∧ ¬ l2 = 1 ∧ ¬ l2 = 2 ∧ ¬ l2 = 3 ∧ ¬ l2 = 4 → K s28 (-1))))))) ∧ (x7 = 0 → K s6 (-1))))) : G w mX0_shield (KI K) (rc + 6) (rs + 21) σ 0 [va_rf l0, .int l1, .int l2, U_, U_, U_] [] := by
  refine G_aload_n 1 dX0_shield_0 rfl rfl ?_
  obtain ⟨a1, e2, h⟩ := h
  obtain ⟨c3, h⟩ := h
  refine G_getR (f := 0) (a := a1) "" 4 dX0_shield_1 (Or.inl q286) (Or.inl rfl) rfl e2 (hf0 c3) rfl ?_
  refine G_iload_n 5 dX0_shield_4 rfl rfl ?_
  obtain ⟨a4, e5, h⟩ := h
  obtain ⟨c8, h⟩ := h
  refine G_invV (N := mX1_isShield) (As := [.int l1]) (st := []) (t := (FR σ 0 a1)) (b := a4) (rc + 6) (rs + 21) 8 dX0_shield_5 q1443 q1444 q1445 q32 q1446 rfl rfl mX1_isShield_args ⟨Nat.le_of_ble_eq_true rfl, Nat.le_of_ble_eq_true rfl⟩ rfl (Nat.zero_le _) e5 (rk11 c8) (le_b mX1_isShield_c (Nat.le_refl _)) (le_b mX1_isShield_s (Nat.le_refl _)) rfl (Cal.mono h ?_)
  rintro s6 v ⟨x7, rfl, h⟩ hx9
  have h := h hx9
  have x10 := hx9.x
  show G w mX0_shield (KI K) (rc + 6) (rs + 21) s6 8 [va_rf l0, .int l1, .int l2, U_, U_, U_] [.int x7]
  refine G_if_ne 13 11 dX0_shield_8 (by decide) rfl (fun u11 => ?_) (fun u11 => ?_)
  · have h := h.1 u11
    refine G_aload_n 14 dX0_shield_13 rfl rfl ?_
    have c3 := kdE x10 c3 (by decide)
    refine G_getR (f := 0) (a := a1) "" 17 dX0_shield_14 (Or.inl q286) (Or.inl rfl) rfl e2 (hf0 c3) rfl ?_
    refine G_iload_n 18 dX0_shield_17 rfl rfl ?_
    obtain ⟨a12, e13, h⟩ := h
    obtain ⟨c16, h⟩ := h
    refine G_invV (N := mX1_platesOn) (As := [.int l1]) (st := []) (t := (FR s6 0 a1)) (b := a12) (rc + 4) (rs + 14) 21 dX0_shield_18 q2065 q1974 q1975 q32 q1976 rfl rfl mX1_platesOn_args ⟨Nat.le_of_ble_eq_true rfl, Nat.le_of_ble_eq_true rfl⟩ rfl (Nat.zero_le _) e13 (rk11 c16) (le_b mX1_platesOn_c (Nat.le_refl _)) (le_b mX1_platesOn_s (Nat.le_refl _)) rfl (Cal.mono h ?_)
    rintro s14 v ⟨x15, rfl, h⟩ hx17
    have h := h hx17
    have x18 := hx17.x
    show G w mX0_shield (KI K) (rc + 4) (rs + 14) s14 21 [va_rf l0, .int l1, .int l2, U_, U_, U_] [.int x15]
    refine G_istore_n 22 [va_rf l0, .int l1, .int l2, .int x15, U_, U_] dX0_shield_21 (Nat.le_of_ble_eq_true rfl) rfl rfl ?_
    refine G_aload_n 23 dX0_shield_22 rfl rfl ?_
    have c3 := kdE x18 c3 (by decide)
    refine G_getR (f := 0) (a := a1) "" 26 dX0_shield_23 (Or.inl q286) (Or.inl rfl) rfl e2 (hf0 c3) rfl ?_
    refine G_iload_n 27 dX0_shield_26 rfl rfl ?_
    refine G_iconst (v := 0) 28 dX0_shield_27 (by decide) rfl ?_
    obtain ⟨a19, e20, h⟩ := h
    obtain ⟨c23, h⟩ := h
    refine G_invV (N := mX1_year) (As := [.int l1, .int 0]) (st := []) (t := (FR s14 0 a1)) (b := a19) (rc + 2) (rs + 7) 31 dX0_shield_28 q2066 q1988 q1989 q32 q1990 rfl rfl mX1_year_args ⟨Nat.le_of_ble_eq_true rfl, Nat.le_of_ble_eq_true rfl⟩ rfl (Nat.zero_le _) e20 (rk11 c23) (le_b mX1_year_c (Nat.le_refl _)) (le_b mX1_year_s (Nat.le_refl _)) rfl (Cal.mono h ?_)
    rintro s21 v ⟨x22, rfl, h⟩ hx24
    have h := h hx24
    have x25 := hx24.x
    show G w mX0_shield (KI K) (rc + 2) (rs + 7) s21 31 [va_rf l0, .int l1, .int l2, .int x15, U_, U_] [.int x22]
    refine G_istore 33 [va_rf l0, .int l1, .int l2, .int x15, .int x22, U_] dX0_shield_31 (Nat.le_of_ble_eq_true rfl) rfl rfl ?_
    refine G_aload_n 34 dX0_shield_33 rfl rfl ?_
    have c3 := kdE x25 c3 (by decide)
    refine G_getR (f := 0) (a := a1) "" 37 dX0_shield_34 (Or.inl q286) (Or.inl rfl) rfl e2 (hf0 c3) rfl ?_
    refine G_iload_n 38 dX0_shield_37 rfl rfl ?_
    refine G_iconst (v := 1) 39 dX0_shield_38 (by decide) rfl ?_
    obtain ⟨a26, e27, h⟩ := h
    obtain ⟨c30, h⟩ := h
    refine G_invV (N := mX1_year) (As := [.int l1, .int 1]) (st := []) (t := (FR s21 0 a1)) (b := a26) (rc) (rs) 42 dX0_shield_39 q2066 q1988 q1989 q32 q1990 rfl rfl mX1_year_args ⟨Nat.le_of_ble_eq_true rfl, Nat.le_of_ble_eq_true rfl⟩ rfl (Nat.zero_le _) e27 (rk11 c30) (le_b mX1_year_c (Nat.le_refl _)) (le_b mX1_year_s (Nat.le_refl _)) rfl (Cal.mono h ?_)
    rintro s28 v ⟨x29, rfl, h⟩ hx31
    have h := h hx31
    have x32 := hx31.x
    show G w mX0_shield (KI K) (rc) (rs) s28 42 [va_rf l0, .int l1, .int l2, .int x15, .int x22, U_] [.int x29]
    refine G_istore 44 [va_rf l0, .int l1, .int l2, .int x15, .int x22, .int x29] dX0_shield_42 (Nat.le_of_ble_eq_true rfl) rfl rfl ?_
    refine G_iload_n 45 dX0_shield_44 rfl rfl ?_
    by_cases u41 : l2 = 0
    · refine G_tableIn (off := 35) 80 dX0_shield_45 (by have u41e := u41 <;> (rw [u41e]; decide)) (by have u41e := u41 <;> (rw [u41e]; decide)) (by have u41e := u41 <;> (rw [u41e]; rfl)) (by decide) ?_
      have h := h.1 u41
      refine G_aload_n 81 dX0_shield_80 rfl rfl ?_
      have c3 := kdE x32 c3 (by decide)
      refine G_getR (f := 0) (a := a1) "" 84 dX0_shield_81 (Or.inl q286) (Or.inl rfl) rfl e2 (hf0 c3) rfl ?_
      obtain ⟨a33, e34, h⟩ := h
      obtain ⟨c35, h⟩ := h
      refine G_getR (f := 6) (a := a33) "TrophyPlates" 87 dX0_shield_84 (Or.inr q191) (Or.inl rfl) rfl e34 (hf6 c35) rfl ?_
      refine G_iload_n 88 dX0_shield_87 rfl rfl ?_
      obtain ⟨a36, e37, h⟩ := h
      obtain ⟨c38, h⟩ := h
      obtain ⟨c39, h⟩ := h
      refine G_iald (a := a36) 89 dX0_shield_88 rfl e37 c38 c39 ?_
      exact G_iret dX0_shield_89 rfl ⟨_, rfl, h⟩
    have h := h.2
    by_cases u42 : l2 = 1
    · refine G_tableIn (off := 45) 90 dX0_shield_45 (by have u42e := u42 <;> (rw [u42e]; decide)) (by have u42e := u42 <;> (rw [u42e]; decide)) (by have u42e := u42 <;> (rw [u42e]; rfl)) (by decide) ?_
      have h := h.1 u42
      refine G_iload_n 91 dX0_shield_90 rfl rfl ?_
      exact G_iret dX0_shield_91 rfl ⟨_, rfl, h⟩
    have h := h.2
    by_cases u43 : l2 = 2
    · refine G_tableIn (off := 47) 92 dX0_shield_45 (by have u43e := u43 <;> (rw [u43e]; decide)) (by have u43e := u43 <;> (rw [u43e]; decide)) (by have u43e := u43 <;> (rw [u43e]; rfl)) (by decide) ?_
      have h := h.1 u43
      refine G_iload 94 dX0_shield_92 rfl rfl ?_
      exact G_iret dX0_shield_94 rfl ⟨_, rfl, h⟩
    have h := h.2
    by_cases u44 : l2 = 3
    · refine G_tableIn (off := 50) 95 dX0_shield_45 (by have u44e := u44 <;> (rw [u44e]; decide)) (by have u44e := u44 <;> (rw [u44e]; decide)) (by have u44e := u44 <;> (rw [u44e]; rfl)) (by decide) ?_
      have h := h.1 u44
      refine G_iload 97 dX0_shield_95 rfl rfl ?_
      exact G_iret dX0_shield_97 rfl ⟨_, rfl, h⟩
    have h := h.2
    by_cases u45 : l2 = 4
    · refine G_tableIn (off := 53) 98 dX0_shield_45 (by have u45e := u45 <;> (rw [u45e]; decide)) (by have u45e := u45 <;> (rw [u45e]; decide)) (by have u45e := u45 <;> (rw [u45e]; rfl)) (by decide) ?_
      have h := h.1 u45
      refine G_iload_n 99 dX0_shield_98 rfl rfl ?_
      refine G_if_ne 106 102 dX0_shield_99 (by decide) rfl (fun u40 => ?_) (fun u40 => ?_)
      · have h := h.1 u40
        refine G_iload 108 dX0_shield_106 rfl rfl ?_
        refine G_iload 110 dX0_shield_108 rfl rfl ?_
        refine G_isub 111 dX0_shield_110 rfl ?_
        refine G_iconst (v := 1) 112 dX0_shield_111 (by decide) rfl ?_
        refine G_iadd 113 dX0_shield_112 rfl ?_
        refine G_iload_n 114 dX0_shield_113 rfl rfl ?_
        refine G_isub 115 dX0_shield_114 rfl ?_
        exact G_iret dX0_shield_115 rfl ⟨_, rfl, h⟩
      · have h := h.2 u40
        refine G_iconst (v := 0) 103 dX0_shield_102 (by decide) rfl ?_
        refine G_goto 115 dX0_shield_103 (by decide) ?_
        exact G_iret dX0_shield_115 rfl ⟨_, rfl, h⟩
    have h := h.2
    have h := h ⟨u41, u42, u43, u44, u45⟩
    by_cases r46 : l2.toInt < 0 ∨ 4 < l2.toInt
    · refine G_tableOut 116 dX0_shield_45 r46 (by decide) ?_
      refine G_iconst (v := (-1)) 117 dX0_shield_116 (by decide) rfl ?_
      exact G_iret dX0_shield_117 rfl ⟨_, rfl, h⟩
    have := lv_neT (k := 0) (a := 0) u41 (by decide)
    have := lv_neT (k := 1) (a := 1) u42 (by decide)
    have := lv_neT (k := 2) (a := 2) u43 (by decide)
    have := lv_neT (k := 3) (a := 3) u44 (by decide)
    have := lv_neT (k := 4) (a := 4) u45 (by decide)
    omega
  · have h := h.2 u11
    refine G_iconst (v := (-1)) 12 dX0_shield_11 (by decide) rfl ?_
    exact G_iret dX0_shield_12 rfl ⟨_, rfl, h⟩
theorem eX0_shield {w : Wt} {K : Sg → Int32 → Prop} {σ : Sg} (l0 : Option Nat) (l1 : Int32) (l2 : Int32) (h : G w mX0_shield (KI K) 6 21 σ 0 [va_rf l0, .int l1, .int l2, U_, U_, U_] []) : CalI w mX0_shield σ [va_rf l0, .int l1, .int l2] K :=
  Cal.start 3 mX0_shield_plain (catR (catI (catI cat0))) (Nat.le_of_ble_eq_true rfl) rfl h
set_option maxHeartbeats 4000000 in
theorem bX0_plateFor_0 {w : Wt} {K : Sg → Int32 → Prop} {rc rs : Nat} {σ : Sg} (l0 : Option Nat) (l1 : Int32) (l2 : Int32) (h : ∃ a1, l0 = some a1 ∧ kd σ a1 = 10 ∧ CalI w mX0_isPlace σ [va_rf l0, .int l1, .int l2] (fun s3 x4 => Ext σ s3 → ((x4 = 0 → K s3 (-1)) ∧ (¬ x4 = 0 → ∃ a9, FR s3 0 a1 = some a9 ∧ kd s3 a9 = 11 ∧ CalI w mX1_plateFor s3 [va_rf (FR s3 0 a1), .int l1, .int l2] (fun s11 x12 => Ext s3 s11 → K s11 x12))))) : G w mX0_plateFor (KI K) (rc + 1) (rs + 2) σ 0 [va_rf l0, .int l1, .int l2] [] := by
  refine G_aload_n 1 dX0_plateFor_0 rfl rfl ?_
  refine G_iload_n 2 dX0_plateFor_1 rfl rfl ?_
  refine G_iload_n 3 dX0_plateFor_2 rfl rfl ?_
  obtain ⟨a1, e2, h⟩ := h
  obtain ⟨c5, h⟩ := h
  refine G_invV (N := mX0_isPlace) (As := [.int l1, .int l2]) (st := []) (t := l0) (b := a1) (rc + 1) (rs + 2) 6 dX0_plateFor_3 q1439 q1441 qs7 q31 q1442 rfl rfl mX0_isPlace_args ⟨Nat.le_of_ble_eq_true rfl, Nat.le_of_ble_eq_true rfl⟩ rfl (Nat.zero_le _) e2 (rk10 c5) (le_b mX0_isPlace_c (Nat.le_refl _)) (le_b mX0_isPlace_s (Nat.le_refl _)) rfl (Cal.mono h ?_)
  rintro s3 v ⟨x4, rfl, h⟩ hx6
  have h := h hx6
  have x7 := hx6.x
  show G w mX0_plateFor (KI K) (rc + 1) (rs + 2) s3 6 [va_rf l0, .int l1, .int l2] [.int x4]
  refine G_if_eq 21 9 dX0_plateFor_6 (by decide) rfl (fun u8 => ?_) (fun u8 => ?_)
  · have h := h.1 u8
    refine G_iconst (v := (-1)) 22 dX0_plateFor_21 (by decide) rfl ?_
    exact G_iret dX0_plateFor_22 rfl ⟨_, rfl, h⟩
  · have h := h.2 u8
    refine G_aload_n 10 dX0_plateFor_9 rfl rfl ?_
    have c5 := kdE x7 c5 (by decide)
    refine G_getR (f := 0) (a := a1) "" 13 dX0_plateFor_10 (Or.inl q286) (Or.inl rfl) rfl e2 (hf0 c5) rfl ?_
    refine G_iload_n 14 dX0_plateFor_13 rfl rfl ?_
    refine G_iload_n 15 dX0_plateFor_14 rfl rfl ?_
    obtain ⟨a9, e10, h⟩ := h
    obtain ⟨c13, h⟩ := h
    refine G_invV (N := mX1_plateFor) (As := [.int l1, .int l2]) (st := []) (t := (FR s3 0 a1)) (b := a9) (rc) (rs) 18 dX0_plateFor_15 q1447 q1448 q1449 q32 q1450 rfl rfl mX1_plateFor_args ⟨Nat.le_of_ble_eq_true rfl, Nat.le_of_ble_eq_true rfl⟩ rfl (Nat.zero_le _) e10 (rk11 c13) (le_b mX1_plateFor_c (Nat.le_refl _)) (le_b mX1_plateFor_s (Nat.le_refl _)) rfl (Cal.mono h ?_)
    rintro s11 v ⟨x12, rfl, h⟩ hx14
    have h := h hx14
    have x15 := hx14.x
    show G w mX0_plateFor (KI K) (rc) (rs) s11 18 [va_rf l0, .int l1, .int l2] [.int x12]
    refine G_goto 22 dX0_plateFor_18 (by decide) ?_
    exact G_iret dX0_plateFor_22 rfl ⟨_, rfl, h⟩
theorem eX0_plateFor {w : Wt} {K : Sg → Int32 → Prop} {σ : Sg} (l0 : Option Nat) (l1 : Int32) (l2 : Int32) (h : G w mX0_plateFor (KI K) 1 2 σ 0 [va_rf l0, .int l1, .int l2] []) : CalI w mX0_plateFor σ [va_rf l0, .int l1, .int l2] K :=
  Cal.start 0 mX0_plateFor_plain (catR (catI (catI cat0))) (Nat.le_of_ble_eq_true rfl) rfl h
set_option maxHeartbeats 4000000 in
theorem bX0_orderOf_0 {w : Wt} {K : Sg → Int32 → Prop} {rc rs : Nat} {σ : Sg} (l0 : Option Nat) (l1 : Int32) (l2 : Int32) (h : ∃ a1, l0 = some a1 ∧ kd σ a1 = 10 ∧ ∃ a4, FR σ 0 a1 = some a4 ∧ kd σ a4 = 11 ∧ CalI w mX1_isOrder σ [va_rf (FR σ 0 a1), .int l1] (fun s6 x7 => Ext σ s6 → ((¬ x7 = 0 → ∃ a12, FR s6 0 a1 = some a12 ∧ kd s6 a12 = 11 ∧ ∃ a15, FR s6 4 a12 = some a15 ∧ kd s6 a15 = 20 ∧ CalR w mJ2_get s6 [va_rf (FR s6 4 a12), .int l1] (fun s17 x18 => Ext s6 s17 → (x18 = none ∨ ∃ b, x18 = some b ∧ kd s17 b = 17) ∧ (((l2 = 0) → ∃ a23, x18 = some a23 ∧ kd s17 a23 = 17 ∧ ∃ a26, FR s17 39 a23 = some a26 ∧ kd s17 a26 = 16 ∧ K s17 (FI s17 37 a26)) ∧ ((l2 = 1) → ∃ a29, x18 = some a29 ∧ kd s17 a29 = 17 ∧ ∃ a32, FR s17 39 a29 = some a32 ∧ kd s17 a32 = 16 ∧ K s17 (FI s17 38 a32)) ∧ ((l2 = 2) → ∃ a35, x18 = some a35 ∧ kd s17 a35 = 17 ∧ K s17 (FI s17 41 a35)) ∧ ((l2 = 3) → ∃ a38, x18 = some a38 ∧ kd s17 a38 = 17 ∧ K s17 (FI s17 42 a38)) ∧ ((l2 = 4) → ∃ a41, x18 = some a41 ∧ kd s17 a41 = 17 ∧ ((FI s17 43 a41 = 0 → K s17 0) ∧ (¬ FI s17 43 a41 = 0 → K s17 1))) ∧ ((l2 = 5) → ∃ a45, x18 = some a45 ∧ kd s17 a45 = 17 ∧ ∃ a48, FR s17 40 a45 = some a48 ∧ kd s17 a48 = 24 ∧ CalI w mJ8_length s17 [va_rf (FR s17 40 a45)] (fun s50 x51 => Ext s17 s50 → K s50 x51)) ∧ ((l2 = 6) → ∃ a55, x18 = some a55 ∧ kd s17 a55 = 17 ∧ CalI w mX7_length s17 [va_rf x18] (fun s57 x58 => Ext s17 s57 → K s57 x58)) ∧ ((l2 = 7) → ∃ a62, x18 = some a62 ∧ kd s17 a62 = 17 ∧ CalI w mX7_effort s17 [va_rf x18] (fun s64 x65 => Ext s17 s64 → K s64 x65)) ∧ (¬ l2 = 0 ∧ ¬ l2 = 1 ∧ ¬ l2 = 2 ∧ ¬ l2 = 3 ∧ ¬ l2 = 4 ∧ ¬ l2 = 5 ∧ ¬ l2 = 6 ∧ ¬ l2 = 7 → K s17 (-1))))) ∧ (x7 = 0 → K s6 (-1))))) : G w mX0_orderOf (KI K) (rc) (rs) σ 0 [va_rf l0, .int l1, .int l2, U_] [] := by
  refine G_aload_n 1 dX0_orderOf_0 rfl rfl ?_
  obtain ⟨a1, e2, h⟩ := h
  obtain ⟨c3, h⟩ := h
  refine G_getR (f := 0) (a := a1) "" 4 dX0_orderOf_1 (Or.inl q286) (Or.inl rfl) rfl e2 (hf0 c3) rfl ?_
  refine G_iload_n 5 dX0_orderOf_4 rfl rfl ?_
  obtain ⟨a4, e5, h⟩ := h
  obtain ⟨c8, h⟩ := h
  refine G_invV (N := mX1_isOrder) (As := [.int l1]) (st := []) (t := (FR σ 0 a1)) (b := a4) (rc) (rs) 8 dX0_orderOf_5 q1793 q1794 q1795 q32 q1796 rfl rfl mX1_isOrder_args ⟨Nat.le_of_ble_eq_true rfl, Nat.le_of_ble_eq_true rfl⟩ rfl (Nat.zero_le _) e5 (rk11 c8) (le_b mX1_isOrder_c (Nat.le_refl _)) (le_b mX1_isOrder_s (Nat.le_refl _)) rfl (Cal.mono h ?_)
  rintro s6 v ⟨x7, rfl, h⟩ hx9
  have h := h hx9
  have x10 := hx9.x
  show G w mX0_orderOf (KI K) (rc) (rs) s6 8 [va_rf l0, .int l1, .int l2, U_] [.int x7]
  refine G_if_ne 13 11 dX0_orderOf_8 (by decide) rfl (fun u11 => ?_) (fun u11 => ?_)
  · have h := h.1 u11
    refine G_aload_n 14 dX0_orderOf_13 rfl rfl ?_
    have c3 := kdE x10 c3 (by decide)
    refine G_getR (f := 0) (a := a1) "" 17 dX0_orderOf_14 (Or.inl q286) (Or.inl rfl) rfl e2 (hf0 c3) rfl ?_
    obtain ⟨a12, e13, h⟩ := h
    obtain ⟨c14, h⟩ := h
    refine G_getR (f := 4) (a := a12) "TrophyPlates" 20 dX0_orderOf_17 (Or.inr q187) (Or.inl rfl) rfl e13 (hf4 c14) rfl ?_
    refine G_iload_n 21 dX0_orderOf_20 rfl rfl ?_
    obtain ⟨a15, e16, h⟩ := h
    obtain ⟨c19, h⟩ := h
    refine G_invF (N := mJ2_get) (x := ⟨"java/util/List", "get", "(I)Ljava/lang/Object;"⟩) (As := [.int l1]) (st := []) (t := (FR s6 4 a12)) (b := a15) (rc) (rs) 26 dX0_orderOf_21 q1390 q1393 q1395 q35 q1397 q1392 q1391 q1396 q1394 q307 rfl ax32 ⟨Nat.le_of_ble_eq_true rfl, Nat.le_of_ble_eq_true rfl⟩ rfl (Nat.zero_le _) e16 (rk20 c19) (le_b mJ2_get_c (Nat.le_refl _)) (le_b mJ2_get_s (Nat.le_refl _)) rfl (Cal.mono h ?_)
    rintro s17 v ⟨x18, rfl, h⟩ hx20
    have h := h hx20
    have x21 := hx20.x
    show G w mX0_orderOf (KI K) (rc) (rs) s17 26 [va_rf l0, .int l1, .int l2, U_] [va_rf x18]
    obtain ⟨c22, h⟩ := h
    refine G_cast 29 dX0_orderOf_26 q1685 rfl (c22.imp id (fun ⟨b, e, k⟩ => ⟨b, e, co5 k⟩)) ?_
    refine G_astore_n 30 [va_rf l0, .int l1, .int l2, va_rf x18] dX0_orderOf_29 (Nat.le_of_ble_eq_true rfl) rfl rfl ?_
    refine G_iload_n 31 dX0_orderOf_30 rfl rfl ?_
    by_cases u69 : l2 = 0
    · refine G_tableIn (off := 45) 76 dX0_orderOf_31 (by have u69e := u69 <;> (rw [u69e]; decide)) (by have u69e := u69 <;> (rw [u69e]; decide)) (by have u69e := u69 <;> (rw [u69e]; rfl)) (by decide) ?_
      have h := h.1 u69
      refine G_aload_n 77 dX0_orderOf_76 rfl rfl ?_
      obtain ⟨a23, e24, h⟩ := h
      obtain ⟨c25, h⟩ := h
      refine G_getR (f := 39) (a := a23) "TrophyPlates" 80 dX0_orderOf_77 (Or.inr q1745) (Or.inl rfl) rfl e24 (hf39 c25) rfl ?_
      obtain ⟨a26, e27, h⟩ := h
      obtain ⟨c28, h⟩ := h
      refine G_getI (f := 37) (a := a26) "TrophyPlates" 83 dX0_orderOf_80 (Or.inr q1458) (Or.inl rfl) rfl e27 (hf37 c28) rfl ?_
      exact G_iret dX0_orderOf_83 rfl ⟨_, rfl, h⟩
    have h := h.2
    by_cases u70 : l2 = 1
    · refine G_tableIn (off := 53) 84 dX0_orderOf_31 (by have u70e := u70 <;> (rw [u70e]; decide)) (by have u70e := u70 <;> (rw [u70e]; decide)) (by have u70e := u70 <;> (rw [u70e]; rfl)) (by decide) ?_
      have h := h.1 u70
      refine G_aload_n 85 dX0_orderOf_84 rfl rfl ?_
      obtain ⟨a29, e30, h⟩ := h
      obtain ⟨c31, h⟩ := h
      refine G_getR (f := 39) (a := a29) "TrophyPlates" 88 dX0_orderOf_85 (Or.inr q1745) (Or.inl rfl) rfl e30 (hf39 c31) rfl ?_
      obtain ⟨a32, e33, h⟩ := h
      obtain ⟨c34, h⟩ := h
      refine G_getI (f := 38) (a := a32) "TrophyPlates" 91 dX0_orderOf_88 (Or.inr q1461) (Or.inl rfl) rfl e33 (hf38 c34) rfl ?_
      exact G_iret dX0_orderOf_91 rfl ⟨_, rfl, h⟩
    have h := h.2
    by_cases u71 : l2 = 2
    · refine G_tableIn (off := 61) 92 dX0_orderOf_31 (by have u71e := u71 <;> (rw [u71e]; decide)) (by have u71e := u71 <;> (rw [u71e]; decide)) (by have u71e := u71 <;> (rw [u71e]; rfl)) (by decide) ?_
      have h := h.1 u71
      refine G_aload_n 93 dX0_orderOf_92 rfl rfl ?_
      obtain ⟨a35, e36, h⟩ := h
      obtain ⟨c37, h⟩ := h
      refine G_getI (f := 41) (a := a35) "TrophyPlates" 96 dX0_orderOf_93 (Or.inr q1749) (Or.inl rfl) rfl e36 (hf41 c37) rfl ?_
      exact G_iret dX0_orderOf_96 rfl ⟨_, rfl, h⟩
    have h := h.2
    by_cases u72 : l2 = 3
    · refine G_tableIn (off := 66) 97 dX0_orderOf_31 (by have u72e := u72 <;> (rw [u72e]; decide)) (by have u72e := u72 <;> (rw [u72e]; decide)) (by have u72e := u72 <;> (rw [u72e]; rfl)) (by decide) ?_
      have h := h.1 u72
      refine G_aload_n 98 dX0_orderOf_97 rfl rfl ?_
      obtain ⟨a38, e39, h⟩ := h
      obtain ⟨c40, h⟩ := h
      refine G_getI (f := 42) (a := a38) "TrophyPlates" 101 dX0_orderOf_98 (Or.inr q1752) (Or.inl rfl) rfl e39 (hf42 c40) rfl ?_
      exact G_iret dX0_orderOf_101 rfl ⟨_, rfl, h⟩
    have h := h.2
    by_cases u73 : l2 = 4
    · refine G_tableIn (off := 71) 102 dX0_orderOf_31 (by have u73e := u73 <;> (rw [u73e]; decide)) (by have u73e := u73 <;> (rw [u73e]; decide)) (by have u73e := u73 <;> (rw [u73e]; rfl)) (by decide) ?_
      have h := h.1 u73
      refine G_aload_n 103 dX0_orderOf_102 rfl rfl ?_
      obtain ⟨a41, e42, h⟩ := h
      obtain ⟨c43, h⟩ := h
      refine G_getI (f := 43) (a := a41) "TrophyPlates" 106 dX0_orderOf_103 (Or.inr q1755) (Or.inl rfl) rfl e42 (hf43 c43) rfl ?_
      refine G_if_eq 113 109 dX0_orderOf_106 (by decide) rfl (fun u44 => ?_) (fun u44 => ?_)
      · have h := h.1 u44
        refine G_iconst (v := 0) 114 dX0_orderOf_113 (by decide) rfl ?_
        exact G_iret dX0_orderOf_114 rfl ⟨_, rfl, h⟩
      · have h := h.2 u44
        refine G_iconst (v := 1) 110 dX0_orderOf_109 (by decide) rfl ?_
        refine G_goto 114 dX0_orderOf_110 (by decide) ?_
        exact G_iret dX0_orderOf_114 rfl ⟨_, rfl, h⟩
    have h := h.2
    by_cases u74 : l2 = 5
    · refine G_tableIn (off := 84) 115 dX0_orderOf_31 (by have u74e := u74 <;> (rw [u74e]; decide)) (by have u74e := u74 <;> (rw [u74e]; decide)) (by have u74e := u74 <;> (rw [u74e]; rfl)) (by decide) ?_
      have h := h.1 u74
      refine G_aload_n 116 dX0_orderOf_115 rfl rfl ?_
      obtain ⟨a45, e46, h⟩ := h
      obtain ⟨c47, h⟩ := h
      refine G_getR (f := 40) (a := a45) "TrophyPlates" 119 dX0_orderOf_116 (Or.inr q1747) (Or.inl rfl) rfl e46 (hf40 c47) rfl ?_
      obtain ⟨a48, e49, h⟩ := h
      obtain ⟨c52, h⟩ := h
      refine G_invV (N := mJ8_length) (As := []) (st := []) (t := (FR s17 40 a45)) (b := a48) (rc) (rs) 122 dX0_orderOf_119 q2075 q1861 q2403 q42 q1863 rfl rfl mJ8_length_args ⟨Nat.le_of_ble_eq_true rfl, Nat.le_of_ble_eq_true rfl⟩ rfl (Nat.zero_le _) e49 (rk24 c52) (le_b mJ8_length_c (Nat.le_refl _)) (le_b mJ8_length_s (Nat.le_refl _)) rfl (Cal.mono h ?_)
      rintro s50 v ⟨x51, rfl, h⟩ hx53
      have h := h hx53
      have x54 := hx53.x
      show G w mX0_orderOf (KI K) (rc) (rs) s50 122 [va_rf l0, .int l1, .int l2, va_rf x18] [.int x51]
      exact G_iret dX0_orderOf_122 rfl ⟨_, rfl, h⟩
    have h := h.2
    by_cases u75 : l2 = 6
    · refine G_tableIn (off := 92) 123 dX0_orderOf_31 (by have u75e := u75 <;> (rw [u75e]; decide)) (by have u75e := u75 <;> (rw [u75e]; decide)) (by have u75e := u75 <;> (rw [u75e]; rfl)) (by decide) ?_
      have h := h.1 u75
      refine G_aload_n 124 dX0_orderOf_123 rfl rfl ?_
      obtain ⟨a55, e56, h⟩ := h
      obtain ⟨c59, h⟩ := h
      refine G_invV (N := mX7_length) (As := []) (st := []) (t := x18) (b := a55) (rc) (rs) 127 dX0_orderOf_124 q2076 q1848 q1849 q76 q1850 rfl rfl mX7_length_args ⟨Nat.le_of_ble_eq_true rfl, Nat.le_of_ble_eq_true rfl⟩ rfl (Nat.zero_le _) e56 (rk17 c59) (le_b mX7_length_c (Nat.le_refl _)) (le_b mX7_length_s (Nat.le_refl _)) rfl (Cal.mono h ?_)
      rintro s57 v ⟨x58, rfl, h⟩ hx60
      have h := h hx60
      have x61 := hx60.x
      show G w mX0_orderOf (KI K) (rc) (rs) s57 127 [va_rf l0, .int l1, .int l2, va_rf x18] [.int x58]
      exact G_iret dX0_orderOf_127 rfl ⟨_, rfl, h⟩
    have h := h.2
    by_cases u76 : l2 = 7
    · refine G_tableIn (off := 97) 128 dX0_orderOf_31 (by have u76e := u76 <;> (rw [u76e]; decide)) (by have u76e := u76 <;> (rw [u76e]; decide)) (by have u76e := u76 <;> (rw [u76e]; rfl)) (by decide) ?_
      have h := h.1 u76
      refine G_aload_n 129 dX0_orderOf_128 rfl rfl ?_
      obtain ⟨a62, e63, h⟩ := h
      obtain ⟨c66, h⟩ := h
      refine G_invV (N := mX7_effort) (As := []) (st := []) (t := x18) (b := a62) (rc) (rs) 132 dX0_orderOf_129 q2077 q1944 q1945 q76 q1946 rfl rfl mX7_effort_args ⟨Nat.le_of_ble_eq_true rfl, Nat.le_of_ble_eq_true rfl⟩ rfl (Nat.zero_le _) e63 (rk17 c66) (le_b mX7_effort_c (Nat.le_refl _)) (le_b mX7_effort_s (Nat.le_refl _)) rfl (Cal.mono h ?_)
      rintro s64 v ⟨x65, rfl, h⟩ hx67
      have h := h hx67
      have x68 := hx67.x
      show G w mX0_orderOf (KI K) (rc) (rs) s64 132 [va_rf l0, .int l1, .int l2, va_rf x18] [.int x65]
      exact G_iret dX0_orderOf_132 rfl ⟨_, rfl, h⟩
    have h := h.2
    have h := h ⟨u69, u70, u71, u72, u73, u74, u75, u76⟩
    by_cases r77 : l2.toInt < 0 ∨ 7 < l2.toInt
    · refine G_tableOut 133 dX0_orderOf_31 r77 (by decide) ?_
      refine G_iconst (v := (-1)) 134 dX0_orderOf_133 (by decide) rfl ?_
      exact G_iret dX0_orderOf_134 rfl ⟨_, rfl, h⟩
    have := lv_neT (k := 0) (a := 0) u69 (by decide)
    have := lv_neT (k := 1) (a := 1) u70 (by decide)
    have := lv_neT (k := 2) (a := 2) u71 (by decide)
    have := lv_neT (k := 3) (a := 3) u72 (by decide)
    have := lv_neT (k := 4) (a := 4) u73 (by decide)
    have := lv_neT (k := 5) (a := 5) u74 (by decide)
    have := lv_neT (k := 6) (a := 6) u75 (by decide)
    have := lv_neT (k := 7) (a := 7) u76 (by decide)
    omega
  · have h := h.2 u11
    refine G_iconst (v := (-1)) 12 dX0_orderOf_11 (by decide) rfl ?_
    exact G_iret dX0_orderOf_12 rfl ⟨_, rfl, h⟩
theorem eX0_orderOf {w : Wt} {K : Sg → Int32 → Prop} {σ : Sg} (l0 : Option Nat) (l1 : Int32) (l2 : Int32) (h : G w mX0_orderOf (KI K) 0 0 σ 0 [va_rf l0, .int l1, .int l2, U_] []) : CalI w mX0_orderOf σ [va_rf l0, .int l1, .int l2] K :=
  Cal.start 1 mX0_orderOf_plain (catR (catI (catI cat0))) (Nat.le_of_ble_eq_true rfl) rfl h
set_option maxHeartbeats 4000000 in
theorem bX0_letter_0 {w : Wt} {K : Sg → Int32 → Prop} {rc rs : Nat} {σ : Sg} (l0 : Option Nat) (l1 : Int32) (l2 : Int32) (h : ∃ a1, l0 = some a1 ∧ kd σ a1 = 10 ∧ ∃ a4, FR σ 0 a1 = some a4 ∧ kd σ a4 = 11 ∧ CalI w mX1_isOrder σ [va_rf (FR σ 0 a1), .int l1] (fun s6 x7 => Ext σ s6 → ((x7 = 0 → K s6 (-1)) ∧ (¬ x7 = 0 → ((0 ≤ l2 → ∃ a13, FR s6 0 a1 = some a13 ∧ kd s6 a13 = 11 ∧ ∃ a16, FR s6 4 a13 = some a16 ∧ kd s6 a16 = 20 ∧ CalR w mJ2_get s6 [va_rf (FR s6 4 a13), .int l1] (fun s18 x19 => Ext s6 s18 → (x19 = none ∨ ∃ b, x19 = some b ∧ kd s18 b = 17) ∧ ∃ a24, x19 = some a24 ∧ kd s18 a24 = 17 ∧ ∃ a27, FR s18 40 a24 = some a27 ∧ kd s18 a27 = 24 ∧ CalI w mJ8_length s18 [va_rf (FR s18 40 a24)] (fun s29 x30 => Ext s18 s29 → ((x30 ≤ l2 → K s29 (-9)) ∧ (¬ x30 ≤ l2 → CalI w mJ8_charAt s29 [va_rf (FR s18 40 a24), .int l2] (fun s35 x36 => Ext s29 s35 → K s35 x36)))))) ∧ (¬ 0 ≤ l2 → K s6 (-1))))))) : G w mX0_letter (KI K) (rc) (rs) σ 0 [va_rf l0, .int l1, .int l2, U_] [] := by
  refine G_aload_n 1 dX0_letter_0 rfl rfl ?_
  obtain ⟨a1, e2, h⟩ := h
  obtain ⟨c3, h⟩ := h
  refine G_getR (f := 0) (a := a1) "" 4 dX0_letter_1 (Or.inl q286) (Or.inl rfl) rfl e2 (hf0 c3) rfl ?_
  refine G_iload_n 5 dX0_letter_4 rfl rfl ?_
  obtain ⟨a4, e5, h⟩ := h
  obtain ⟨c8, h⟩ := h
  refine G_invV (N := mX1_isOrder) (As := [.int l1]) (st := []) (t := (FR σ 0 a1)) (b := a4) (rc) (rs) 8 dX0_letter_5 q1793 q1794 q1795 q32 q1796 rfl rfl mX1_isOrder_args ⟨Nat.le_of_ble_eq_true rfl, Nat.le_of_ble_eq_true rfl⟩ rfl (Nat.zero_le _) e5 (rk11 c8) (le_b mX1_isOrder_c (Nat.le_refl _)) (le_b mX1_isOrder_s (Nat.le_refl _)) rfl (Cal.mono h ?_)
  rintro s6 v ⟨x7, rfl, h⟩ hx9
  have h := h hx9
  have x10 := hx9.x
  show G w mX0_letter (KI K) (rc) (rs) s6 8 [va_rf l0, .int l1, .int l2, U_] [.int x7]
  refine G_if_eq 15 11 dX0_letter_8 (by decide) rfl (fun u11 => ?_) (fun u11 => ?_)
  · have h := h.1 u11
    refine G_iconst (v := (-1)) 16 dX0_letter_15 (by decide) rfl ?_
    exact G_iret dX0_letter_16 rfl ⟨_, rfl, h⟩
  · have h := h.2 u11
    refine G_iload_n 12 dX0_letter_11 rfl rfl ?_
    refine G_if_ge 17 15 dX0_letter_12 (by decide) rfl (fun u12 => ?_) (fun u12 => ?_)
    · have h := h.1 u12
      refine G_aload_n 18 dX0_letter_17 rfl rfl ?_
      have c3 := kdE x10 c3 (by decide)
      refine G_getR (f := 0) (a := a1) "" 21 dX0_letter_18 (Or.inl q286) (Or.inl rfl) rfl e2 (hf0 c3) rfl ?_
      obtain ⟨a13, e14, h⟩ := h
      obtain ⟨c15, h⟩ := h
      refine G_getR (f := 4) (a := a13) "TrophyPlates" 24 dX0_letter_21 (Or.inr q187) (Or.inl rfl) rfl e14 (hf4 c15) rfl ?_
      refine G_iload_n 25 dX0_letter_24 rfl rfl ?_
      obtain ⟨a16, e17, h⟩ := h
      obtain ⟨c20, h⟩ := h
      refine G_invF (N := mJ2_get) (x := ⟨"java/util/List", "get", "(I)Ljava/lang/Object;"⟩) (As := [.int l1]) (st := []) (t := (FR s6 4 a13)) (b := a16) (rc) (rs) 30 dX0_letter_25 q1390 q1393 q1395 q35 q1397 q1392 q1391 q1396 q1394 q307 rfl ax32 ⟨Nat.le_of_ble_eq_true rfl, Nat.le_of_ble_eq_true rfl⟩ rfl (Nat.zero_le _) e17 (rk20 c20) (le_b mJ2_get_c (Nat.le_refl _)) (le_b mJ2_get_s (Nat.le_refl _)) rfl (Cal.mono h ?_)
      rintro s18 v ⟨x19, rfl, h⟩ hx21
      have h := h hx21
      have x22 := hx21.x
      show G w mX0_letter (KI K) (rc) (rs) s18 30 [va_rf l0, .int l1, .int l2, U_] [va_rf x19]
      obtain ⟨c23, h⟩ := h
      refine G_cast 33 dX0_letter_30 q1685 rfl (c23.imp id (fun ⟨b, e, k⟩ => ⟨b, e, co5 k⟩)) ?_
      obtain ⟨a24, e25, h⟩ := h
      obtain ⟨c26, h⟩ := h
      refine G_getR (f := 40) (a := a24) "TrophyPlates" 36 dX0_letter_33 (Or.inr q1747) (Or.inl rfl) rfl e25 (hf40 c26) rfl ?_
      refine G_astore_n 37 [va_rf l0, .int l1, .int l2, va_rf (FR s18 40 a24)] dX0_letter_36 (Nat.le_of_ble_eq_true rfl) rfl rfl ?_
      refine G_iload_n 38 dX0_letter_37 rfl rfl ?_
      refine G_aload_n 39 dX0_letter_38 rfl rfl ?_
      obtain ⟨a27, e28, h⟩ := h
      obtain ⟨c31, h⟩ := h
      refine G_invV (N := mJ8_length) (As := []) (st := [.int l2]) (t := (FR s18 40 a24)) (b := a27) (rc) (rs) 42 dX0_letter_39 q2075 q1861 q2403 q42 q1863 rfl rfl mJ8_length_args ⟨Nat.le_of_ble_eq_true rfl, Nat.le_of_ble_eq_true rfl⟩ rfl (Nat.le_trans (w_I w_0) (Nat.le_of_ble_eq_true rfl)) e28 (rk24 c31) (le_b mJ8_length_c (Nat.le_refl _)) (le_b mJ8_length_s (Nat.le_refl _)) rfl (Cal.mono h ?_)
      rintro s29 v ⟨x30, rfl, h⟩ hx32
      have h := h hx32
      have x33 := hx32.x
      show G w mX0_letter (KI K) (rc) (rs) s29 42 [va_rf l0, .int l1, .int l2, va_rf (FR s18 40 a24)] [.int x30, .int l2]
      refine G_icmp_ge 53 45 dX0_letter_42 (by decide) rfl (fun u34 => ?_) (fun u34 => ?_)
      · have h := h.1 u34
        refine G_bipush (v := (-9)) 55 dX0_letter_53 (by decide) rfl ?_
        exact G_iret dX0_letter_55 rfl ⟨_, rfl, h⟩
      · have h := h.2 u34
        refine G_aload_n 46 dX0_letter_45 rfl rfl ?_
        refine G_iload_n 47 dX0_letter_46 rfl rfl ?_
        have c31 := kdE x33 c31 (by decide)
        refine G_invV (N := mJ8_charAt) (As := [.int l2]) (st := []) (t := (FR s18 40 a24)) (b := a27) (rc) (rs) 50 dX0_letter_47 q2082 q1877 q2404 q42 q1879 rfl rfl mJ8_charAt_args ⟨Nat.le_of_ble_eq_true rfl, Nat.le_of_ble_eq_true rfl⟩ rfl (Nat.zero_le _) e28 (rk24 c31) (le_b mJ8_charAt_c (Nat.le_refl _)) (le_b mJ8_charAt_s (Nat.le_refl _)) rfl (Cal.mono h ?_)
        rintro s35 v ⟨x36, rfl, h⟩ hx37
        have h := h hx37
        have x38 := hx37.x
        show G w mX0_letter (KI K) (rc) (rs) s35 50 [va_rf l0, .int l1, .int l2, va_rf (FR s18 40 a24)] [.int x36]
        refine G_goto 55 dX0_letter_50 (by decide) ?_
        exact G_iret dX0_letter_55 rfl ⟨_, rfl, h⟩
    · have h := h.2 u12
      refine G_iconst (v := (-1)) 16 dX0_letter_15 (by decide) rfl ?_
      exact G_iret dX0_letter_16 rfl ⟨_, rfl, h⟩
theorem eX0_letter {w : Wt} {K : Sg → Int32 → Prop} {σ : Sg} (l0 : Option Nat) (l1 : Int32) (l2 : Int32) (h : G w mX0_letter (KI K) 0 0 σ 0 [va_rf l0, .int l1, .int l2, U_] []) : CalI w mX0_letter σ [va_rf l0, .int l1, .int l2] K :=
  Cal.start 1 mX0_letter_plain (catR (catI (catI cat0))) (Nat.le_of_ble_eq_true rfl) rfl h
set_option maxHeartbeats 4000000 in
theorem bX0_lengthOf_2_0 {w : Wt} {K : Sg → Int32 → Prop} {rc rs : Nat} {σ : Sg} (l0 : Option Nat) (l1 : Int32) (h : CalI w mX0_isSize σ [.int l1] (fun s1 x2 => Ext σ s1 → ((x2 = 0 → K s1 (-1)) ∧ (¬ x2 = 0 → ∃ a6, l0 = some a6 ∧ kd s1 a6 = 10 ∧ CalI w mX0_lengthOf s1 [va_rf (FR s1 2 a6), .int l1] (fun s9 x10 => Ext s1 s9 → K s9 x10))))) : G w mX0_lengthOf_2 (KI K) (rc) (rs) σ 0 [va_rf l0, .int l1] [] := by
  refine G_iload_n 1 dX0_lengthOf_2_0 rfl rfl ?_
  refine G_invS (N := mX0_isSize) (As := [.int l1]) (st := []) (rc) (rs) "" 4 dX0_lengthOf_2_1 (Or.inl q1634) q1635 q31 q1636 rfl mX0_isSize_args ⟨Nat.le_of_ble_eq_true rfl, Nat.le_of_ble_eq_true rfl⟩ rfl (Nat.zero_le _) (le_b mX0_isSize_c (Nat.le_refl _)) (le_b mX0_isSize_s (Nat.le_refl _)) rfl (Cal.mono h ?_)
  rintro s1 v ⟨x2, rfl, h⟩ hx3
  have h := h hx3
  have x4 := hx3.x
  show G w mX0_lengthOf_2 (KI K) (rc) (rs) s1 4 [va_rf l0, .int l1] [.int x2]
  refine G_if_eq 18 7 dX0_lengthOf_2_4 (by decide) rfl (fun u5 => ?_) (fun u5 => ?_)
  · have h := h.1 u5
    refine G_iconst (v := (-1)) 19 dX0_lengthOf_2_18 (by decide) rfl ?_
    exact G_iret dX0_lengthOf_2_19 rfl ⟨_, rfl, h⟩
  · have h := h.2 u5
    refine G_aload_n 8 dX0_lengthOf_2_7 rfl rfl ?_
    obtain ⟨a6, e7, h⟩ := h
    obtain ⟨c8, h⟩ := h
    refine G_getR (f := 2) (a := a6) "" 11 dX0_lengthOf_2_8 (Or.inl q288) (Or.inl rfl) rfl e7 (hf2 c8) rfl ?_
    refine G_iload_n 12 dX0_lengthOf_2_11 rfl rfl ?_
    refine G_invS (N := mX0_lengthOf) (As := [va_rf (FR s1 2 a6), .int l1]) (st := []) (rc) (rs) "" 15 dX0_lengthOf_2_12 (Or.inl q2087) q1852 q31 q1853 rfl mX0_lengthOf_args ⟨Nat.le_of_ble_eq_true rfl, Nat.le_of_ble_eq_true rfl⟩ rfl (Nat.zero_le _) (le_b mX0_lengthOf_c (Nat.le_refl _)) (le_b mX0_lengthOf_s (Nat.le_refl _)) rfl (Cal.mono h ?_)
    rintro s9 v ⟨x10, rfl, h⟩ hx11
    have h := h hx11
    have x12 := hx11.x
    show G w mX0_lengthOf_2 (KI K) (rc) (rs) s9 15 [va_rf l0, .int l1] [.int x10]
    refine G_goto 19 dX0_lengthOf_2_15 (by decide) ?_
    exact G_iret dX0_lengthOf_2_19 rfl ⟨_, rfl, h⟩
theorem eX0_lengthOf_2 {w : Wt} {K : Sg → Int32 → Prop} {σ : Sg} (l0 : Option Nat) (l1 : Int32) (h : G w mX0_lengthOf_2 (KI K) 0 0 σ 0 [va_rf l0, .int l1] []) : CalI w mX0_lengthOf_2 σ [va_rf l0, .int l1] K :=
  Cal.start 0 mX0_lengthOf_2_plain (catR (catI cat0)) (Nat.le_of_ble_eq_true rfl) rfl h
set_option maxHeartbeats 4000000 in
theorem bX0_plateFound_0 {w : Wt} {K : Sg → Int32 → Prop} {rc rs : Nat} {σ : Sg} (l0 : Option Nat) (l1 : Int32) (l2 : Int32) (l3 : Int32) (h : CalI w mX0_isSize σ [.int l1] (fun s1 x2 => Ext σ s1 → ((x2 = 0 → K s1 (-1)) ∧ (¬ x2 = 0 → CalI w mX0_isDepth s1 [.int l2] (fun s6 x7 => Ext s1 s6 → ((x7 = 0 → K s6 (-1)) ∧ (¬ x7 = 0 → CalI w mX0_isBetween s6 [.int l3, .int 0, .int 2] (fun s11 x12 => Ext s6 s11 → ((¬ x12 = 0 → ∃ a16, l0 = some a16 ∧ kd s11 a16 = 10 ∧ ∃ a19, FR s11 2 a16 = some a19 ∧ kd s11 a19 = 23 ∧ CalI w mJ7_length s11 [va_rf (FR s11 2 a16)] (fun s21 x22 => Ext s11 s21 → ((¬ x22 = 0 → CalI w mX0_lengthOf s21 [va_rf (FR s21 2 a16), .int l1] (fun s27 x28 => Ext s21 s27 → ∃ a31, FR s21 0 a16 = some a31 ∧ ((kd s27 a31 = 11 ∧ CalR w mX1_find s27 [va_rf (FR s21 0 a16), .int x28, .int l2] (fun s33 x34 => Ext s27 s33 → ((¬ x34 = none → ((¬ l3 = 0 → ((¬ l3 = 1 → ∃ a41, x34 = some a41 ∧ kd s33 a41 = 18 ∧ ((FI s33 46 a41 = 0 → K s33 0) ∧ (¬ FI s33 46 a41 = 0 → K s33 1))) ∧ (l3 = 1 → ∃ a45, x34 = some a45 ∧ kd s33 a45 = 18 ∧ K s33 (FI s33 45 a45)))) ∧ (l3 = 0 → ∃ a48, x34 = some a48 ∧ kd s33 a48 = 18 ∧ K s33 (FI s33 44 a48)))) ∧ (x34 = none → K s33 (-9))))) ∨ (kd s27 a31 = 11 ∧ CalR w mX1_findn s27 [va_rf (FR s21 0 a16), .int x28, .int l2] (fun s51 x52 => Ext s27 s51 → ((¬ x52 = none → ((¬ l3 = 0 → ((¬ l3 = 1 → ∃ a59, x52 = some a59 ∧ kd s51 a59 = 18 ∧ ((FI s51 46 a59 = 0 → K s51 0) ∧ (¬ FI s51 46 a59 = 0 → K s51 1))) ∧ (l3 = 1 → ∃ a63, x52 = some a63 ∧ kd s51 a63 = 18 ∧ K s51 (FI s51 45 a63)))) ∧ (l3 = 0 → ∃ a66, x52 = some a66 ∧ kd s51 a66 = 18 ∧ K s51 (FI s51 44 a66)))) ∧ (x52 = none → K s51 (-9)))))))) ∧ (x22 = 0 → K s21 (-2))))) ∧ (x12 = 0 → K s11 (-1))))))))))) : G w mX0_plateFound (KI K) (rc + 42) (rs + 126) σ 0 [va_rf l0, .int l1, .int l2, .int l3, U_] [] := by
  refine G_iload_n 1 dX0_plateFound_0 rfl rfl ?_
  refine G_invS (N := mX0_isSize) (As := [.int l1]) (st := []) (rc + 42) (rs + 126) "" 4 dX0_plateFound_1 (Or.inl q1634) q1635 q31 q1636 rfl mX0_isSize_args ⟨Nat.le_of_ble_eq_true rfl, Nat.le_of_ble_eq_true rfl⟩ rfl (Nat.zero_le _) (le_b mX0_isSize_c (Nat.le_refl _)) (le_b mX0_isSize_s (Nat.le_refl _)) rfl (Cal.mono h ?_)
  rintro s1 v ⟨x2, rfl, h⟩ hx3
  have h := h hx3
  have x4 := hx3.x
  show G w mX0_plateFound (KI K) (rc + 42) (rs + 126) s1 4 [va_rf l0, .int l1, .int l2, .int l3, U_] [.int x2]
  refine G_if_eq 23 7 dX0_plateFound_4 (by decide) rfl (fun u5 => ?_) (fun u5 => ?_)
  · have h := h.1 u5
    refine G_iconst (v := (-1)) 24 dX0_plateFound_23 (by decide) rfl ?_
    exact G_iret dX0_plateFound_24 rfl ⟨_, rfl, h⟩
  · have h := h.2 u5
    refine G_iload_n 8 dX0_plateFound_7 rfl rfl ?_
    refine G_invS (N := mX0_isDepth) (As := [.int l2]) (st := []) (rc + 42) (rs + 126) "" 11 dX0_plateFound_8 (Or.inl q1637) q1638 q31 q1639 rfl mX0_isDepth_args ⟨Nat.le_of_ble_eq_true rfl, Nat.le_of_ble_eq_true rfl⟩ rfl (Nat.zero_le _) (le_b mX0_isDepth_c (Nat.le_refl _)) (le_b mX0_isDepth_s (Nat.le_refl _)) rfl (Cal.mono h ?_)
    rintro s6 v ⟨x7, rfl, h⟩ hx8
    have h := h hx8
    have x9 := hx8.x
    show G w mX0_plateFound (KI K) (rc + 42) (rs + 126) s6 11 [va_rf l0, .int l1, .int l2, .int l3, U_] [.int x7]
    refine G_if_eq 23 14 dX0_plateFound_11 (by decide) rfl (fun u10 => ?_) (fun u10 => ?_)
    · have h := h.1 u10
      refine G_iconst (v := (-1)) 24 dX0_plateFound_23 (by decide) rfl ?_
      exact G_iret dX0_plateFound_24 rfl ⟨_, rfl, h⟩
    · have h := h.2 u10
      refine G_iload_n 15 dX0_plateFound_14 rfl rfl ?_
      refine G_iconst (v := 0) 16 dX0_plateFound_15 (by decide) rfl ?_
      refine G_iconst (v := 2) 17 dX0_plateFound_16 (by decide) rfl ?_
      refine G_invS (N := mX0_isBetween) (As := [.int l3, .int 0, .int 2]) (st := []) (rc + 42) (rs + 126) "" 20 dX0_plateFound_17 (Or.inl q300) q301 q31 q302 rfl mX0_isBetween_args ⟨Nat.le_of_ble_eq_true rfl, Nat.le_of_ble_eq_true rfl⟩ rfl (Nat.zero_le _) (le_b mX0_isBetween_c (Nat.le_refl _)) (le_b mX0_isBetween_s (Nat.le_refl _)) rfl (Cal.mono h ?_)
      rintro s11 v ⟨x12, rfl, h⟩ hx13
      have h := h hx13
      have x14 := hx13.x
      show G w mX0_plateFound (KI K) (rc + 42) (rs + 126) s11 20 [va_rf l0, .int l1, .int l2, .int l3, U_] [.int x12]
      refine G_if_ne 25 23 dX0_plateFound_20 (by decide) rfl (fun u15 => ?_) (fun u15 => ?_)
      · have h := h.1 u15
        refine G_aload_n 26 dX0_plateFound_25 rfl rfl ?_
        obtain ⟨a16, e17, h⟩ := h
        obtain ⟨c18, h⟩ := h
        refine G_getR (f := 2) (a := a16) "" 29 dX0_plateFound_26 (Or.inl q288) (Or.inl rfl) rfl e17 (hf2 c18) rfl ?_
        obtain ⟨a19, e20, h⟩ := h
        obtain ⟨c23, h⟩ := h
        refine G_invV (N := mJ7_length) (As := []) (st := []) (t := (FR s11 2 a16)) (b := a19) (rc + 42) (rs + 126) 32 dX0_plateFound_29 q1537 q1538 q1539 q41 q1540 rfl rfl mJ7_length_args ⟨Nat.le_of_ble_eq_true rfl, Nat.le_of_ble_eq_true rfl⟩ rfl (Nat.zero_le _) e20 (rk23 c23) (le_b mJ7_length_c (Nat.le_refl _)) (le_b mJ7_length_s (Nat.le_refl _)) rfl (Cal.mono h ?_)
        rintro s21 v ⟨x22, rfl, h⟩ hx24
        have h := h hx24
        have x25 := hx24.x
        show G w mX0_plateFound (KI K) (rc + 42) (rs + 126) s21 32 [va_rf l0, .int l1, .int l2, .int l3, U_] [.int x22]
        refine G_if_ne 38 35 dX0_plateFound_32 (by decide) rfl (fun u26 => ?_) (fun u26 => ?_)
        · have h := h.1 u26
          refine G_aload_n 39 dX0_plateFound_38 rfl rfl ?_
          have c18 := kdE x25 c18 (by decide)
          refine G_getR (f := 0) (a := a16) "" 42 dX0_plateFound_39 (Or.inl q286) (Or.inl rfl) rfl e17 (hf0 c18) rfl ?_
          refine G_aload_n 43 dX0_plateFound_42 rfl rfl ?_
          refine G_getR (f := 2) (a := a16) "" 46 dX0_plateFound_43 (Or.inl q288) (Or.inl rfl) rfl e17 (hf2 c18) rfl ?_
          refine G_iload_n 47 dX0_plateFound_46 rfl rfl ?_
          refine G_invS (N := mX0_lengthOf) (As := [va_rf (FR s21 2 a16), .int l1]) (st := [va_rf (FR s21 0 a16)]) (rc + 42) (rs + 126) "" 50 dX0_plateFound_47 (Or.inl q2087) q1852 q31 q1853 rfl mX0_lengthOf_args ⟨Nat.le_of_ble_eq_true rfl, Nat.le_of_ble_eq_true rfl⟩ rfl (Nat.le_trans (w_R w_0) (Nat.le_of_ble_eq_true rfl)) (le_b mX0_lengthOf_c (Nat.le_refl _)) (le_b mX0_lengthOf_s (Nat.le_refl _)) rfl (Cal.mono h ?_)
          rintro s27 v ⟨x28, rfl, h⟩ hx29
          have h := h hx29
          have x30 := hx29.x
          show G w mX0_plateFound (KI K) (rc + 42) (rs + 126) s27 50 [va_rf l0, .int l1, .int l2, .int l3, U_] [.int x28, va_rf (FR s21 0 a16)]
          refine G_iload_n 51 dX0_plateFound_50 rfl rfl ?_
          obtain ⟨a31, e32, h⟩ := h
          rcases h with ⟨c35, h⟩ | ⟨c53, h⟩
          · refine G_invV (N := mX1_find) (As := [.int x28, .int l2]) (st := []) (t := (FR s21 0 a16)) (b := a31) (rc) (rs) 54 dX0_plateFound_51 q2092 q1899 q1900 q32 q1901 rfl rfl mX1_find_args ⟨Nat.le_of_ble_eq_true rfl, Nat.le_of_ble_eq_true rfl⟩ rfl (Nat.zero_le _) e32 (rk11 c35) (le_b mX1_find_c (Nat.le_refl _)) (le_b mX1_find_s (Nat.le_refl _)) rfl (Cal.mono h ?_)
            rintro s33 v ⟨x34, rfl, h⟩ hx36
            have h := h hx36
            have x37 := hx36.x
            show G w mX0_plateFound (KI K) (rc) (rs) s33 54 [va_rf l0, .int l1, .int l2, .int l3, U_] [va_rf x34]
            refine G_astore 56 [va_rf l0, .int l1, .int l2, .int l3, va_rf x34] dX0_plateFound_54 (Nat.le_of_ble_eq_true rfl) rfl rfl ?_
            refine G_aload 58 dX0_plateFound_56 rfl rfl ?_
            refine G_ifnonnull 64 61 dX0_plateFound_58 (by decide) rfl (fun u38 => ?_) (fun u38 => ?_)
            · have h := h.1 u38
              refine G_iload_n 65 dX0_plateFound_64 rfl rfl ?_
              refine G_if_ne 76 68 dX0_plateFound_65 (by decide) rfl (fun u39 => ?_) (fun u39 => ?_)
              · have h := h.1 u39
                refine G_iload_n 77 dX0_plateFound_76 rfl rfl ?_
                refine G_iconst (v := 1) 78 dX0_plateFound_77 (by decide) rfl ?_
                refine G_icmp_ne 89 81 dX0_plateFound_78 (by decide) rfl (fun u40 => ?_) (fun u40 => ?_)
                · have h := h.1 u40
                  refine G_aload 91 dX0_plateFound_89 rfl rfl ?_
                  obtain ⟨a41, e42, h⟩ := h
                  obtain ⟨c43, h⟩ := h
                  refine G_getI (f := 46) (a := a41) "TrophyPlates" 94 dX0_plateFound_91 (Or.inr q1935) (Or.inl rfl) rfl e42 (hf46 c43) rfl ?_
                  refine G_if_eq 101 97 dX0_plateFound_94 (by decide) rfl (fun u44 => ?_) (fun u44 => ?_)
                  · have h := h.1 u44
                    refine G_iconst (v := 0) 102 dX0_plateFound_101 (by decide) rfl ?_
                    exact G_iret dX0_plateFound_102 rfl ⟨_, rfl, h⟩
                  · have h := h.2 u44
                    refine G_iconst (v := 1) 98 dX0_plateFound_97 (by decide) rfl ?_
                    refine G_goto 102 dX0_plateFound_98 (by decide) ?_
                    exact G_iret dX0_plateFound_102 rfl ⟨_, rfl, h⟩
                · have h := h.2 u40
                  refine G_aload 83 dX0_plateFound_81 rfl rfl ?_
                  obtain ⟨a45, e46, h⟩ := h
                  obtain ⟨c47, h⟩ := h
                  refine G_getI (f := 45) (a := a45) "TrophyPlates" 86 dX0_plateFound_83 (Or.inr q1932) (Or.inl rfl) rfl e46 (hf45 c47) rfl ?_
                  refine G_goto 102 dX0_plateFound_86 (by decide) ?_
                  exact G_iret dX0_plateFound_102 rfl ⟨_, rfl, h⟩
              · have h := h.2 u39
                refine G_aload 70 dX0_plateFound_68 rfl rfl ?_
                obtain ⟨a48, e49, h⟩ := h
                obtain ⟨c50, h⟩ := h
                refine G_getI (f := 44) (a := a48) "TrophyPlates" 73 dX0_plateFound_70 (Or.inr q1929) (Or.inl rfl) rfl e49 (hf44 c50) rfl ?_
                refine G_goto 102 dX0_plateFound_73 (by decide) ?_
                exact G_iret dX0_plateFound_102 rfl ⟨_, rfl, h⟩
            · have h := h.2 u38
              refine G_bipush (v := (-9)) 63 dX0_plateFound_61 (by decide) rfl ?_
              exact G_iret dX0_plateFound_63 rfl ⟨_, rfl, h⟩
          · refine G_invV (N := mX1_findn) (As := [.int x28, .int l2]) (st := []) (t := (FR s21 0 a16)) (b := a31) (rc + 40) (rs + 120) 54 dX0_plateFound_51 q2092 q1899 q1900 q32 q1901 rfl rfl mX1_find_args ⟨Nat.le_of_ble_eq_true rfl, Nat.le_of_ble_eq_true rfl⟩ rfl (Nat.zero_le _) e32 (rk11 c53) (le_b mX1_findn_c (Nat.le_refl _)) (le_b mX1_findn_s (Nat.le_refl _)) rfl (Cal.mono h ?_)
            rintro s51 v ⟨x52, rfl, h⟩ hx54
            have h := h hx54
            have x55 := hx54.x
            show G w mX0_plateFound (KI K) (rc + 40) (rs + 120) s51 54 [va_rf l0, .int l1, .int l2, .int l3, U_] [va_rf x52]
            refine G_astore 56 [va_rf l0, .int l1, .int l2, .int l3, va_rf x52] dX0_plateFound_54 (Nat.le_of_ble_eq_true rfl) rfl rfl ?_
            refine G_aload 58 dX0_plateFound_56 rfl rfl ?_
            refine G_ifnonnull 64 61 dX0_plateFound_58 (by decide) rfl (fun u56 => ?_) (fun u56 => ?_)
            · have h := h.1 u56
              refine G_iload_n 65 dX0_plateFound_64 rfl rfl ?_
              refine G_if_ne 76 68 dX0_plateFound_65 (by decide) rfl (fun u57 => ?_) (fun u57 => ?_)
              · have h := h.1 u57
                refine G_iload_n 77 dX0_plateFound_76 rfl rfl ?_
                refine G_iconst (v := 1) 78 dX0_plateFound_77 (by decide) rfl ?_
                refine G_icmp_ne 89 81 dX0_plateFound_78 (by decide) rfl (fun u58 => ?_) (fun u58 => ?_)
                · have h := h.1 u58
                  refine G_aload 91 dX0_plateFound_89 rfl rfl ?_
                  obtain ⟨a59, e60, h⟩ := h
                  obtain ⟨c61, h⟩ := h
                  refine G_getI (f := 46) (a := a59) "TrophyPlates" 94 dX0_plateFound_91 (Or.inr q1935) (Or.inl rfl) rfl e60 (hf46 c61) rfl ?_
                  refine G_if_eq 101 97 dX0_plateFound_94 (by decide) rfl (fun u62 => ?_) (fun u62 => ?_)
                  · have h := h.1 u62
                    refine G_iconst (v := 0) 102 dX0_plateFound_101 (by decide) rfl ?_
                    exact G_iret dX0_plateFound_102 rfl ⟨_, rfl, h⟩
                  · have h := h.2 u62
                    refine G_iconst (v := 1) 98 dX0_plateFound_97 (by decide) rfl ?_
                    refine G_goto 102 dX0_plateFound_98 (by decide) ?_
                    exact G_iret dX0_plateFound_102 rfl ⟨_, rfl, h⟩
                · have h := h.2 u58
                  refine G_aload 83 dX0_plateFound_81 rfl rfl ?_
                  obtain ⟨a63, e64, h⟩ := h
                  obtain ⟨c65, h⟩ := h
                  refine G_getI (f := 45) (a := a63) "TrophyPlates" 86 dX0_plateFound_83 (Or.inr q1932) (Or.inl rfl) rfl e64 (hf45 c65) rfl ?_
                  refine G_goto 102 dX0_plateFound_86 (by decide) ?_
                  exact G_iret dX0_plateFound_102 rfl ⟨_, rfl, h⟩
              · have h := h.2 u57
                refine G_aload 70 dX0_plateFound_68 rfl rfl ?_
                obtain ⟨a66, e67, h⟩ := h
                obtain ⟨c68, h⟩ := h
                refine G_getI (f := 44) (a := a66) "TrophyPlates" 73 dX0_plateFound_70 (Or.inr q1929) (Or.inl rfl) rfl e67 (hf44 c68) rfl ?_
                refine G_goto 102 dX0_plateFound_73 (by decide) ?_
                exact G_iret dX0_plateFound_102 rfl ⟨_, rfl, h⟩
            · have h := h.2 u56
              refine G_bipush (v := (-9)) 63 dX0_plateFound_61 (by decide) rfl ?_
              exact G_iret dX0_plateFound_63 rfl ⟨_, rfl, h⟩
        · have h := h.2 u26
          refine G_bipush (v := (-2)) 37 dX0_plateFound_35 (by decide) rfl ?_
          exact G_iret dX0_plateFound_37 rfl ⟨_, rfl, h⟩
      · have h := h.2 u15
        refine G_iconst (v := (-1)) 24 dX0_plateFound_23 (by decide) rfl ?_
        exact G_iret dX0_plateFound_24 rfl ⟨_, rfl, h⟩
theorem eX0_plateFound {w : Wt} {K : Sg → Int32 → Prop} {σ : Sg} (l0 : Option Nat) (l1 : Int32) (l2 : Int32) (l3 : Int32) (h : G w mX0_plateFound (KI K) 42 126 σ 0 [va_rf l0, .int l1, .int l2, .int l3, U_] []) : CalI w mX0_plateFound σ [va_rf l0, .int l1, .int l2, .int l3] K :=
  Cal.start 1 mX0_plateFound_plain (catR (catI (catI (catI cat0)))) (Nat.le_of_ble_eq_true rfl) rfl h
set_option maxHeartbeats 4000000 in
theorem bX0_doneIn_0 {w : Wt} {K : Sg → Int32 → Prop} {rc rs : Nat} {σ : Sg} (l0 : Option Nat) (l1 : Int32) (h : ∃ a1, l0 = some a1 ∧ kd σ a1 = 10 ∧ ∃ a4, FR σ 0 a1 = some a4 ∧ kd σ a4 = 11 ∧ CalI w mX1_isOrder σ [va_rf (FR σ 0 a1), .int l1] (fun s6 x7 => Ext σ s6 → ((¬ x7 = 0 → ∃ a12, FR s6 0 a1 = some a12 ∧ kd s6 a12 = 11 ∧ CalR w mX1_times s6 [va_rf (FR s6 0 a1)] (fun s14 x15 => Ext s6 s14 → ∃ a19, FR s14 0 a1 = some a19 ∧ kd s14 a19 = 11 ∧ ∃ a22, FR s14 4 a19 = some a22 ∧ kd s14 a22 = 20 ∧ CalR w mJ2_get s14 [va_rf (FR s14 4 a19), .int l1] (fun s24 x25 => Ext s14 s24 → (x25 = none ∨ ∃ b, x25 = some b ∧ kd s24 b = 17) ∧ ∃ a30, x25 = some a30 ∧ kd s24 a30 = 17 ∧ ∃ a33, x15 = some a33 ∧ kd s24 a33 = 21 ∧ CalR w mJ5_get s24 [va_rf x15, va_rf (FR s24 39 a30)] (fun s35 x36 => Ext s24 s35 → (x36 = none ∨ ∃ b, x36 = some b ∧ kd s35 b ∈ [29, 6]) ∧ ((¬ x36 = none → ∃ a42, x36 = some a42 ∧ kd s35 a42 ∈ [29, 6] ∧ CalI w mJ26_intValue s35 [va_rf x36] (fun s44 x45 => Ext s35 s44 → K s44 x45)) ∧ (x36 = none → K s35 (-9))))))) ∧ (x7 = 0 → K s6 (-1))))) : G w mX0_doneIn (KI K) (rc + 2700) (rs + 26000) σ 0 [va_rf l0, .int l1, U_] [] := by
  refine G_aload_n 1 dX0_doneIn_0 rfl rfl ?_
  obtain ⟨a1, e2, h⟩ := h
  obtain ⟨c3, h⟩ := h
  refine G_getR (f := 0) (a := a1) "" 4 dX0_doneIn_1 (Or.inl q286) (Or.inl rfl) rfl e2 (hf0 c3) rfl ?_
  refine G_iload_n 5 dX0_doneIn_4 rfl rfl ?_
  obtain ⟨a4, e5, h⟩ := h
  obtain ⟨c8, h⟩ := h
  refine G_invV (N := mX1_isOrder) (As := [.int l1]) (st := []) (t := (FR σ 0 a1)) (b := a4) (rc + 2700) (rs + 26000) 8 dX0_doneIn_5 q1793 q1794 q1795 q32 q1796 rfl rfl mX1_isOrder_args ⟨Nat.le_of_ble_eq_true rfl, Nat.le_of_ble_eq_true rfl⟩ rfl (Nat.zero_le _) e5 (rk11 c8) (le_b mX1_isOrder_c (Nat.le_refl _)) (le_b mX1_isOrder_s (Nat.le_refl _)) rfl (Cal.mono h ?_)
  rintro s6 v ⟨x7, rfl, h⟩ hx9
  have h := h hx9
  have x10 := hx9.x
  show G w mX0_doneIn (KI K) (rc + 2700) (rs + 26000) s6 8 [va_rf l0, .int l1, U_] [.int x7]
  refine G_if_ne 13 11 dX0_doneIn_8 (by decide) rfl (fun u11 => ?_) (fun u11 => ?_)
  · have h := h.1 u11
    refine G_aload_n 14 dX0_doneIn_13 rfl rfl ?_
    have c3 := kdE x10 c3 (by decide)
    refine G_getR (f := 0) (a := a1) "" 17 dX0_doneIn_14 (Or.inl q286) (Or.inl rfl) rfl e2 (hf0 c3) rfl ?_
    obtain ⟨a12, e13, h⟩ := h
    obtain ⟨c16, h⟩ := h
    refine G_invV (N := mX1_times) (As := []) (st := []) (t := (FR s6 0 a1)) (b := a12) (rc) (rs) 20 dX0_doneIn_17 q2097 q2098 q2099 q32 q2100 rfl rfl mX1_times_args ⟨Nat.le_of_ble_eq_true rfl, Nat.le_of_ble_eq_true rfl⟩ rfl (Nat.zero_le _) e13 (rk11 c16) (le_b mX1_times_c (Nat.le_refl _)) (le_b mX1_times_s (Nat.le_refl _)) rfl (Cal.mono h ?_)
    rintro s14 v ⟨x15, rfl, h⟩ hx17
    have h := h hx17
    have x18 := hx17.x
    show G w mX0_doneIn (KI K) (rc) (rs) s14 20 [va_rf l0, .int l1, U_] [va_rf x15]
    refine G_aload_n 21 dX0_doneIn_20 rfl rfl ?_
    have c3 := kdE x18 c3 (by decide)
    refine G_getR (f := 0) (a := a1) "" 24 dX0_doneIn_21 (Or.inl q286) (Or.inl rfl) rfl e2 (hf0 c3) rfl ?_
    obtain ⟨a19, e20, h⟩ := h
    obtain ⟨c21, h⟩ := h
    refine G_getR (f := 4) (a := a19) "TrophyPlates" 27 dX0_doneIn_24 (Or.inr q187) (Or.inl rfl) rfl e20 (hf4 c21) rfl ?_
    refine G_iload_n 28 dX0_doneIn_27 rfl rfl ?_
    obtain ⟨a22, e23, h⟩ := h
    obtain ⟨c26, h⟩ := h
    refine G_invF (N := mJ2_get) (x := ⟨"java/util/List", "get", "(I)Ljava/lang/Object;"⟩) (As := [.int l1]) (st := [va_rf x15]) (t := (FR s14 4 a19)) (b := a22) (rc) (rs) 33 dX0_doneIn_28 q1390 q1393 q1395 q35 q1397 q1392 q1391 q1396 q1394 q307 rfl ax32 ⟨Nat.le_of_ble_eq_true rfl, Nat.le_of_ble_eq_true rfl⟩ rfl (Nat.le_trans (w_R w_0) (Nat.le_of_ble_eq_true rfl)) e23 (rk20 c26) (le_b mJ2_get_c (Nat.le_refl _)) (le_b mJ2_get_s (Nat.le_refl _)) rfl (Cal.mono h ?_)
    rintro s24 v ⟨x25, rfl, h⟩ hx27
    have h := h hx27
    have x28 := hx27.x
    show G w mX0_doneIn (KI K) (rc) (rs) s24 33 [va_rf l0, .int l1, U_] [va_rf x25, va_rf x15]
    obtain ⟨c29, h⟩ := h
    refine G_cast 36 dX0_doneIn_33 q1685 rfl (c29.imp id (fun ⟨b, e, k⟩ => ⟨b, e, co5 k⟩)) ?_
    obtain ⟨a30, e31, h⟩ := h
    obtain ⟨c32, h⟩ := h
    refine G_getR (f := 39) (a := a30) "TrophyPlates" 39 dX0_doneIn_36 (Or.inr q1745) (Or.inl rfl) rfl e31 (hf39 c32) rfl ?_
    obtain ⟨a33, e34, h⟩ := h
    obtain ⟨c37, h⟩ := h
    refine G_invF (N := mJ5_get) (x := ⟨"java/util/Map", "get", "(Ljava/lang/Object;)Ljava/lang/Object;"⟩) (As := [va_rf (FR s24 39 a30)]) (st := []) (t := x15) (b := a33) (rc) (rs) 44 dX0_doneIn_39 q2104 q1486 q1488 q38 q1490 q1470 q1469 q1489 q1487 q602 rfl ax33 ⟨Nat.le_of_ble_eq_true rfl, Nat.le_of_ble_eq_true rfl⟩ rfl (Nat.zero_le _) e34 (rk21 c37) (le_b mJ5_get_c (Nat.le_refl _)) (le_b mJ5_get_s (Nat.le_refl _)) rfl (Cal.mono h ?_)
    rintro s35 v ⟨x36, rfl, h⟩ hx38
    have h := h hx38
    have x39 := hx38.x
    show G w mX0_doneIn (KI K) (rc) (rs) s35 44 [va_rf l0, .int l1, U_] [va_rf x36]
    obtain ⟨c40, h⟩ := h
    refine G_cast 47 dX0_doneIn_44 q2057 rfl (c40.imp id (fun ⟨b, e, k⟩ => ⟨b, e, co7 k⟩)) ?_
    refine G_astore_n 48 [va_rf l0, .int l1, va_rf x36] dX0_doneIn_47 (Nat.le_of_ble_eq_true rfl) rfl rfl ?_
    refine G_aload_n 49 dX0_doneIn_48 rfl rfl ?_
    refine G_ifnonnull 57 52 dX0_doneIn_49 (by decide) rfl (fun u41 => ?_) (fun u41 => ?_)
    · have h := h.1 u41
      refine G_aload_n 58 dX0_doneIn_57 rfl rfl ?_
      obtain ⟨a42, e43, h⟩ := h
      obtain ⟨c46, h⟩ := h
      refine G_invV (N := mJ26_intValue) (As := []) (st := []) (t := x36) (b := a42) (rc) (rs) 61 dX0_doneIn_58 q2058 q1270 q1271 q64 q1272 rfl rfl mJ26_intValue_args ⟨Nat.le_of_ble_eq_true rfl, Nat.le_of_ble_eq_true rfl⟩ rfl (Nat.zero_le _) e43 (rk29 c46) (le_b mJ26_intValue_c (Nat.le_refl _)) (le_b mJ26_intValue_s (Nat.le_refl _)) rfl (Cal.mono h ?_)
      rintro s44 v ⟨x45, rfl, h⟩ hx47
      have h := h hx47
      have x48 := hx47.x
      show G w mX0_doneIn (KI K) (rc) (rs) s44 61 [va_rf l0, .int l1, va_rf x36] [.int x45]
      exact G_iret dX0_doneIn_61 rfl ⟨_, rfl, h⟩
    · have h := h.2 u41
      refine G_bipush (v := (-9)) 54 dX0_doneIn_52 (by decide) rfl ?_
      refine G_goto 61 dX0_doneIn_54 (by decide) ?_
      exact G_iret dX0_doneIn_61 rfl ⟨_, rfl, h⟩
  · have h := h.2 u11
    refine G_iconst (v := (-1)) 12 dX0_doneIn_11 (by decide) rfl ?_
    exact G_iret dX0_doneIn_12 rfl ⟨_, rfl, h⟩
theorem eX0_doneIn {w : Wt} {K : Sg → Int32 → Prop} {σ : Sg} (l0 : Option Nat) (l1 : Int32) (h : G w mX0_doneIn (KI K) 2700 26000 σ 0 [va_rf l0, .int l1, U_] []) : CalI w mX0_doneIn σ [va_rf l0, .int l1] K :=
  Cal.start 1 mX0_doneIn_plain (catR (catI cat0)) (Nat.le_of_ble_eq_true rfl) rfl h
set_option maxHeartbeats 4000000 in
theorem bX0_moved_0 {w : Wt} {K : Sg → Int32 → Prop} {rc rs : Nat} {σ : Sg} (l0 : Option Nat) (l1 : Int32) (h : ∃ a1, l0 = some a1 ∧ kd σ a1 = 10 ∧ ∃ a4, FR σ 0 a1 = some a4 ∧ kd σ a4 = 11 ∧ CalI w mX1_isOrder σ [va_rf (FR σ 0 a1), .int l1] (fun s6 x7 => Ext σ s6 → ((¬ x7 = 0 → ∃ a12, FR s6 0 a1 = some a12 ∧ kd s6 a12 = 11 ∧ ∃ a15, FR s6 4 a12 = some a15 ∧ kd s6 a15 = 20 ∧ CalR w mJ2_get s6 [va_rf (FR s6 4 a12), .int l1] (fun s17 x18 => Ext s6 s17 → (x18 = none ∨ ∃ b, x18 = some b ∧ kd s17 b = 17) ∧ ∃ a23, x18 = some a23 ∧ kd s17 a23 = 17 ∧ ((FI s17 43 a23 = 0 → ∃ a27, FR s17 0 a1 = some a27 ∧ kd s17 a27 = 11 ∧ CalR w mX1_copy s17 [va_rf (FR s17 0 a1)] (fun s29 x30 => Ext s17 s29 → ∃ a34, x30 = some a34 ∧ kd s29 a34 = 11 ∧ CalI w mX1_hurry s29 [va_rf x30, .int l1] (fun s36 x37 => Ext s29 s36 → ∃ a41, FR s36 0 a1 = some a41 ∧ kd s36 a41 = 11 ∧ CalR w mX1_times s36 [va_rf (FR s36 0 a1)] (fun s43 x44 => Ext s36 s43 → CalR w mX1_times s43 [va_rf x30] (fun s48 x49 => Ext s43 s48 → ∃ a52, FR s48 0 a1 = some a52 ∧ kd s48 a52 = 11 ∧ ∃ a55, FR s48 4 a52 = some a55 ∧ kd s48 a55 = 20 ∧ CalR w mJ2_iterator s48 [va_rf (FR s48 4 a52)] (fun s57 x58 => Ext s48 s57 → G w mX0_moved (KI K) (rc) (rs) s57 84 [va_rf l0, .int l1, va_rf x30, .int x37, va_rf x44, va_rf x49, .int 0, va_rf x58, U_] [])))))) ∧ (¬ FI s17 43 a23 = 0 → K s17 (-2))))) ∧ (x7 = 0 → K s6 (-1))))) : G w mX0_moved (KI K) (rc + 6004) (rs + 62035) σ 0 [va_rf l0, .int l1, U_, U_, U_, U_, U_, U_, U_] [] := by
  refine G_aload_n 1 dX0_moved_0 rfl rfl ?_
  obtain ⟨a1, e2, h⟩ := h
  obtain ⟨c3, h⟩ := h
  refine G_getR (f := 0) (a := a1) "" 4 dX0_moved_1 (Or.inl q286) (Or.inl rfl) rfl e2 (hf0 c3) rfl ?_
  refine G_iload_n 5 dX0_moved_4 rfl rfl ?_
  obtain ⟨a4, e5, h⟩ := h
  obtain ⟨c8, h⟩ := h
  refine G_invV (N := mX1_isOrder) (As := [.int l1]) (st := []) (t := (FR σ 0 a1)) (b := a4) (rc + 6004) (rs + 62035) 8 dX0_moved_5 q1793 q1794 q1795 q32 q1796 rfl rfl mX1_isOrder_args ⟨Nat.le_of_ble_eq_true rfl, Nat.le_of_ble_eq_true rfl⟩ rfl (Nat.zero_le _) e5 (rk11 c8) (le_b mX1_isOrder_c (Nat.le_refl _)) (le_b mX1_isOrder_s (Nat.le_refl _)) rfl (Cal.mono h ?_)
  rintro s6 v ⟨x7, rfl, h⟩ hx9
  have h := h hx9
  have x10 := hx9.x
  show G w mX0_moved (KI K) (rc + 6004) (rs + 62035) s6 8 [va_rf l0, .int l1, U_, U_, U_, U_, U_, U_, U_] [.int x7]
  refine G_if_ne 13 11 dX0_moved_8 (by decide) rfl (fun u11 => ?_) (fun u11 => ?_)
  · have h := h.1 u11
    refine G_aload_n 14 dX0_moved_13 rfl rfl ?_
    have c3 := kdE x10 c3 (by decide)
    refine G_getR (f := 0) (a := a1) "" 17 dX0_moved_14 (Or.inl q286) (Or.inl rfl) rfl e2 (hf0 c3) rfl ?_
    obtain ⟨a12, e13, h⟩ := h
    obtain ⟨c14, h⟩ := h
    refine G_getR (f := 4) (a := a12) "TrophyPlates" 20 dX0_moved_17 (Or.inr q187) (Or.inl rfl) rfl e13 (hf4 c14) rfl ?_
    refine G_iload_n 21 dX0_moved_20 rfl rfl ?_
    obtain ⟨a15, e16, h⟩ := h
    obtain ⟨c19, h⟩ := h
    refine G_invF (N := mJ2_get) (x := ⟨"java/util/List", "get", "(I)Ljava/lang/Object;"⟩) (As := [.int l1]) (st := []) (t := (FR s6 4 a12)) (b := a15) (rc + 6004) (rs + 62035) 26 dX0_moved_21 q1390 q1393 q1395 q35 q1397 q1392 q1391 q1396 q1394 q307 rfl ax32 ⟨Nat.le_of_ble_eq_true rfl, Nat.le_of_ble_eq_true rfl⟩ rfl (Nat.zero_le _) e16 (rk20 c19) (le_b mJ2_get_c (Nat.le_refl _)) (le_b mJ2_get_s (Nat.le_refl _)) rfl (Cal.mono h ?_)
    rintro s17 v ⟨x18, rfl, h⟩ hx20
    have h := h hx20
    have x21 := hx20.x
    show G w mX0_moved (KI K) (rc + 6004) (rs + 62035) s17 26 [va_rf l0, .int l1, U_, U_, U_, U_, U_, U_, U_] [va_rf x18]
    obtain ⟨c22, h⟩ := h
    refine G_cast 29 dX0_moved_26 q1685 rfl (c22.imp id (fun ⟨b, e, k⟩ => ⟨b, e, co5 k⟩)) ?_
    obtain ⟨a23, e24, h⟩ := h
    obtain ⟨c25, h⟩ := h
    refine G_getI (f := 43) (a := a23) "TrophyPlates" 32 dX0_moved_29 (Or.inr q1755) (Or.inl rfl) rfl e24 (hf43 c25) rfl ?_
    refine G_if_eq 38 35 dX0_moved_32 (by decide) rfl (fun u26 => ?_) (fun u26 => ?_)
    · have h := h.1 u26
      refine G_aload_n 39 dX0_moved_38 rfl rfl ?_
      have c3 := kdE x21 c3 (by decide)
      refine G_getR (f := 0) (a := a1) "" 42 dX0_moved_39 (Or.inl q286) (Or.inl rfl) rfl e2 (hf0 c3) rfl ?_
      obtain ⟨a27, e28, h⟩ := h
      obtain ⟨c31, h⟩ := h
      refine G_invV (N := mX1_copy) (As := []) (st := []) (t := (FR s17 0 a1)) (b := a27) (rc + 5404) (rs + 52035) 45 dX0_moved_42 q336 q337 q338 q32 q339 rfl rfl mX1_copy_args ⟨Nat.le_of_ble_eq_true rfl, Nat.le_of_ble_eq_true rfl⟩ rfl (Nat.zero_le _) e28 (rk11 c31) (le_b mX1_copy_c (Nat.le_refl _)) (le_b mX1_copy_s (Nat.le_refl _)) rfl (Cal.mono h ?_)
      rintro s29 v ⟨x30, rfl, h⟩ hx32
      have h := h hx32
      have x33 := hx32.x
      show G w mX0_moved (KI K) (rc + 5404) (rs + 52035) s29 45 [va_rf l0, .int l1, U_, U_, U_, U_, U_, U_, U_] [va_rf x30]
      refine G_astore_n 46 [va_rf l0, .int l1, va_rf x30, U_, U_, U_, U_, U_, U_] dX0_moved_45 (Nat.le_of_ble_eq_true rfl) rfl rfl ?_
      refine G_aload_n 47 dX0_moved_46 rfl rfl ?_
      refine G_iload_n 48 dX0_moved_47 rfl rfl ?_
      obtain ⟨a34, e35, h⟩ := h
      obtain ⟨c38, h⟩ := h
      refine G_invV (N := mX1_hurry) (As := [.int l1]) (st := []) (t := x30) (b := a34) (rc + 5401) (rs + 52004) 51 dX0_moved_48 q1797 q1798 q1799 q32 q1800 rfl rfl mX1_hurry_args ⟨Nat.le_of_ble_eq_true rfl, Nat.le_of_ble_eq_true rfl⟩ rfl (Nat.zero_le _) e35 (rk11 c38) (le_b mX1_hurry_c (Nat.le_refl _)) (le_b mX1_hurry_s (Nat.le_refl _)) rfl (Cal.mono h ?_)
      rintro s36 v ⟨x37, rfl, h⟩ hx39
      have h := h hx39
      have x40 := hx39.x
      show G w mX0_moved (KI K) (rc + 5401) (rs + 52004) s36 51 [va_rf l0, .int l1, va_rf x30, U_, U_, U_, U_, U_, U_] [.int x37]
      refine G_istore_n 52 [va_rf l0, .int l1, va_rf x30, .int x37, U_, U_, U_, U_, U_] dX0_moved_51 (Nat.le_of_ble_eq_true rfl) rfl rfl ?_
      refine G_aload_n 53 dX0_moved_52 rfl rfl ?_
      have c3 := kdE x33 c3 (by decide)
      have c3 := kdE x40 c3 (by decide)
      refine G_getR (f := 0) (a := a1) "" 56 dX0_moved_53 (Or.inl q286) (Or.inl rfl) rfl e2 (hf0 c3) rfl ?_
      obtain ⟨a41, e42, h⟩ := h
      obtain ⟨c45, h⟩ := h
      refine G_invV (N := mX1_times) (As := []) (st := []) (t := (FR s36 0 a1)) (b := a41) (rc + 2701) (rs + 26004) 59 dX0_moved_56 q2097 q2098 q2099 q32 q2100 rfl rfl mX1_times_args ⟨Nat.le_of_ble_eq_true rfl, Nat.le_of_ble_eq_true rfl⟩ rfl (Nat.zero_le _) e42 (rk11 c45) (le_b mX1_times_c (Nat.le_refl _)) (le_b mX1_times_s (Nat.le_refl _)) rfl (Cal.mono h ?_)
      rintro s43 v ⟨x44, rfl, h⟩ hx46
      have h := h hx46
      have x47 := hx46.x
      show G w mX0_moved (KI K) (rc + 2701) (rs + 26004) s43 59 [va_rf l0, .int l1, va_rf x30, .int x37, U_, U_, U_, U_, U_] [va_rf x44]
      refine G_astore 61 [va_rf l0, .int l1, va_rf x30, .int x37, va_rf x44, U_, U_, U_, U_] dX0_moved_59 (Nat.le_of_ble_eq_true rfl) rfl rfl ?_
      refine G_aload_n 62 dX0_moved_61 rfl rfl ?_
      have c38 := kdE x40 c38 (by decide)
      have c38 := kdE x47 c38 (by decide)
      refine G_invV (N := mX1_times) (As := []) (st := []) (t := x30) (b := a34) (rc + 1) (rs + 4) 65 dX0_moved_62 q2097 q2098 q2099 q32 q2100 rfl rfl mX1_times_args ⟨Nat.le_of_ble_eq_true rfl, Nat.le_of_ble_eq_true rfl⟩ rfl (Nat.zero_le _) e35 (rk11 c38) (le_b mX1_times_c (Nat.le_refl _)) (le_b mX1_times_s (Nat.le_refl _)) rfl (Cal.mono h ?_)
      rintro s48 v ⟨x49, rfl, h⟩ hx50
      have h := h hx50
      have x51 := hx50.x
      show G w mX0_moved (KI K) (rc + 1) (rs + 4) s48 65 [va_rf l0, .int l1, va_rf x30, .int x37, va_rf x44, U_, U_, U_, U_] [va_rf x49]
      refine G_astore 67 [va_rf l0, .int l1, va_rf x30, .int x37, va_rf x44, va_rf x49, U_, U_, U_] dX0_moved_65 (Nat.le_of_ble_eq_true rfl) rfl rfl ?_
      refine G_iconst (v := 0) 68 dX0_moved_67 (by decide) rfl ?_
      refine G_istore 70 [va_rf l0, .int l1, va_rf x30, .int x37, va_rf x44, va_rf x49, .int 0, U_, U_] dX0_moved_68 (Nat.le_of_ble_eq_true rfl) rfl rfl ?_
      refine G_aload_n 71 dX0_moved_70 rfl rfl ?_
      have c3 := kdE x47 c3 (by decide)
      have c3 := kdE x51 c3 (by decide)
      refine G_getR (f := 0) (a := a1) "" 74 dX0_moved_71 (Or.inl q286) (Or.inl rfl) rfl e2 (hf0 c3) rfl ?_
      obtain ⟨a52, e53, h⟩ := h
      obtain ⟨c54, h⟩ := h
      refine G_getR (f := 4) (a := a52) "TrophyPlates" 77 dX0_moved_74 (Or.inr q187) (Or.inl rfl) rfl e53 (hf4 c54) rfl ?_
      obtain ⟨a55, e56, h⟩ := h
      obtain ⟨c59, h⟩ := h
      refine G_invF (N := mJ2_iterator) (x := ⟨"java/util/List", "iterator", "()Ljava/util/Iterator;"⟩) (As := []) (st := []) (t := (FR s48 4 a52)) (b := a55) (rc) (rs) 82 dX0_moved_77 q2110 q346 q348 q35 q350 q345 q344 q349 q347 q307 rfl ax22 ⟨Nat.le_of_ble_eq_true rfl, Nat.le_of_ble_eq_true rfl⟩ rfl (Nat.zero_le _) e56 (rk20 c59) (le_b mJ2_iterator_c (Nat.le_refl _)) (le_b mJ2_iterator_s (Nat.le_refl _)) rfl (Cal.mono h ?_)
      rintro s57 v ⟨x58, rfl, h⟩ hx60
      have h := h hx60
      have x61 := hx60.x
      show G w mX0_moved (KI K) (rc) (rs) s57 82 [va_rf l0, .int l1, va_rf x30, .int x37, va_rf x44, va_rf x49, .int 0, U_, U_] [va_rf x58]
      refine G_astore 84 [va_rf l0, .int l1, va_rf x30, .int x37, va_rf x44, va_rf x49, .int 0, va_rf x58, U_] dX0_moved_82 (Nat.le_of_ble_eq_true rfl) rfl rfl ?_
      exact h
    · have h := h.2 u26
      refine G_bipush (v := (-2)) 37 dX0_moved_35 (by decide) rfl ?_
      exact G_iret dX0_moved_37 rfl ⟨_, rfl, h⟩
  · have h := h.2 u11
    refine G_iconst (v := (-1)) 12 dX0_moved_11 (by decide) rfl ?_
    exact G_iret dX0_moved_12 rfl ⟨_, rfl, h⟩
set_option maxHeartbeats 4000000 in
theorem bX0_moved_84 {w : Wt} {K : Sg → Int32 → Prop} {rc rs : Nat} {σ : Sg} (l0 : Option Nat) (l1 : Int32) (l2 : Option Nat) (l3 : Int32) (l4 : Option Nat) (l5 : Option Nat) (l6 : Int32) (l7 : Option Nat) (v8 : Value) (h : ∃ a1, l7 = some a1 ∧ kd σ a1 = 19 ∧ CalI w mJ10_hasNext σ [va_rf l7] (fun s3 x4 => Ext σ s3 → ((x4 = 0 → K s3 (100000 + l6)) ∧ (¬ x4 = 0 → CalR w mJ10_next s3 [va_rf l7] (fun s9 x10 => Ext s3 s9 → (x10 = none ∨ ∃ b, x10 = some b ∧ kd s9 b = 17) ∧ ∃ a14, x10 = some a14 ∧ kd s9 a14 = 17 ∧ ∃ a17, l4 = some a17 ∧ kd s9 a17 = 21 ∧ CalI w mJ4_containsKey s9 [va_rf l4, va_rf (FR s9 39 a14)] (fun s19 x20 => Ext s9 s19 → ((x20 = 0 → K s19 (-9)) ∧ (¬ x20 = 0 → ∃ a25, l5 = some a25 ∧ kd s19 a25 = 21 ∧ CalI w mJ4_containsKey s19 [va_rf l5, va_rf (FR s19 39 a14)] (fun s27 x28 => Ext s19 s27 → ((¬ x28 = 0 → ∃ a33, l0 = some a33 ∧ kd s27 a33 = 10 ∧ ∃ a36, FR s27 0 a33 = some a36 ∧ kd s27 a36 = 11 ∧ ∃ a39, FR s27 4 a36 = some a39 ∧ kd s27 a39 = 20 ∧ CalR w mJ2_get s27 [va_rf (FR s27 4 a36), .int l1] (fun s41 x42 => Ext s27 s41 → ((¬ x10 = x42 → CalR w mJ5_get s41 [va_rf l5, va_rf (FR s41 39 a14)] (fun s47 x48 => Ext s41 s47 → (x48 = none ∨ ∃ b, x48 = some b ∧ kd s47 b ∈ [29, 6]) ∧ ∃ a52, x48 = some a52 ∧ kd s47 a52 ∈ [29, 6] ∧ CalI w mJ26_intValue s47 [va_rf x48] (fun s54 x55 => Ext s47 s54 → CalR w mJ5_get s54 [va_rf l4, va_rf (FR s54 39 a14)] (fun s59 x60 => Ext s54 s59 → (x60 = none ∨ ∃ b, x60 = some b ∧ kd s59 b ∈ [29, 6]) ∧ ∃ a64, x60 = some a64 ∧ kd s59 a64 ∈ [29, 6] ∧ CalI w mJ26_intValue s59 [va_rf x60] (fun s66 x67 => Ext s59 s66 → G w mX0_moved (KI K) (rc) (rs) s66 84 [va_rf l0, .int l1, va_rf l2, .int l3, va_rf l4, va_rf l5, .int (l6 + (x55 - x67)), va_rf l7, va_rf x10] []))))) ∧ (x10 = x42 → G w mX0_moved (KI K) (rc) (rs) s41 84 [va_rf l0, .int l1, va_rf l2, .int l3, va_rf l4, va_rf l5, .int (l6 + 0), va_rf l7, va_rf x10] [])))) ∧ (x28 = 0 → K s27 (-9)))))))))))) : G w mX0_moved (KI K) (rc) (rs) σ 84 [va_rf l0, .int l1, va_rf l2, .int l3, va_rf l4, va_rf l5, .int l6, va_rf l7, v8] [] := by
  refine G_aload 86 dX0_moved_84 rfl rfl ?_
  obtain ⟨a1, e2, h⟩ := h
  obtain ⟨c5, h⟩ := h
  refine G_invF (N := mJ10_hasNext) (x := ⟨"java/util/Iterator", "hasNext", "()Z"⟩) (As := []) (st := []) (t := l7) (b := a1) (rc) (rs) 91 dX0_moved_86 q2051 q375 q377 q46 q379 q373 q372 q378 q376 q374 rfl ax25 ⟨Nat.le_of_ble_eq_true rfl, Nat.le_of_ble_eq_true rfl⟩ rfl (Nat.zero_le _) e2 (rk19 c5) (le_b mJ10_hasNext_c (Nat.le_refl _)) (le_b mJ10_hasNext_s (Nat.le_refl _)) rfl (Cal.mono h ?_)
  rintro s3 v ⟨x4, rfl, h⟩ hx6
  have h := h hx6
  have x7 := hx6.x
  show G w mX0_moved (KI K) (rc) (rs) s3 91 [va_rf l0, .int l1, va_rf l2, .int l3, va_rf l4, va_rf l5, .int l6, va_rf l7, v8] [.int x4]
  refine G_if_eq 206 94 dX0_moved_91 (by decide) rfl (fun u8 => ?_) (fun u8 => ?_)
  · have h := h.1 u8
    refine G_ldcw (v := 100000) 209 dX0_moved_206 q2120 rfl ?_
    refine G_iload 211 dX0_moved_209 rfl rfl ?_
    refine G_iadd 212 dX0_moved_211 rfl ?_
    exact G_iret dX0_moved_212 rfl ⟨_, rfl, h⟩
  · have h := h.2 u8
    refine G_aload 96 dX0_moved_94 rfl rfl ?_
    have c5 := kdE x7 c5 (by decide)
    refine G_invF (N := mJ10_next) (x := ⟨"java/util/Iterator", "next", "()Ljava/lang/Object;"⟩) (As := []) (st := []) (t := l7) (b := a1) (rc) (rs) 101 dX0_moved_96 q2053 q402 q404 q46 q406 q401 q400 q405 q403 q374 rfl ax24 ⟨Nat.le_of_ble_eq_true rfl, Nat.le_of_ble_eq_true rfl⟩ rfl (Nat.zero_le _) e2 (rk19 c5) (le_b mJ10_next_c (Nat.le_refl _)) (le_b mJ10_next_s (Nat.le_refl _)) rfl (Cal.mono h ?_)
    rintro s9 v ⟨x10, rfl, h⟩ hx11
    have h := h hx11
    have x12 := hx11.x
    show G w mX0_moved (KI K) (rc) (rs) s9 101 [va_rf l0, .int l1, va_rf l2, .int l3, va_rf l4, va_rf l5, .int l6, va_rf l7, v8] [va_rf x10]
    obtain ⟨c13, h⟩ := h
    refine G_cast 104 dX0_moved_101 q1685 rfl (c13.imp id (fun ⟨b, e, k⟩ => ⟨b, e, co5 k⟩)) ?_
    refine G_astore 106 [va_rf l0, .int l1, va_rf l2, .int l3, va_rf l4, va_rf l5, .int l6, va_rf l7, va_rf x10] dX0_moved_104 (Nat.le_of_ble_eq_true rfl) rfl rfl ?_
    refine G_aload 108 dX0_moved_106 rfl rfl ?_
    refine G_aload 110 dX0_moved_108 rfl rfl ?_
    obtain ⟨a14, e15, h⟩ := h
    obtain ⟨c16, h⟩ := h
    refine G_getR (f := 39) (a := a14) "TrophyPlates" 113 dX0_moved_110 (Or.inr q1745) (Or.inl rfl) rfl e15 (hf39 c16) rfl ?_
    obtain ⟨a17, e18, h⟩ := h
    obtain ⟨c21, h⟩ := h
    refine G_invF (N := mJ4_containsKey) (x := ⟨"java/util/Map", "containsKey", "(Ljava/lang/Object;)Z"⟩) (As := [va_rf (FR s9 39 a14)]) (st := []) (t := l4) (b := a17) (rc) (rs) 118 dX0_moved_113 q2112 q2118 q1680 q37 q1684 q2114 q2113 q2117 q2119 q602 rfl ax40 ⟨Nat.le_of_ble_eq_true rfl, Nat.le_of_ble_eq_true rfl⟩ rfl (Nat.zero_le _) e18 (rk21 c21) (le_b mJ4_containsKey_c (Nat.le_refl _)) (le_b mJ4_containsKey_s (Nat.le_refl _)) rfl (Cal.mono h ?_)
    rintro s19 v ⟨x20, rfl, h⟩ hx22
    have h := h hx22
    have x23 := hx22.x
    show G w mX0_moved (KI K) (rc) (rs) s19 118 [va_rf l0, .int l1, va_rf l2, .int l3, va_rf l4, va_rf l5, .int l6, va_rf l7, va_rf x10] [.int x20]
    refine G_if_eq 136 121 dX0_moved_118 (by decide) rfl (fun u24 => ?_) (fun u24 => ?_)
    · have h := h.1 u24
      refine G_bipush (v := (-9)) 138 dX0_moved_136 (by decide) rfl ?_
      exact G_iret dX0_moved_138 rfl ⟨_, rfl, h⟩
    · have h := h.2 u24
      refine G_aload 123 dX0_moved_121 rfl rfl ?_
      refine G_aload 125 dX0_moved_123 rfl rfl ?_
      have c16 := kdE x23 c16 (by decide)
      refine G_getR (f := 39) (a := a14) "TrophyPlates" 128 dX0_moved_125 (Or.inr q1745) (Or.inl rfl) rfl e15 (hf39 c16) rfl ?_
      obtain ⟨a25, e26, h⟩ := h
      obtain ⟨c29, h⟩ := h
      refine G_invF (N := mJ4_containsKey) (x := ⟨"java/util/Map", "containsKey", "(Ljava/lang/Object;)Z"⟩) (As := [va_rf (FR s19 39 a14)]) (st := []) (t := l5) (b := a25) (rc) (rs) 133 dX0_moved_128 q2112 q2118 q1680 q37 q1684 q2114 q2113 q2117 q2119 q602 rfl ax40 ⟨Nat.le_of_ble_eq_true rfl, Nat.le_of_ble_eq_true rfl⟩ rfl (Nat.zero_le _) e26 (rk21 c29) (le_b mJ4_containsKey_c (Nat.le_refl _)) (le_b mJ4_containsKey_s (Nat.le_refl _)) rfl (Cal.mono h ?_)
      rintro s27 v ⟨x28, rfl, h⟩ hx30
      have h := h hx30
      have x31 := hx30.x
      show G w mX0_moved (KI K) (rc) (rs) s27 133 [va_rf l0, .int l1, va_rf l2, .int l3, va_rf l4, va_rf l5, .int l6, va_rf l7, va_rf x10] [.int x28]
      refine G_if_ne 139 136 dX0_moved_133 (by decide) rfl (fun u32 => ?_) (fun u32 => ?_)
      · have h := h.1 u32
        refine G_iload 141 dX0_moved_139 rfl rfl ?_
        refine G_aload 143 dX0_moved_141 rfl rfl ?_
        refine G_aload_n 144 dX0_moved_143 rfl rfl ?_
        obtain ⟨a33, e34, h⟩ := h
        obtain ⟨c35, h⟩ := h
        refine G_getR (f := 0) (a := a33) "" 147 dX0_moved_144 (Or.inl q286) (Or.inl rfl) rfl e34 (hf0 c35) rfl ?_
        obtain ⟨a36, e37, h⟩ := h
        obtain ⟨c38, h⟩ := h
        refine G_getR (f := 4) (a := a36) "TrophyPlates" 150 dX0_moved_147 (Or.inr q187) (Or.inl rfl) rfl e37 (hf4 c38) rfl ?_
        refine G_iload_n 151 dX0_moved_150 rfl rfl ?_
        obtain ⟨a39, e40, h⟩ := h
        obtain ⟨c43, h⟩ := h
        refine G_invF (N := mJ2_get) (x := ⟨"java/util/List", "get", "(I)Ljava/lang/Object;"⟩) (As := [.int l1]) (st := [va_rf x10, .int l6]) (t := (FR s27 4 a36)) (b := a39) (rc) (rs) 156 dX0_moved_151 q1390 q1393 q1395 q35 q1397 q1392 q1391 q1396 q1394 q307 rfl ax32 ⟨Nat.le_of_ble_eq_true rfl, Nat.le_of_ble_eq_true rfl⟩ rfl (Nat.le_trans (w_R (w_I w_0)) (Nat.le_of_ble_eq_true rfl)) e40 (rk20 c43) (le_b mJ2_get_c (Nat.le_refl _)) (le_b mJ2_get_s (Nat.le_refl _)) rfl (Cal.mono h ?_)
        rintro s41 v ⟨x42, rfl, h⟩ hx44
        have h := h hx44
        have x45 := hx44.x
        show G w mX0_moved (KI K) (rc) (rs) s41 156 [va_rf l0, .int l1, va_rf l2, .int l3, va_rf l4, va_rf l5, .int l6, va_rf l7, va_rf x10] [va_rf x42, va_rf x10, .int l6]
        refine G_acmp_ne 163 159 dX0_moved_156 (by decide) rfl (fun u46 => ?_) (fun u46 => ?_)
        · have h := h.1 u46
          refine G_aload 165 dX0_moved_163 rfl rfl ?_
          refine G_aload 167 dX0_moved_165 rfl rfl ?_
          have c16 := kdE x31 c16 (by decide)
          have c16 := kdE x45 c16 (by decide)
          refine G_getR (f := 39) (a := a14) "TrophyPlates" 170 dX0_moved_167 (Or.inr q1745) (Or.inl rfl) rfl e15 (hf39 c16) rfl ?_
          have c29 := kdE x31 c29 (by decide)
          have c29 := kdE x45 c29 (by decide)
          refine G_invF (N := mJ5_get) (x := ⟨"java/util/Map", "get", "(Ljava/lang/Object;)Ljava/lang/Object;"⟩) (As := [va_rf (FR s41 39 a14)]) (st := [.int l6]) (t := l5) (b := a25) (rc) (rs) 175 dX0_moved_170 q2104 q1486 q1488 q38 q1490 q1470 q1469 q1489 q1487 q602 rfl ax33 ⟨Nat.le_of_ble_eq_true rfl, Nat.le_of_ble_eq_true rfl⟩ rfl (Nat.le_trans (w_I w_0) (Nat.le_of_ble_eq_true rfl)) e26 (rk21 c29) (le_b mJ5_get_c (Nat.le_refl _)) (le_b mJ5_get_s (Nat.le_refl _)) rfl (Cal.mono h ?_)
          rintro s47 v ⟨x48, rfl, h⟩ hx49
          have h := h hx49
          have x50 := hx49.x
          show G w mX0_moved (KI K) (rc) (rs) s47 175 [va_rf l0, .int l1, va_rf l2, .int l3, va_rf l4, va_rf l5, .int l6, va_rf l7, va_rf x10] [va_rf x48, .int l6]
          obtain ⟨c51, h⟩ := h
          refine G_cast 178 dX0_moved_175 q2057 rfl (c51.imp id (fun ⟨b, e, k⟩ => ⟨b, e, co7 k⟩)) ?_
          obtain ⟨a52, e53, h⟩ := h
          obtain ⟨c56, h⟩ := h
          refine G_invV (N := mJ26_intValue) (As := []) (st := [.int l6]) (t := x48) (b := a52) (rc) (rs) 181 dX0_moved_178 q2058 q1270 q1271 q64 q1272 rfl rfl mJ26_intValue_args ⟨Nat.le_of_ble_eq_true rfl, Nat.le_of_ble_eq_true rfl⟩ rfl (Nat.le_trans (w_I w_0) (Nat.le_of_ble_eq_true rfl)) e53 (rk29 c56) (le_b mJ26_intValue_c (Nat.le_refl _)) (le_b mJ26_intValue_s (Nat.le_refl _)) rfl (Cal.mono h ?_)
          rintro s54 v ⟨x55, rfl, h⟩ hx57
          have h := h hx57
          have x58 := hx57.x
          show G w mX0_moved (KI K) (rc) (rs) s54 181 [va_rf l0, .int l1, va_rf l2, .int l3, va_rf l4, va_rf l5, .int l6, va_rf l7, va_rf x10] [.int x55, .int l6]
          refine G_aload 183 dX0_moved_181 rfl rfl ?_
          refine G_aload 185 dX0_moved_183 rfl rfl ?_
          have c16 := kdE x50 c16 (by decide)
          have c16 := kdE x58 c16 (by decide)
          refine G_getR (f := 39) (a := a14) "TrophyPlates" 188 dX0_moved_185 (Or.inr q1745) (Or.inl rfl) rfl e15 (hf39 c16) rfl ?_
          have c21 := kdE x23 c21 (by decide)
          have c21 := kdE x31 c21 (by decide)
          have c21 := kdE x45 c21 (by decide)
          have c21 := kdE x50 c21 (by decide)
          have c21 := kdE x58 c21 (by decide)
          refine G_invF (N := mJ5_get) (x := ⟨"java/util/Map", "get", "(Ljava/lang/Object;)Ljava/lang/Object;"⟩) (As := [va_rf (FR s54 39 a14)]) (st := [.int x55, .int l6]) (t := l4) (b := a17) (rc) (rs) 193 dX0_moved_188 q2104 q1486 q1488 q38 q1490 q1470 q1469 q1489 q1487 q602 rfl ax33 ⟨Nat.le_of_ble_eq_true rfl, Nat.le_of_ble_eq_true rfl⟩ rfl (Nat.le_trans (w_I (w_I w_0)) (Nat.le_of_ble_eq_true rfl)) e18 (rk21 c21) (le_b mJ5_get_c (Nat.le_refl _)) (le_b mJ5_get_s (Nat.le_refl _)) rfl (Cal.mono h ?_)
          rintro s59 v ⟨x60, rfl, h⟩ hx61
          have h := h hx61
          have x62 := hx61.x
          show G w mX0_moved (KI K) (rc) (rs) s59 193 [va_rf l0, .int l1, va_rf l2, .int l3, va_rf l4, va_rf l5, .int l6, va_rf l7, va_rf x10] [va_rf x60, .int x55, .int l6]
          obtain ⟨c63, h⟩ := h
          refine G_cast 196 dX0_moved_193 q2057 rfl (c63.imp id (fun ⟨b, e, k⟩ => ⟨b, e, co7 k⟩)) ?_
          obtain ⟨a64, e65, h⟩ := h
          obtain ⟨c68, h⟩ := h
          refine G_invV (N := mJ26_intValue) (As := []) (st := [.int x55, .int l6]) (t := x60) (b := a64) (rc) (rs) 199 dX0_moved_196 q2058 q1270 q1271 q64 q1272 rfl rfl mJ26_intValue_args ⟨Nat.le_of_ble_eq_true rfl, Nat.le_of_ble_eq_true rfl⟩ rfl (Nat.le_trans (w_I (w_I w_0)) (Nat.le_of_ble_eq_true rfl)) e65 (rk29 c68) (le_b mJ26_intValue_c (Nat.le_refl _)) (le_b mJ26_intValue_s (Nat.le_refl _)) rfl (Cal.mono h ?_)
          rintro s66 v ⟨x67, rfl, h⟩ hx69
          have h := h hx69
          have x70 := hx69.x
          show G w mX0_moved (KI K) (rc) (rs) s66 199 [va_rf l0, .int l1, va_rf l2, .int l3, va_rf l4, va_rf l5, .int l6, va_rf l7, va_rf x10] [.int x67, .int x55, .int l6]
          refine G_isub 200 dX0_moved_199 rfl ?_
          refine G_iadd 201 dX0_moved_200 rfl ?_
          refine G_istore 203 [va_rf l0, .int l1, va_rf l2, .int l3, va_rf l4, va_rf l5, .int (l6 + (x55 - x67)), va_rf l7, va_rf x10] dX0_moved_201 (Nat.le_of_ble_eq_true rfl) rfl rfl ?_
          refine G_goto 84 dX0_moved_203 (by decide) ?_
          exact h
        · have h := h.2 u46
          refine G_iconst (v := 0) 160 dX0_moved_159 (by decide) rfl ?_
          refine G_goto 200 dX0_moved_160 (by decide) ?_
          refine G_iadd 201 dX0_moved_200 rfl ?_
          refine G_istore 203 [va_rf l0, .int l1, va_rf l2, .int l3, va_rf l4, va_rf l5, .int (l6 + 0), va_rf l7, va_rf x10] dX0_moved_201 (Nat.le_of_ble_eq_true rfl) rfl rfl ?_
          refine G_goto 84 dX0_moved_203 (by decide) ?_
          exact h
      · have h := h.2 u32
        refine G_bipush (v := (-9)) 138 dX0_moved_136 (by decide) rfl ?_
        exact G_iret dX0_moved_138 rfl ⟨_, rfl, h⟩
theorem eX0_moved {w : Wt} {K : Sg → Int32 → Prop} {σ : Sg} (l0 : Option Nat) (l1 : Int32) (h : G w mX0_moved (KI K) 6004 62035 σ 0 [va_rf l0, .int l1, U_, U_, U_, U_, U_, U_, U_] []) : CalI w mX0_moved σ [va_rf l0, .int l1] K :=
  Cal.start 7 mX0_moved_plain (catR (catI cat0)) (Nat.le_of_ble_eq_true rfl) rfl h
set_option maxHeartbeats 4000000 in
theorem bX0_largestSize_0 {w : Wt} {K : Sg → Int32 → Prop} {rc rs : Nat} {σ : Sg} (l0 : Option Nat) (l1 : Int32) (h : ∃ a1, l0 = some a1 ∧ kd σ a1 = 10 ∧ ∃ a4, FR σ 0 a1 = some a4 ∧ kd σ a4 = 11 ∧ CalI w mX1_isPlate σ [va_rf (FR σ 0 a1), .int l1] (fun s6 x7 => Ext σ s6 → ((¬ x7 = 0 → ∃ a12, FR s6 2 a1 = some a12 ∧ kd s6 a12 = 23 ∧ CalI w mJ7_length s6 [va_rf (FR s6 2 a1)] (fun s14 x15 => Ext s6 s14 → ((¬ x15 = 0 → G w mX0_largestSize (KI K) (rc) (rs) s14 28 [va_rf l0, .int l1, .int 4] []) ∧ (x15 = 0 → K s14 (-2))))) ∧ (x7 = 0 → K s6 (-1))))) : G w mX0_largestSize (KI K) (rc) (rs) σ 0 [va_rf l0, .int l1, U_] [] := by
  refine G_aload_n 1 dX0_largestSize_0 rfl rfl ?_
  obtain ⟨a1, e2, h⟩ := h
  obtain ⟨c3, h⟩ := h
  refine G_getR (f := 0) (a := a1) "" 4 dX0_largestSize_1 (Or.inl q286) (Or.inl rfl) rfl e2 (hf0 c3) rfl ?_
  refine G_iload_n 5 dX0_largestSize_4 rfl rfl ?_
  obtain ⟨a4, e5, h⟩ := h
  obtain ⟨c8, h⟩ := h
  refine G_invV (N := mX1_isPlate) (As := [.int l1]) (st := []) (t := (FR σ 0 a1)) (b := a4) (rc) (rs) 8 dX0_largestSize_5 q1382 q1383 q1384 q32 q1385 rfl rfl mX1_isPlate_args ⟨Nat.le_of_ble_eq_true rfl, Nat.le_of_ble_eq_true rfl⟩ rfl (Nat.zero_le _) e5 (rk11 c8) (le_b mX1_isPlate_c (Nat.le_refl _)) (le_b mX1_isPlate_s (Nat.le_refl _)) rfl (Cal.mono h ?_)
  rintro s6 v ⟨x7, rfl, h⟩ hx9
  have h := h hx9
  have x10 := hx9.x
  show G w mX0_largestSize (KI K) (rc) (rs) s6 8 [va_rf l0, .int l1, U_] [.int x7]
  refine G_if_ne 13 11 dX0_largestSize_8 (by decide) rfl (fun u11 => ?_) (fun u11 => ?_)
  · have h := h.1 u11
    refine G_aload_n 14 dX0_largestSize_13 rfl rfl ?_
    have c3 := kdE x10 c3 (by decide)
    refine G_getR (f := 2) (a := a1) "" 17 dX0_largestSize_14 (Or.inl q288) (Or.inl rfl) rfl e2 (hf2 c3) rfl ?_
    obtain ⟨a12, e13, h⟩ := h
    obtain ⟨c16, h⟩ := h
    refine G_invV (N := mJ7_length) (As := []) (st := []) (t := (FR s6 2 a1)) (b := a12) (rc) (rs) 20 dX0_largestSize_17 q1537 q1538 q1539 q41 q1540 rfl rfl mJ7_length_args ⟨Nat.le_of_ble_eq_true rfl, Nat.le_of_ble_eq_true rfl⟩ rfl (Nat.zero_le _) e13 (rk23 c16) (le_b mJ7_length_c (Nat.le_refl _)) (le_b mJ7_length_s (Nat.le_refl _)) rfl (Cal.mono h ?_)
    rintro s14 v ⟨x15, rfl, h⟩ hx17
    have h := h hx17
    have x18 := hx17.x
    show G w mX0_largestSize (KI K) (rc) (rs) s14 20 [va_rf l0, .int l1, U_] [.int x15]
    refine G_if_ne 26 23 dX0_largestSize_20 (by decide) rfl (fun u19 => ?_) (fun u19 => ?_)
    · have h := h.1 u19
      refine G_iconst (v := 4) 27 dX0_largestSize_26 (by decide) rfl ?_
      refine G_istore_n 28 [va_rf l0, .int l1, .int 4] dX0_largestSize_27 (Nat.le_of_ble_eq_true rfl) rfl rfl ?_
      exact h
    · have h := h.2 u19
      refine G_bipush (v := (-2)) 25 dX0_largestSize_23 (by decide) rfl ?_
      exact G_iret dX0_largestSize_25 rfl ⟨_, rfl, h⟩
  · have h := h.2 u11
    refine G_iconst (v := (-1)) 12 dX0_largestSize_11 (by decide) rfl ?_
    exact G_iret dX0_largestSize_12 rfl ⟨_, rfl, h⟩
set_option maxHeartbeats 4000000 in
theorem bX0_largestSize_28 {w : Wt} {K : Sg → Int32 → Prop} {rc rs : Nat} {σ : Sg} (l0 : Option Nat) (l1 : Int32) (l2 : Int32) (h : ((l2 ≤ 0 → ((¬ l2 = 0 → K σ l2) ∧ (l2 = 0 → K σ (-9)))) ∧ (¬ l2 ≤ 0 → ∃ a3, l0 = some a3 ∧ kd σ a3 = 10 ∧ CalI w mX0_lengthOf σ [va_rf (FR σ 2 a3), .int l2] (fun s6 x7 => Ext σ s6 → ∃ a10, FR s6 0 a3 = some a10 ∧ kd s6 a10 = 11 ∧ ∃ a13, FR s6 3 a10 = some a13 ∧ kd s6 a13 = 20 ∧ CalR w mJ2_get s6 [va_rf (FR s6 3 a10), .int l1] (fun s15 x16 => Ext s6 s15 → (x16 = none ∨ ∃ b, x16 = some b ∧ kd s15 b = 15) ∧ ∃ a21, x16 = some a21 ∧ kd s15 a21 = 15 ∧ ((x7 ≤ FI s15 33 a21 → ((¬ l2 = 0 → K s15 l2) ∧ (l2 = 0 → K s15 (-9)))) ∧ (¬ x7 ≤ FI s15 33 a21 → G w mX0_largestSize (KI K) (rc) (rs) s15 28 [va_rf l0, .int l1, .int (l2 + (-1))] []))))))) : G w mX0_largestSize (KI K) (rc) (rs) σ 28 [va_rf l0, .int l1, .int l2] [] := by
  refine G_iload_n 29 dX0_largestSize_28 rfl rfl ?_
  refine G_if_le 68 32 dX0_largestSize_29 (by decide) rfl (fun u1 => ?_) (fun u1 => ?_)
  · have h := h.1 u1
    refine G_iload_n 69 dX0_largestSize_68 rfl rfl ?_
    refine G_if_ne 77 72 dX0_largestSize_69 (by decide) rfl (fun u2 => ?_) (fun u2 => ?_)
    · have h := h.1 u2
      refine G_iload_n 78 dX0_largestSize_77 rfl rfl ?_
      exact G_iret dX0_largestSize_78 rfl ⟨_, rfl, h⟩
    · have h := h.2 u2
      refine G_bipush (v := (-9)) 74 dX0_largestSize_72 (by decide) rfl ?_
      refine G_goto 78 dX0_largestSize_74 (by decide) ?_
      exact G_iret dX0_largestSize_78 rfl ⟨_, rfl, h⟩
  · have h := h.2 u1
    refine G_aload_n 33 dX0_largestSize_32 rfl rfl ?_
    obtain ⟨a3, e4, h⟩ := h
    obtain ⟨c5, h⟩ := h
    refine G_getR (f := 2) (a := a3) "" 36 dX0_largestSize_33 (Or.inl q288) (Or.inl rfl) rfl e4 (hf2 c5) rfl ?_
    refine G_iload_n 37 dX0_largestSize_36 rfl rfl ?_
    refine G_invS (N := mX0_lengthOf) (As := [va_rf (FR σ 2 a3), .int l2]) (st := []) (rc) (rs) "" 40 dX0_largestSize_37 (Or.inl q2087) q1852 q31 q1853 rfl mX0_lengthOf_args ⟨Nat.le_of_ble_eq_true rfl, Nat.le_of_ble_eq_true rfl⟩ rfl (Nat.zero_le _) (le_b mX0_lengthOf_c (Nat.le_refl _)) (le_b mX0_lengthOf_s (Nat.le_refl _)) rfl (Cal.mono h ?_)
    rintro s6 v ⟨x7, rfl, h⟩ hx8
    have h := h hx8
    have x9 := hx8.x
    show G w mX0_largestSize (KI K) (rc) (rs) s6 40 [va_rf l0, .int l1, .int l2] [.int x7]
    refine G_aload_n 41 dX0_largestSize_40 rfl rfl ?_
    have c5 := kdE x9 c5 (by decide)
    refine G_getR (f := 0) (a := a3) "" 44 dX0_largestSize_41 (Or.inl q286) (Or.inl rfl) rfl e4 (hf0 c5) rfl ?_
    obtain ⟨a10, e11, h⟩ := h
    obtain ⟨c12, h⟩ := h
    refine G_getR (f := 3) (a := a10) "TrophyPlates" 47 dX0_largestSize_44 (Or.inr q185) (Or.inl rfl) rfl e11 (hf3 c12) rfl ?_
    refine G_iload_n 48 dX0_largestSize_47 rfl rfl ?_
    obtain ⟨a13, e14, h⟩ := h
    obtain ⟨c17, h⟩ := h
    refine G_invF (N := mJ2_get) (x := ⟨"java/util/List", "get", "(I)Ljava/lang/Object;"⟩) (As := [.int l1]) (st := [.int x7]) (t := (FR s6 3 a10)) (b := a13) (rc) (rs) 53 dX0_largestSize_48 q1390 q1393 q1395 q35 q1397 q1392 q1391 q1396 q1394 q307 rfl ax32 ⟨Nat.le_of_ble_eq_true rfl, Nat.le_of_ble_eq_true rfl⟩ rfl (Nat.le_trans (w_I w_0) (Nat.le_of_ble_eq_true rfl)) e14 (rk20 c17) (le_b mJ2_get_c (Nat.le_refl _)) (le_b mJ2_get_s (Nat.le_refl _)) rfl (Cal.mono h ?_)
    rintro s15 v ⟨x16, rfl, h⟩ hx18
    have h := h hx18
    have x19 := hx18.x
    show G w mX0_largestSize (KI K) (rc) (rs) s15 53 [va_rf l0, .int l1, .int l2] [va_rf x16, .int x7]
    obtain ⟨c20, h⟩ := h
    refine G_cast 56 dX0_largestSize_53 q1372 rfl (c20.imp id (fun ⟨b, e, k⟩ => ⟨b, e, co4 k⟩)) ?_
    obtain ⟨a21, e22, h⟩ := h
    obtain ⟨c23, h⟩ := h
    refine G_getI (f := 33) (a := a21) "TrophyPlates" 59 dX0_largestSize_56 (Or.inr q477) (Or.inl rfl) rfl e22 (hf33 c23) rfl ?_
    refine G_icmp_le 68 62 dX0_largestSize_59 (by decide) rfl (fun u24 => ?_) (fun u24 => ?_)
    · have h := h.1 u24
      refine G_iload_n 69 dX0_largestSize_68 rfl rfl ?_
      refine G_if_ne 77 72 dX0_largestSize_69 (by decide) rfl (fun u25 => ?_) (fun u25 => ?_)
      · have h := h.1 u25
        refine G_iload_n 78 dX0_largestSize_77 rfl rfl ?_
        exact G_iret dX0_largestSize_78 rfl ⟨_, rfl, h⟩
      · have h := h.2 u25
        refine G_bipush (v := (-9)) 74 dX0_largestSize_72 (by decide) rfl ?_
        refine G_goto 78 dX0_largestSize_74 (by decide) ?_
        exact G_iret dX0_largestSize_78 rfl ⟨_, rfl, h⟩
    · have h := h.2 u24
      refine G_iinc 65 [va_rf l0, .int l1, .int (l2 + (-1))] dX0_largestSize_62 rfl rfl (Nat.le_of_ble_eq_true rfl) rfl rfl ?_
      refine G_goto 28 dX0_largestSize_65 (by decide) ?_
      exact h
theorem eX0_largestSize {w : Wt} {K : Sg → Int32 → Prop} {σ : Sg} (l0 : Option Nat) (l1 : Int32) (h : G w mX0_largestSize (KI K) 0 0 σ 0 [va_rf l0, .int l1, U_] []) : CalI w mX0_largestSize σ [va_rf l0, .int l1] K :=
  Cal.start 1 mX0_largestSize_plain (catR (catI cat0)) (Nat.le_of_ble_eq_true rfl) rfl h
