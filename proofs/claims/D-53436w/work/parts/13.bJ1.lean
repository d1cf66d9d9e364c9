/-! printed by tools/drive.py -/
set_option maxRecDepth 100000
set_option maxHeartbeats 4000000 in
theorem bJ0_init_0 {w : Wt} {K : Sg → Prop} {rc rs : Nat} {σ : Sg} (l0 : Option Nat) (h : ∃ a1, l0 = some a1 ∧ K σ) : G w mJ0_init (KV K) (rc) (rs) σ 0 [va_rf l0] [] := by
  refine G_aload_n 1 dJ0_init_0 rfl rfl ?_
  obtain ⟨a1, e2, h⟩ := h
  refine G_objInit (b := a1) 4 dJ0_init_1 q104 q85 q86 rfl e2 (Nat.zero_le _) (Nat.le_of_ble_eq_true rfl) (Nat.le_of_ble_eq_true rfl) ?_
  exact G_ret dJ0_init_4 rfl ⟨rfl, h⟩
theorem eJ0_init {w : Wt} {K : Sg → Prop} {σ : Sg} (l0 : Option Nat) (h : G w mJ0_init (KV K) 0 0 σ 0 [va_rf l0] []) : CalV w mJ0_init σ [va_rf l0] K :=
  Cal.start 0 mJ0_init_plain (catR cat0) (Nat.le_of_ble_eq_true rfl) rfl h
set_option maxHeartbeats 4000000 in
theorem bJ1_init_0 {w : Wt} {K : Sg → Prop} {rc rs : Nat} {σ : Sg} (l0 : Option Nat) (h : ∃ a1, l0 = some a1 ∧ CalV w mJ0_init σ [va_rf l0] (fun s3 => Ext σ s3 → kd s3 a1 = 20 ∧ ∀ s7, s7 = sFI s3 51 a1 0 → K s7)) : G w mJ1_init (KV K) (rc) (rs) σ 0 [va_rf l0] [] := by
  refine G_aload_n 1 dJ1_init_0 rfl rfl ?_
  obtain ⟨a1, e2, h⟩ := h
  refine G_invI (N := mJ0_init) (As := []) (st := []) (t := l0) (b := a1) (rc) (rs) "" 4 dJ1_init_1 (Or.inl q101) q102 q33 q103 rfl rfl rfl mJ0_init_args ⟨Nat.le_of_ble_eq_true rfl, Nat.le_of_ble_eq_true rfl⟩ e2 rfl (Nat.zero_le _) (le_b mJ0_init_c (Nat.le_refl _)) (le_b mJ0_init_s (Nat.le_refl _)) rfl (Cal.mono h ?_)
  rintro s3 v ⟨rfl, h⟩ hx4
  have h := h hx4
  have x5 := hx4.x
  show G w mJ1_init (KV K) (rc) (rs) s3 4 [va_rf l0] []
  refine G_aload_n 5 dJ1_init_4 rfl rfl ?_
  refine G_iconst (v := 0) 6 dJ1_init_5 (by decide) rfl ?_
  obtain ⟨c6, h⟩ := h
  refine G_putI (f := 51) (a := a1) "" 9 dJ1_init_6 (Or.inl q111) (Or.inl rfl) rfl e2 (hp51 c6) (nk51 c6) (Or.inl rfl) rfl rfl rfl ?_
  generalize hs7 : sFI s3 51 a1 0 = s7
  have x8 : ∀ a, ¬ kd s3 a = 0 → kd s7 a = kd s3 a := by subst hs7; exact fun a _ => congrFun kd_sFI a
  have h := h s7 hs7.symm
  exact G_ret dJ1_init_9 rfl ⟨rfl, h⟩
theorem eJ1_init {w : Wt} {K : Sg → Prop} {σ : Sg} (l0 : Option Nat) (h : G w mJ1_init (KV K) 0 0 σ 0 [va_rf l0] []) : CalV w mJ1_init σ [va_rf l0] K :=
  Cal.start 0 mJ1_init_plain (catR cat0) (Nat.le_of_ble_eq_true rfl) rfl h
set_option maxHeartbeats 4000000 in
theorem bJ2_init_0 {w : Wt} {K : Sg → Prop} {rc rs : Nat} {σ : Sg} (l0 : Option Nat) (h : ∃ a1, l0 = some a1 ∧ CalV w mJ1_init σ [va_rf l0] (fun s3 => Ext σ s3 → kd s3 a1 = 20 ∧ ∀ s7, s7 = sFR s3 52 a1 (some (wa w 1)) → K s7)) : G w mJ2_init (KV K) (rc) (rs) σ 0 [va_rf l0] [] := by
  refine G_aload_n 1 dJ2_init_0 rfl rfl ?_
  obtain ⟨a1, e2, h⟩ := h
  refine G_invI (N := mJ1_init) (As := []) (st := []) (t := l0) (b := a1) (rc) (rs) "" 4 dJ2_init_1 (Or.inl q98) q99 q34 q100 rfl rfl rfl mJ1_init_args ⟨Nat.le_of_ble_eq_true rfl, Nat.le_of_ble_eq_true rfl⟩ e2 rfl (Nat.zero_le _) (le_b mJ1_init_c (Nat.le_refl _)) (le_b mJ1_init_s (Nat.le_refl _)) rfl (Cal.mono h ?_)
  rintro s3 v ⟨rfl, h⟩ hx4
  have h := h hx4
  have x5 := hx4.x
  show G w mJ2_init (KV K) (rc) (rs) s3 4 [va_rf l0] []
  refine G_aload_n 5 dJ2_init_4 rfl rfl ?_
  refine G_getS (host := "") (C := "java/util/ArrayList") (v := va_rf (some (wa w 1))) 8 dJ2_init_5 (Or.inl q105) (Or.inl rfl) rfl (List.mem_of_getElem? (i := 1) rfl) ?_
  obtain ⟨c6, h⟩ := h
  refine G_putR (f := 52) (a := a1) "" 11 dJ2_init_8 (Or.inl q107) (Or.inl rfl) rfl e2 (hp52 c6) (nk52 c6) (Or.inl rfl) (fun y => by cases y <;> rfl) (fun y => by cases y <;> rfl) rfl ?_
  generalize hs7 : sFR s3 52 a1 (some (wa w 1)) = s7
  have x8 : ∀ a, ¬ kd s3 a = 0 → kd s7 a = kd s3 a := by subst hs7; exact fun a _ => congrFun kd_sFR a
  have h := h s7 hs7.symm
  exact G_ret dJ2_init_11 rfl ⟨rfl, h⟩
theorem eJ2_init {w : Wt} {K : Sg → Prop} {σ : Sg} (l0 : Option Nat) (h : G w mJ2_init (KV K) 0 0 σ 0 [va_rf l0] []) : CalV w mJ2_init σ [va_rf l0] K :=
  Cal.start 0 mJ2_init_plain (catR cat0) (Nat.le_of_ble_eq_true rfl) rfl h
set_option maxHeartbeats 4000000 in
theorem bJ2_size_0 {w : Wt} {K : Sg → Int32 → Prop} {rc rs : Nat} {σ : Sg} (l0 : Option Nat) (h : ∃ a1, l0 = some a1 ∧ kd σ a1 = 20 ∧ K σ (FI σ 53 a1)) : G w mJ2_size (KI K) (rc) (rs) σ 0 [va_rf l0] [] := by
  refine G_aload_n 1 dJ2_size_0 rfl rfl ?_
  obtain ⟨a1, e2, h⟩ := h
  obtain ⟨c3, h⟩ := h
  refine G_getI (f := 53) (a := a1) "" 4 dJ2_size_1 (Or.inl q110) (Or.inl rfl) rfl e2 (hf53 c3) rfl ?_
  exact G_iret dJ2_size_4 rfl ⟨_, rfl, h⟩
theorem eJ2_size {w : Wt} {K : Sg → Int32 → Prop} {σ : Sg} (l0 : Option Nat) (h : G w mJ2_size (KI K) 0 0 σ 0 [va_rf l0] []) : CalI w mJ2_size σ [va_rf l0] K :=
  Cal.start 0 mJ2_size_plain (catR cat0) (Nat.le_of_ble_eq_true rfl) rfl h
set_option maxHeartbeats 4000000 in
theorem bJ2_iterator_0 {w : Wt} {K : Sg → Option Nat → Prop} {rc rs : Nat} {σ : Sg} (l0 : Option Nat) (h : ∀ n2, n2 = nx σ → kd σ n2 = 0 → ∀ s3, s3 = nO σ 19 → CalV w mJ10_init s3 [va_rf (some n2), va_rf l0] (fun s6 => Ext s3 s6 → K s6 (some n2))) : G w mJ2_iterator (KR K) (rc + 1) (rs + 4) σ 0 [va_rf l0] [] := by
  refine G_new (cc := 9) (kn := 19) (q := (RJ10, TJ10, 4)) (rc) (rs) 3 dJ2_iterator_0 rfl q351 q352 q46 rfl rfl (Nat.le_refl _) (Nat.le_refl _) (fun z1 => ?_)
  generalize hn2 : nx σ = n2 at z1 ⊢
  generalize hs3 : nO σ 19 = s3
  have x4 : ∀ a, ¬ kd σ a = 0 → kd s3 a = kd σ a := by subst hs3 hn2; exact kdNx z1
  have c5 : kd s3 n2 = 19 := by subst hs3 hn2; exact kdO_self
  have h := h n2 hn2.symm z1 s3 hs3.symm
  refine G_dup 4 dJ2_iterator_3 (rf_cat _) rfl ?_
  refine G_aload_n 5 dJ2_iterator_4 rfl rfl ?_
  refine G_invI (N := mJ10_init) (As := [va_rf l0]) (st := [va_rf (some n2)]) (t := (some n2)) (b := n2) (rc) (rs) "" 8 dJ2_iterator_5 (Or.inl q353) q354 q46 q355 rfl rfl rfl mJ10_init_args ⟨Nat.le_of_ble_eq_true rfl, Nat.le_of_ble_eq_true rfl⟩ rfl rfl (Nat.le_trans (w_R w_0) (Nat.le_of_ble_eq_true rfl)) (le_b mJ10_init_c (Nat.le_refl _)) (le_b mJ10_init_s (Nat.le_refl _)) rfl (Cal.mono h ?_)
  rintro s6 v ⟨rfl, h⟩ hx7
  have h := h hx7
  have x8 := hx7.x
  show G w mJ2_iterator (KR K) (rc) (rs) s6 8 [va_rf l0] [va_rf (some n2)]
  exact G_aret dJ2_iterator_8 rfl (Or.inl ⟨_, rfl⟩) ⟨_, rfl, h⟩
theorem eJ2_iterator {w : Wt} {K : Sg → Option Nat → Prop} {σ : Sg} (l0 : Option Nat) (h : G w mJ2_iterator (KR K) 1 4 σ 0 [va_rf l0] []) : CalR w mJ2_iterator σ [va_rf l0] K :=
  Cal.start 0 mJ2_iterator_plain (catR cat0) (Nat.le_of_ble_eq_true rfl) rfl h
set_option maxHeartbeats 4000000 in
theorem bJ2_add_0 {w : Wt} {K : Sg → Int32 → Prop} {rc rs : Nat} {σ : Sg} (l0 : Option Nat) (l1 : Option Nat) (h : ∃ a1, l0 = some a1 ∧ kd σ a1 = 20 ∧ ∀ s4, s4 = sFI σ 51 a1 ((FI σ 51 a1) + 1) → CalV w mJ2_add_2 s4 [va_rf l0, va_rf l1, va_rf (FR s4 52 a1), .int (FI s4 53 a1)] (fun s6 => Ext s4 s6 → K s6 1)) : G w mJ2_add (KI K) (rc + 1) (rs + 22) σ 0 [va_rf l0, va_rf l1] [] := by
  refine G_aload_n 1 dJ2_add_0 rfl rfl ?_
  refine G_dup 2 dJ2_add_1 (rf_cat _) rfl ?_
  obtain ⟨a1, e2, h⟩ := h
  obtain ⟨c3, h⟩ := h
  refine G_getI (f := 51) (a := a1) "" 5 dJ2_add_2 (Or.inl q114) (Or.inr q113) rfl e2 (hf51 c3) rfl ?_
  refine G_iconst (v := 1) 6 dJ2_add_5 (by decide) rfl ?_
  refine G_iadd 7 dJ2_add_6 rfl ?_
  refine G_putI (f := 51) (a := a1) "" 10 dJ2_add_7 (Or.inl q114) (Or.inr q113) rfl e2 (hp51 c3) (nk51 c3) (Or.inl rfl) rfl rfl rfl ?_
  generalize hs4 : sFI σ 51 a1 ((FI σ 51 a1) + 1) = s4
  have x5 : ∀ a, ¬ kd σ a = 0 → kd s4 a = kd σ a := by subst hs4; exact fun a _ => congrFun kd_sFI a
  have h := h s4 hs4.symm
  refine G_aload_n 11 dJ2_add_10 rfl rfl ?_
  refine G_aload_n 12 dJ2_add_11 rfl rfl ?_
  refine G_aload_n 13 dJ2_add_12 rfl rfl ?_
  have c3 := kdE x5 c3 (by decide)
  refine G_getR (f := 52) (a := a1) "" 16 dJ2_add_13 (Or.inl q107) (Or.inl rfl) rfl e2 (hf52 c3) rfl ?_
  refine G_aload_n 17 dJ2_add_16 rfl rfl ?_
  refine G_getI (f := 53) (a := a1) "" 20 dJ2_add_17 (Or.inl q110) (Or.inl rfl) rfl e2 (hf53 c3) rfl ?_
  refine G_invV (N := mJ2_add_2) (As := [va_rf l1, va_rf (FR s4 52 a1), .int (FI s4 53 a1)]) (st := []) (t := l0) (b := a1) (rc) (rs) 23 dJ2_add_20 q505 q507 qs1 q35 q508 rfl rfl mJ2_add_2_args ⟨Nat.le_of_ble_eq_true rfl, Nat.le_of_ble_eq_true rfl⟩ rfl (Nat.zero_le _) e2 (rk20 c3) (le_b mJ2_add_2_c (Nat.le_refl _)) (le_b mJ2_add_2_s (Nat.le_refl _)) rfl (Cal.mono h ?_)
  rintro s6 v ⟨rfl, h⟩ hx7
  have h := h hx7
  have x8 := hx7.x
  show G w mJ2_add (KI K) (rc) (rs) s6 23 [va_rf l0, va_rf l1] []
  refine G_iconst (v := 1) 24 dJ2_add_23 (by decide) rfl ?_
  exact G_zret dJ2_add_24 rfl rfl ⟨_, rfl, h⟩
theorem eJ2_add {w : Wt} {K : Sg → Int32 → Prop} {σ : Sg} (l0 : Option Nat) (l1 : Option Nat) (h : G w mJ2_add (KI K) 1 22 σ 0 [va_rf l0, va_rf l1] []) : CalI w mJ2_add σ [va_rf l0, va_rf l1] K :=
  Cal.start 0 mJ2_add_plain (catR (catR cat0)) (Nat.le_of_ble_eq_true rfl) rfl h
set_option maxHeartbeats 4000000 in
theorem bJ2_add_2_0 {w : Wt} {K : Sg → Prop} {rc rs : Nat} {σ : Sg} (l0 : Option Nat) (l1 : Option Nat) (l2 : Option Nat) (l3 : Int32) (h : ∃ a1, l2 = some a1 ∧ kd σ a1 ∈ [1, 2, 3, 4, 5, 7, 8] ∧ ((¬ l3 = nI (ln σ a1) → kd σ a1 = 3 ∧ vp_in l3 (ln σ a1) ∧ (l1 = none ∨ ∃ b, l1 = some b ∧ kd σ b ∈ [15, 17]) ∧ ∀ s8, s8 = sAR σ a1 l3.toNatClampNeg l1 → ∃ a10, l0 = some a10 ∧ kd s8 a10 = 20 ∧ ∀ s13, s13 = sFI s8 53 a10 (l3 + 1) → K s13) ∧ (l3 = nI (ln σ a1) → ∃ a15, l0 = some a15 ∧ kd σ a15 = 20 ∧ CalR w mJ2_grow σ [va_rf l0] (fun s17 x18 => Ext σ s17 → ∃ a22, x18 = some a22 ∧ kd s17 a22 = 3 ∧ vp_in l3 (ln s17 a22) ∧ (l1 = none ∨ ∃ b, l1 = some b ∧ kd s17 b ∈ [15, 17]) ∧ ∀ s27, s27 = sAR s17 a22 l3.toNatClampNeg l1 → ∀ s29, s29 = sFI s27 53 a15 (l3 + 1) → K s29)))) : G w mJ2_add_2 (KV K) (rc + 1) (rs + 22) σ 0 [va_rf l0, va_rf l1, va_rf l2, .int l3] [] := by
  refine G_iload_n 1 dJ2_add_2_0 rfl rfl ?_
  refine G_aload_n 2 dJ2_add_2_1 rfl rfl ?_
  obtain ⟨a1, e2, h⟩ := h
  obtain ⟨c3, h⟩ := h
  refine G_alen (a := a1) 3 dJ2_add_2_2 rfl e2 c3 ?_
  refine G_icmp_ne 11 6 dJ2_add_2_3 (by decide) rfl (fun u4 => ?_) (fun u4 => ?_)
  · have h := h.1 u4
    refine G_aload_n 12 dJ2_add_2_11 rfl rfl ?_
    refine G_iload_n 13 dJ2_add_2_12 rfl rfl ?_
    refine G_aload_n 14 dJ2_add_2_13 rfl rfl ?_
    obtain ⟨c5, h⟩ := h
    obtain ⟨c6, h⟩ := h
    obtain ⟨c7, h⟩ := h
    refine G_aast (a := a1) (kn := 3) 15 dJ2_add_2_14 rfl e2 c5 (Or.inl rfl) c6 (c7.imp id (fun ⟨b, e, k⟩ => ⟨b, e, eo3 k⟩)) ?_
    generalize hs8 : sAR σ a1 l3.toNatClampNeg l1 = s8
    have x9 : ∀ a, ¬ kd σ a = 0 → kd s8 a = kd σ a := by subst hs8; exact fun a _ => congrFun kd_sAR a
    have h := h s8 hs8.symm
    refine G_aload_n 16 dJ2_add_2_15 rfl rfl ?_
    refine G_iload_n 17 dJ2_add_2_16 rfl rfl ?_
    refine G_iconst (v := 1) 18 dJ2_add_2_17 (by decide) rfl ?_
    refine G_iadd 19 dJ2_add_2_18 rfl ?_
    obtain ⟨a10, e11, h⟩ := h
    obtain ⟨c12, h⟩ := h
    refine G_putI (f := 53) (a := a10) "" 22 dJ2_add_2_19 (Or.inl q110) (Or.inl rfl) rfl e11 (hp53 c12) (nk53 c12) (Or.inl rfl) rfl rfl rfl ?_
    generalize hs13 : sFI s8 53 a10 (l3 + 1) = s13
    have x14 : ∀ a, ¬ kd s8 a = 0 → kd s13 a = kd s8 a := by subst hs13; exact fun a _ => congrFun kd_sFI a
    have h := h s13 hs13.symm
    exact G_ret dJ2_add_2_22 rfl ⟨rfl, h⟩
  · have h := h.2 u4
    refine G_aload_n 7 dJ2_add_2_6 rfl rfl ?_
    obtain ⟨a15, e16, h⟩ := h
    obtain ⟨c19, h⟩ := h
    refine G_invV (N := mJ2_grow) (As := []) (st := []) (t := l0) (b := a15) (rc) (rs) 10 dJ2_add_2_7 q509 q511 qs2 q35 q512 rfl rfl mJ2_grow_args ⟨Nat.le_of_ble_eq_true rfl, Nat.le_of_ble_eq_true rfl⟩ rfl (Nat.zero_le _) e16 (rk20 c19) (le_b mJ2_grow_c (Nat.le_refl _)) (le_b mJ2_grow_s (Nat.le_refl _)) rfl (Cal.mono h ?_)
    rintro s17 v ⟨x18, rfl, h⟩ hx20
    have h := h hx20
    have x21 := hx20.x
    show G w mJ2_add_2 (KV K) (rc) (rs) s17 10 [va_rf l0, va_rf l1, va_rf l2, .int l3] [va_rf x18]
    refine G_astore_n 11 [va_rf l0, va_rf l1, va_rf x18, .int l3] dJ2_add_2_10 (Nat.le_of_ble_eq_true rfl) rfl rfl ?_
    refine G_aload_n 12 dJ2_add_2_11 rfl rfl ?_
    refine G_iload_n 13 dJ2_add_2_12 rfl rfl ?_
    refine G_aload_n 14 dJ2_add_2_13 rfl rfl ?_
    obtain ⟨a22, e23, h⟩ := h
    obtain ⟨c24, h⟩ := h
    obtain ⟨c25, h⟩ := h
    obtain ⟨c26, h⟩ := h
    refine G_aast (a := a22) (kn := 3) 15 dJ2_add_2_14 rfl e23 c24 (Or.inl rfl) c25 (c26.imp id (fun ⟨b, e, k⟩ => ⟨b, e, eo3 k⟩)) ?_
    generalize hs27 : sAR s17 a22 l3.toNatClampNeg l1 = s27
    have x28 : ∀ a, ¬ kd s17 a = 0 → kd s27 a = kd s17 a := by subst hs27; exact fun a _ => congrFun kd_sAR a
    have h := h s27 hs27.symm
    refine G_aload_n 16 dJ2_add_2_15 rfl rfl ?_
    refine G_iload_n 17 dJ2_add_2_16 rfl rfl ?_
    refine G_iconst (v := 1) 18 dJ2_add_2_17 (by decide) rfl ?_
    refine G_iadd 19 dJ2_add_2_18 rfl ?_
    have c19 := kdE x21 c19 (by decide)
    have c19 := kdE x28 c19 (by decide)
    refine G_putI (f := 53) (a := a15) "" 22 dJ2_add_2_19 (Or.inl q110) (Or.inl rfl) rfl e16 (hp53 c19) (nk53 c19) (Or.inl rfl) rfl rfl rfl ?_
    generalize hs29 : sFI s27 53 a15 (l3 + 1) = s29
    have x30 : ∀ a, ¬ kd s27 a = 0 → kd s29 a = kd s27 a := by subst hs29; exact fun a _ => congrFun kd_sFI a
    have h := h s29 hs29.symm
    exact G_ret dJ2_add_2_22 rfl ⟨rfl, h⟩
theorem eJ2_add_2 {w : Wt} {K : Sg → Prop} {σ : Sg} (l0 : Option Nat) (l1 : Option Nat) (l2 : Option Nat) (l3 : Int32) (h : G w mJ2_add_2 (KV K) 1 22 σ 0 [va_rf l0, va_rf l1, va_rf l2, .int l3] []) : CalV w mJ2_add_2 σ [va_rf l0, va_rf l1, va_rf l2, .int l3] K :=
  Cal.start 0 mJ2_add_2_plain (catR (catR (catR (catI cat0)))) (Nat.le_of_ble_eq_true rfl) rfl h
set_option maxHeartbeats 4000000 in
theorem bJ2_grow_0 {w : Wt} {K : Sg → Option Nat → Prop} {rc rs : Nat} {σ : Sg} (l0 : Option Nat) (h : ∃ a1, l0 = some a1 ∧ kd σ a1 = 20 ∧ CalR w mJ2_grow_2 σ [va_rf l0, .int ((FI σ 53 a1) + 1)] (fun s4 x5 => Ext σ s4 → K s4 x5)) : G w mJ2_grow (KR K) (rc + 1) (rs + 22) σ 0 [va_rf l0] [] := by
  refine G_aload_n 1 dJ2_grow_0 rfl rfl ?_
  refine G_aload_n 2 dJ2_grow_1 rfl rfl ?_
  obtain ⟨a1, e2, h⟩ := h
  obtain ⟨c3, h⟩ := h
  refine G_getI (f := 53) (a := a1) "" 5 dJ2_grow_2 (Or.inl q110) (Or.inl rfl) rfl e2 (hf53 c3) rfl ?_
  refine G_iconst (v := 1) 6 dJ2_grow_5 (by decide) rfl ?_
  refine G_iadd 7 dJ2_grow_6 rfl ?_
  refine G_invV (N := mJ2_grow_2) (As := [.int ((FI σ 53 a1) + 1)]) (st := []) (t := l0) (b := a1) (rc) (rs) 10 dJ2_grow_7 q513 q515 qs3 q35 q516 rfl rfl mJ2_grow_2_args ⟨Nat.le_of_ble_eq_true rfl, Nat.le_of_ble_eq_true rfl⟩ rfl (Nat.zero_le _) e2 (rk20 c3) (le_b mJ2_grow_2_c (Nat.le_refl _)) (le_b mJ2_grow_2_s (Nat.le_refl _)) rfl (Cal.mono h ?_)
  rintro s4 v ⟨x5, rfl, h⟩ hx6
  have h := h hx6
  have x7 := hx6.x
  show G w mJ2_grow (KR K) (rc) (rs) s4 10 [va_rf l0] [va_rf x5]
  exact G_aret dJ2_grow_10 rfl (Or.inr ⟨_, rfl⟩) ⟨_, rfl, h⟩
theorem eJ2_grow {w : Wt} {K : Sg → Option Nat → Prop} {σ : Sg} (l0 : Option Nat) (h : G w mJ2_grow (KR K) 1 22 σ 0 [va_rf l0] []) : CalR w mJ2_grow σ [va_rf l0] K :=
  Cal.start 0 mJ2_grow_plain (catR cat0) (Nat.le_of_ble_eq_true rfl) rfl h
set_option maxHeartbeats 4000000 in
theorem bJ2_grow_2_0 {w : Wt} {K : Sg → Option Nat → Prop} {rc rs : Nat} {σ : Sg} (l0 : Option Nat) (l1 : Int32) (h : ∃ a1, l0 = some a1 ∧ kd σ a1 = 20 ∧ ∃ a4, FR σ 52 a1 = some a4 ∧ kd σ a4 ∈ [1, 2, 3, 4, 5, 7, 8] ∧ ((0 < nI (ln σ a4) → CalI w mJ11_newLength σ [.int (nI (ln σ a4)), .int (l1 - (nI (ln σ a4))), .int ((nI (ln σ a4)) >>> ((1 : Int32) &&& 31))] (fun s8 x9 => Ext σ s8 → CalR w mJ13_copyOf s8 [va_rf (FR s8 52 a1), .int x9] (fun s12 x13 => Ext s8 s12 → ∀ s16, s16 = sFR s12 52 a1 x13 → K s16 x13))) ∧ (¬ 0 < nI (ln σ a4) → ((FR σ 52 a1 = some (wa w 1) → CalI w mJ12_max σ [.int 10, .int l1] (fun s19 x20 => Ext σ s19 → ∃ N23, x20 = nI N23 ∧ N23 ≤ 10 ∧ ∀ n26, n26 = nx s19 → kd s19 n26 = 0 → ∀ s27, s27 = nA s19 3 N23 → ∀ s30, s30 = sFR s27 52 a1 (some n26) → K s30 (some n26))) ∧ (¬ FR σ 52 a1 = some (wa w 1) → CalI w mJ11_newLength σ [.int (nI (ln σ a4)), .int (l1 - (nI (ln σ a4))), .int ((nI (ln σ a4)) >>> ((1 : Int32) &&& 31))] (fun s32 x33 => Ext σ s32 → CalR w mJ13_copyOf s32 [va_rf (FR s32 52 a1), .int x33] (fun s36 x37 => Ext s32 s36 → ∀ s40, s40 = sFR s36 52 a1 x37 → K s40 x37))))))) : G w mJ2_grow_2 (KR K) (rc + 1) (rs + 22) σ 0 [va_rf l0, .int l1, U_, U_] [] := by
  refine G_aload_n 1 dJ2_grow_2_0 rfl rfl ?_
  obtain ⟨a1, e2, h⟩ := h
  obtain ⟨c3, h⟩ := h
  refine G_getR (f := 52) (a := a1) "" 4 dJ2_grow_2_1 (Or.inl q107) (Or.inl rfl) rfl e2 (hf52 c3) rfl ?_
  obtain ⟨a4, e5, h⟩ := h
  obtain ⟨c6, h⟩ := h
  refine G_alen (a := a4) 5 dJ2_grow_2_4 rfl e5 c6 ?_
  refine G_istore_n 6 [va_rf l0, .int l1, .int (nI (ln σ a4)), U_] dJ2_grow_2_5 (Nat.le_of_ble_eq_true rfl) rfl rfl ?_
  refine G_iload_n 7 dJ2_grow_2_6 rfl rfl ?_
  refine G_if_gt 20 10 dJ2_grow_2_7 (by decide) rfl (fun u7 => ?_) (fun u7 => ?_)
  · have h := h.1 u7
    refine G_iload_n 21 dJ2_grow_2_20 rfl rfl ?_
    refine G_iload_n 22 dJ2_grow_2_21 rfl rfl ?_
    refine G_iload_n 23 dJ2_grow_2_22 rfl rfl ?_
    refine G_isub 24 dJ2_grow_2_23 rfl ?_
    refine G_iload_n 25 dJ2_grow_2_24 rfl rfl ?_
    refine G_iconst (v := 1) 26 dJ2_grow_2_25 (by decide) rfl ?_
    refine G_ishr 27 dJ2_grow_2_26 rfl ?_
    refine G_invS (N := mJ11_newLength) (As := [.int (nI (ln σ a4)), .int (l1 - (nI (ln σ a4))), .int ((nI (ln σ a4)) >>> ((1 : Int32) &&& 31))]) (st := []) (rc + 1) (rs + 22) "" 30 dJ2_grow_2_27 (Or.inl q517) q518 q48 q519 rfl mJ11_newLength_args ⟨Nat.le_of_ble_eq_true rfl, Nat.le_of_ble_eq_true rfl⟩ rfl (Nat.zero_le _) (le_b mJ11_newLength_c (Nat.le_refl _)) (le_b mJ11_newLength_s (Nat.le_refl _)) rfl (Cal.mono h ?_)
    rintro s8 v ⟨x9, rfl, h⟩ hx10
    have h := h hx10
    have x11 := hx10.x
    show G w mJ2_grow_2 (KR K) (rc + 1) (rs + 22) s8 30 [va_rf l0, .int l1, .int (nI (ln σ a4)), U_] [.int x9]
    refine G_istore_n 31 [va_rf l0, .int l1, .int (nI (ln σ a4)), .int x9] dJ2_grow_2_30 (Nat.le_of_ble_eq_true rfl) rfl rfl ?_
    refine G_aload_n 32 dJ2_grow_2_31 rfl rfl ?_
    refine G_aload_n 33 dJ2_grow_2_32 rfl rfl ?_
    have c3 := kdE x11 c3 (by decide)
    refine G_getR (f := 52) (a := a1) "" 36 dJ2_grow_2_33 (Or.inl q107) (Or.inl rfl) rfl e2 (hf52 c3) rfl ?_
    refine G_iload_n 37 dJ2_grow_2_36 rfl rfl ?_
    refine G_invS (N := mJ13_copyOf) (As := [va_rf (FR s8 52 a1), .int x9]) (st := [va_rf l0]) (rc) (rs) "" 40 dJ2_grow_2_37 (Or.inl q527) q528 q50 q529 rfl mJ13_copyOf_args ⟨Nat.le_of_ble_eq_true rfl, Nat.le_of_ble_eq_true rfl⟩ rfl (Nat.le_trans (w_R w_0) (Nat.le_of_ble_eq_true rfl)) (le_b mJ13_copyOf_c (Nat.le_refl _)) (le_b mJ13_copyOf_s (Nat.le_refl _)) rfl (Cal.mono h ?_)
    rintro s12 v ⟨x13, rfl, h⟩ hx14
    have h := h hx14
    have x15 := hx14.x
    show G w mJ2_grow_2 (KR K) (rc) (rs) s12 40 [va_rf l0, .int l1, .int (nI (ln σ a4)), .int x9] [va_rf x13, va_rf l0]
    refine G_dup_x1 41 dJ2_grow_2_40 (rf_cat _) (rf_cat _) rfl ?_
    have c3 := kdE x15 c3 (by decide)
    refine G_putR (f := 52) (a := a1) "" 44 dJ2_grow_2_41 (Or.inl q107) (Or.inl rfl) rfl e2 (hp52 c3) (nk52 c3) (Or.inl rfl) (fun y => by cases y <;> rfl) (fun y => by cases y <;> rfl) rfl ?_
    generalize hs16 : sFR s12 52 a1 x13 = s16
    have x17 : ∀ a, ¬ kd s12 a = 0 → kd s16 a = kd s12 a := by subst hs16; exact fun a _ => congrFun kd_sFR a
    have h := h s16 hs16.symm
    exact G_aret dJ2_grow_2_44 rfl (Or.inr ⟨_, rfl⟩) ⟨_, rfl, h⟩
  · have h := h.2 u7
    refine G_aload_n 11 dJ2_grow_2_10 rfl rfl ?_
    refine G_getR (f := 52) (a := a1) "" 14 dJ2_grow_2_11 (Or.inl q107) (Or.inl rfl) rfl e2 (hf52 c3) rfl ?_
    refine G_getS (host := "") (C := "java/util/ArrayList") (v := va_rf (some (wa w 1))) 17 dJ2_grow_2_14 (Or.inl q105) (Or.inl rfl) rfl (List.mem_of_getElem? (i := 1) rfl) ?_
    refine G_acmp_eq 45 20 dJ2_grow_2_17 (by decide) rfl (fun u18 => ?_) (fun u18 => ?_)
    · have h := h.1 u18
      refine G_aload_n 46 dJ2_grow_2_45 rfl rfl ?_
      refine G_bipush (v := 10) 48 dJ2_grow_2_46 (by decide) rfl ?_
      refine G_iload_n 49 dJ2_grow_2_48 rfl rfl ?_
      refine G_invS (N := mJ12_max) (As := [.int 10, .int l1]) (st := [va_rf l0]) (rc + 1) (rs + 22) "" 52 dJ2_grow_2_49 (Or.inl q576) q521 q49 q522 rfl mJ12_max_args ⟨Nat.le_of_ble_eq_true rfl, Nat.le_of_ble_eq_true rfl⟩ rfl (Nat.le_trans (w_R w_0) (Nat.le_of_ble_eq_true rfl)) (le_b mJ12_max_c (Nat.le_refl _)) (le_b mJ12_max_s (Nat.le_refl _)) rfl (Cal.mono h ?_)
      rintro s19 v ⟨x20, rfl, h⟩ hx21
      have h := h hx21
      have x22 := hx21.x
      show G w mJ2_grow_2 (KR K) (rc + 1) (rs + 22) s19 52 [va_rf l0, .int l1, .int (nI (ln σ a4)), U_] [.int x20, va_rf l0]
      obtain ⟨N23, e24, e24l, h⟩ := h
      refine G_newR (E := "java/lang/Object") (kn := 3) (N := N23) (rc) (rs + 12) 55 dJ2_grow_2_52 (Or.inl ⟨rfl, rfl⟩) q577 q568 e24 (by omega) rfl (Nat.le_refl _) (by omega) (fun z25 => ?_)
      generalize hn26 : nx s19 = n26 at z25 ⊢
      generalize hs27 : nA s19 3 N23 = s27
      have x28 : ∀ a, ¬ kd s19 a = 0 → kd s27 a = kd s19 a := by subst hs27 hn26; exact kdAx z25
      have c29 : kd s27 n26 = 3 := by subst hs27 hn26; exact kdA_self
      have h := h n26 hn26.symm z25 s27 hs27.symm
      refine G_dup_x1 56 dJ2_grow_2_55 (rf_cat _) (rf_cat _) rfl ?_
      have c3 := kdE x22 c3 (by decide)
      have c3 := kdE x28 c3 (by decide)
      refine G_putR (f := 52) (a := a1) "" 59 dJ2_grow_2_56 (Or.inl q107) (Or.inl rfl) rfl e2 (hp52 c3) (nk52 c3) (Or.inl rfl) (fun y => by cases y <;> rfl) (fun y => by cases y <;> rfl) rfl ?_
      generalize hs30 : sFR s27 52 a1 (some n26) = s30
      have x31 : ∀ a, ¬ kd s27 a = 0 → kd s30 a = kd s27 a := by subst hs30; exact fun a _ => congrFun kd_sFR a
      have h := h s30 hs30.symm
      exact G_aret dJ2_grow_2_59 rfl (Or.inr ⟨_, rfl⟩) ⟨_, rfl, h⟩
    · have h := h.2 u18
      refine G_iload_n 21 dJ2_grow_2_20 rfl rfl ?_
      refine G_iload_n 22 dJ2_grow_2_21 rfl rfl ?_
      refine G_iload_n 23 dJ2_grow_2_22 rfl rfl ?_
      refine G_isub 24 dJ2_grow_2_23 rfl ?_
      refine G_iload_n 25 dJ2_grow_2_24 rfl rfl ?_
      refine G_iconst (v := 1) 26 dJ2_grow_2_25 (by decide) rfl ?_
      refine G_ishr 27 dJ2_grow_2_26 rfl ?_
      refine G_invS (N := mJ11_newLength) (As := [.int (nI (ln σ a4)), .int (l1 - (nI (ln σ a4))), .int ((nI (ln σ a4)) >>> ((1 : Int32) &&& 31))]) (st := []) (rc + 1) (rs + 22) "" 30 dJ2_grow_2_27 (Or.inl q517) q518 q48 q519 rfl mJ11_newLength_args ⟨Nat.le_of_ble_eq_true rfl, Nat.le_of_ble_eq_true rfl⟩ rfl (Nat.zero_le _) (le_b mJ11_newLength_c (Nat.le_refl _)) (le_b mJ11_newLength_s (Nat.le_refl _)) rfl (Cal.mono h ?_)
      rintro s32 v ⟨x33, rfl, h⟩ hx34
      have h := h hx34
      have x35 := hx34.x
      show G w mJ2_grow_2 (KR K) (rc + 1) (rs + 22) s32 30 [va_rf l0, .int l1, .int (nI (ln σ a4)), U_] [.int x33]
      refine G_istore_n 31 [va_rf l0, .int l1, .int (nI (ln σ a4)), .int x33] dJ2_grow_2_30 (Nat.le_of_ble_eq_true rfl) rfl rfl ?_
      refine G_aload_n 32 dJ2_grow_2_31 rfl rfl ?_
      refine G_aload_n 33 dJ2_grow_2_32 rfl rfl ?_
      have c3 := kdE x35 c3 (by decide)
      refine G_getR (f := 52) (a := a1) "" 36 dJ2_grow_2_33 (Or.inl q107) (Or.inl rfl) rfl e2 (hf52 c3) rfl ?_
      refine G_iload_n 37 dJ2_grow_2_36 rfl rfl ?_
      refine G_invS (N := mJ13_copyOf) (As := [va_rf (FR s32 52 a1), .int x33]) (st := [va_rf l0]) (rc) (rs) "" 40 dJ2_grow_2_37 (Or.inl q527) q528 q50 q529 rfl mJ13_copyOf_args ⟨Nat.le_of_ble_eq_true rfl, Nat.le_of_ble_eq_true rfl⟩ rfl (Nat.le_trans (w_R w_0) (Nat.le_of_ble_eq_true rfl)) (le_b mJ13_copyOf_c (Nat.le_refl _)) (le_b mJ13_copyOf_s (Nat.le_refl _)) rfl (Cal.mono h ?_)
      rintro s36 v ⟨x37, rfl, h⟩ hx38
      have h := h hx38
      have x39 := hx38.x
      show G w mJ2_grow_2 (KR K) (rc) (rs) s36 40 [va_rf l0, .int l1, .int (nI (ln σ a4)), .int x33] [va_rf x37, va_rf l0]
      refine G_dup_x1 41 dJ2_grow_2_40 (rf_cat _) (rf_cat _) rfl ?_
      have c3 := kdE x39 c3 (by decide)
      refine G_putR (f := 52) (a := a1) "" 44 dJ2_grow_2_41 (Or.inl q107) (Or.inl rfl) rfl e2 (hp52 c3) (nk52 c3) (Or.inl rfl) (fun y => by cases y <;> rfl) (fun y => by cases y <;> rfl) rfl ?_
      generalize hs40 : sFR s36 52 a1 x37 = s40
      have x41 : ∀ a, ¬ kd s36 a = 0 → kd s40 a = kd s36 a := by subst hs40; exact fun a _ => congrFun kd_sFR a
      have h := h s40 hs40.symm
      exact G_aret dJ2_grow_2_44 rfl (Or.inr ⟨_, rfl⟩) ⟨_, rfl, h⟩
theorem eJ2_grow_2 {w : Wt} {K : Sg → Option Nat → Prop} {σ : Sg} (l0 : Option Nat) (l1 : Int32) (h : G w mJ2_grow_2 (KR K) 1 22 σ 0 [va_rf l0, .int l1, U_, U_] []) : CalR w mJ2_grow_2 σ [va_rf l0, .int l1] K :=
  Cal.start 2 mJ2_grow_2_plain (catR (catI cat0)) (Nat.le_of_ble_eq_true rfl) rfl h
set_option maxHeartbeats 4000000 in
theorem bJ2_get_0 {w : Wt} {K : Sg → Option Nat → Prop} {rc rs : Nat} {σ : Sg} (l0 : Option Nat) (l1 : Int32) (h : ∃ a1, l0 = some a1 ∧ kd σ a1 = 20 ∧ CalI w mJ34_checkIndex σ [.int l1, .int (FI σ 53 a1)] (fun s4 x5 => Ext σ s4 → CalR w mJ2_elementData s4 [va_rf l0, .int l1] (fun s8 x9 => Ext s4 s8 → K s8 x9))) : G w mJ2_get (KR K) (rc) (rs) σ 0 [va_rf l0, .int l1] [] := by
  refine G_iload_n 1 dJ2_get_0 rfl rfl ?_
  refine G_aload_n 2 dJ2_get_1 rfl rfl ?_
  obtain ⟨a1, e2, h⟩ := h
  obtain ⟨c3, h⟩ := h
  refine G_getI (f := 53) (a := a1) "" 5 dJ2_get_2 (Or.inl q110) (Or.inl rfl) rfl e2 (hf53 c3) rfl ?_
  refine G_invS (N := mJ34_checkIndex) (As := [.int l1, .int (FI σ 53 a1)]) (st := []) (rc) (rs) "" 8 dJ2_get_5 (Or.inl q1398) q1399 q73 q1400 rfl mJ34_checkIndex_args ⟨Nat.le_of_ble_eq_true rfl, Nat.le_of_ble_eq_true rfl⟩ rfl (Nat.zero_le _) (le_b mJ34_checkIndex_c (Nat.le_refl _)) (le_b mJ34_checkIndex_s (Nat.le_refl _)) rfl (Cal.mono h ?_)
  rintro s4 v ⟨x5, rfl, h⟩ hx6
  have h := h hx6
  have x7 := hx6.x
  show G w mJ2_get (KR K) (rc) (rs) s4 8 [va_rf l0, .int l1] [.int x5]
  refine G_pop 9 dJ2_get_8 (rfl) rfl ?_
  refine G_aload_n 10 dJ2_get_9 rfl rfl ?_
  refine G_iload_n 11 dJ2_get_10 rfl rfl ?_
  have c3 := kdE x7 c3 (by decide)
  refine G_invV (N := mJ2_elementData) (As := [.int l1]) (st := []) (t := l0) (b := a1) (rc) (rs) 14 dJ2_get_11 q1404 q1405 q1406 q35 q1407 rfl rfl mJ2_elementData_args ⟨Nat.le_of_ble_eq_true rfl, Nat.le_of_ble_eq_true rfl⟩ rfl (Nat.zero_le _) e2 (rk20 c3) (le_b mJ2_elementData_c (Nat.le_refl _)) (le_b mJ2_elementData_s (Nat.le_refl _)) rfl (Cal.mono h ?_)
  rintro s8 v ⟨x9, rfl, h⟩ hx10
  have h := h hx10
  have x11 := hx10.x
  show G w mJ2_get (KR K) (rc) (rs) s8 14 [va_rf l0, .int l1] [va_rf x9]
  exact G_aret dJ2_get_14 rfl (Or.inl ⟨_, rfl⟩) ⟨_, rfl, h⟩
theorem eJ2_get {w : Wt} {K : Sg → Option Nat → Prop} {σ : Sg} (l0 : Option Nat) (l1 : Int32) (h : G w mJ2_get (KR K) 0 0 σ 0 [va_rf l0, .int l1] []) : CalR w mJ2_get σ [va_rf l0, .int l1] K :=
  Cal.start 0 mJ2_get_plain (catR (catI cat0)) (Nat.le_of_ble_eq_true rfl) rfl h
set_option maxHeartbeats 4000000 in
theorem bJ2_elementData_0 {w : Wt} {K : Sg → Option Nat → Prop} {rc rs : Nat} {σ : Sg} (l0 : Option Nat) (l1 : Int32) (h : ∃ a1, l0 = some a1 ∧ kd σ a1 = 20 ∧ ∃ a4, FR σ 52 a1 = some a4 ∧ kd σ a4 ∈ [3, 4, 7, 8] ∧ vp_in l1 (ln σ a4) ∧ K σ (AR σ a4 l1.toNatClampNeg)) : G w mJ2_elementData (KR K) (rc) (rs) σ 0 [va_rf l0, .int l1] [] := by
  refine G_aload_n 1 dJ2_elementData_0 rfl rfl ?_
  obtain ⟨a1, e2, h⟩ := h
  obtain ⟨c3, h⟩ := h
  refine G_getR (f := 52) (a := a1) "" 4 dJ2_elementData_1 (Or.inl q107) (Or.inl rfl) rfl e2 (hf52 c3) rfl ?_
  refine G_iload_n 5 dJ2_elementData_4 rfl rfl ?_
  obtain ⟨a4, e5, h⟩ := h
  obtain ⟨c6, h⟩ := h
  obtain ⟨c7, h⟩ := h
  refine G_aald (a := a4) 6 dJ2_elementData_5 rfl e5 c6 c7 ?_
  exact G_aret dJ2_elementData_6 rfl (Or.inl ⟨_, rfl⟩) ⟨_, rfl, h⟩
theorem eJ2_elementData {w : Wt} {K : Sg → Option Nat → Prop} {σ : Sg} (l0 : Option Nat) (l1 : Int32) (h : G w mJ2_elementData (KR K) 0 0 σ 0 [va_rf l0, .int l1] []) : CalR w mJ2_elementData σ [va_rf l0, .int l1] K :=
  Cal.start 0 mJ2_elementData_plain (catR (catI cat0)) (Nat.le_of_ble_eq_true rfl) rfl h
set_option maxHeartbeats 4000000 in
theorem bJ2_add_3_0 {w : Wt} {K : Sg → Prop} {rc rs : Nat} {σ : Sg} (l0 : Option Nat) (l1 : Int32) (l2 : Option Nat) (h : ∃ a1, l0 = some a1 ∧ kd σ a1 = 20 ∧ CalV w mJ2_rangeCheckForAdd σ [va_rf l0, .int l1] (fun s3 => Ext σ s3 → ∀ s7, s7 = sFI s3 51 a1 ((FI s3 51 a1) + 1) → ∃ a9, FR s7 52 a1 = some a9 ∧ kd s7 a9 ∈ [1, 2, 3, 4, 5, 7, 8] ∧ ((¬ FI s7 53 a1 = nI (ln s7 a9) → ∃ N13 N14 N15, l1 = nI N13 ∧ l1 + 1 = nI N14 ∧ (FI s7 53 a1) - l1 = nI N15 ∧ (kd s7 a9 = 3 ∧ kd s7 a9 = 3 ∧ N13 + N15 ≤ ln s7 a9 ∧ N14 + N15 ≤ ln s7 a9 ∧ ln s7 a9 < 2 ^ 31 ∧ ln s7 a9 < 2 ^ 31 ∧ ∀ i, i < N15 → ∀ y, AR s7 a9 (N13 + i) = some y → kd s7 y ∈ [15, 17]) ∧ ∀ s20, s20 = sARs s7 a9 (va_cpy (AR s7 a9) (AR s7 a9) N13 N14 N15) → kd s20 a9 = 3 ∧ vp_in l1 (ln s20 a9) ∧ (l2 = none ∨ ∃ b, l2 = some b ∧ kd s20 b ∈ [15, 17]) ∧ ∀ s25, s25 = sAR s20 a9 l1.toNatClampNeg l2 → ∀ s27, s27 = sFI s25 53 a1 ((FI s7 53 a1) + 1) → K s27) ∧ (FI s7 53 a1 = nI (ln s7 a9) → CalR w mJ2_grow s7 [va_rf l0] (fun s29 x30 => Ext s7 s29 → ∃ a33, x30 = some a33 ∧ ∃ N35 N36 N37, l1 = nI N35 ∧ l1 + 1 = nI N36 ∧ (FI s7 53 a1) - l1 = nI N37 ∧ (kd s29 a33 = 3 ∧ kd s29 a33 = 3 ∧ N35 + N37 ≤ ln s29 a33 ∧ N36 + N37 ≤ ln s29 a33 ∧ ln s29 a33 < 2 ^ 31 ∧ ln s29 a33 < 2 ^ 31 ∧ ∀ i, i < N37 → ∀ y, AR s29 a33 (N35 + i) = some y → kd s29 y ∈ [15, 17]) ∧ ∀ s42, s42 = sARs s29 a33 (va_cpy (AR s29 a33) (AR s29 a33) N35 N36 N37) → kd s42 a33 = 3 ∧ vp_in l1 (ln s42 a33) ∧ (l2 = none ∨ ∃ b, l2 = some b ∧ kd s42 b ∈ [15, 17]) ∧ ∀ s47, s47 = sAR s42 a33 l1.toNatClampNeg l2 → ∀ s49, s49 = sFI s47 53 a1 ((FI s7 53 a1) + 1) → K s49))))) : G w mJ2_add_3 (KV K) (rc + 1) (rs + 22) σ 0 [va_rf l0, .int l1, va_rf l2, U_, U_] [] := by
  refine G_aload_n 1 dJ2_add_3_0 rfl rfl ?_
  refine G_iload_n 2 dJ2_add_3_1 rfl rfl ?_
  obtain ⟨a1, e2, h⟩ := h
  obtain ⟨c4, h⟩ := h
  refine G_invV (N := mJ2_rangeCheckForAdd) (As := [.int l1]) (st := []) (t := l0) (b := a1) (rc + 1) (rs + 22) 5 dJ2_add_3_2 q1784 q1786 qs8 q35 q1787 rfl rfl mJ2_rangeCheckForAdd_args ⟨Nat.le_of_ble_eq_true rfl, Nat.le_of_ble_eq_true rfl⟩ rfl (Nat.zero_le _) e2 (rk20 c4) (le_b mJ2_rangeCheckForAdd_c (Nat.le_refl _)) (le_b mJ2_rangeCheckForAdd_s (Nat.le_refl _)) rfl (Cal.mono h ?_)
  rintro s3 v ⟨rfl, h⟩ hx5
  have h := h hx5
  have x6 := hx5.x
  show G w mJ2_add_3 (KV K) (rc + 1) (rs + 22) s3 5 [va_rf l0, .int l1, va_rf l2, U_, U_] []
  refine G_aload_n 6 dJ2_add_3_5 rfl rfl ?_
  refine G_dup 7 dJ2_add_3_6 (rf_cat _) rfl ?_
  have c4 := kdE x6 c4 (by decide)
  refine G_getI (f := 51) (a := a1) "" 10 dJ2_add_3_7 (Or.inl q114) (Or.inr q113) rfl e2 (hf51 c4) rfl ?_
  refine G_iconst (v := 1) 11 dJ2_add_3_10 (by decide) rfl ?_
  refine G_iadd 12 dJ2_add_3_11 rfl ?_
  refine G_putI (f := 51) (a := a1) "" 15 dJ2_add_3_12 (Or.inl q114) (Or.inr q113) rfl e2 (hp51 c4) (nk51 c4) (Or.inl rfl) rfl rfl rfl ?_
  generalize hs7 : sFI s3 51 a1 ((FI s3 51 a1) + 1) = s7
  have x8 : ∀ a, ¬ kd s3 a = 0 → kd s7 a = kd s3 a := by subst hs7; exact fun a _ => congrFun kd_sFI a
  have h := h s7 hs7.symm
  refine G_aload_n 16 dJ2_add_3_15 rfl rfl ?_
  have c4 := kdE x8 c4 (by decide)
  refine G_getI (f := 53) (a := a1) "" 19 dJ2_add_3_16 (Or.inl q110) (Or.inl rfl) rfl e2 (hf53 c4) rfl ?_
  refine G_dup 20 dJ2_add_3_19 (rfl) rfl ?_
  refine G_istore_n 21 [va_rf l0, .int l1, va_rf l2, .int (FI s7 53 a1), U_] dJ2_add_3_20 (Nat.le_of_ble_eq_true rfl) rfl rfl ?_
  refine G_aload_n 22 dJ2_add_3_21 rfl rfl ?_
  refine G_getR (f := 52) (a := a1) "" 25 dJ2_add_3_22 (Or.inl q107) (Or.inl rfl) rfl e2 (hf52 c4) rfl ?_
  refine G_dup 26 dJ2_add_3_25 (rf_cat _) rfl ?_
  refine G_astore 28 [va_rf l0, .int l1, va_rf l2, .int (FI s7 53 a1), va_rf (FR s7 52 a1)] dJ2_add_3_26 (Nat.le_of_ble_eq_true rfl) rfl rfl ?_
  obtain ⟨a9, e10, h⟩ := h
  obtain ⟨c11, h⟩ := h
  refine G_alen (a := a9) 29 dJ2_add_3_28 rfl e10 c11 ?_
  refine G_icmp_ne 38 32 dJ2_add_3_29 (by decide) rfl (fun u12 => ?_) (fun u12 => ?_)
  · have h := h.1 u12
    refine G_aload 40 dJ2_add_3_38 rfl rfl ?_
    refine G_iload_n 41 dJ2_add_3_40 rfl rfl ?_
    refine G_aload 43 dJ2_add_3_41 rfl rfl ?_
    refine G_iload_n 44 dJ2_add_3_43 rfl rfl ?_
    refine G_iconst (v := 1) 45 dJ2_add_3_44 (by decide) rfl ?_
    refine G_iadd 46 dJ2_add_3_45 rfl ?_
    refine G_iload_n 47 dJ2_add_3_46 rfl rfl ?_
    refine G_iload_n 48 dJ2_add_3_47 rfl rfl ?_
    refine G_isub 49 dJ2_add_3_48 rfl ?_
    obtain ⟨N13, N14, N15, e16, e17, e18, g19, h⟩ := h
    refine G_copyR (a := a9) (b := a9) N13 N14 N15 52 dJ2_add_3_49 q1788 q575 q574 q51 rfl e10 e10 g19.1 g19.2.1 e16 e17 e18 g19.2.2.1 g19.2.2.2.1 g19.2.2.2.2.1 g19.2.2.2.2.2.1 (fun i hi y hy => eo3 (g19.2.2.2.2.2.2 i hi y hy)) (Nat.zero_le _) (Nat.le_of_ble_eq_true rfl) (Nat.le_of_ble_eq_true rfl) ?_
    generalize hs20 : sARs s7 a9 (va_cpy (AR s7 a9) (AR s7 a9) N13 N14 N15) = s20
    have x21 : ∀ a, ¬ kd s7 a = 0 → kd s20 a = kd s7 a := by subst hs20; exact fun a _ => congrFun kd_sARs a
    have h := h s20 hs20.symm
    refine G_aload 54 dJ2_add_3_52 rfl rfl ?_
    refine G_iload_n 55 dJ2_add_3_54 rfl rfl ?_
    refine G_aload_n 56 dJ2_add_3_55 rfl rfl ?_
    obtain ⟨c22, h⟩ := h
    obtain ⟨c23, h⟩ := h
    obtain ⟨c24, h⟩ := h
    refine G_aast (a := a9) (kn := 3) 57 dJ2_add_3_56 rfl e10 c22 (Or.inl rfl) c23 (c24.imp id (fun ⟨b, e, k⟩ => ⟨b, e, eo3 k⟩)) ?_
    generalize hs25 : sAR s20 a9 l1.toNatClampNeg l2 = s25
    have x26 : ∀ a, ¬ kd s20 a = 0 → kd s25 a = kd s20 a := by subst hs25; exact fun a _ => congrFun kd_sAR a
    have h := h s25 hs25.symm
    refine G_aload_n 58 dJ2_add_3_57 rfl rfl ?_
    refine G_iload_n 59 dJ2_add_3_58 rfl rfl ?_
    refine G_iconst (v := 1) 60 dJ2_add_3_59 (by decide) rfl ?_
    refine G_iadd 61 dJ2_add_3_60 rfl ?_
    have c4 := kdE x21 c4 (by decide)
    have c4 := kdE x26 c4 (by decide)
    refine G_putI (f := 53) (a := a1) "" 64 dJ2_add_3_61 (Or.inl q110) (Or.inl rfl) rfl e2 (hp53 c4) (nk53 c4) (Or.inl rfl) rfl rfl rfl ?_
    generalize hs27 : sFI s25 53 a1 ((FI s7 53 a1) + 1) = s27
    have x28 : ∀ a, ¬ kd s25 a = 0 → kd s27 a = kd s25 a := by subst hs27; exact fun a _ => congrFun kd_sFI a
    have h := h s27 hs27.symm
    exact G_ret dJ2_add_3_64 rfl ⟨rfl, h⟩
  · have h := h.2 u12
    refine G_aload_n 33 dJ2_add_3_32 rfl rfl ?_
    refine G_invV (N := mJ2_grow) (As := []) (st := []) (t := l0) (b := a1) (rc) (rs) 36 dJ2_add_3_33 q509 q511 qs2 q35 q512 rfl rfl mJ2_grow_args ⟨Nat.le_of_ble_eq_true rfl, Nat.le_of_ble_eq_true rfl⟩ rfl (Nat.zero_le _) e2 (rk20 c4) (le_b mJ2_grow_c (Nat.le_refl _)) (le_b mJ2_grow_s (Nat.le_refl _)) rfl (Cal.mono h ?_)
    rintro s29 v ⟨x30, rfl, h⟩ hx31
    have h := h hx31
    have x32 := hx31.x
    show G w mJ2_add_3 (KV K) (rc) (rs) s29 36 [va_rf l0, .int l1, va_rf l2, .int (FI s7 53 a1), va_rf (FR s7 52 a1)] [va_rf x30]
    refine G_astore 38 [va_rf l0, .int l1, va_rf l2, .int (FI s7 53 a1), va_rf x30] dJ2_add_3_36 (Nat.le_of_ble_eq_true rfl) rfl rfl ?_
    refine G_aload 40 dJ2_add_3_38 rfl rfl ?_
    refine G_iload_n 41 dJ2_add_3_40 rfl rfl ?_
    refine G_aload 43 dJ2_add_3_41 rfl rfl ?_
    refine G_iload_n 44 dJ2_add_3_43 rfl rfl ?_
    refine G_iconst (v := 1) 45 dJ2_add_3_44 (by decide) rfl ?_
    refine G_iadd 46 dJ2_add_3_45 rfl ?_
    refine G_iload_n 47 dJ2_add_3_46 rfl rfl ?_
    refine G_iload_n 48 dJ2_add_3_47 rfl rfl ?_
    refine G_isub 49 dJ2_add_3_48 rfl ?_
    obtain ⟨a33, e34, h⟩ := h
    obtain ⟨N35, N36, N37, e38, e39, e40, g41, h⟩ := h
    refine G_copyR (a := a33) (b := a33) N35 N36 N37 52 dJ2_add_3_49 q1788 q575 q574 q51 rfl e34 e34 g41.1 g41.2.1 e38 e39 e40 g41.2.2.1 g41.2.2.2.1 g41.2.2.2.2.1 g41.2.2.2.2.2.1 (fun i hi y hy => eo3 (g41.2.2.2.2.2.2 i hi y hy)) (Nat.zero_le _) (Nat.le_of_ble_eq_true rfl) (Nat.le_of_ble_eq_true rfl) ?_
    generalize hs42 : sARs s29 a33 (va_cpy (AR s29 a33) (AR s29 a33) N35 N36 N37) = s42
    have x43 : ∀ a, ¬ kd s29 a = 0 → kd s42 a = kd s29 a := by subst hs42; exact fun a _ => congrFun kd_sARs a
    have h := h s42 hs42.symm
    refine G_aload 54 dJ2_add_3_52 rfl rfl ?_
    refine G_iload_n 55 dJ2_add_3_54 rfl rfl ?_
    refine G_aload_n 56 dJ2_add_3_55 rfl rfl ?_
    obtain ⟨c44, h⟩ := h
    obtain ⟨c45, h⟩ := h
    obtain ⟨c46, h⟩ := h
    refine G_aast (a := a33) (kn := 3) 57 dJ2_add_3_56 rfl e34 c44 (Or.inl rfl) c45 (c46.imp id (fun ⟨b, e, k⟩ => ⟨b, e, eo3 k⟩)) ?_
    generalize hs47 : sAR s42 a33 l1.toNatClampNeg l2 = s47
    have x48 : ∀ a, ¬ kd s42 a = 0 → kd s47 a = kd s42 a := by subst hs47; exact fun a _ => congrFun kd_sAR a
    have h := h s47 hs47.symm
    refine G_aload_n 58 dJ2_add_3_57 rfl rfl ?_
    refine G_iload_n 59 dJ2_add_3_58 rfl rfl ?_
    refine G_iconst (v := 1) 60 dJ2_add_3_59 (by decide) rfl ?_
    refine G_iadd 61 dJ2_add_3_60 rfl ?_
    have c4 := kdE x32 c4 (by decide)
    have c4 := kdE x43 c4 (by decide)
    have c4 := kdE x48 c4 (by decide)
    refine G_putI (f := 53) (a := a1) "" 64 dJ2_add_3_61 (Or.inl q110) (Or.inl rfl) rfl e2 (hp53 c4) (nk53 c4) (Or.inl rfl) rfl rfl rfl ?_
    generalize hs49 : sFI s47 53 a1 ((FI s7 53 a1) + 1) = s49
    have x50 : ∀ a, ¬ kd s47 a = 0 → kd s49 a = kd s47 a := by subst hs49; exact fun a _ => congrFun kd_sFI a
    have h := h s49 hs49.symm
    exact G_ret dJ2_add_3_64 rfl ⟨rfl, h⟩
theorem eJ2_add_3 {w : Wt} {K : Sg → Prop} {σ : Sg} (l0 : Option Nat) (l1 : Int32) (l2 : Option Nat) (h : G w mJ2_add_3 (KV K) 1 22 σ 0 [va_rf l0, .int l1, va_rf l2, U_, U_] []) : CalV w mJ2_add_3 σ [va_rf l0, .int l1, va_rf l2] K :=
  Cal.start 2 mJ2_add_3_plain (catR (catI (catR cat0))) (Nat.le_of_ble_eq_true rfl) rfl h
set_option maxHeartbeats 4000000 in
theorem bJ2_rangeCheckForAdd_0 {w : Wt} {K : Sg → Prop} {rc rs : Nat} {σ : Sg} (l0 : Option Nat) (l1 : Int32) (h : ∃ a1, l0 = some a1 ∧ kd σ a1 = 20 ∧ ((FI σ 53 a1 < l1 → False) ∧ (¬ FI σ 53 a1 < l1 → ((0 ≤ l1 → K σ) ∧ (¬ 0 ≤ l1 → False))))) : G w mJ2_rangeCheckForAdd (KV K) (rc) (rs) σ 0 [va_rf l0, .int l1] [] := by
  refine G_iload_n 1 dJ2_rangeCheckForAdd_0 rfl rfl ?_
  refine G_aload_n 2 dJ2_rangeCheckForAdd_1 rfl rfl ?_
  obtain ⟨a1, e2, h⟩ := h
  obtain ⟨c3, h⟩ := h
  refine G_getI (f := 53) (a := a1) "" 5 dJ2_rangeCheckForAdd_2 (Or.inl q110) (Or.inl rfl) rfl e2 (hf53 c3) rfl ?_
  refine G_icmp_gt 12 8 dJ2_rangeCheckForAdd_5 (by decide) rfl (fun u4 => ?_) (fun u4 => ?_)
  · have h := h.1 u4
    exact h.elim
  · have h := h.2 u4
    refine G_iload_n 9 dJ2_rangeCheckForAdd_8 rfl rfl ?_
    refine G_if_ge 25 12 dJ2_rangeCheckForAdd_9 (by decide) rfl (fun u5 => ?_) (fun u5 => ?_)
    · have h := h.1 u5
      exact G_ret dJ2_rangeCheckForAdd_25 rfl ⟨rfl, h⟩
    · have h := h.2 u5
      exact h.elim
theorem eJ2_rangeCheckForAdd {w : Wt} {K : Sg → Prop} {σ : Sg} (l0 : Option Nat) (l1 : Int32) (h : G w mJ2_rangeCheckForAdd (KV K) 0 0 σ 0 [va_rf l0, .int l1] []) : CalV w mJ2_rangeCheckForAdd σ [va_rf l0, .int l1] K :=
  Cal.start 0 mJ2_rangeCheckForAdd_plain (catR (catI cat0)) (Nat.le_of_ble_eq_true rfl) rfl h
set_option maxHeartbeats 4000000 in
theorem bJ2_remove_0 {w : Wt} {K : Sg → Option Nat → Prop} {rc rs : Nat} {σ : Sg} (l0 : Option Nat) (l1 : Int32) (h : ∃ a1, l0 = some a1 ∧ kd σ a1 = 20 ∧ CalI w mJ34_checkIndex σ [.int l1, .int (FI σ 53 a1)] (fun s4 x5 => Ext σ s4 → ∃ a8, FR s4 52 a1 = some a8 ∧ kd s4 a8 ∈ [3, 4, 7, 8] ∧ vp_in l1 (ln s4 a8) ∧ CalV w mJ2_fastRemove s4 [va_rf l0, va_rf (FR s4 52 a1), .int l1] (fun s12 => Ext s4 s12 → K s12 (AR s4 a8 l1.toNatClampNeg)))) : G w mJ2_remove (KR K) (rc) (rs) σ 0 [va_rf l0, .int l1, U_, U_] [] := by
  refine G_iload_n 1 dJ2_remove_0 rfl rfl ?_
  refine G_aload_n 2 dJ2_remove_1 rfl rfl ?_
  obtain ⟨a1, e2, h⟩ := h
  obtain ⟨c3, h⟩ := h
  refine G_getI (f := 53) (a := a1) "" 5 dJ2_remove_2 (Or.inl q110) (Or.inl rfl) rfl e2 (hf53 c3) rfl ?_
  refine G_invS (N := mJ34_checkIndex) (As := [.int l1, .int (FI σ 53 a1)]) (st := []) (rc) (rs) "" 8 dJ2_remove_5 (Or.inl q1398) q1399 q73 q1400 rfl mJ34_checkIndex_args ⟨Nat.le_of_ble_eq_true rfl, Nat.le_of_ble_eq_true rfl⟩ rfl (Nat.zero_le _) (le_b mJ34_checkIndex_c (Nat.le_refl _)) (le_b mJ34_checkIndex_s (Nat.le_refl _)) rfl (Cal.mono h ?_)
  rintro s4 v ⟨x5, rfl, h⟩ hx6
  have h := h hx6
  have x7 := hx6.x
  show G w mJ2_remove (KR K) (rc) (rs) s4 8 [va_rf l0, .int l1, U_, U_] [.int x5]
  refine G_pop 9 dJ2_remove_8 (rfl) rfl ?_
  refine G_aload_n 10 dJ2_remove_9 rfl rfl ?_
  have c3 := kdE x7 c3 (by decide)
  refine G_getR (f := 52) (a := a1) "" 13 dJ2_remove_10 (Or.inl q107) (Or.inl rfl) rfl e2 (hf52 c3) rfl ?_
  refine G_astore_n 14 [va_rf l0, .int l1, va_rf (FR s4 52 a1), U_] dJ2_remove_13 (Nat.le_of_ble_eq_true rfl) rfl rfl ?_
  refine G_aload_n 15 dJ2_remove_14 rfl rfl ?_
  refine G_iload_n 16 dJ2_remove_15 rfl rfl ?_
  obtain ⟨a8, e9, h⟩ := h
  obtain ⟨c10, h⟩ := h
  obtain ⟨c11, h⟩ := h
  refine G_aald (a := a8) 17 dJ2_remove_16 rfl e9 c10 c11 ?_
  refine G_astore_n 18 [va_rf l0, .int l1, va_rf (FR s4 52 a1), va_rf (AR s4 a8 l1.toNatClampNeg)] dJ2_remove_17 (Nat.le_of_ble_eq_true rfl) rfl rfl ?_
  refine G_aload_n 19 dJ2_remove_18 rfl rfl ?_
  refine G_aload_n 20 dJ2_remove_19 rfl rfl ?_
  refine G_iload_n 21 dJ2_remove_20 rfl rfl ?_
  refine G_invV (N := mJ2_fastRemove) (As := [va_rf (FR s4 52 a1), .int l1]) (st := []) (t := l0) (b := a1) (rc) (rs) 24 dJ2_remove_21 q1810 q1812 qs9 q35 q1813 rfl rfl mJ2_fastRemove_args ⟨Nat.le_of_ble_eq_true rfl, Nat.le_of_ble_eq_true rfl⟩ rfl (Nat.zero_le _) e2 (rk20 c3) (le_b mJ2_fastRemove_c (Nat.le_refl _)) (le_b mJ2_fastRemove_s (Nat.le_refl _)) rfl (Cal.mono h ?_)
  rintro s12 v ⟨rfl, h⟩ hx13
  have h := h hx13
  have x14 := hx13.x
  show G w mJ2_remove (KR K) (rc) (rs) s12 24 [va_rf l0, .int l1, va_rf (FR s4 52 a1), va_rf (AR s4 a8 l1.toNatClampNeg)] []
  refine G_aload_n 25 dJ2_remove_24 rfl rfl ?_
  exact G_aret dJ2_remove_25 rfl (Or.inl ⟨_, rfl⟩) ⟨_, rfl, h⟩
theorem eJ2_remove {w : Wt} {K : Sg → Option Nat → Prop} {σ : Sg} (l0 : Option Nat) (l1 : Int32) (h : G w mJ2_remove (KR K) 0 0 σ 0 [va_rf l0, .int l1, U_, U_] []) : CalR w mJ2_remove σ [va_rf l0, .int l1] K :=
  Cal.start 2 mJ2_remove_plain (catR (catI cat0)) (Nat.le_of_ble_eq_true rfl) rfl h
set_option maxHeartbeats 4000000 in
theorem bJ2_fastRemove_0 {w : Wt} {K : Sg → Prop} {rc rs : Nat} {σ : Sg} (l0 : Option Nat) (l1 : Option Nat) (l2 : Int32) (h : ∃ a1, l0 = some a1 ∧ kd σ a1 = 20 ∧ ∀ s4, s4 = sFI σ 51 a1 ((FI σ 51 a1) + 1) → (((FI s4 53 a1) - 1 ≤ l2 → ∀ s7, s7 = sFI s4 53 a1 ((FI s4 53 a1) - 1) → ∃ a9, l1 = some a9 ∧ kd s7 a9 = 3 ∧ vp_in ((FI s4 53 a1) - 1) (ln s7 a9) ∧ ∀ s13, s13 = sAR s7 a9 ((FI s4 53 a1) - 1).toNatClampNeg none → K s13) ∧ (¬ (FI s4 53 a1) - 1 ≤ l2 → ∃ a15, l1 = some a15 ∧ ∃ N17 N18 N19, l2 + 1 = nI N17 ∧ l2 = nI N18 ∧ ((FI s4 53 a1) - 1) - l2 = nI N19 ∧ (kd s4 a15 = 3 ∧ kd s4 a15 = 3 ∧ N17 + N19 ≤ ln s4 a15 ∧ N18 + N19 ≤ ln s4 a15 ∧ ln s4 a15 < 2 ^ 31 ∧ ln s4 a15 < 2 ^ 31 ∧ ∀ i, i < N19 → ∀ y, AR s4 a15 (N17 + i) = some y → kd s4 y ∈ [15, 17]) ∧ ∀ s24, s24 = sARs s4 a15 (va_cpy (AR s4 a15) (AR s4 a15) N17 N18 N19) → ∀ s26, s26 = sFI s24 53 a1 ((FI s4 53 a1) - 1) → kd s26 a15 = 3 ∧ vp_in ((FI s4 53 a1) - 1) (ln s26 a15) ∧ ∀ s30, s30 = sAR s26 a15 ((FI s4 53 a1) - 1).toNatClampNeg none → K s30))) : G w mJ2_fastRemove (KV K) (rc) (rs) σ 0 [va_rf l0, va_rf l1, .int l2, U_] [] := by
  refine G_aload_n 1 dJ2_fastRemove_0 rfl rfl ?_
  refine G_dup 2 dJ2_fastRemove_1 (rf_cat _) rfl ?_
  obtain ⟨a1, e2, h⟩ := h
  obtain ⟨c3, h⟩ := h
  refine G_getI (f := 51) (a := a1) "" 5 dJ2_fastRemove_2 (Or.inl q114) (Or.inr q113) rfl e2 (hf51 c3) rfl ?_
  refine G_iconst (v := 1) 6 dJ2_fastRemove_5 (by decide) rfl ?_
  refine G_iadd 7 dJ2_fastRemove_6 rfl ?_
  refine G_putI (f := 51) (a := a1) "" 10 dJ2_fastRemove_7 (Or.inl q114) (Or.inr q113) rfl e2 (hp51 c3) (nk51 c3) (Or.inl rfl) rfl rfl rfl ?_
  generalize hs4 : sFI σ 51 a1 ((FI σ 51 a1) + 1) = s4
  have x5 : ∀ a, ¬ kd σ a = 0 → kd s4 a = kd σ a := by subst hs4; exact fun a _ => congrFun kd_sFI a
  have h := h s4 hs4.symm
  refine G_aload_n 11 dJ2_fastRemove_10 rfl rfl ?_
  have c3 := kdE x5 c3 (by decide)
  refine G_getI (f := 53) (a := a1) "" 14 dJ2_fastRemove_11 (Or.inl q110) (Or.inl rfl) rfl e2 (hf53 c3) rfl ?_
  refine G_iconst (v := 1) 15 dJ2_fastRemove_14 (by decide) rfl ?_
  refine G_isub 16 dJ2_fastRemove_15 rfl ?_
  refine G_dup 17 dJ2_fastRemove_16 (rfl) rfl ?_
  refine G_istore_n 18 [va_rf l0, va_rf l1, .int l2, .int ((FI s4 53 a1) - 1)] dJ2_fastRemove_17 (Nat.le_of_ble_eq_true rfl) rfl rfl ?_
  refine G_iload_n 19 dJ2_fastRemove_18 rfl rfl ?_
  refine G_icmp_le 34 22 dJ2_fastRemove_19 (by decide) rfl (fun u6 => ?_) (fun u6 => ?_)
  · have h := h.1 u6
    refine G_aload_n 35 dJ2_fastRemove_34 rfl rfl ?_
    refine G_aload_n 36 dJ2_fastRemove_35 rfl rfl ?_
    refine G_iload_n 37 dJ2_fastRemove_36 rfl rfl ?_
    refine G_dup_x1 38 dJ2_fastRemove_37 (rfl) (rf_cat _) rfl ?_
    refine G_putI (f := 53) (a := a1) "" 41 dJ2_fastRemove_38 (Or.inl q110) (Or.inl rfl) rfl e2 (hp53 c3) (nk53 c3) (Or.inl rfl) rfl rfl rfl ?_
    generalize hs7 : sFI s4 53 a1 ((FI s4 53 a1) - 1) = s7
    have x8 : ∀ a, ¬ kd s4 a = 0 → kd s7 a = kd s4 a := by subst hs7; exact fun a _ => congrFun kd_sFI a
    have h := h s7 hs7.symm
    refine G_null 42 dJ2_fastRemove_41 rfl ?_
    obtain ⟨a9, e10, h⟩ := h
    obtain ⟨c11, h⟩ := h
    obtain ⟨c12, h⟩ := h
    refine G_aast (a := a9) (kn := 3) 43 dJ2_fastRemove_42 rfl e10 c11 (Or.inl rfl) c12 (Or.inl rfl) ?_
    generalize hs13 : sAR s7 a9 ((FI s4 53 a1) - 1).toNatClampNeg none = s13
    have x14 : ∀ a, ¬ kd s7 a = 0 → kd s13 a = kd s7 a := by subst hs13; exact fun a _ => congrFun kd_sAR a
    have h := h s13 hs13.symm
    exact G_ret dJ2_fastRemove_43 rfl ⟨rfl, h⟩
  · have h := h.2 u6
    refine G_aload_n 23 dJ2_fastRemove_22 rfl rfl ?_
    refine G_iload_n 24 dJ2_fastRemove_23 rfl rfl ?_
    refine G_iconst (v := 1) 25 dJ2_fastRemove_24 (by decide) rfl ?_
    refine G_iadd 26 dJ2_fastRemove_25 rfl ?_
    refine G_aload_n 27 dJ2_fastRemove_26 rfl rfl ?_
    refine G_iload_n 28 dJ2_fastRemove_27 rfl rfl ?_
    refine G_iload_n 29 dJ2_fastRemove_28 rfl rfl ?_
    refine G_iload_n 30 dJ2_fastRemove_29 rfl rfl ?_
    refine G_isub 31 dJ2_fastRemove_30 rfl ?_
    obtain ⟨a15, e16, h⟩ := h
    obtain ⟨N17, N18, N19, e20, e21, e22, g23, h⟩ := h
    refine G_copyR (a := a15) (b := a15) N17 N18 N19 34 dJ2_fastRemove_31 q1788 q575 q574 q51 rfl e16 e16 g23.1 g23.2.1 e20 e21 e22 g23.2.2.1 g23.2.2.2.1 g23.2.2.2.2.1 g23.2.2.2.2.2.1 (fun i hi y hy => eo3 (g23.2.2.2.2.2.2 i hi y hy)) (Nat.zero_le _) (Nat.le_of_ble_eq_true rfl) (Nat.le_of_ble_eq_true rfl) ?_
    generalize hs24 : sARs s4 a15 (va_cpy (AR s4 a15) (AR s4 a15) N17 N18 N19) = s24
    have x25 : ∀ a, ¬ kd s4 a = 0 → kd s24 a = kd s4 a := by subst hs24; exact fun a _ => congrFun kd_sARs a
    have h := h s24 hs24.symm
    refine G_aload_n 35 dJ2_fastRemove_34 rfl rfl ?_
    refine G_aload_n 36 dJ2_fastRemove_35 rfl rfl ?_
    refine G_iload_n 37 dJ2_fastRemove_36 rfl rfl ?_
    refine G_dup_x1 38 dJ2_fastRemove_37 (rfl) (rf_cat _) rfl ?_
    have c3 := kdE x25 c3 (by decide)
    refine G_putI (f := 53) (a := a1) "" 41 dJ2_fastRemove_38 (Or.inl q110) (Or.inl rfl) rfl e2 (hp53 c3) (nk53 c3) (Or.inl rfl) rfl rfl rfl ?_
    generalize hs26 : sFI s24 53 a1 ((FI s4 53 a1) - 1) = s26
    have x27 : ∀ a, ¬ kd s24 a = 0 → kd s26 a = kd s24 a := by subst hs26; exact fun a _ => congrFun kd_sFI a
    have h := h s26 hs26.symm
    refine G_null 42 dJ2_fastRemove_41 rfl ?_
    obtain ⟨c28, h⟩ := h
    obtain ⟨c29, h⟩ := h
    refine G_aast (a := a15) (kn := 3) 43 dJ2_fastRemove_42 rfl e16 c28 (Or.inl rfl) c29 (Or.inl rfl) ?_
    generalize hs30 : sAR s26 a15 ((FI s4 53 a1) - 1).toNatClampNeg none = s30
    have x31 : ∀ a, ¬ kd s26 a = 0 → kd s30 a = kd s26 a := by subst hs30; exact fun a _ => congrFun kd_sAR a
    have h := h s30 hs30.symm
    exact G_ret dJ2_fastRemove_43 rfl ⟨rfl, h⟩
theorem eJ2_fastRemove {w : Wt} {K : Sg → Prop} {σ : Sg} (l0 : Option Nat) (l1 : Option Nat) (l2 : Int32) (h : G w mJ2_fastRemove (KV K) 0 0 σ 0 [va_rf l0, va_rf l1, .int l2, U_] []) : CalV w mJ2_fastRemove σ [va_rf l0, va_rf l1, .int l2] K :=
  Cal.start 1 mJ2_fastRemove_plain (catR (catR (catI cat0))) (Nat.le_of_ble_eq_true rfl) rfl h
set_option maxHeartbeats 4000000 in
theorem bJ2_remove_2_0 {w : Wt} {K : Sg → Int32 → Prop} {rc rs : Nat} {σ : Sg} (l0 : Option Nat) (l1 : Option Nat) (h : ∃ a1, l0 = some a1 ∧ kd σ a1 = 20 ∧ ((¬ l1 = none → G w mJ2_remove_2 (KI K) (rc) (rs) σ 39 [va_rf l0, va_rf l1, va_rf (FR σ 52 a1), .int (FI σ 53 a1), .int 0] []) ∧ (l1 = none → G w mJ2_remove_2 (KI K) (rc) (rs) σ 17 [va_rf l0, va_rf l1, va_rf (FR σ 52 a1), .int (FI σ 53 a1), .int 0] []))) : G w mJ2_remove_2 (KI K) (rc) (rs) σ 0 [va_rf l0, va_rf l1, U_, U_, U_] [] := by
  refine G_aload_n 1 dJ2_remove_2_0 rfl rfl ?_
  obtain ⟨a1, e2, h⟩ := h
  obtain ⟨c3, h⟩ := h
  refine G_getR (f := 52) (a := a1) "" 4 dJ2_remove_2_1 (Or.inl q107) (Or.inl rfl) rfl e2 (hf52 c3) rfl ?_
  refine G_astore_n 5 [va_rf l0, va_rf l1, va_rf (FR σ 52 a1), U_, U_] dJ2_remove_2_4 (Nat.le_of_ble_eq_true rfl) rfl rfl ?_
  refine G_aload_n 6 dJ2_remove_2_5 rfl rfl ?_
  refine G_getI (f := 53) (a := a1) "" 9 dJ2_remove_2_6 (Or.inl q110) (Or.inl rfl) rfl e2 (hf53 c3) rfl ?_
  refine G_istore_n 10 [va_rf l0, va_rf l1, va_rf (FR σ 52 a1), .int (FI σ 53 a1), U_] dJ2_remove_2_9 (Nat.le_of_ble_eq_true rfl) rfl rfl ?_
  refine G_iconst (v := 0) 11 dJ2_remove_2_10 (by decide) rfl ?_
  refine G_istore 13 [va_rf l0, va_rf l1, va_rf (FR σ 52 a1), .int (FI σ 53 a1), .int 0] dJ2_remove_2_11 (Nat.le_of_ble_eq_true rfl) rfl rfl ?_
  refine G_aload_n 14 dJ2_remove_2_13 rfl rfl ?_
  refine G_ifnonnull 39 17 dJ2_remove_2_14 (by decide) rfl (fun u4 => ?_) (fun u4 => ?_)
  · have h := h.1 u4
    exact h
  · have h := h.2 u4
    exact h
set_option maxHeartbeats 4000000 in
theorem bJ2_remove_2_17 {w : Wt} {K : Sg → Int32 → Prop} {rc rs : Nat} {σ : Sg} (l0 : Option Nat) (l1 : Option Nat) (l2 : Option Nat) (l3 : Int32) (l4 : Int32) (h : ((l3 ≤ l4 → K σ 0) ∧ (¬ l3 ≤ l4 → ∃ a2, l2 = some a2 ∧ kd σ a2 ∈ [3, 4, 7, 8] ∧ vp_in l4 (ln σ a2) ∧ ((¬ AR σ a2 l4.toNatClampNeg = none → G w mJ2_remove_2 (KI K) (rc) (rs) σ 17 [va_rf l0, va_rf l1, va_rf l2, .int l3, .int (l4 + 1)] []) ∧ (AR σ a2 l4.toNatClampNeg = none → ∃ a7, l0 = some a7 ∧ kd σ a7 = 20 ∧ CalV w mJ2_fastRemove σ [va_rf l0, va_rf l2, .int l4] (fun s9 => Ext σ s9 → K s9 1)))))) : G w mJ2_remove_2 (KI K) (rc) (rs) σ 17 [va_rf l0, va_rf l1, va_rf l2, .int l3, .int l4] [] := by
  refine G_iload 19 dJ2_remove_2_17 rfl rfl ?_
  refine G_iload_n 20 dJ2_remove_2_19 rfl rfl ?_
  refine G_icmp_ge 65 23 dJ2_remove_2_20 (by decide) rfl (fun u1 => ?_) (fun u1 => ?_)
  · have h := h.1 u1
    refine G_iconst (v := 0) 66 dJ2_remove_2_65 (by decide) rfl ?_
    exact G_zret dJ2_remove_2_66 rfl rfl ⟨_, rfl, h⟩
  · have h := h.2 u1
    refine G_aload_n 24 dJ2_remove_2_23 rfl rfl ?_
    refine G_iload 26 dJ2_remove_2_24 rfl rfl ?_
    obtain ⟨a2, e3, h⟩ := h
    obtain ⟨c4, h⟩ := h
    obtain ⟨c5, h⟩ := h
    refine G_aald (a := a2) 27 dJ2_remove_2_26 rfl e3 c4 c5 ?_
    refine G_ifnonnull 33 30 dJ2_remove_2_27 (by decide) rfl (fun u6 => ?_) (fun u6 => ?_)
    · have h := h.1 u6
      refine G_iinc 36 [va_rf l0, va_rf l1, va_rf l2, .int l3, .int (l4 + 1)] dJ2_remove_2_33 rfl rfl (Nat.le_of_ble_eq_true rfl) rfl rfl ?_
      refine G_goto 17 dJ2_remove_2_36 (by decide) ?_
      exact h
    · have h := h.2 u6
      refine G_goto 67 dJ2_remove_2_30 (by decide) ?_
      refine G_aload_n 68 dJ2_remove_2_67 rfl rfl ?_
      refine G_aload_n 69 dJ2_remove_2_68 rfl rfl ?_
      refine G_iload 71 dJ2_remove_2_69 rfl rfl ?_
      obtain ⟨a7, e8, h⟩ := h
      obtain ⟨c10, h⟩ := h
      refine G_invV (N := mJ2_fastRemove) (As := [va_rf l2, .int l4]) (st := []) (t := l0) (b := a7) (rc) (rs) 74 dJ2_remove_2_71 q1810 q1812 qs9 q35 q1813 rfl rfl mJ2_fastRemove_args ⟨Nat.le_of_ble_eq_true rfl, Nat.le_of_ble_eq_true rfl⟩ rfl (Nat.zero_le _) e8 (rk20 c10) (le_b mJ2_fastRemove_c (Nat.le_refl _)) (le_b mJ2_fastRemove_s (Nat.le_refl _)) rfl (Cal.mono h ?_)
      rintro s9 v ⟨rfl, h⟩ hx11
      have h := h hx11
      have x12 := hx11.x
      show G w mJ2_remove_2 (KI K) (rc) (rs) s9 74 [va_rf l0, va_rf l1, va_rf l2, .int l3, .int l4] []
      refine G_iconst (v := 1) 75 dJ2_remove_2_74 (by decide) rfl ?_
      exact G_zret dJ2_remove_2_75 rfl rfl ⟨_, rfl, h⟩
set_option maxHeartbeats 4000000 in
theorem bJ2_remove_2_39 {w : Wt} {K : Sg → Int32 → Prop} {rc rs : Nat} {σ : Sg} (l0 : Option Nat) (l1 : Option Nat) (l2 : Option Nat) (l3 : Int32) (l4 : Int32) (h : ((l3 ≤ l4 → K σ 0) ∧ (¬ l3 ≤ l4 → ∃ a2, l2 = some a2 ∧ kd σ a2 ∈ [3, 4, 7, 8] ∧ vp_in l4 (ln σ a2) ∧ ∃ a6, l1 = some a6 ∧ ((kd σ a6 = 16 ∧ CalI w mX6_equals σ [va_rf l1, va_rf (AR σ a2 l4.toNatClampNeg)] (fun s8 x9 => Ext σ s8 → ((x9 = 0 → G w mJ2_remove_2 (KI K) (rc) (rs) s8 39 [va_rf l0, va_rf l1, va_rf l2, .int l3, .int (l4 + 1)] []) ∧ (¬ x9 = 0 → ∃ a14, l0 = some a14 ∧ kd s8 a14 = 20 ∧ CalV w mJ2_fastRemove s8 [va_rf l0, va_rf l2, .int l4] (fun s16 => Ext s8 s16 → K s16 1))))) ∨ (kd σ a6 = 17 ∧ CalI w mJ36_equals σ [va_rf l1, va_rf (AR σ a2 l4.toNatClampNeg)] (fun s20 x21 => Ext σ s20 → ((x21 = 0 → G w mJ2_remove_2 (KI K) (rc) (rs) s20 39 [va_rf l0, va_rf l1, va_rf l2, .int l3, .int (l4 + 1)] []) ∧ (¬ x21 = 0 → ∃ a26, l0 = some a26 ∧ kd s20 a26 = 20 ∧ CalV w mJ2_fastRemove s20 [va_rf l0, va_rf l2, .int l4] (fun s28 => Ext s20 s28 → K s28 1))))))))) : G w mJ2_remove_2 (KI K) (rc) (rs) σ 39 [va_rf l0, va_rf l1, va_rf l2, .int l3, .int l4] [] := by
  refine G_iload 41 dJ2_remove_2_39 rfl rfl ?_
  refine G_iload_n 42 dJ2_remove_2_41 rfl rfl ?_
  refine G_icmp_ge 65 45 dJ2_remove_2_42 (by decide) rfl (fun u1 => ?_) (fun u1 => ?_)
  · have h := h.1 u1
    refine G_iconst (v := 0) 66 dJ2_remove_2_65 (by decide) rfl ?_
    exact G_zret dJ2_remove_2_66 rfl rfl ⟨_, rfl, h⟩
  · have h := h.2 u1
    refine G_aload_n 46 dJ2_remove_2_45 rfl rfl ?_
    refine G_aload_n 47 dJ2_remove_2_46 rfl rfl ?_
    refine G_iload 49 dJ2_remove_2_47 rfl rfl ?_
    obtain ⟨a2, e3, h⟩ := h
    obtain ⟨c4, h⟩ := h
    obtain ⟨c5, h⟩ := h
    refine G_aald (a := a2) 50 dJ2_remove_2_49 rfl e3 c4 c5 ?_
    obtain ⟨a6, e7, h⟩ := h
    rcases h with ⟨c10, h⟩ | ⟨c22, h⟩
    · refine G_invU (N := mX6_equals) (owner := "java/lang/Object") (x := ⟨"java/lang/Object", "equals", "(Ljava/lang/Object;)Z"⟩) (As := [va_rf (AR σ a2 l4.toNatClampNeg)]) (st := []) (t := l1) (b := a6) (rc) (rs) 53 dJ2_remove_2_50 q2001 q1253 q1257 q1258 q74 q1259 (Or.inr (Or.inl ⟨q1252, _, _, _, q1282⟩)) rfl ax0 ⟨Nat.le_of_ble_eq_true rfl, Nat.le_of_ble_eq_true rfl⟩ rfl (Nat.zero_le _) e7 (rk16 c10) (le_b mX6_equals_c (Nat.le_refl _)) (le_b mX6_equals_s (Nat.le_refl _)) rfl (Cal.mono h ?_)
      rintro s8 v ⟨x9, rfl, h⟩ hx11
      have h := h hx11
      have x12 := hx11.x
      show G w mJ2_remove_2 (KI K) (rc) (rs) s8 53 [va_rf l0, va_rf l1, va_rf l2, .int l3, .int l4] [.int x9]
      refine G_if_eq 59 56 dJ2_remove_2_53 (by decide) rfl (fun u13 => ?_) (fun u13 => ?_)
      · have h := h.1 u13
        refine G_iinc 62 [va_rf l0, va_rf l1, va_rf l2, .int l3, .int (l4 + 1)] dJ2_remove_2_59 rfl rfl (Nat.le_of_ble_eq_true rfl) rfl rfl ?_
        refine G_goto 39 dJ2_remove_2_62 (by decide) ?_
        exact h
      · have h := h.2 u13
        refine G_goto 67 dJ2_remove_2_56 (by decide) ?_
        refine G_aload_n 68 dJ2_remove_2_67 rfl rfl ?_
        refine G_aload_n 69 dJ2_remove_2_68 rfl rfl ?_
        refine G_iload 71 dJ2_remove_2_69 rfl rfl ?_
        obtain ⟨a14, e15, h⟩ := h
        obtain ⟨c17, h⟩ := h
        refine G_invV (N := mJ2_fastRemove) (As := [va_rf l2, .int l4]) (st := []) (t := l0) (b := a14) (rc) (rs) 74 dJ2_remove_2_71 q1810 q1812 qs9 q35 q1813 rfl rfl mJ2_fastRemove_args ⟨Nat.le_of_ble_eq_true rfl, Nat.le_of_ble_eq_true rfl⟩ rfl (Nat.zero_le _) e15 (rk20 c17) (le_b mJ2_fastRemove_c (Nat.le_refl _)) (le_b mJ2_fastRemove_s (Nat.le_refl _)) rfl (Cal.mono h ?_)
        rintro s16 v ⟨rfl, h⟩ hx18
        have h := h hx18
        have x19 := hx18.x
        show G w mJ2_remove_2 (KI K) (rc) (rs) s16 74 [va_rf l0, va_rf l1, va_rf l2, .int l3, .int l4] []
        refine G_iconst (v := 1) 75 dJ2_remove_2_74 (by decide) rfl ?_
        exact G_zret dJ2_remove_2_75 rfl rfl ⟨_, rfl, h⟩
    · refine G_invU (N := mJ36_equals) (owner := "java/lang/Object") (x := ⟨"java/lang/Object", "equals", "(Ljava/lang/Object;)Z"⟩) (As := [va_rf (AR σ a2 l4.toNatClampNeg)]) (st := []) (t := l1) (b := a6) (rc) (rs) 53 dJ2_remove_2_50 q2001 q1253 q1256 q1252 q2405 q1282 (Or.inl rfl) rfl ax0 ⟨Nat.le_of_ble_eq_true rfl, Nat.le_of_ble_eq_true rfl⟩ rfl (Nat.zero_le _) e7 (rk17 c22) (le_b mJ36_equals_c (Nat.le_refl _)) (le_b mJ36_equals_s (Nat.le_refl _)) rfl (Cal.mono h ?_)
      rintro s20 v ⟨x21, rfl, h⟩ hx23
      have h := h hx23
      have x24 := hx23.x
      show G w mJ2_remove_2 (KI K) (rc) (rs) s20 53 [va_rf l0, va_rf l1, va_rf l2, .int l3, .int l4] [.int x21]
      refine G_if_eq 59 56 dJ2_remove_2_53 (by decide) rfl (fun u25 => ?_) (fun u25 => ?_)
      · have h := h.1 u25
        refine G_iinc 62 [va_rf l0, va_rf l1, va_rf l2, .int l3, .int (l4 + 1)] dJ2_remove_2_59 rfl rfl (Nat.le_of_ble_eq_true rfl) rfl rfl ?_
        refine G_goto 39 dJ2_remove_2_62 (by decide) ?_
        exact h
      · have h := h.2 u25
        refine G_goto 67 dJ2_remove_2_56 (by decide) ?_
        refine G_aload_n 68 dJ2_remove_2_67 rfl rfl ?_
        refine G_aload_n 69 dJ2_remove_2_68 rfl rfl ?_
        refine G_iload 71 dJ2_remove_2_69 rfl rfl ?_
        obtain ⟨a26, e27, h⟩ := h
        obtain ⟨c29, h⟩ := h
        refine G_invV (N := mJ2_fastRemove) (As := [va_rf l2, .int l4]) (st := []) (t := l0) (b := a26) (rc) (rs) 74 dJ2_remove_2_71 q1810 q1812 qs9 q35 q1813 rfl rfl mJ2_fastRemove_args ⟨Nat.le_of_ble_eq_true rfl, Nat.le_of_ble_eq_true rfl⟩ rfl (Nat.zero_le _) e27 (rk20 c29) (le_b mJ2_fastRemove_c (Nat.le_refl _)) (le_b mJ2_fastRemove_s (Nat.le_refl _)) rfl (Cal.mono h ?_)
        rintro s28 v ⟨rfl, h⟩ hx30
        have h := h hx30
        have x31 := hx30.x
        show G w mJ2_remove_2 (KI K) (rc) (rs) s28 74 [va_rf l0, va_rf l1, va_rf l2, .int l3, .int l4] []
        refine G_iconst (v := 1) 75 dJ2_remove_2_74 (by decide) rfl ?_
        exact G_zret dJ2_remove_2_75 rfl rfl ⟨_, rfl, h⟩
theorem eJ2_remove_2 {w : Wt} {K : Sg → Int32 → Prop} {σ : Sg} (l0 : Option Nat) (l1 : Option Nat) (h : G w mJ2_remove_2 (KI K) 0 0 σ 0 [va_rf l0, va_rf l1, U_, U_, U_] []) : CalI w mJ2_remove_2 σ [va_rf l0, va_rf l1] K :=
  Cal.start 3 mJ2_remove_2_plain (catR (catR cat0)) (Nat.le_of_ble_eq_true rfl) rfl h
set_option maxHeartbeats 4000000 in
theorem bJ2_indexOf_0 {w : Wt} {K : Sg → Int32 → Prop} {rc rs : Nat} {σ : Sg} (l0 : Option Nat) (l1 : Option Nat) (h : ∃ a1, l0 = some a1 ∧ kd σ a1 = 20 ∧ CalI w mJ2_indexOfRange σ [va_rf l0, va_rf l1, .int 0, .int (FI σ 53 a1)] (fun s4 x5 => Ext σ s4 → K s4 x5)) : G w mJ2_indexOf (KI K) (rc) (rs) σ 0 [va_rf l0, va_rf l1] [] := by
  refine G_aload_n 1 dJ2_indexOf_0 rfl rfl ?_
  refine G_aload_n 2 dJ2_indexOf_1 rfl rfl ?_
  refine G_iconst (v := 0) 3 dJ2_indexOf_2 (by decide) rfl ?_
  refine G_aload_n 4 dJ2_indexOf_3 rfl rfl ?_
  obtain ⟨a1, e2, h⟩ := h
  obtain ⟨c3, h⟩ := h
  refine G_getI (f := 53) (a := a1) "" 7 dJ2_indexOf_4 (Or.inl q110) (Or.inl rfl) rfl e2 (hf53 c3) rfl ?_
  refine G_invV (N := mJ2_indexOfRange) (As := [va_rf l1, .int 0, .int (FI σ 53 a1)]) (st := []) (t := l0) (b := a1) (rc) (rs) 10 dJ2_indexOf_7 q2034 q2035 q2036 q35 q2037 rfl rfl mJ2_indexOfRange_args ⟨Nat.le_of_ble_eq_true rfl, Nat.le_of_ble_eq_true rfl⟩ rfl (Nat.zero_le _) e2 (rk20 c3) (le_b mJ2_indexOfRange_c (Nat.le_refl _)) (le_b mJ2_indexOfRange_s (Nat.le_refl _)) rfl (Cal.mono h ?_)
  rintro s4 v ⟨x5, rfl, h⟩ hx6
  have h := h hx6
  have x7 := hx6.x
  show G w mJ2_indexOf (KI K) (rc) (rs) s4 10 [va_rf l0, va_rf l1] [.int x5]
  exact G_iret dJ2_indexOf_10 rfl ⟨_, rfl, h⟩
theorem eJ2_indexOf {w : Wt} {K : Sg → Int32 → Prop} {σ : Sg} (l0 : Option Nat) (l1 : Option Nat) (h : G w mJ2_indexOf (KI K) 0 0 σ 0 [va_rf l0, va_rf l1] []) : CalI w mJ2_indexOf σ [va_rf l0, va_rf l1] K :=
  Cal.start 0 mJ2_indexOf_plain (catR (catR cat0)) (Nat.le_of_ble_eq_true rfl) rfl h
set_option maxHeartbeats 4000000 in
theorem bJ2_indexOfRange_0 {w : Wt} {K : Sg → Int32 → Prop} {rc rs : Nat} {σ : Sg} (l0 : Option Nat) (l1 : Option Nat) (l2 : Int32) (l3 : Int32) (h : ∃ a1, l0 = some a1 ∧ kd σ a1 = 20 ∧ ((¬ l1 = none → G w mJ2_indexOfRange (KI K) (rc) (rs) σ 42 [va_rf l0, va_rf l1, .int l2, .int l3, va_rf (FR σ 52 a1), .int l2] []) ∧ (l1 = none → G w mJ2_indexOfRange (KI K) (rc) (rs) σ 13 [va_rf l0, va_rf l1, .int l2, .int l3, va_rf (FR σ 52 a1), .int l2] []))) : G w mJ2_indexOfRange (KI K) (rc) (rs) σ 0 [va_rf l0, va_rf l1, .int l2, .int l3, U_, U_] [] := by
  refine G_aload_n 1 dJ2_indexOfRange_0 rfl rfl ?_
  obtain ⟨a1, e2, h⟩ := h
  obtain ⟨c3, h⟩ := h
  refine G_getR (f := 52) (a := a1) "" 4 dJ2_indexOfRange_1 (Or.inl q107) (Or.inl rfl) rfl e2 (hf52 c3) rfl ?_
  refine G_astore 6 [va_rf l0, va_rf l1, .int l2, .int l3, va_rf (FR σ 52 a1), U_] dJ2_indexOfRange_4 (Nat.le_of_ble_eq_true rfl) rfl rfl ?_
  refine G_aload_n 7 dJ2_indexOfRange_6 rfl rfl ?_
  refine G_ifnonnull 39 10 dJ2_indexOfRange_7 (by decide) rfl (fun u4 => ?_) (fun u4 => ?_)
  · have h := h.1 u4
    refine G_iload_n 40 dJ2_indexOfRange_39 rfl rfl ?_
    refine G_istore 42 [va_rf l0, va_rf l1, .int l2, .int l3, va_rf (FR σ 52 a1), .int l2] dJ2_indexOfRange_40 (Nat.le_of_ble_eq_true rfl) rfl rfl ?_
    exact h
  · have h := h.2 u4
    refine G_iload_n 11 dJ2_indexOfRange_10 rfl rfl ?_
    refine G_istore 13 [va_rf l0, va_rf l1, .int l2, .int l3, va_rf (FR σ 52 a1), .int l2] dJ2_indexOfRange_11 (Nat.le_of_ble_eq_true rfl) rfl rfl ?_
    exact h
set_option maxHeartbeats 4000000 in
theorem bJ2_indexOfRange_13 {w : Wt} {K : Sg → Int32 → Prop} {rc rs : Nat} {σ : Sg} (l0 : Option Nat) (l1 : Option Nat) (l2 : Int32) (l3 : Int32) (l4 : Option Nat) (l5 : Int32) (h : ((l3 ≤ l5 → K σ (-1)) ∧ (¬ l3 ≤ l5 → ∃ a2, l4 = some a2 ∧ kd σ a2 ∈ [3, 4, 7, 8] ∧ vp_in l5 (ln σ a2) ∧ ((¬ AR σ a2 l5.toNatClampNeg = none → G w mJ2_indexOfRange (KI K) (rc) (rs) σ 13 [va_rf l0, va_rf l1, .int l2, .int l3, va_rf l4, .int (l5 + 1)] []) ∧ (AR σ a2 l5.toNatClampNeg = none → K σ l5))))) : G w mJ2_indexOfRange (KI K) (rc) (rs) σ 13 [va_rf l0, va_rf l1, .int l2, .int l3, va_rf l4, .int l5] [] := by
  refine G_iload 15 dJ2_indexOfRange_13 rfl rfl ?_
  refine G_iload_n 16 dJ2_indexOfRange_15 rfl rfl ?_
  refine G_icmp_ge 36 19 dJ2_indexOfRange_16 (by decide) rfl (fun u1 => ?_) (fun u1 => ?_)
  · have h := h.1 u1
    refine G_goto 69 dJ2_indexOfRange_36 (by decide) ?_
    refine G_iconst (v := (-1)) 70 dJ2_indexOfRange_69 (by decide) rfl ?_
    exact G_iret dJ2_indexOfRange_70 rfl ⟨_, rfl, h⟩
  · have h := h.2 u1
    refine G_aload 21 dJ2_indexOfRange_19 rfl rfl ?_
    refine G_iload 23 dJ2_indexOfRange_21 rfl rfl ?_
    obtain ⟨a2, e3, h⟩ := h
    obtain ⟨c4, h⟩ := h
    obtain ⟨c5, h⟩ := h
    refine G_aald (a := a2) 24 dJ2_indexOfRange_23 rfl e3 c4 c5 ?_
    refine G_ifnonnull 30 27 dJ2_indexOfRange_24 (by decide) rfl (fun u6 => ?_) (fun u6 => ?_)
    · have h := h.1 u6
      refine G_iinc 33 [va_rf l0, va_rf l1, .int l2, .int l3, va_rf l4, .int (l5 + 1)] dJ2_indexOfRange_30 rfl rfl (Nat.le_of_ble_eq_true rfl) rfl rfl ?_
      refine G_goto 13 dJ2_indexOfRange_33 (by decide) ?_
      exact h
    · have h := h.2 u6
      refine G_iload 29 dJ2_indexOfRange_27 rfl rfl ?_
      exact G_iret dJ2_indexOfRange_29 rfl ⟨_, rfl, h⟩
set_option maxHeartbeats 4000000 in
theorem bJ2_indexOfRange_42 {w : Wt} {K : Sg → Int32 → Prop} {rc rs : Nat} {σ : Sg} (l0 : Option Nat) (l1 : Option Nat) (l2 : Int32) (l3 : Int32) (l4 : Option Nat) (l5 : Int32) (h : ((l3 ≤ l5 → K σ (-1)) ∧ (¬ l3 ≤ l5 → ∃ a2, l4 = some a2 ∧ kd σ a2 ∈ [3, 4, 7, 8] ∧ vp_in l5 (ln σ a2) ∧ ∃ a6, l1 = some a6 ∧ ((kd σ a6 = 16 ∧ CalI w mX6_equals σ [va_rf l1, va_rf (AR σ a2 l5.toNatClampNeg)] (fun s8 x9 => Ext σ s8 → ((x9 = 0 → G w mJ2_indexOfRange (KI K) (rc) (rs) s8 42 [va_rf l0, va_rf l1, .int l2, .int l3, va_rf l4, .int (l5 + 1)] []) ∧ (¬ x9 = 0 → K s8 l5)))) ∨ (kd σ a6 = 17 ∧ CalI w mJ36_equals σ [va_rf l1, va_rf (AR σ a2 l5.toNatClampNeg)] (fun s14 x15 => Ext σ s14 → ((x15 = 0 → G w mJ2_indexOfRange (KI K) (rc) (rs) s14 42 [va_rf l0, va_rf l1, .int l2, .int l3, va_rf l4, .int (l5 + 1)] []) ∧ (¬ x15 = 0 → K s14 l5)))))))) : G w mJ2_indexOfRange (KI K) (rc) (rs) σ 42 [va_rf l0, va_rf l1, .int l2, .int l3, va_rf l4, .int l5] [] := by
  refine G_iload 44 dJ2_indexOfRange_42 rfl rfl ?_
  refine G_iload_n 45 dJ2_indexOfRange_44 rfl rfl ?_
  refine G_icmp_ge 69 48 dJ2_indexOfRange_45 (by decide) rfl (fun u1 => ?_) (fun u1 => ?_)
  · have h := h.1 u1
    refine G_iconst (v := (-1)) 70 dJ2_indexOfRange_69 (by decide) rfl ?_
    exact G_iret dJ2_indexOfRange_70 rfl ⟨_, rfl, h⟩
  · have h := h.2 u1
    refine G_aload_n 49 dJ2_indexOfRange_48 rfl rfl ?_
    refine G_aload 51 dJ2_indexOfRange_49 rfl rfl ?_
    refine G_iload 53 dJ2_indexOfRange_51 rfl rfl ?_
    obtain ⟨a2, e3, h⟩ := h
    obtain ⟨c4, h⟩ := h
    obtain ⟨c5, h⟩ := h
    refine G_aald (a := a2) 54 dJ2_indexOfRange_53 rfl e3 c4 c5 ?_
    obtain ⟨a6, e7, h⟩ := h
    rcases h with ⟨c10, h⟩ | ⟨c16, h⟩
    · refine G_invU (N := mX6_equals) (owner := "java/lang/Object") (x := ⟨"java/lang/Object", "equals", "(Ljava/lang/Object;)Z"⟩) (As := [va_rf (AR σ a2 l5.toNatClampNeg)]) (st := []) (t := l1) (b := a6) (rc) (rs) 57 dJ2_indexOfRange_54 q2001 q1253 q1257 q1258 q74 q1259 (Or.inr (Or.inl ⟨q1252, _, _, _, q1282⟩)) rfl ax0 ⟨Nat.le_of_ble_eq_true rfl, Nat.le_of_ble_eq_true rfl⟩ rfl (Nat.zero_le _) e7 (rk16 c10) (le_b mX6_equals_c (Nat.le_refl _)) (le_b mX6_equals_s (Nat.le_refl _)) rfl (Cal.mono h ?_)
      rintro s8 v ⟨x9, rfl, h⟩ hx11
      have h := h hx11
      have x12 := hx11.x
      show G w mJ2_indexOfRange (KI K) (rc) (rs) s8 57 [va_rf l0, va_rf l1, .int l2, .int l3, va_rf l4, .int l5] [.int x9]
      refine G_if_eq 63 60 dJ2_indexOfRange_57 (by decide) rfl (fun u13 => ?_) (fun u13 => ?_)
      · have h := h.1 u13
        refine G_iinc 66 [va_rf l0, va_rf l1, .int l2, .int l3, va_rf l4, .int (l5 + 1)] dJ2_indexOfRange_63 rfl rfl (Nat.le_of_ble_eq_true rfl) rfl rfl ?_
        refine G_goto 42 dJ2_indexOfRange_66 (by decide) ?_
        exact h
      · have h := h.2 u13
        refine G_iload 62 dJ2_indexOfRange_60 rfl rfl ?_
        exact G_iret dJ2_indexOfRange_62 rfl ⟨_, rfl, h⟩
    · refine G_invU (N := mJ36_equals) (owner := "java/lang/Object") (x := ⟨"java/lang/Object", "equals", "(Ljava/lang/Object;)Z"⟩) (As := [va_rf (AR σ a2 l5.toNatClampNeg)]) (st := []) (t := l1) (b := a6) (rc) (rs) 57 dJ2_indexOfRange_54 q2001 q1253 q1256 q1252 q2405 q1282 (Or.inl rfl) rfl ax0 ⟨Nat.le_of_ble_eq_true rfl, Nat.le_of_ble_eq_true rfl⟩ rfl (Nat.zero_le _) e7 (rk17 c16) (le_b mJ36_equals_c (Nat.le_refl _)) (le_b mJ36_equals_s (Nat.le_refl _)) rfl (Cal.mono h ?_)
      rintro s14 v ⟨x15, rfl, h⟩ hx17
      have h := h hx17
      have x18 := hx17.x
      show G w mJ2_indexOfRange (KI K) (rc) (rs) s14 57 [va_rf l0, va_rf l1, .int l2, .int l3, va_rf l4, .int l5] [.int x15]
      refine G_if_eq 63 60 dJ2_indexOfRange_57 (by decide) rfl (fun u19 => ?_) (fun u19 => ?_)
      · have h := h.1 u19
        refine G_iinc 66 [va_rf l0, va_rf l1, .int l2, .int l3, va_rf l4, .int (l5 + 1)] dJ2_indexOfRange_63 rfl rfl (Nat.le_of_ble_eq_true rfl) rfl rfl ?_
        refine G_goto 42 dJ2_indexOfRange_66 (by decide) ?_
        exact h
      · have h := h.2 u19
        refine G_iload 62 dJ2_indexOfRange_60 rfl rfl ?_
        exact G_iret dJ2_indexOfRange_62 rfl ⟨_, rfl, h⟩
theorem eJ2_indexOfRange {w : Wt} {K : Sg → Int32 → Prop} {σ : Sg} (l0 : Option Nat) (l1 : Option Nat) (l2 : Int32) (l3 : Int32) (h : G w mJ2_indexOfRange (KI K) 0 0 σ 0 [va_rf l0, va_rf l1, .int l2, .int l3, U_, U_] []) : CalI w mJ2_indexOfRange σ [va_rf l0, va_rf l1, .int l2, .int l3] K :=
  Cal.start 2 mJ2_indexOfRange_plain (catR (catR (catI (catI cat0)))) (Nat.le_of_ble_eq_true rfl) rfl h
set_option maxHeartbeats 4000000 in
theorem bJ6_init_0 {w : Wt} {K : Sg → Prop} {rc rs : Nat} {σ : Sg} (l0 : Option Nat) (l1 : Int32) (h : ∃ a1, l0 = some a1 ∧ ∃ N3, l1 = nI N3 ∧ N3 ≤ 16 ∧ ∀ n6, n6 = nx σ → kd σ n6 = 0 → ∀ s7, s7 = nA σ 2 N3 → kd s7 a1 = 23 ∧ ∀ s11, s11 = sFR s7 66 a1 (some n6) → ∀ s13, s13 = sFI s11 67 a1 0 → K s13) : G w mJ6_init (KV K) (rc + 1) (rs + 16) σ 0 [va_rf l0, .int l1] [] := by
  refine G_aload_n 1 dJ6_init_0 rfl rfl ?_
  obtain ⟨a1, e2, h⟩ := h
  refine G_objInit (b := a1) 4 dJ6_init_1 q261 q85 q86 rfl e2 (Nat.zero_le _) (Nat.le_of_ble_eq_true rfl) (Nat.le_of_ble_eq_true rfl) ?_
  refine G_getS (host := "") (C := "java/lang/String") (v := .int 1) 7 dJ6_init_4 (Or.inl q262) (Or.inl rfl) rfl (List.mem_of_getElem? (i := 5) rfl) ?_
  refine G_if_eq 25 10 dJ6_init_7 (by decide) rfl (fun q => absurd q (by decide)) (fun _ => ?_)
  refine G_aload_n 11 dJ6_init_10 rfl rfl ?_
  refine G_iload_n 12 dJ6_init_11 rfl rfl ?_
  obtain ⟨N3, e4, e4l, h⟩ := h
  refine G_newB (N := N3) (rc) (rs) 14 dJ6_init_12 e4 (by omega) rfl (Nat.le_refl _) (by omega) q285 (fun z5 => ?_)
  generalize hn6 : nx σ = n6 at z5 ⊢
  generalize hs7 : nA σ 2 N3 = s7
  have x8 : ∀ a, ¬ kd σ a = 0 → kd s7 a = kd σ a := by subst hs7 hn6; exact kdAx z5
  have c9 : kd s7 n6 = 2 := by subst hs7 hn6; exact kdA_self
  have h := h n6 hn6.symm z5 s7 hs7.symm
  obtain ⟨c10, h⟩ := h
  refine G_putR (f := 66) (a := a1) "" 17 dJ6_init_14 (Or.inl q271) (Or.inl rfl) rfl e2 (hp66 c10) (nk66 c10) (Or.inl rfl) (fun y => by cases y <;> rfl) (fun y => by cases y <;> rfl) rfl ?_
  generalize hs11 : sFR s7 66 a1 (some n6) = s11
  have x12 : ∀ a, ¬ kd s7 a = 0 → kd s11 a = kd s7 a := by subst hs11; exact fun a _ => congrFun kd_sFR a
  have h := h s11 hs11.symm
  refine G_aload_n 18 dJ6_init_17 rfl rfl ?_
  refine G_iconst (v := 0) 19 dJ6_init_18 (by decide) rfl ?_
  have c10 := kdE x12 c10 (by decide)
  refine G_putI (f := 67) (a := a1) "" 22 dJ6_init_19 (Or.inl q272) (Or.inl rfl) rfl e2 (hp67 c10) (nk67 c10) (Or.inl rfl) rfl rfl rfl ?_
  generalize hs13 : sFI s11 67 a1 0 = s13
  have x14 : ∀ a, ¬ kd s11 a = 0 → kd s13 a = kd s11 a := by subst hs13; exact fun a _ => congrFun kd_sFI a
  have h := h s13 hs13.symm
  refine G_goto 38 dJ6_init_22 (by decide) ?_
  exact G_ret dJ6_init_38 rfl ⟨rfl, h⟩
theorem eJ6_init {w : Wt} {K : Sg → Prop} {σ : Sg} (l0 : Option Nat) (l1 : Int32) (h : G w mJ6_init (KV K) 1 16 σ 0 [va_rf l0, .int l1] []) : CalV w mJ6_init σ [va_rf l0, .int l1] K :=
  Cal.start 0 mJ6_init_plain (catR (catI cat0)) (Nat.le_of_ble_eq_true rfl) rfl h
set_option maxHeartbeats 4000000 in
theorem bJ6_isLatin1_0 {w : Wt} {K : Sg → Int32 → Prop} {rc rs : Nat} {σ : Sg} (l0 : Option Nat) (h : ∃ a1, l0 = some a1 ∧ kd σ a1 = 23 ∧ ((¬ FI σ 67 a1 = 0 → K σ 0) ∧ (FI σ 67 a1 = 0 → K σ 1))) : G w mJ6_isLatin1 (KI K) (rc) (rs) σ 0 [va_rf l0] [] := by
  refine G_getS (host := "") (C := "java/lang/String") (v := .int 1) 3 dJ6_isLatin1_0 (Or.inl q262) (Or.inl rfl) rfl (List.mem_of_getElem? (i := 5) rfl) ?_
  refine G_if_eq 17 6 dJ6_isLatin1_3 (by decide) rfl (fun q => absurd q (by decide)) (fun _ => ?_)
  refine G_aload_n 7 dJ6_isLatin1_6 rfl rfl ?_
  obtain ⟨a1, e2, h⟩ := h
  obtain ⟨c3, h⟩ := h
  refine G_getI (f := 67) (a := a1) "" 10 dJ6_isLatin1_7 (Or.inl q272) (Or.inl rfl) rfl e2 (hf67 c3) rfl ?_
  refine G_if_ne 17 13 dJ6_isLatin1_10 (by decide) rfl (fun u4 => ?_) (fun u4 => ?_)
  · have h := h.1 u4
    refine G_iconst (v := 0) 18 dJ6_isLatin1_17 (by decide) rfl ?_
    exact G_zret dJ6_isLatin1_18 rfl rfl ⟨_, rfl, h⟩
  · have h := h.2 u4
    refine G_iconst (v := 1) 14 dJ6_isLatin1_13 (by decide) rfl ?_
    refine G_goto 18 dJ6_isLatin1_14 (by decide) ?_
    exact G_zret dJ6_isLatin1_18 rfl rfl ⟨_, rfl, h⟩
theorem eJ6_isLatin1 {w : Wt} {K : Sg → Int32 → Prop} {σ : Sg} (l0 : Option Nat) (h : G w mJ6_isLatin1 (KI K) 0 0 σ 0 [va_rf l0] []) : CalI w mJ6_isLatin1 σ [va_rf l0] K :=
  Cal.start 0 mJ6_isLatin1_plain (catR cat0) (Nat.le_of_ble_eq_true rfl) rfl h
set_option maxHeartbeats 4000000 in
theorem bJ6_length_0 {w : Wt} {K : Sg → Int32 → Prop} {rc rs : Nat} {σ : Sg} (l0 : Option Nat) (h : ∃ a1, l0 = some a1 ∧ kd σ a1 = 23 ∧ K σ (FI σ 69 a1)) : G w mJ6_length (KI K) (rc) (rs) σ 0 [va_rf l0] [] := by
  refine G_aload_n 1 dJ6_length_0 rfl rfl ?_
  obtain ⟨a1, e2, h⟩ := h
  obtain ⟨c3, h⟩ := h
  refine G_getI (f := 69) (a := a1) "" 4 dJ6_length_1 (Or.inl q275) (Or.inl rfl) rfl e2 (hf69 c3) rfl ?_
  exact G_iret dJ6_length_4 rfl ⟨_, rfl, h⟩
theorem eJ6_length {w : Wt} {K : Sg → Int32 → Prop} {σ : Sg} (l0 : Option Nat) (h : G w mJ6_length (KI K) 0 0 σ 0 [va_rf l0] []) : CalI w mJ6_length σ [va_rf l0] K :=
  Cal.start 0 mJ6_length_plain (catR cat0) (Nat.le_of_ble_eq_true rfl) rfl h
set_option maxHeartbeats 4000000 in
theorem bJ6_append_0 {w : Wt} {K : Sg → Option Nat → Prop} {rc rs : Nat} {σ : Sg} (l0 : Option Nat) (l1 : Int32) (h : ∃ a1, l0 = some a1 ∧ kd σ a1 = 23 ∧ False) : G w mJ6_append (KR K) (rc) (rs) σ 0 [va_rf l0, .int l1] [] := by
  refine G_aload_n 1 dJ6_append_0 rfl rfl ?_
  refine G_aload_n 2 dJ6_append_1 rfl rfl ?_
  obtain ⟨a1, e2, h⟩ := h
  obtain ⟨c3, h⟩ := h
  refine G_getI (f := 69) (a := a1) "" 5 dJ6_append_2 (Or.inl q275) (Or.inl rfl) rfl e2 (hf69 c3) rfl ?_
  refine G_iconst (v := 1) 6 dJ6_append_5 (by decide) rfl ?_
  refine G_iadd 7 dJ6_append_6 rfl ?_
  exact h.elim
theorem eJ6_append {w : Wt} {K : Sg → Option Nat → Prop} {σ : Sg} (l0 : Option Nat) (l1 : Int32) (h : G w mJ6_append (KR K) 0 0 σ 0 [va_rf l0, .int l1] []) : CalR w mJ6_append σ [va_rf l0, .int l1] K :=
  Cal.start 0 mJ6_append_plain (catR (catI cat0)) (Nat.le_of_ble_eq_true rfl) rfl h
set_option maxHeartbeats 4000000 in
theorem bJ6_ensureCapacityInternal_0 {w : Wt} {K : Sg → Prop} {rc rs : Nat} {σ : Sg} (l0 : Option Nat) (l1 : Int32) (h : ∃ a1, l0 = some a1 ∧ kd σ a1 = 23 ∧ ∃ a4, FR σ 66 a1 = some a4 ∧ kd σ a4 ∈ [1, 2, 3, 4, 5, 7, 8] ∧ ((l1 - ((nI (ln σ a4)) >>> ((FI σ 67 a1) &&& 31)) ≤ 0 → K σ) ∧ (¬ l1 - ((nI (ln σ a4)) >>> ((FI σ 67 a1) &&& 31)) ≤ 0 → False))) : G w mJ6_ensureCapacityInternal (KV K) (rc) (rs) σ 0 [va_rf l0, .int l1, U_] [] := by
  refine G_aload_n 1 dJ6_ensureCapacityInternal_0 rfl rfl ?_
  obtain ⟨a1, e2, h⟩ := h
  obtain ⟨c3, h⟩ := h
  refine G_getR (f := 66) (a := a1) "" 4 dJ6_ensureCapacityInternal_1 (Or.inl q271) (Or.inl rfl) rfl e2 (hf66 c3) rfl ?_
  obtain ⟨a4, e5, h⟩ := h
  obtain ⟨c6, h⟩ := h
  refine G_alen (a := a4) 5 dJ6_ensureCapacityInternal_4 rfl e5 c6 ?_
  refine G_aload_n 6 dJ6_ensureCapacityInternal_5 rfl rfl ?_
  refine G_getI (f := 67) (a := a1) "" 9 dJ6_ensureCapacityInternal_6 (Or.inl q272) (Or.inl rfl) rfl e2 (hf67 c3) rfl ?_
  refine G_ishr 10 dJ6_ensureCapacityInternal_9 rfl ?_
  refine G_istore_n 11 [va_rf l0, .int l1, .int ((nI (ln σ a4)) >>> ((FI σ 67 a1) &&& 31))] dJ6_ensureCapacityInternal_10 (Nat.le_of_ble_eq_true rfl) rfl rfl ?_
  refine G_iload_n 12 dJ6_ensureCapacityInternal_11 rfl rfl ?_
  refine G_iload_n 13 dJ6_ensureCapacityInternal_12 rfl rfl ?_
  refine G_isub 14 dJ6_ensureCapacityInternal_13 rfl ?_
  refine G_if_le 38 17 dJ6_ensureCapacityInternal_14 (by decide) rfl (fun u7 => ?_) (fun u7 => ?_)
  · have h := h.1 u7
    exact G_ret dJ6_ensureCapacityInternal_38 rfl ⟨rfl, h⟩
  · have h := h.2 u7
    refine G_aload_n 18 dJ6_ensureCapacityInternal_17 rfl rfl ?_
    refine G_aload_n 19 dJ6_ensureCapacityInternal_18 rfl rfl ?_
    refine G_getR (f := 66) (a := a1) "" 22 dJ6_ensureCapacityInternal_19 (Or.inl q271) (Or.inl rfl) rfl e2 (hf66 c3) rfl ?_
    refine G_aload_n 23 dJ6_ensureCapacityInternal_22 rfl rfl ?_
    refine G_iload_n 24 dJ6_ensureCapacityInternal_23 rfl rfl ?_
    exact h.elim
theorem eJ6_ensureCapacityInternal {w : Wt} {K : Sg → Prop} {σ : Sg} (l0 : Option Nat) (l1 : Int32) (h : G w mJ6_ensureCapacityInternal (KV K) 0 0 σ 0 [va_rf l0, .int l1, U_] []) : CalV w mJ6_ensureCapacityInternal σ [va_rf l0, .int l1] K :=
  Cal.start 1 mJ6_ensureCapacityInternal_plain (catR (catI cat0)) (Nat.le_of_ble_eq_true rfl) rfl h
set_option maxHeartbeats 4000000 in
theorem bJ6_setLength_0 {w : Wt} {K : Sg → Prop} {rc rs : Nat} {σ : Sg} (l0 : Option Nat) (l1 : Int32) (h : ((0 ≤ l1 → False) ∧ (¬ 0 ≤ l1 → False))) : G w mJ6_setLength (KV K) (rc) (rs) σ 0 [va_rf l0, .int l1] [] := by
  refine G_iload_n 1 dJ6_setLength_0 rfl rfl ?_
  refine G_if_ge 13 4 dJ6_setLength_1 (by decide) rfl (fun u1 => ?_) (fun u1 => ?_)
  · have h := h.1 u1
    refine G_aload_n 14 dJ6_setLength_13 rfl rfl ?_
    refine G_iload_n 15 dJ6_setLength_14 rfl rfl ?_
    exact h.elim
  · have h := h.2 u1
    exact h.elim
theorem eJ6_setLength {w : Wt} {K : Sg → Prop} {σ : Sg} (l0 : Option Nat) (l1 : Int32) (h : G w mJ6_setLength (KV K) 0 0 σ 0 [va_rf l0, .int l1] []) : CalV w mJ6_setLength σ [va_rf l0, .int l1] K :=
  Cal.start 0 mJ6_setLength_plain (catR (catI cat0)) (Nat.le_of_ble_eq_true rfl) rfl h
set_option maxHeartbeats 4000000 in
theorem bJ6_getValue_0 {w : Wt} {K : Sg → Option Nat → Prop} {rc rs : Nat} {σ : Sg} (l0 : Option Nat) (h : ∃ a1, l0 = some a1 ∧ kd σ a1 = 23 ∧ K σ (FR σ 66 a1)) : G w mJ6_getValue (KR K) (rc) (rs) σ 0 [va_rf l0] [] := by
  refine G_aload_n 1 dJ6_getValue_0 rfl rfl ?_
  obtain ⟨a1, e2, h⟩ := h
  obtain ⟨c3, h⟩ := h
  refine G_getR (f := 66) (a := a1) "" 4 dJ6_getValue_1 (Or.inl q271) (Or.inl rfl) rfl e2 (hf66 c3) rfl ?_
  exact G_aret dJ6_getValue_4 rfl (Or.inr ⟨_, rfl⟩) ⟨_, rfl, h⟩
theorem eJ6_getValue {w : Wt} {K : Sg → Option Nat → Prop} {σ : Sg} (l0 : Option Nat) (h : G w mJ6_getValue (KR K) 0 0 σ 0 [va_rf l0] []) : CalR w mJ6_getValue σ [va_rf l0] K :=
  Cal.start 0 mJ6_getValue_plain (catR cat0) (Nat.le_of_ble_eq_true rfl) rfl h
set_option maxHeartbeats 4000000 in
theorem bJ6_charAt_0 {w : Wt} {K : Sg → Int32 → Prop} {rc rs : Nat} {σ : Sg} (l0 : Option Nat) (l1 : Int32) (h : ∃ a1, l0 = some a1 ∧ kd σ a1 = 23 ∧ ∃ a4, FR σ 66 a1 = some a4 ∧ kd σ a4 ∈ [1, 2, 3, 4, 5, 7, 8] ∧ CalI w mJ12_min σ [.int (FI σ 69 a1), .int ((nI (ln σ a4)) >>> ((FI σ 67 a1) &&& 31))] (fun s7 x8 => Ext σ s7 → CalV w mJ8_checkIndex s7 [.int l1, .int x8] (fun s11 => Ext s7 s11 → ((¬ FI σ 67 a1 = 0 → False) ∧ (FI σ 67 a1 = 0 → kd s11 a4 = 2 ∧ vp_in l1 (ln s11 a4) ∧ (narrow .char (.int ((((AI s11 a4 l1.toNatClampNeg) &&& 255).toUInt32 % 65536).toInt32)) = .int ((((AI s11 a4 l1.toNatClampNeg) &&& 255).toUInt32 % 65536).toInt32) ∧ K s11 ((((AI s11 a4 l1.toNatClampNeg) &&& 255).toUInt32 % 65536).toInt32))))))) : G w mJ6_charAt (KI K) (rc) (rs) σ 0 [va_rf l0, .int l1, U_, U_, U_] [] := by
  refine G_aload_n 1 dJ6_charAt_0 rfl rfl ?_
  obtain ⟨a1, e2, h⟩ := h
  obtain ⟨c3, h⟩ := h
  refine G_getI (f := 67) (a := a1) "" 4 dJ6_charAt_1 (Or.inl q272) (Or.inl rfl) rfl e2 (hf67 c3) rfl ?_
  refine G_istore_n 5 [va_rf l0, .int l1, .int (FI σ 67 a1), U_, U_] dJ6_charAt_4 (Nat.le_of_ble_eq_true rfl) rfl rfl ?_
  refine G_aload_n 6 dJ6_charAt_5 rfl rfl ?_
  refine G_getR (f := 66) (a := a1) "" 9 dJ6_charAt_6 (Or.inl q271) (Or.inl rfl) rfl e2 (hf66 c3) rfl ?_
  refine G_astore_n 10 [va_rf l0, .int l1, .int (FI σ 67 a1), va_rf (FR σ 66 a1), U_] dJ6_charAt_9 (Nat.le_of_ble_eq_true rfl) rfl rfl ?_
  refine G_aload_n 11 dJ6_charAt_10 rfl rfl ?_
  refine G_getI (f := 69) (a := a1) "" 14 dJ6_charAt_11 (Or.inl q275) (Or.inl rfl) rfl e2 (hf69 c3) rfl ?_
  refine G_aload_n 15 dJ6_charAt_14 rfl rfl ?_
  obtain ⟨a4, e5, h⟩ := h
  obtain ⟨c6, h⟩ := h
  refine G_alen (a := a4) 16 dJ6_charAt_15 rfl e5 c6 ?_
  refine G_iload_n 17 dJ6_charAt_16 rfl rfl ?_
  refine G_ishr 18 dJ6_charAt_17 rfl ?_
  refine G_invS (N := mJ12_min) (As := [.int (FI σ 69 a1), .int ((nI (ln σ a4)) >>> ((FI σ 67 a1) &&& 31))]) (st := []) (rc) (rs) "" 21 dJ6_charAt_18 (Or.inl q1895) q571 q49 q572 rfl mJ12_min_args ⟨Nat.le_of_ble_eq_true rfl, Nat.le_of_ble_eq_true rfl⟩ rfl (Nat.zero_le _) (le_b mJ12_min_c (Nat.le_refl _)) (le_b mJ12_min_s (Nat.le_refl _)) rfl (Cal.mono h ?_)
  rintro s7 v ⟨x8, rfl, h⟩ hx9
  have h := h hx9
  have x10 := hx9.x
  show G w mJ6_charAt (KI K) (rc) (rs) s7 21 [va_rf l0, .int l1, .int (FI σ 67 a1), va_rf (FR σ 66 a1), U_] [.int x8]
  refine G_istore 23 [va_rf l0, .int l1, .int (FI σ 67 a1), va_rf (FR σ 66 a1), .int x8] dJ6_charAt_21 (Nat.le_of_ble_eq_true rfl) rfl rfl ?_
  refine G_iload_n 24 dJ6_charAt_23 rfl rfl ?_
  refine G_iload 26 dJ6_charAt_24 rfl rfl ?_
  refine G_invS (N := mJ8_checkIndex) (As := [.int l1, .int x8]) (st := []) (rc) (rs) "" 29 dJ6_charAt_26 (Or.inl q1896) q1603 q42 q1604 rfl mJ8_checkIndex_args ⟨Nat.le_of_ble_eq_true rfl, Nat.le_of_ble_eq_true rfl⟩ rfl (Nat.zero_le _) (le_b mJ8_checkIndex_c (Nat.le_refl _)) (le_b mJ8_checkIndex_s (Nat.le_refl _)) rfl (Cal.mono h ?_)
  rintro s11 v ⟨rfl, h⟩ hx12
  have h := h hx12
  have x13 := hx12.x
  show G w mJ6_charAt (KI K) (rc) (rs) s11 29 [va_rf l0, .int l1, .int (FI σ 67 a1), va_rf (FR σ 66 a1), .int x8] []
  refine G_iload_n 30 dJ6_charAt_29 rfl rfl ?_
  refine G_if_ne 42 33 dJ6_charAt_30 (by decide) rfl (fun u14 => ?_) (fun u14 => ?_)
  · have h := h.1 u14
    refine G_aload_n 43 dJ6_charAt_42 rfl rfl ?_
    refine G_iload_n 44 dJ6_charAt_43 rfl rfl ?_
    exact h.elim
  · have h := h.2 u14
    refine G_aload_n 34 dJ6_charAt_33 rfl rfl ?_
    refine G_iload_n 35 dJ6_charAt_34 rfl rfl ?_
    obtain ⟨c15, h⟩ := h
    obtain ⟨c16, h⟩ := h
    refine G_bald (a := a4) 36 dJ6_charAt_35 rfl e5 c15 c16 ?_
    refine G_sipush (v := 255) 39 dJ6_charAt_36 (by decide) rfl ?_
    refine G_iand 40 dJ6_charAt_39 rfl ?_
    refine G_i2c 41 dJ6_charAt_40 rfl ?_
    exact G_zret dJ6_charAt_41 rfl h.1 ⟨_, rfl, h.2⟩
theorem eJ6_charAt {w : Wt} {K : Sg → Int32 → Prop} {σ : Sg} (l0 : Option Nat) (l1 : Int32) (h : G w mJ6_charAt (KI K) 0 0 σ 0 [va_rf l0, .int l1, U_, U_, U_] []) : CalI w mJ6_charAt σ [va_rf l0, .int l1] K :=
  Cal.start 3 mJ6_charAt_plain (catR (catI cat0)) (Nat.le_of_ble_eq_true rfl) rfl h
set_option maxHeartbeats 4000000 in
theorem bJ7_init_0 {w : Wt} {K : Sg → Prop} {rc rs : Nat} {σ : Sg} (l0 : Option Nat) (h : ∃ a1, l0 = some a1 ∧ CalV w mJ6_init σ [va_rf l0, .int 16] (fun s3 => Ext σ s3 → K s3)) : G w mJ7_init (KV K) (rc + 1) (rs + 16) σ 0 [va_rf l0] [] := by
  refine G_aload_n 1 dJ7_init_0 rfl rfl ?_
  refine G_bipush (v := 16) 3 dJ7_init_1 (by decide) rfl ?_
  obtain ⟨a1, e2, h⟩ := h
  refine G_invI (N := mJ6_init) (As := [.int 16]) (st := []) (t := l0) (b := a1) (rc) (rs) "" 6 dJ7_init_3 (Or.inl q258) q259 q40 q260 rfl rfl rfl mJ6_init_args ⟨Nat.le_of_ble_eq_true rfl, Nat.le_of_ble_eq_true rfl⟩ e2 rfl (Nat.zero_le _) (le_b mJ6_init_c (Nat.le_refl _)) (le_b mJ6_init_s (Nat.le_refl _)) rfl (Cal.mono h ?_)
  rintro s3 v ⟨rfl, h⟩ hx4
  have h := h hx4
  have x5 := hx4.x
  show G w mJ7_init (KV K) (rc) (rs) s3 6 [va_rf l0] []
  exact G_ret dJ7_init_6 rfl ⟨rfl, h⟩
theorem eJ7_init {w : Wt} {K : Sg → Prop} {σ : Sg} (l0 : Option Nat) (h : G w mJ7_init (KV K) 1 16 σ 0 [va_rf l0] []) : CalV w mJ7_init σ [va_rf l0] K :=
  Cal.start 0 mJ7_init_plain (catR cat0) (Nat.le_of_ble_eq_true rfl) rfl h
set_option maxHeartbeats 4000000 in
theorem bJ7_length_0 {w : Wt} {K : Sg → Int32 → Prop} {rc rs : Nat} {σ : Sg} (l0 : Option Nat) (h : ∃ a1, l0 = some a1 ∧ kd σ a1 = 23 ∧ CalI w mJ6_length σ [va_rf l0] (fun s3 x4 => Ext σ s3 → K s3 x4)) : G w mJ7_length (KI K) (rc) (rs) σ 0 [va_rf l0] [] := by
  refine G_aload_n 1 dJ7_length_0 rfl rfl ?_
  obtain ⟨a1, e2, h⟩ := h
  obtain ⟨c5, h⟩ := h
  refine G_invP (N := mJ6_length) (As := []) (st := []) (t := l0) (b := a1) (rc) (rs) 4 dJ7_length_1 q1541 q2392 q284 q1542 q40 q1543 (by decide) rfl mJ6_length_args.2.2 ⟨Nat.le_of_ble_eq_true rfl, Nat.le_of_ble_eq_true rfl⟩ rfl (Nat.zero_le _) e2 (rk23 c5) (le_b mJ6_length_c (Nat.le_refl _)) (le_b mJ6_length_s (Nat.le_refl _)) rfl (Cal.mono h ?_)
  rintro s3 v ⟨x4, rfl, h⟩ hx6
  have h := h hx6
  have x7 := hx6.x
  show G w mJ7_length (KI K) (rc) (rs) s3 4 [va_rf l0] [.int x4]
  exact G_iret dJ7_length_4 rfl ⟨_, rfl, h⟩
theorem eJ7_length {w : Wt} {K : Sg → Int32 → Prop} {σ : Sg} (l0 : Option Nat) (h : G w mJ7_length (KI K) 0 0 σ 0 [va_rf l0] []) : CalI w mJ7_length σ [va_rf l0] K :=
  Cal.start 0 mJ7_length_plain (catR cat0) (Nat.le_of_ble_eq_true rfl) rfl h
set_option maxHeartbeats 4000000 in
theorem bJ7_append_0 {w : Wt} {K : Sg → Option Nat → Prop} {rc rs : Nat} {σ : Sg} (l0 : Option Nat) (l1 : Int32) (h : ∃ a1, l0 = some a1 ∧ kd σ a1 = 23 ∧ CalR w mJ6_append σ [va_rf l0, .int l1] (fun s3 x4 => Ext σ s3 → K s3 l0)) : G w mJ7_append (KR K) (rc) (rs) σ 0 [va_rf l0, .int l1] [] := by
  refine G_aload_n 1 dJ7_append_0 rfl rfl ?_
  refine G_iload_n 2 dJ7_append_1 rfl rfl ?_
  obtain ⟨a1, e2, h⟩ := h
  obtain ⟨c5, h⟩ := h
  refine G_invP (N := mJ6_append) (As := [.int l1]) (st := []) (t := l0) (b := a1) (rc) (rs) 5 dJ7_append_2 q1548 q2393 q284 q1549 q40 q1550 (by decide) rfl mJ6_append_args.2.2 ⟨Nat.le_of_ble_eq_true rfl, Nat.le_of_ble_eq_true rfl⟩ rfl (Nat.zero_le _) e2 (rk23 c5) (le_b mJ6_append_c (Nat.le_refl _)) (le_b mJ6_append_s (Nat.le_refl _)) rfl (Cal.mono h ?_)
  rintro s3 v ⟨x4, rfl, h⟩ hx6
  have h := h hx6
  have x7 := hx6.x
  show G w mJ7_append (KR K) (rc) (rs) s3 5 [va_rf l0, .int l1] [va_rf x4]
  refine G_pop 6 dJ7_append_5 (rf_cat _) rfl ?_
  refine G_aload_n 7 dJ7_append_6 rfl rfl ?_
  exact G_aret dJ7_append_7 rfl (Or.inl ⟨_, rfl⟩) ⟨_, rfl, h⟩
theorem eJ7_append {w : Wt} {K : Sg → Option Nat → Prop} {σ : Sg} (l0 : Option Nat) (l1 : Int32) (h : G w mJ7_append (KR K) 0 0 σ 0 [va_rf l0, .int l1] []) : CalR w mJ7_append σ [va_rf l0, .int l1] K :=
  Cal.start 0 mJ7_append_plain (catR (catI cat0)) (Nat.le_of_ble_eq_true rfl) rfl h
set_option maxHeartbeats 4000000 in
theorem bJ7_setLength_0 {w : Wt} {K : Sg → Prop} {rc rs : Nat} {σ : Sg} (l0 : Option Nat) (l1 : Int32) (h : ∃ a1, l0 = some a1 ∧ kd σ a1 = 23 ∧ CalV w mJ6_setLength σ [va_rf l0, .int l1] (fun s3 => Ext σ s3 → K s3)) : G w mJ7_setLength (KV K) (rc) (rs) σ 0 [va_rf l0, .int l1] [] := by
  refine G_aload_n 1 dJ7_setLength_0 rfl rfl ?_
  refine G_iload_n 2 dJ7_setLength_1 rfl rfl ?_
  obtain ⟨a1, e2, h⟩ := h
  obtain ⟨c4, h⟩ := h
  refine G_invP (N := mJ6_setLength) (As := [.int l1]) (st := []) (t := l0) (b := a1) (rc) (rs) 5 dJ7_setLength_2 q1614 q2397 q284 q1615 q40 q1616 (by decide) rfl mJ6_setLength_args.2.2 ⟨Nat.le_of_ble_eq_true rfl, Nat.le_of_ble_eq_true rfl⟩ rfl (Nat.zero_le _) e2 (rk23 c4) (le_b mJ6_setLength_c (Nat.le_refl _)) (le_b mJ6_setLength_s (Nat.le_refl _)) rfl (Cal.mono h ?_)
  rintro s3 v ⟨rfl, h⟩ hx5
  have h := h hx5
  have x6 := hx5.x
  show G w mJ7_setLength (KV K) (rc) (rs) s3 5 [va_rf l0, .int l1] []
  exact G_ret dJ7_setLength_5 rfl ⟨rfl, h⟩
theorem eJ7_setLength {w : Wt} {K : Sg → Prop} {σ : Sg} (l0 : Option Nat) (l1 : Int32) (h : G w mJ7_setLength (KV K) 0 0 σ 0 [va_rf l0, .int l1] []) : CalV w mJ7_setLength σ [va_rf l0, .int l1] K :=
  Cal.start 0 mJ7_setLength_plain (catR (catI cat0)) (Nat.le_of_ble_eq_true rfl) rfl h
set_option maxHeartbeats 4000000 in
theorem bJ7_toString_0 {w : Wt} {K : Sg → Option Nat → Prop} {rc rs : Nat} {σ : Sg} (l0 : Option Nat) (h : ∀ n2, n2 = nx σ → kd σ n2 = 0 → ∀ s3, s3 = nO σ 24 → CalV w mJ8_init s3 [va_rf (some n2), va_rf l0] (fun s6 => Ext s3 s6 → K s6 (some n2))) : G w mJ7_toString (KR K) (rc + 2) (rs + 16) σ 0 [va_rf l0] [] := by
  refine G_new (cc := 14) (kn := 24) (q := (RJ8, TJ8, 4)) (rc + 1) (rs + 12) 3 dJ7_toString_0 rfl q1691 q1692 q42 rfl rfl (Nat.le_refl _) (Nat.le_refl _) (fun z1 => ?_)
  generalize hn2 : nx σ = n2 at z1 ⊢
  generalize hs3 : nO σ 24 = s3
  have x4 : ∀ a, ¬ kd σ a = 0 → kd s3 a = kd σ a := by subst hs3 hn2; exact kdNx z1
  have c5 : kd s3 n2 = 24 := by subst hs3 hn2; exact kdO_self
  have h := h n2 hn2.symm z1 s3 hs3.symm
  refine G_dup 4 dJ7_toString_3 (rf_cat _) rfl ?_
  refine G_aload_n 5 dJ7_toString_4 rfl rfl ?_
  refine G_invI (N := mJ8_init) (As := [va_rf l0]) (st := [va_rf (some n2)]) (t := (some n2)) (b := n2) (rc) (rs) "" 8 dJ7_toString_5 (Or.inl q1693) q1694 q42 q1695 rfl rfl rfl mJ8_init_args ⟨Nat.le_of_ble_eq_true rfl, Nat.le_of_ble_eq_true rfl⟩ rfl rfl (Nat.le_trans (w_R w_0) (Nat.le_of_ble_eq_true rfl)) (le_b mJ8_init_c (Nat.le_refl _)) (le_b mJ8_init_s (Nat.le_refl _)) rfl (Cal.mono h ?_)
  rintro s6 v ⟨rfl, h⟩ hx7
  have h := h hx7
  have x8 := hx7.x
  show G w mJ7_toString (KR K) (rc) (rs) s6 8 [va_rf l0] [va_rf (some n2)]
  exact G_aret dJ7_toString_8 rfl (Or.inl ⟨_, rfl⟩) ⟨_, rfl, h⟩
theorem eJ7_toString {w : Wt} {K : Sg → Option Nat → Prop} {σ : Sg} (l0 : Option Nat) (h : G w mJ7_toString (KR K) 2 16 σ 0 [va_rf l0] []) : CalR w mJ7_toString σ [va_rf l0] K :=
  Cal.start 0 mJ7_toString_plain (catR cat0) (Nat.le_of_ble_eq_true rfl) rfl h
set_option maxHeartbeats 4000000 in
theorem bJ7_charAt_0 {w : Wt} {K : Sg → Int32 → Prop} {rc rs : Nat} {σ : Sg} (l0 : Option Nat) (l1 : Int32) (h : ∃ a1, l0 = some a1 ∧ kd σ a1 = 23 ∧ CalI w mJ6_charAt σ [va_rf l0, .int l1] (fun s3 x4 => Ext σ s3 → (narrow .char (.int x4) = .int x4 ∧ K s3 x4))) : G w mJ7_charAt (KI K) (rc) (rs) σ 0 [va_rf l0, .int l1] [] := by
  refine G_aload_n 1 dJ7_charAt_0 rfl rfl ?_
  refine G_iload_n 2 dJ7_charAt_1 rfl rfl ?_
  obtain ⟨a1, e2, h⟩ := h
  obtain ⟨c5, h⟩ := h
  refine G_invP (N := mJ6_charAt) (As := [.int l1]) (st := []) (t := l0) (b := a1) (rc) (rs) 5 dJ7_charAt_2 q1892 q2402 q284 q1893 q40 q1894 (by decide) rfl mJ6_charAt_args.2.2 ⟨Nat.le_of_ble_eq_true rfl, Nat.le_of_ble_eq_true rfl⟩ rfl (Nat.zero_le _) e2 (rk23 c5) (le_b mJ6_charAt_c (Nat.le_refl _)) (le_b mJ6_charAt_s (Nat.le_refl _)) rfl (Cal.mono h ?_)
  rintro s3 v ⟨x4, rfl, h⟩ hx6
  have h := h hx6
  have x7 := hx6.x
  show G w mJ7_charAt (KI K) (rc) (rs) s3 5 [va_rf l0, .int l1] [.int x4]
  exact G_zret dJ7_charAt_5 rfl h.1 ⟨_, rfl, h.2⟩
theorem eJ7_charAt {w : Wt} {K : Sg → Int32 → Prop} {σ : Sg} (l0 : Option Nat) (l1 : Int32) (h : G w mJ7_charAt (KI K) 0 0 σ 0 [va_rf l0, .int l1] []) : CalI w mJ7_charAt σ [va_rf l0, .int l1] K :=
  Cal.start 0 mJ7_charAt_plain (catR (catI cat0)) (Nat.le_of_ble_eq_true rfl) rfl h
set_option maxHeartbeats 4000000 in
theorem bJ8_isLatin1_0 {w : Wt} {K : Sg → Int32 → Prop} {rc rs : Nat} {σ : Sg} (l0 : Option Nat) (h : ∃ a1, l0 = some a1 ∧ kd σ a1 = 24 ∧ ((¬ FI σ 71 a1 = 0 → K σ 0) ∧ (FI σ 71 a1 = 0 → K σ 1))) : G w mJ8_isLatin1 (KI K) (rc) (rs) σ 0 [va_rf l0] [] := by
  refine G_getS (host := "") (C := "java/lang/String") (v := .int 1) 3 dJ8_isLatin1_0 (Or.inl q841) (Or.inl rfl) rfl (List.mem_of_getElem? (i := 5) rfl) ?_
  refine G_if_eq 17 6 dJ8_isLatin1_3 (by decide) rfl (fun q => absurd q (by decide)) (fun _ => ?_)
  refine G_aload_n 7 dJ8_isLatin1_6 rfl rfl ?_
  obtain ⟨a1, e2, h⟩ := h
  obtain ⟨c3, h⟩ := h
  refine G_getI (f := 71) (a := a1) "" 10 dJ8_isLatin1_7 (Or.inl q1727) (Or.inl rfl) rfl e2 (hf71 c3) rfl ?_
  refine G_if_ne 17 13 dJ8_isLatin1_10 (by decide) rfl (fun u4 => ?_) (fun u4 => ?_)
  · have h := h.1 u4
    refine G_iconst (v := 0) 18 dJ8_isLatin1_17 (by decide) rfl ?_
    exact G_zret dJ8_isLatin1_18 rfl rfl ⟨_, rfl, h⟩
  · have h := h.2 u4
    refine G_iconst (v := 1) 14 dJ8_isLatin1_13 (by decide) rfl ?_
    refine G_goto 18 dJ8_isLatin1_14 (by decide) ?_
    exact G_zret dJ8_isLatin1_18 rfl rfl ⟨_, rfl, h⟩
theorem eJ8_isLatin1 {w : Wt} {K : Sg → Int32 → Prop} {σ : Sg} (l0 : Option Nat) (h : G w mJ8_isLatin1 (KI K) 0 0 σ 0 [va_rf l0] []) : CalI w mJ8_isLatin1 σ [va_rf l0] K :=
  Cal.start 0 mJ8_isLatin1_plain (catR cat0) (Nat.le_of_ble_eq_true rfl) rfl h
set_option maxHeartbeats 4000000 in
theorem bJ8_coder_0 {w : Wt} {K : Sg → Int32 → Prop} {rc rs : Nat} {σ : Sg} (l0 : Option Nat) (h : ∃ a1, l0 = some a1 ∧ kd σ a1 = 24 ∧ (narrow .byte (.int (FI σ 71 a1)) = .int (FI σ 71 a1) ∧ K σ (FI σ 71 a1))) : G w mJ8_coder (KI K) (rc) (rs) σ 0 [va_rf l0] [] := by
  refine G_getS (host := "") (C := "java/lang/String") (v := .int 1) 3 dJ8_coder_0 (Or.inl q841) (Or.inl rfl) rfl (List.mem_of_getElem? (i := 5) rfl) ?_
  refine G_if_eq 13 6 dJ8_coder_3 (by decide) rfl (fun q => absurd q (by decide)) (fun _ => ?_)
  refine G_aload_n 7 dJ8_coder_6 rfl rfl ?_
  obtain ⟨a1, e2, h⟩ := h
  obtain ⟨c3, h⟩ := h
  refine G_getI (f := 71) (a := a1) "" 10 dJ8_coder_7 (Or.inl q1727) (Or.inl rfl) rfl e2 (hf71 c3) rfl ?_
  refine G_goto 14 dJ8_coder_10 (by decide) ?_
  exact G_zret dJ8_coder_14 rfl h.1 ⟨_, rfl, h.2⟩
theorem eJ8_coder {w : Wt} {K : Sg → Int32 → Prop} {σ : Sg} (l0 : Option Nat) (h : G w mJ8_coder (KI K) 0 0 σ 0 [va_rf l0] []) : CalI w mJ8_coder σ [va_rf l0] K :=
  Cal.start 0 mJ8_coder_plain (catR cat0) (Nat.le_of_ble_eq_true rfl) rfl h
set_option maxHeartbeats 4000000 in
theorem bJ8_checkIndex_0 {w : Wt} {K : Sg → Prop} {rc rs : Nat} {σ : Sg} (l0 : Int32) (l1 : Int32) (h : CalI w mJ32_checkIndex σ [.int l0, .int l1, va_rf (wo w)] (fun s1 x2 => Ext σ s1 → K s1)) : G w mJ8_checkIndex (KV K) (rc) (rs) σ 0 [.int l0, .int l1] [] := by
  refine G_iload_n 1 dJ8_checkIndex_0 rfl rfl ?_
  refine G_iload_n 2 dJ8_checkIndex_1 rfl rfl ?_
  refine G_getS (host := "") (C := "jdk/internal/util/Preconditions") (v := va_rf (wo w)) 5 dJ8_checkIndex_2 (Or.inl q1211) (Or.inl rfl) rfl (List.mem_of_getElem? (i := 7) rfl) ?_
  refine G_invS (N := mJ32_checkIndex) (As := [.int l0, .int l1, va_rf (wo w)]) (st := []) (rc) (rs) "" 8 dJ8_checkIndex_5 (Or.inl q1605) q1402 q71 q1403 rfl mJ32_checkIndex_args ⟨Nat.le_of_ble_eq_true rfl, Nat.le_of_ble_eq_true rfl⟩ rfl (Nat.zero_le _) (le_b mJ32_checkIndex_c (Nat.le_refl _)) (le_b mJ32_checkIndex_s (Nat.le_refl _)) rfl (Cal.mono h ?_)
  rintro s1 v ⟨x2, rfl, h⟩ hx3
  have h := h hx3
  have x4 := hx3.x
  show G w mJ8_checkIndex (KV K) (rc) (rs) s1 8 [.int l0, .int l1] [.int x2]
  refine G_pop 9 dJ8_checkIndex_8 (rfl) rfl ?_
  exact G_ret dJ8_checkIndex_9 rfl ⟨rfl, h⟩
theorem eJ8_checkIndex {w : Wt} {K : Sg → Prop} {σ : Sg} (l0 : Int32) (l1 : Int32) (h : G w mJ8_checkIndex (KV K) 0 0 σ 0 [.int l0, .int l1] []) : CalV w mJ8_checkIndex σ [.int l0, .int l1] K :=
  Cal.start 0 mJ8_checkIndex_plain (catI (catI cat0)) (Nat.le_of_ble_eq_true rfl) rfl h
set_option maxHeartbeats 4000000 in
theorem bJ8_init_0 {w : Wt} {K : Sg → Prop} {rc rs : Nat} {σ : Sg} (l0 : Option Nat) (l1 : Option Nat) (h : ∃ a1, l0 = some a1 ∧ CalV w mJ8_init_2 σ [va_rf l0, va_rf l1, va_rf none] (fun s3 => Ext σ s3 → K s3)) : G w mJ8_init (KV K) (rc + 1) (rs + 12) σ 0 [va_rf l0, va_rf l1] [] := by
  refine G_aload_n 1 dJ8_init_0 rfl rfl ?_
  refine G_aload_n 2 dJ8_init_1 rfl rfl ?_
  refine G_null 3 dJ8_init_2 rfl ?_
  obtain ⟨a1, e2, h⟩ := h
  refine G_invI (N := mJ8_init_2) (As := [va_rf l1, va_rf none]) (st := []) (t := l0) (b := a1) (rc) (rs) "" 6 dJ8_init_3 (Or.inl q1696) q1697 q42 q1698 rfl rfl rfl mJ8_init_2_args ⟨Nat.le_of_ble_eq_true rfl, Nat.le_of_ble_eq_true rfl⟩ e2 rfl (Nat.zero_le _) (le_b mJ8_init_2_c (Nat.le_refl _)) (le_b mJ8_init_2_s (Nat.le_refl _)) rfl (Cal.mono h ?_)
  rintro s3 v ⟨rfl, h⟩ hx4
  have h := h hx4
  have x5 := hx4.x
  show G w mJ8_init (KV K) (rc) (rs) s3 6 [va_rf l0, va_rf l1] []
  exact G_ret dJ8_init_6 rfl ⟨rfl, h⟩
theorem eJ8_init {w : Wt} {K : Sg → Prop} {σ : Sg} (l0 : Option Nat) (l1 : Option Nat) (h : G w mJ8_init (KV K) 1 12 σ 0 [va_rf l0, va_rf l1] []) : CalV w mJ8_init σ [va_rf l0, va_rf l1] K :=
  Cal.start 0 mJ8_init_plain (catR (catR cat0)) (Nat.le_of_ble_eq_true rfl) rfl h
set_option maxHeartbeats 4000000 in
theorem bJ8_init_2_0 {w : Wt} {K : Sg → Prop} {rc rs : Nat} {σ : Sg} (l0 : Option Nat) (l1 : Option Nat) (l2 : Option Nat) (h : ∃ a1, l0 = some a1 ∧ ∃ a3, l1 = some a3 ∧ kd σ a3 = 23 ∧ CalR w mJ6_getValue σ [va_rf l1] (fun s5 x6 => Ext σ s5 → CalI w mJ7_length s5 [va_rf l1] (fun s10 x11 => Ext s5 s10 → CalI w mJ6_isLatin1 s10 [va_rf l1] (fun s14 x15 => Ext s10 s14 → ((x15 = 0 → ((FI s14 68 a3 = 0 → kd s14 a1 = 24 ∧ ∀ s21, s21 = sFI s14 71 a1 1 → CalR w mJ13_copyOfRange s21 [va_rf x6, .int 0, .int (x11 <<< ((1 : Int32) &&& 31))] (fun s23 x24 => Ext s21 s23 → ∀ s27, s27 = sFR s23 70 a1 x24 → K s27)) ∧ (¬ FI s14 68 a3 = 0 → False))) ∧ (¬ x15 = 0 → kd s14 a1 = 24 ∧ ∀ s30, s30 = sFI s14 71 a1 0 → CalR w mJ13_copyOfRange s30 [va_rf x6, .int 0, .int x11] (fun s32 x33 => Ext s30 s32 → ∀ s36, s36 = sFR s32 70 a1 x33 → K s36))))))) : G w mJ8_init_2 (KV K) (rc + 1) (rs + 12) σ 0 [va_rf l0, va_rf l1, va_rf l2, U_, U_] [] := by
  refine G_aload_n 1 dJ8_init_2_0 rfl rfl ?_
  obtain ⟨a1, e2, h⟩ := h
  refine G_objInit (b := a1) 4 dJ8_init_2_1 q1699 q85 q86 rfl e2 (Nat.zero_le _) (Nat.le_of_ble_eq_true rfl) (Nat.le_of_ble_eq_true rfl) ?_
  refine G_aload_n 5 dJ8_init_2_4 rfl rfl ?_
  obtain ⟨a3, e4, h⟩ := h
  obtain ⟨c7, h⟩ := h
  refine G_invU (N := mJ6_getValue) (owner := "java/lang/AbstractStringBuilder") (x := ⟨"java/lang/AbstractStringBuilder", "getValue", "()[B"⟩) (As := []) (st := []) (t := l1) (b := a3) (rc + 1) (rs + 12) 8 dJ8_init_2_5 q1700 q1702 q1703 q1701 q40 q1704 (Or.inl rfl) rfl ax15 ⟨Nat.le_of_ble_eq_true rfl, Nat.le_of_ble_eq_true rfl⟩ rfl (Nat.zero_le _) e4 (rk23 c7) (le_b mJ6_getValue_c (Nat.le_refl _)) (le_b mJ6_getValue_s (Nat.le_refl _)) rfl (Cal.mono h ?_)
  rintro s5 v ⟨x6, rfl, h⟩ hx8
  have h := h hx8
  have x9 := hx8.x
  show G w mJ8_init_2 (KV K) (rc + 1) (rs + 12) s5 8 [va_rf l0, va_rf l1, va_rf l2, U_, U_] [va_rf x6]
  refine G_astore_n 9 [va_rf l0, va_rf l1, va_rf l2, va_rf x6, U_] dJ8_init_2_8 (Nat.le_of_ble_eq_true rfl) rfl rfl ?_
  refine G_aload_n 10 dJ8_init_2_9 rfl rfl ?_
  have c7 := kdE x9 c7 (by decide)
  refine G_invU (N := mJ7_length) (owner := "java/lang/AbstractStringBuilder") (x := ⟨"java/lang/AbstractStringBuilder", "length", "()I"⟩) (As := []) (st := []) (t := l1) (b := a3) (rc + 1) (rs + 12) 13 dJ8_init_2_10 q1705 q2392 q2401 q1538 q41 q1540 (Or.inr (Or.inl ⟨q1542, _, _, _, q1543⟩)) rfl ax14 ⟨Nat.le_of_ble_eq_true rfl, Nat.le_of_ble_eq_true rfl⟩ rfl (Nat.zero_le _) e4 (rk23 c7) (le_b mJ7_length_c (Nat.le_refl _)) (le_b mJ7_length_s (Nat.le_refl _)) rfl (Cal.mono h ?_)
  rintro s10 v ⟨x11, rfl, h⟩ hx12
  have h := h hx12
  have x13 := hx12.x
  show G w mJ8_init_2 (KV K) (rc + 1) (rs + 12) s10 13 [va_rf l0, va_rf l1, va_rf l2, va_rf x6, U_] [.int x11]
  refine G_istore 15 [va_rf l0, va_rf l1, va_rf l2, va_rf x6, .int x11] dJ8_init_2_13 (Nat.le_of_ble_eq_true rfl) rfl rfl ?_
  refine G_aload_n 16 dJ8_init_2_15 rfl rfl ?_
  have c7 := kdE x13 c7 (by decide)
  refine G_invU (N := mJ6_isLatin1) (owner := "java/lang/AbstractStringBuilder") (x := ⟨"java/lang/AbstractStringBuilder", "isLatin1", "()Z"⟩) (As := []) (st := []) (t := l1) (b := a3) (rc + 1) (rs + 12) 19 dJ8_init_2_16 q1706 q1198 q1199 q1197 q40 q1200 (Or.inl rfl) rfl ax13 ⟨Nat.le_of_ble_eq_true rfl, Nat.le_of_ble_eq_true rfl⟩ rfl (Nat.zero_le _) e4 (rk23 c7) (le_b mJ6_isLatin1_c (Nat.le_refl _)) (le_b mJ6_isLatin1_s (Nat.le_refl _)) rfl (Cal.mono h ?_)
  rintro s14 v ⟨x15, rfl, h⟩ hx16
  have h := h hx16
  have x17 := hx16.x
  show G w mJ8_init_2 (KV K) (rc + 1) (rs + 12) s14 19 [va_rf l0, va_rf l1, va_rf l2, va_rf x6, .int x11] [.int x15]
  refine G_if_eq 41 22 dJ8_init_2_19 (by decide) rfl (fun u18 => ?_) (fun u18 => ?_)
  · have h := h.1 u18
    refine G_getS (host := "") (C := "java/lang/String") (v := .int 1) 44 dJ8_init_2_41 (Or.inl q841) (Or.inl rfl) rfl (List.mem_of_getElem? (i := 5) rfl) ?_
    refine G_if_eq 79 47 dJ8_init_2_44 (by decide) rfl (fun q => absurd q (by decide)) (fun _ => ?_)
    refine G_aload_n 48 dJ8_init_2_47 rfl rfl ?_
    have c7 := kdE x17 c7 (by decide)
    refine G_getI (f := 68) (a := a3) "" 51 dJ8_init_2_48 (Or.inl q274) (Or.inl rfl) rfl e4 (hf68 c7) rfl ?_
    refine G_if_eq 79 54 dJ8_init_2_51 (by decide) rfl (fun u19 => ?_) (fun u19 => ?_)
    · have h := h.1 u19
      refine G_aload_n 80 dJ8_init_2_79 rfl rfl ?_
      refine G_iconst (v := 1) 81 dJ8_init_2_80 (by decide) rfl ?_
      obtain ⟨c20, h⟩ := h
      refine G_putI (f := 71) (a := a1) "" 84 dJ8_init_2_81 (Or.inl q1727) (Or.inl rfl) rfl e2 (hp71 c20) (nk71 c20) (Or.inr ⟨rfl, rfl, rfl⟩) rfl rfl rfl ?_
      generalize hs21 : sFI s14 71 a1 1 = s21
      have x22 : ∀ a, ¬ kd s14 a = 0 → kd s21 a = kd s14 a := by subst hs21; exact fun a _ => congrFun kd_sFI a
      have h := h s21 hs21.symm
      refine G_aload_n 85 dJ8_init_2_84 rfl rfl ?_
      refine G_aload_n 86 dJ8_init_2_85 rfl rfl ?_
      refine G_iconst (v := 0) 87 dJ8_init_2_86 (by decide) rfl ?_
      refine G_iload 89 dJ8_init_2_87 rfl rfl ?_
      refine G_iconst (v := 1) 90 dJ8_init_2_89 (by decide) rfl ?_
      refine G_ishl 91 dJ8_init_2_90 rfl ?_
      refine G_invS (N := mJ13_copyOfRange) (As := [va_rf x6, .int 0, .int (x11 <<< ((1 : Int32) &&& 31))]) (st := [va_rf l0]) (rc) (rs) "" 94 dJ8_init_2_91 (Or.inl q1707) q1708 q50 q1709 rfl mJ13_copyOfRange_args ⟨Nat.le_of_ble_eq_true rfl, Nat.le_of_ble_eq_true rfl⟩ rfl (Nat.le_trans (w_R w_0) (Nat.le_of_ble_eq_true rfl)) (le_b mJ13_copyOfRange_c (Nat.le_refl _)) (le_b mJ13_copyOfRange_s (Nat.le_refl _)) rfl (Cal.mono h ?_)
      rintro s23 v ⟨x24, rfl, h⟩ hx25
      have h := h hx25
      have x26 := hx25.x
      show G w mJ8_init_2 (KV K) (rc) (rs) s23 94 [va_rf l0, va_rf l1, va_rf l2, va_rf x6, .int x11] [va_rf x24, va_rf l0]
      have c20 := kdE x22 c20 (by decide)
      have c20 := kdE x26 c20 (by decide)
      refine G_putR (f := 70) (a := a1) "" 97 dJ8_init_2_94 (Or.inl q1726) (Or.inl rfl) rfl e2 (hp70 c20) (nk70 c20) (Or.inr ⟨rfl, rfl, rfl⟩) (fun y => by cases y <;> rfl) (fun y => by cases y <;> rfl) rfl ?_
      generalize hs27 : sFR s23 70 a1 x24 = s27
      have x28 : ∀ a, ¬ kd s23 a = 0 → kd s27 a = kd s23 a := by subst hs27; exact fun a _ => congrFun kd_sFR a
      have h := h s27 hs27.symm
      exact G_ret dJ8_init_2_97 rfl ⟨rfl, h⟩
    · have h := h.2 u19
      refine G_aload_n 55 dJ8_init_2_54 rfl rfl ?_
      refine G_aload_n 56 dJ8_init_2_55 rfl rfl ?_
      refine G_iconst (v := 0) 57 dJ8_init_2_56 (by decide) rfl ?_
      refine G_iload 59 dJ8_init_2_57 rfl rfl ?_
      exact h.elim
  · have h := h.2 u18
    refine G_aload_n 23 dJ8_init_2_22 rfl rfl ?_
    refine G_iconst (v := 0) 24 dJ8_init_2_23 (by decide) rfl ?_
    obtain ⟨c29, h⟩ := h
    refine G_putI (f := 71) (a := a1) "" 27 dJ8_init_2_24 (Or.inl q1727) (Or.inl rfl) rfl e2 (hp71 c29) (nk71 c29) (Or.inr ⟨rfl, rfl, rfl⟩) rfl rfl rfl ?_
    generalize hs30 : sFI s14 71 a1 0 = s30
    have x31 : ∀ a, ¬ kd s14 a = 0 → kd s30 a = kd s14 a := by subst hs30; exact fun a _ => congrFun kd_sFI a
    have h := h s30 hs30.symm
    refine G_aload_n 28 dJ8_init_2_27 rfl rfl ?_
    refine G_aload_n 29 dJ8_init_2_28 rfl rfl ?_
    refine G_iconst (v := 0) 30 dJ8_init_2_29 (by decide) rfl ?_
    refine G_iload 32 dJ8_init_2_30 rfl rfl ?_
    refine G_invS (N := mJ13_copyOfRange) (As := [va_rf x6, .int 0, .int x11]) (st := [va_rf l0]) (rc) (rs) "" 35 dJ8_init_2_32 (Or.inl q1707) q1708 q50 q1709 rfl mJ13_copyOfRange_args ⟨Nat.le_of_ble_eq_true rfl, Nat.le_of_ble_eq_true rfl⟩ rfl (Nat.le_trans (w_R w_0) (Nat.le_of_ble_eq_true rfl)) (le_b mJ13_copyOfRange_c (Nat.le_refl _)) (le_b mJ13_copyOfRange_s (Nat.le_refl _)) rfl (Cal.mono h ?_)
    rintro s32 v ⟨x33, rfl, h⟩ hx34
    have h := h hx34
    have x35 := hx34.x
    show G w mJ8_init_2 (KV K) (rc) (rs) s32 35 [va_rf l0, va_rf l1, va_rf l2, va_rf x6, .int x11] [va_rf x33, va_rf l0]
    have c29 := kdE x31 c29 (by decide)
    have c29 := kdE x35 c29 (by decide)
    refine G_putR (f := 70) (a := a1) "" 38 dJ8_init_2_35 (Or.inl q1726) (Or.inl rfl) rfl e2 (hp70 c29) (nk70 c29) (Or.inr ⟨rfl, rfl, rfl⟩) (fun y => by cases y <;> rfl) (fun y => by cases y <;> rfl) rfl ?_
    generalize hs36 : sFR s32 70 a1 x33 = s36
    have x37 : ∀ a, ¬ kd s32 a = 0 → kd s36 a = kd s32 a := by subst hs36; exact fun a _ => congrFun kd_sFR a
    have h := h s36 hs36.symm
    refine G_goto 97 dJ8_init_2_38 (by decide) ?_
    exact G_ret dJ8_init_2_97 rfl ⟨rfl, h⟩
theorem eJ8_init_2 {w : Wt} {K : Sg → Prop} {σ : Sg} (l0 : Option Nat) (l1 : Option Nat) (l2 : Option Nat) (h : G w mJ8_init_2 (KV K) 1 12 σ 0 [va_rf l0, va_rf l1, va_rf l2, U_, U_] []) : CalV w mJ8_init_2 σ [va_rf l0, va_rf l1, va_rf l2] K :=
  Cal.start 2 mJ8_init_2_plain (catR (catR (catR cat0))) (Nat.le_of_ble_eq_true rfl) rfl h
set_option maxHeartbeats 4000000 in
theorem bJ8_length_0 {w : Wt} {K : Sg → Int32 → Prop} {rc rs : Nat} {σ : Sg} (l0 : Option Nat) (h : ∃ a1, l0 = some a1 ∧ kd σ a1 = 24 ∧ ∃ a4, FR σ 70 a1 = some a4 ∧ kd σ a4 ∈ [1, 2, 3, 4, 5, 7, 8] ∧ CalI w mJ8_coder σ [va_rf l0] (fun s7 x8 => Ext σ s7 → K s7 ((nI (ln σ a4)) >>> (x8 &&& 31)))) : G w mJ8_length (KI K) (rc) (rs) σ 0 [va_rf l0] [] := by
  refine G_aload_n 1 dJ8_length_0 rfl rfl ?_
  obtain ⟨a1, e2, h⟩ := h
  obtain ⟨c3, h⟩ := h
  refine G_getR (f := 70) (a := a1) "" 4 dJ8_length_1 (Or.inl q1726) (Or.inl rfl) rfl e2 (hf70 c3) rfl ?_
  obtain ⟨a4, e5, h⟩ := h
  obtain ⟨c6, h⟩ := h
  refine G_alen (a := a4) 5 dJ8_length_4 rfl e5 c6 ?_
  refine G_aload_n 6 dJ8_length_5 rfl rfl ?_
  refine G_invV (N := mJ8_coder) (As := []) (st := [.int (nI (ln σ a4))]) (t := l0) (b := a1) (rc) (rs) 9 dJ8_length_6 q1042 q1043 q1044 q42 q1045 rfl rfl mJ8_coder_args ⟨Nat.le_of_ble_eq_true rfl, Nat.le_of_ble_eq_true rfl⟩ rfl (Nat.le_trans (w_I w_0) (Nat.le_of_ble_eq_true rfl)) e2 (rk24 c3) (le_b mJ8_coder_c (Nat.le_refl _)) (le_b mJ8_coder_s (Nat.le_refl _)) rfl (Cal.mono h ?_)
  rintro s7 v ⟨x8, rfl, h⟩ hx9
  have h := h hx9
  have x10 := hx9.x
  show G w mJ8_length (KI K) (rc) (rs) s7 9 [va_rf l0] [.int x8, .int (nI (ln σ a4))]
  refine G_ishr 10 dJ8_length_9 rfl ?_
  exact G_iret dJ8_length_10 rfl ⟨_, rfl, h⟩
theorem eJ8_length {w : Wt} {K : Sg → Int32 → Prop} {σ : Sg} (l0 : Option Nat) (h : G w mJ8_length (KI K) 0 0 σ 0 [va_rf l0] []) : CalI w mJ8_length σ [va_rf l0] K :=
  Cal.start 0 mJ8_length_plain (catR cat0) (Nat.le_of_ble_eq_true rfl) rfl h
set_option maxHeartbeats 4000000 in
theorem bJ8_charAt_0 {w : Wt} {K : Sg → Int32 → Prop} {rc rs : Nat} {σ : Sg} (l0 : Option Nat) (l1 : Int32) (h : ∃ a1, l0 = some a1 ∧ kd σ a1 = 24 ∧ CalI w mJ8_isLatin1 σ [va_rf l0] (fun s3 x4 => Ext σ s3 → ((x4 = 0 → False) ∧ (¬ x4 = 0 → CalI w mJ27_charAt s3 [va_rf (FR s3 70 a1), .int l1] (fun s9 x10 => Ext s3 s9 → (narrow .char (.int x10) = .int x10 ∧ K s9 x10)))))) : G w mJ8_charAt (KI K) (rc) (rs) σ 0 [va_rf l0, .int l1] [] := by
  refine G_aload_n 1 dJ8_charAt_0 rfl rfl ?_
  obtain ⟨a1, e2, h⟩ := h
  obtain ⟨c5, h⟩ := h
  refine G_invV (N := mJ8_isLatin1) (As := []) (st := []) (t := l0) (b := a1) (rc) (rs) 4 dJ8_charAt_1 q837 q838 q839 q42 q840 rfl rfl mJ8_isLatin1_args ⟨Nat.le_of_ble_eq_true rfl, Nat.le_of_ble_eq_true rfl⟩ rfl (Nat.zero_le _) e2 (rk24 c5) (le_b mJ8_isLatin1_c (Nat.le_refl _)) (le_b mJ8_isLatin1_s (Nat.le_refl _)) rfl (Cal.mono h ?_)
  rintro s3 v ⟨x4, rfl, h⟩ hx6
  have h := h hx6
  have x7 := hx6.x
  show G w mJ8_charAt (KI K) (rc) (rs) s3 4 [va_rf l0, .int l1] [.int x4]
  refine G_if_eq 16 7 dJ8_charAt_4 (by decide) rfl (fun u8 => ?_) (fun u8 => ?_)
  · have h := h.1 u8
    refine G_aload_n 17 dJ8_charAt_16 rfl rfl ?_
    have c5 := kdE x7 c5 (by decide)
    refine G_getR (f := 70) (a := a1) "" 20 dJ8_charAt_17 (Or.inl q1726) (Or.inl rfl) rfl e2 (hf70 c5) rfl ?_
    refine G_iload_n 21 dJ8_charAt_20 rfl rfl ?_
    exact h.elim
  · have h := h.2 u8
    refine G_aload_n 8 dJ8_charAt_7 rfl rfl ?_
    have c5 := kdE x7 c5 (by decide)
    refine G_getR (f := 70) (a := a1) "" 11 dJ8_charAt_8 (Or.inl q1726) (Or.inl rfl) rfl e2 (hf70 c5) rfl ?_
    refine G_iload_n 12 dJ8_charAt_11 rfl rfl ?_
    refine G_invS (N := mJ27_charAt) (As := [va_rf (FR s3 70 a1), .int l1]) (st := []) (rc) (rs) "" 15 dJ8_charAt_12 (Or.inl q1880) q1881 q65 q1882 rfl mJ27_charAt_args ⟨Nat.le_of_ble_eq_true rfl, Nat.le_of_ble_eq_true rfl⟩ rfl (Nat.zero_le _) (le_b mJ27_charAt_c (Nat.le_refl _)) (le_b mJ27_charAt_s (Nat.le_refl _)) rfl (Cal.mono h ?_)
    rintro s9 v ⟨x10, rfl, h⟩ hx11
    have h := h hx11
    have x12 := hx11.x
    show G w mJ8_charAt (KI K) (rc) (rs) s9 15 [va_rf l0, .int l1] [.int x10]
    exact G_zret dJ8_charAt_15 rfl h.1 ⟨_, rfl, h.2⟩
theorem eJ8_charAt {w : Wt} {K : Sg → Int32 → Prop} {σ : Sg} (l0 : Option Nat) (l1 : Int32) (h : G w mJ8_charAt (KI K) 0 0 σ 0 [va_rf l0, .int l1] []) : CalI w mJ8_charAt σ [va_rf l0, .int l1] K :=
  Cal.start 0 mJ8_charAt_plain (catR (catI cat0)) (Nat.le_of_ble_eq_true rfl) rfl h
set_option maxHeartbeats 4000000 in
theorem bJ10_init_0 {w : Wt} {K : Sg → Prop} {rc rs : Nat} {σ : Sg} (l0 : Option Nat) (l1 : Option Nat) (h : ∃ a1, l0 = some a1 ∧ kd σ a1 = 19 ∧ ∀ s4, s4 = sFR σ 50 a1 l1 → ∀ s6, s6 = sFI s4 48 a1 (-1) → ∃ a8, FR s6 50 a1 = some a8 ∧ kd s6 a8 = 20 ∧ ∀ s11, s11 = sFI s6 49 a1 (FI s6 51 a8) → K s11) : G w mJ10_init (KV K) (rc) (rs) σ 0 [va_rf l0, va_rf l1] [] := by
  refine G_aload_n 1 dJ10_init_0 rfl rfl ?_
  refine G_aload_n 2 dJ10_init_1 rfl rfl ?_
  obtain ⟨a1, e2, h⟩ := h
  obtain ⟨c3, h⟩ := h
  refine G_putR (f := 50) (a := a1) "" 5 dJ10_init_2 (Or.inl q360) (Or.inl rfl) rfl e2 (hp50 c3) (nk50 c3) (Or.inr ⟨rfl, rfl, rfl⟩) (fun y => by cases y <;> rfl) (fun y => by cases y <;> rfl) rfl ?_
  generalize hs4 : sFR σ 50 a1 l1 = s4
  have x5 : ∀ a, ¬ kd σ a = 0 → kd s4 a = kd σ a := by subst hs4; exact fun a _ => congrFun kd_sFR a
  have h := h s4 hs4.symm
  refine G_aload_n 6 dJ10_init_5 rfl rfl ?_
  refine G_objInit (b := a1) 9 dJ10_init_6 q356 q85 q86 rfl e2 (Nat.zero_le _) (Nat.le_of_ble_eq_true rfl) (Nat.le_of_ble_eq_true rfl) ?_
  refine G_aload_n 10 dJ10_init_9 rfl rfl ?_
  refine G_iconst (v := (-1)) 11 dJ10_init_10 (by decide) rfl ?_
  have c3 := kdE x5 c3 (by decide)
  refine G_putI (f := 48) (a := a1) "" 14 dJ10_init_11 (Or.inl q358) (Or.inl rfl) rfl e2 (hp48 c3) (nk48 c3) (Or.inl rfl) rfl rfl rfl ?_
  generalize hs6 : sFI s4 48 a1 (-1) = s6
  have x7 : ∀ a, ¬ kd s4 a = 0 → kd s6 a = kd s4 a := by subst hs6; exact fun a _ => congrFun kd_sFI a
  have h := h s6 hs6.symm
  refine G_aload_n 15 dJ10_init_14 rfl rfl ?_
  refine G_aload_n 16 dJ10_init_15 rfl rfl ?_
  have c3 := kdE x7 c3 (by decide)
  refine G_getR (f := 50) (a := a1) "" 19 dJ10_init_16 (Or.inl q360) (Or.inl rfl) rfl e2 (hf50 c3) rfl ?_
  obtain ⟨a8, e9, h⟩ := h
  obtain ⟨c10, h⟩ := h
  refine G_getI (f := 51) (a := a8) "" 22 dJ10_init_19 (Or.inl q112) (Or.inr q113) rfl e9 (hf51 c10) rfl ?_
  refine G_putI (f := 49) (a := a1) "" 25 dJ10_init_22 (Or.inl q359) (Or.inl rfl) rfl e2 (hp49 c3) (nk49 c3) (Or.inl rfl) rfl rfl rfl ?_
  generalize hs11 : sFI s6 49 a1 (FI s6 51 a8) = s11
  have x12 : ∀ a, ¬ kd s6 a = 0 → kd s11 a = kd s6 a := by subst hs11; exact fun a _ => congrFun kd_sFI a
  have h := h s11 hs11.symm
  exact G_ret dJ10_init_25 rfl ⟨rfl, h⟩
theorem eJ10_init {w : Wt} {K : Sg → Prop} {σ : Sg} (l0 : Option Nat) (l1 : Option Nat) (h : G w mJ10_init (KV K) 0 0 σ 0 [va_rf l0, va_rf l1] []) : CalV w mJ10_init σ [va_rf l0, va_rf l1] K :=
  Cal.start 0 mJ10_init_plain (catR (catR cat0)) (Nat.le_of_ble_eq_true rfl) rfl h
set_option maxHeartbeats 4000000 in
theorem bJ10_hasNext_0 {w : Wt} {K : Sg → Int32 → Prop} {rc rs : Nat} {σ : Sg} (l0 : Option Nat) (h : ∃ a1, l0 = some a1 ∧ kd σ a1 = 19 ∧ ∃ a4, FR σ 50 a1 = some a4 ∧ kd σ a4 = 20 ∧ ((FI σ 47 a1 = FI σ 53 a4 → K σ 0) ∧ (¬ FI σ 47 a1 = FI σ 53 a4 → K σ 1))) : G w mJ10_hasNext (KI K) (rc) (rs) σ 0 [va_rf l0] [] := by
  refine G_aload_n 1 dJ10_hasNext_0 rfl rfl ?_
  obtain ⟨a1, e2, h⟩ := h
  obtain ⟨c3, h⟩ := h
  refine G_getI (f := 47) (a := a1) "" 4 dJ10_hasNext_1 (Or.inl q357) (Or.inl rfl) rfl e2 (hf47 c3) rfl ?_
  refine G_aload_n 5 dJ10_hasNext_4 rfl rfl ?_
  refine G_getR (f := 50) (a := a1) "" 8 dJ10_hasNext_5 (Or.inl q360) (Or.inl rfl) rfl e2 (hf50 c3) rfl ?_
  obtain ⟨a4, e5, h⟩ := h
  obtain ⟨c6, h⟩ := h
  refine G_getI (f := 53) (a := a4) "java/util/ArrayList" 11 dJ10_hasNext_8 (Or.inr q109) (Or.inl rfl) rfl e5 (hf53 c6) rfl ?_
  refine G_icmp_eq 18 14 dJ10_hasNext_11 (by decide) rfl (fun u7 => ?_) (fun u7 => ?_)
  · have h := h.1 u7
    refine G_iconst (v := 0) 19 dJ10_hasNext_18 (by decide) rfl ?_
    exact G_zret dJ10_hasNext_19 rfl rfl ⟨_, rfl, h⟩
  · have h := h.2 u7
    refine G_iconst (v := 1) 15 dJ10_hasNext_14 (by decide) rfl ?_
    refine G_goto 19 dJ10_hasNext_15 (by decide) ?_
    exact G_zret dJ10_hasNext_19 rfl rfl ⟨_, rfl, h⟩
theorem eJ10_hasNext {w : Wt} {K : Sg → Int32 → Prop} {σ : Sg} (l0 : Option Nat) (h : G w mJ10_hasNext (KI K) 0 0 σ 0 [va_rf l0] []) : CalI w mJ10_hasNext σ [va_rf l0] K :=
  Cal.start 0 mJ10_hasNext_plain (catR cat0) (Nat.le_of_ble_eq_true rfl) rfl h
set_option maxHeartbeats 4000000 in
theorem bJ10_next_0 {w : Wt} {K : Sg → Option Nat → Prop} {rc rs : Nat} {σ : Sg} (l0 : Option Nat) (h : ∃ a1, l0 = some a1 ∧ kd σ a1 = 19 ∧ CalV w mJ10_checkForComodification σ [va_rf l0] (fun s3 => Ext σ s3 → ∃ a7, FR s3 50 a1 = some a7 ∧ kd s3 a7 = 20 ∧ ((FI s3 47 a1 < FI s3 53 a7 → ∃ a11, FR s3 52 a7 = some a11 ∧ kd s3 a11 ∈ [1, 2, 3, 4, 5, 7, 8] ∧ ((FI s3 47 a1 < nI (ln s3 a11) → ∀ s15, s15 = sFI s3 47 a1 ((FI s3 47 a1) + 1) → ∀ s17, s17 = sFI s15 48 a1 (FI s3 47 a1) → kd s17 a11 ∈ [3, 4, 7, 8] ∧ vp_in (FI s3 47 a1) (ln s17 a11) ∧ K s17 (AR s17 a11 (FI s3 47 a1).toNatClampNeg)) ∧ (¬ FI s3 47 a1 < nI (ln s3 a11) → False))) ∧ (¬ FI s3 47 a1 < FI s3 53 a7 → False)))) : G w mJ10_next (KR K) (rc) (rs) σ 0 [va_rf l0, U_, U_] [] := by
  refine G_aload_n 1 dJ10_next_0 rfl rfl ?_
  obtain ⟨a1, e2, h⟩ := h
  obtain ⟨c4, h⟩ := h
  refine G_invV (N := mJ10_checkForComodification) (As := []) (st := []) (t := l0) (b := a1) (rc) (rs) 4 dJ10_next_1 q407 q408 q409 q46 q410 rfl rfl mJ10_checkForComodification_args ⟨Nat.le_of_ble_eq_true rfl, Nat.le_of_ble_eq_true rfl⟩ rfl (Nat.zero_le _) e2 (rk19 c4) (le_b mJ10_checkForComodification_c (Nat.le_refl _)) (le_b mJ10_checkForComodification_s (Nat.le_refl _)) rfl (Cal.mono h ?_)
  rintro s3 v ⟨rfl, h⟩ hx5
  have h := h hx5
  have x6 := hx5.x
  show G w mJ10_next (KR K) (rc) (rs) s3 4 [va_rf l0, U_, U_] []
  refine G_aload_n 5 dJ10_next_4 rfl rfl ?_
  have c4 := kdE x6 c4 (by decide)
  refine G_getI (f := 47) (a := a1) "" 8 dJ10_next_5 (Or.inl q357) (Or.inl rfl) rfl e2 (hf47 c4) rfl ?_
  refine G_istore_n 9 [va_rf l0, .int (FI s3 47 a1), U_] dJ10_next_8 (Nat.le_of_ble_eq_true rfl) rfl rfl ?_
  refine G_iload_n 10 dJ10_next_9 rfl rfl ?_
  refine G_aload_n 11 dJ10_next_10 rfl rfl ?_
  refine G_getR (f := 50) (a := a1) "" 14 dJ10_next_11 (Or.inl q360) (Or.inl rfl) rfl e2 (hf50 c4) rfl ?_
  obtain ⟨a7, e8, h⟩ := h
  obtain ⟨c9, h⟩ := h
  refine G_getI (f := 53) (a := a7) "java/util/ArrayList" 17 dJ10_next_14 (Or.inr q109) (Or.inl rfl) rfl e8 (hf53 c9) rfl ?_
  refine G_icmp_lt 28 20 dJ10_next_17 (by decide) rfl (fun u10 => ?_) (fun u10 => ?_)
  · have h := h.1 u10
    refine G_aload_n 29 dJ10_next_28 rfl rfl ?_
    refine G_getR (f := 50) (a := a1) "" 32 dJ10_next_29 (Or.inl q360) (Or.inl rfl) rfl e2 (hf50 c4) rfl ?_
    refine G_getR (f := 52) (a := a7) "" 35 dJ10_next_32 (Or.inl q108) (Or.inl rfl) rfl e8 (hf52 c9) rfl ?_
    refine G_astore_n 36 [va_rf l0, .int (FI s3 47 a1), va_rf (FR s3 52 a7)] dJ10_next_35 (Nat.le_of_ble_eq_true rfl) rfl rfl ?_
    refine G_iload_n 37 dJ10_next_36 rfl rfl ?_
    refine G_aload_n 38 dJ10_next_37 rfl rfl ?_
    obtain ⟨a11, e12, h⟩ := h
    obtain ⟨c13, h⟩ := h
    refine G_alen (a := a11) 39 dJ10_next_38 rfl e12 c13 ?_
    refine G_icmp_lt 50 42 dJ10_next_39 (by decide) rfl (fun u14 => ?_) (fun u14 => ?_)
    · have h := h.1 u14
      refine G_aload_n 51 dJ10_next_50 rfl rfl ?_
      refine G_iload_n 52 dJ10_next_51 rfl rfl ?_
      refine G_iconst (v := 1) 53 dJ10_next_52 (by decide) rfl ?_
      refine G_iadd 54 dJ10_next_53 rfl ?_
      refine G_putI (f := 47) (a := a1) "" 57 dJ10_next_54 (Or.inl q357) (Or.inl rfl) rfl e2 (hp47 c4) (nk47 c4) (Or.inl rfl) rfl rfl rfl ?_
      generalize hs15 : sFI s3 47 a1 ((FI s3 47 a1) + 1) = s15
      have x16 : ∀ a, ¬ kd s3 a = 0 → kd s15 a = kd s3 a := by subst hs15; exact fun a _ => congrFun kd_sFI a
      have h := h s15 hs15.symm
      refine G_aload_n 58 dJ10_next_57 rfl rfl ?_
      refine G_aload_n 59 dJ10_next_58 rfl rfl ?_
      refine G_iload_n 60 dJ10_next_59 rfl rfl ?_
      refine G_dup_x1 61 dJ10_next_60 (rfl) (rf_cat _) rfl ?_
      have c4 := kdE x16 c4 (by decide)
      refine G_putI (f := 48) (a := a1) "" 64 dJ10_next_61 (Or.inl q358) (Or.inl rfl) rfl e2 (hp48 c4) (nk48 c4) (Or.inl rfl) rfl rfl rfl ?_
      generalize hs17 : sFI s15 48 a1 (FI s3 47 a1) = s17
      have x18 : ∀ a, ¬ kd s15 a = 0 → kd s17 a = kd s15 a := by subst hs17; exact fun a _ => congrFun kd_sFI a
      have h := h s17 hs17.symm
      obtain ⟨c19, h⟩ := h
      obtain ⟨c20, h⟩ := h
      refine G_aald (a := a11) 65 dJ10_next_64 rfl e12 c19 c20 ?_
      exact G_aret dJ10_next_65 rfl (Or.inl ⟨_, rfl⟩) ⟨_, rfl, h⟩
    · have h := h.2 u14
      exact h.elim
  · have h := h.2 u10
    exact h.elim
theorem eJ10_next {w : Wt} {K : Sg → Option Nat → Prop} {σ : Sg} (l0 : Option Nat) (h : G w mJ10_next (KR K) 0 0 σ 0 [va_rf l0, U_, U_] []) : CalR w mJ10_next σ [va_rf l0] K :=
  Cal.start 2 mJ10_next_plain (catR cat0) (Nat.le_of_ble_eq_true rfl) rfl h
set_option maxHeartbeats 4000000 in
theorem bJ10_checkForComodification_0 {w : Wt} {K : Sg → Prop} {rc rs : Nat} {σ : Sg} (l0 : Option Nat) (h : ∃ a1, l0 = some a1 ∧ kd σ a1 = 19 ∧ ∃ a4, FR σ 50 a1 = some a4 ∧ kd σ a4 = 20 ∧ ((FI σ 51 a4 = FI σ 49 a1 → K σ) ∧ (¬ FI σ 51 a4 = FI σ 49 a1 → False))) : G w mJ10_checkForComodification (KV K) (rc) (rs) σ 0 [va_rf l0] [] := by
  refine G_aload_n 1 dJ10_checkForComodification_0 rfl rfl ?_
  obtain ⟨a1, e2, h⟩ := h
  obtain ⟨c3, h⟩ := h
  refine G_getR (f := 50) (a := a1) "" 4 dJ10_checkForComodification_1 (Or.inl q360) (Or.inl rfl) rfl e2 (hf50 c3) rfl ?_
  obtain ⟨a4, e5, h⟩ := h
  obtain ⟨c6, h⟩ := h
  refine G_getI (f := 51) (a := a4) "" 7 dJ10_checkForComodification_4 (Or.inl q112) (Or.inr q113) rfl e5 (hf51 c6) rfl ?_
  refine G_aload_n 8 dJ10_checkForComodification_7 rfl rfl ?_
  refine G_getI (f := 49) (a := a1) "" 11 dJ10_checkForComodification_8 (Or.inl q359) (Or.inl rfl) rfl e2 (hf49 c3) rfl ?_
  refine G_icmp_eq 22 14 dJ10_checkForComodification_11 (by decide) rfl (fun u7 => ?_) (fun u7 => ?_)
  · have h := h.1 u7
    exact G_ret dJ10_checkForComodification_22 rfl ⟨rfl, h⟩
  · have h := h.2 u7
    exact h.elim
theorem eJ10_checkForComodification {w : Wt} {K : Sg → Prop} {σ : Sg} (l0 : Option Nat) (h : G w mJ10_checkForComodification (KV K) 0 0 σ 0 [va_rf l0] []) : CalV w mJ10_checkForComodification σ [va_rf l0] K :=
  Cal.start 0 mJ10_checkForComodification_plain (catR cat0) (Nat.le_of_ble_eq_true rfl) rfl h
set_option maxHeartbeats 4000000 in
theorem bJ11_newLength_0 {w : Wt} {K : Sg → Int32 → Prop} {rc rs : Nat} {σ : Sg} (l0 : Int32) (l1 : Int32) (l2 : Int32) (h : CalI w mJ12_max σ [.int l1, .int l2] (fun s1 x2 => Ext σ s1 → ((l0 + x2 ≤ 0 → False) ∧ (¬ l0 + x2 ≤ 0 → ((2147483639 < l0 + x2 → False) ∧ (¬ 2147483639 < l0 + x2 → K s1 (l0 + x2))))))) : G w mJ11_newLength (KI K) (rc) (rs) σ 0 [.int l0, .int l1, .int l2, U_] [] := by
  refine G_iload_n 1 dJ11_newLength_0 rfl rfl ?_
  refine G_iload_n 2 dJ11_newLength_1 rfl rfl ?_
  refine G_iload_n 3 dJ11_newLength_2 rfl rfl ?_
  refine G_invS (N := mJ12_max) (As := [.int l1, .int l2]) (st := [.int l0]) (rc) (rs) "" 6 dJ11_newLength_3 (Or.inl q520) q521 q49 q522 rfl mJ12_max_args ⟨Nat.le_of_ble_eq_true rfl, Nat.le_of_ble_eq_true rfl⟩ rfl (Nat.le_trans (w_I w_0) (Nat.le_of_ble_eq_true rfl)) (le_b mJ12_max_c (Nat.le_refl _)) (le_b mJ12_max_s (Nat.le_refl _)) rfl (Cal.mono h ?_)
  rintro s1 v ⟨x2, rfl, h⟩ hx3
  have h := h hx3
  have x4 := hx3.x
  show G w mJ11_newLength (KI K) (rc) (rs) s1 6 [.int l0, .int l1, .int l2, U_] [.int x2, .int l0]
  refine G_iadd 7 dJ11_newLength_6 rfl ?_
  refine G_istore_n 8 [.int l0, .int l1, .int l2, .int (l0 + x2)] dJ11_newLength_7 (Nat.le_of_ble_eq_true rfl) rfl rfl ?_
  refine G_iconst (v := 0) 9 dJ11_newLength_8 (by decide) rfl ?_
  refine G_iload_n 10 dJ11_newLength_9 rfl rfl ?_
  refine G_icmp_ge 21 13 dJ11_newLength_10 (by decide) rfl (fun u5 => ?_) (fun u5 => ?_)
  · have h := h.1 u5
    refine G_iload_n 22 dJ11_newLength_21 rfl rfl ?_
    refine G_iload_n 23 dJ11_newLength_22 rfl rfl ?_
    exact h.elim
  · have h := h.2 u5
    refine G_iload_n 14 dJ11_newLength_13 rfl rfl ?_
    refine G_ldc (v := 2147483639) 16 dJ11_newLength_14 q523 rfl ?_
    refine G_icmp_gt 21 19 dJ11_newLength_16 (by decide) rfl (fun u6 => ?_) (fun u6 => ?_)
    · have h := h.1 u6
      refine G_iload_n 22 dJ11_newLength_21 rfl rfl ?_
      refine G_iload_n 23 dJ11_newLength_22 rfl rfl ?_
      exact h.elim
    · have h := h.2 u6
      refine G_iload_n 20 dJ11_newLength_19 rfl rfl ?_
      exact G_iret dJ11_newLength_20 rfl ⟨_, rfl, h⟩
theorem eJ11_newLength {w : Wt} {K : Sg → Int32 → Prop} {σ : Sg} (l0 : Int32) (l1 : Int32) (l2 : Int32) (h : G w mJ11_newLength (KI K) 0 0 σ 0 [.int l0, .int l1, .int l2, U_] []) : CalI w mJ11_newLength σ [.int l0, .int l1, .int l2] K :=
  Cal.start 1 mJ11_newLength_plain (catI (catI (catI cat0))) (Nat.le_of_ble_eq_true rfl) rfl h
set_option maxHeartbeats 4000000 in
theorem bJ12_max_0 {w : Wt} {K : Sg → Int32 → Prop} {rc rs : Nat} {σ : Sg} (l0 : Int32) (l1 : Int32) (h : ((l0 < l1 → K σ l1) ∧ (¬ l0 < l1 → K σ l0))) : G w mJ12_max (KI K) (rc) (rs) σ 0 [.int l0, .int l1] [] := by
  refine G_iload_n 1 dJ12_max_0 rfl rfl ?_
  refine G_iload_n 2 dJ12_max_1 rfl rfl ?_
  refine G_icmp_lt 9 5 dJ12_max_2 (by decide) rfl (fun u1 => ?_) (fun u1 => ?_)
  · have h := h.1 u1
    refine G_iload_n 10 dJ12_max_9 rfl rfl ?_
    exact G_iret dJ12_max_10 rfl ⟨_, rfl, h⟩
  · have h := h.2 u1
    refine G_iload_n 6 dJ12_max_5 rfl rfl ?_
    refine G_goto 10 dJ12_max_6 (by decide) ?_
    exact G_iret dJ12_max_10 rfl ⟨_, rfl, h⟩
theorem eJ12_max {w : Wt} {K : Sg → Int32 → Prop} {σ : Sg} (l0 : Int32) (l1 : Int32) (h : G w mJ12_max (KI K) 0 0 σ 0 [.int l0, .int l1] []) : CalI w mJ12_max σ [.int l0, .int l1] K :=
  Cal.start 0 mJ12_max_plain (catI (catI cat0)) (Nat.le_of_ble_eq_true rfl) rfl h
set_option maxHeartbeats 4000000 in
theorem bJ12_min_0 {w : Wt} {K : Sg → Int32 → Prop} {rc rs : Nat} {σ : Sg} (l0 : Int32) (l1 : Int32) (h : ((l1 < l0 → K σ l1) ∧ (¬ l1 < l0 → K σ l0))) : G w mJ12_min (KI K) (rc) (rs) σ 0 [.int l0, .int l1] [] := by
  refine G_iload_n 1 dJ12_min_0 rfl rfl ?_
  refine G_iload_n 2 dJ12_min_1 rfl rfl ?_
  refine G_icmp_gt 9 5 dJ12_min_2 (by decide) rfl (fun u1 => ?_) (fun u1 => ?_)
  · have h := h.1 u1
    refine G_iload_n 10 dJ12_min_9 rfl rfl ?_
    exact G_iret dJ12_min_10 rfl ⟨_, rfl, h⟩
  · have h := h.2 u1
    refine G_iload_n 6 dJ12_min_5 rfl rfl ?_
    refine G_goto 10 dJ12_min_6 (by decide) ?_
    exact G_iret dJ12_min_10 rfl ⟨_, rfl, h⟩
theorem eJ12_min {w : Wt} {K : Sg → Int32 → Prop} {σ : Sg} (l0 : Int32) (l1 : Int32) (h : G w mJ12_min (KI K) 0 0 σ 0 [.int l0, .int l1] []) : CalI w mJ12_min σ [.int l0, .int l1] K :=
  Cal.start 0 mJ12_min_plain (catI (catI cat0)) (Nat.le_of_ble_eq_true rfl) rfl h
set_option maxHeartbeats 4000000 in
theorem bJ13_copyOf_0 {w : Wt} {K : Sg → Option Nat → Prop} {rc rs : Nat} {σ : Sg} (l0 : Option Nat) (l1 : Int32) (h : ∃ a1, l0 = some a1 ∧ kd σ a1 = 3 ∧ CalR w mJ13_copyOf_2 σ [va_rf l0, .int l1, va_rf (some (wa w 4))] (fun s4 x5 => Ext σ s4 → K s4 x5)) : G w mJ13_copyOf (KR K) (rc + 1) (rs + 22) σ 0 [va_rf l0, .int l1] [] := by
  refine G_aload_n 1 dJ13_copyOf_0 rfl rfl ?_
  refine G_iload_n 2 dJ13_copyOf_1 rfl rfl ?_
  refine G_aload_n 3 dJ13_copyOf_2 rfl rfl ?_
  obtain ⟨a1, e2, h⟩ := h
  obtain ⟨c3, h⟩ := h
  refine G_getClass (a := a1) 6 dJ13_copyOf_3 q530 q2443 q531 q563 rfl e2 c3 (Nat.le_trans (w_I (w_R w_0)) (Nat.le_of_ble_eq_true rfl)) (Nat.le_of_ble_eq_true rfl) (Nat.le_of_ble_eq_true rfl) ?_
  refine G_invS (N := mJ13_copyOf_2) (As := [va_rf l0, .int l1, va_rf (some (wa w 4))]) (st := []) (rc) (rs) "" 9 dJ13_copyOf_6 (Or.inl q564) q565 q50 q566 rfl mJ13_copyOf_2_args ⟨Nat.le_of_ble_eq_true rfl, Nat.le_of_ble_eq_true rfl⟩ rfl (Nat.zero_le _) (le_b mJ13_copyOf_2_c (Nat.le_refl _)) (le_b mJ13_copyOf_2_s (Nat.le_refl _)) rfl (Cal.mono h ?_)
  rintro s4 v ⟨x5, rfl, h⟩ hx6
  have h := h hx6
  have x7 := hx6.x
  show G w mJ13_copyOf (KR K) (rc) (rs) s4 9 [va_rf l0, .int l1] [va_rf x5]
  exact G_aret dJ13_copyOf_9 rfl (Or.inr ⟨_, rfl⟩) ⟨_, rfl, h⟩
theorem eJ13_copyOf {w : Wt} {K : Sg → Option Nat → Prop} {σ : Sg} (l0 : Option Nat) (l1 : Int32) (h : G w mJ13_copyOf (KR K) 1 22 σ 0 [va_rf l0, .int l1] []) : CalR w mJ13_copyOf σ [va_rf l0, .int l1] K :=
  Cal.start 0 mJ13_copyOf_plain (catR (catI cat0)) (Nat.le_of_ble_eq_true rfl) rfl h
set_option maxHeartbeats 4000000 in
theorem bJ13_copyOf_2_0 {w : Wt} {K : Sg → Option Nat → Prop} {rc rs : Nat} {σ : Sg} (l0 : Option Nat) (l1 : Int32) (l2 : Option Nat) (h : ((¬ l2 = some (wa w 4) → False) ∧ (l2 = some (wa w 4) → ∃ N2, l1 = nI N2 ∧ N2 ≤ 22 ∧ ∀ n5, n5 = nx σ → kd σ n5 = 0 → ∀ s6, s6 = nA σ 3 N2 → ∃ a9, l0 = some a9 ∧ kd s6 a9 ∈ [1, 2, 3, 4, 5, 7, 8] ∧ CalI w mJ12_min s6 [.int (nI (ln s6 a9)), .int l1] (fun s12 x13 => Ext s6 s12 → ∃ N16 N17 N18, 0 = nI N16 ∧ 0 = nI N17 ∧ x13 = nI N18 ∧ (kd s12 a9 = 3 ∧ kd s12 n5 = 3 ∧ N16 + N18 ≤ ln s12 a9 ∧ N17 + N18 ≤ ln s12 n5 ∧ ln s12 a9 < 2 ^ 31 ∧ ln s12 n5 < 2 ^ 31 ∧ ∀ i, i < N18 → ∀ y, AR s12 a9 (N16 + i) = some y → kd s12 y ∈ [15, 17]) ∧ ∀ s23, s23 = sARs s12 n5 (va_cpy (AR s12 a9) (AR s12 n5) N16 N17 N18) → K s23 (some n5))))) : G w mJ13_copyOf_2 (KR K) (rc + 1) (rs + 22) σ 0 [va_rf l0, .int l1, va_rf l2, U_] [] := by
  refine G_aload_n 1 dJ13_copyOf_2_0 rfl rfl ?_
  refine G_ldcO 3 dJ13_copyOf_2_1 q567 rfl ?_
  refine G_acmp_ne 13 6 dJ13_copyOf_2_3 (by decide) rfl (fun u1 => ?_) (fun u1 => ?_)
  · have h := h.1 u1
    refine G_aload_n 14 dJ13_copyOf_2_13 rfl rfl ?_
    exact h.elim
  · have h := h.2 u1
    refine G_iload_n 7 dJ13_copyOf_2_6 rfl rfl ?_
    obtain ⟨N2, e3, e3l, h⟩ := h
    refine G_newR (E := "java/lang/Object") (kn := 3) (N := N2) (rc) (rs) 10 dJ13_copyOf_2_7 (Or.inl ⟨rfl, rfl⟩) q569 q568 e3 (by omega) rfl (Nat.le_refl _) (by omega) (fun z4 => ?_)
    generalize hn5 : nx σ = n5 at z4 ⊢
    generalize hs6 : nA σ 3 N2 = s6
    have x7 : ∀ a, ¬ kd σ a = 0 → kd s6 a = kd σ a := by subst hs6 hn5; exact kdAx z4
    have c8 : kd s6 n5 = 3 := by subst hs6 hn5; exact kdA_self
    have h := h n5 hn5.symm z4 s6 hs6.symm
    refine G_goto 24 dJ13_copyOf_2_10 (by decide) ?_
    refine G_astore_n 25 [va_rf l0, .int l1, va_rf l2, va_rf (some n5)] dJ13_copyOf_2_24 (Nat.le_of_ble_eq_true rfl) rfl rfl ?_
    refine G_aload_n 26 dJ13_copyOf_2_25 rfl rfl ?_
    refine G_iconst (v := 0) 27 dJ13_copyOf_2_26 (by decide) rfl ?_
    refine G_aload_n 28 dJ13_copyOf_2_27 rfl rfl ?_
    refine G_iconst (v := 0) 29 dJ13_copyOf_2_28 (by decide) rfl ?_
    refine G_aload_n 30 dJ13_copyOf_2_29 rfl rfl ?_
    obtain ⟨a9, e10, h⟩ := h
    obtain ⟨c11, h⟩ := h
    refine G_alen (a := a9) 31 dJ13_copyOf_2_30 rfl e10 c11 ?_
    refine G_iload_n 32 dJ13_copyOf_2_31 rfl rfl ?_
    refine G_invS (N := mJ12_min) (As := [.int (nI (ln s6 a9)), .int l1]) (st := [.int 0, va_rf (some n5), .int 0, va_rf l0]) (rc) (rs) "" 35 dJ13_copyOf_2_32 (Or.inl q570) q571 q49 q572 rfl mJ12_min_args ⟨Nat.le_of_ble_eq_true rfl, Nat.le_of_ble_eq_true rfl⟩ rfl (Nat.le_trans (w_I (w_R (w_I (w_R w_0)))) (Nat.le_of_ble_eq_true rfl)) (le_b mJ12_min_c (Nat.le_refl _)) (le_b mJ12_min_s (Nat.le_refl _)) rfl (Cal.mono h ?_)
    rintro s12 v ⟨x13, rfl, h⟩ hx14
    have h := h hx14
    have x15 := hx14.x
    show G w mJ13_copyOf_2 (KR K) (rc) (rs) s12 35 [va_rf l0, .int l1, va_rf l2, va_rf (some n5)] [.int x13, .int 0, va_rf (some n5), .int 0, va_rf l0]
    obtain ⟨N16, N17, N18, e19, e20, e21, g22, h⟩ := h
    refine G_copyR (a := a9) (b := n5) N16 N17 N18 38 dJ13_copyOf_2_35 q573 q575 q574 q51 rfl e10 rfl g22.1 g22.2.1 e19 e20 e21 g22.2.2.1 g22.2.2.2.1 g22.2.2.2.2.1 g22.2.2.2.2.2.1 (fun i hi y hy => eo3 (g22.2.2.2.2.2.2 i hi y hy)) (Nat.zero_le _) (Nat.le_of_ble_eq_true rfl) (Nat.le_of_ble_eq_true rfl) ?_
    generalize hs23 : sARs s12 n5 (va_cpy (AR s12 a9) (AR s12 n5) N16 N17 N18) = s23
    have x24 : ∀ a, ¬ kd s12 a = 0 → kd s23 a = kd s12 a := by subst hs23; exact fun a _ => congrFun kd_sARs a
    have h := h s23 hs23.symm
    refine G_aload_n 39 dJ13_copyOf_2_38 rfl rfl ?_
    exact G_aret dJ13_copyOf_2_39 rfl (Or.inr ⟨_, rfl⟩) ⟨_, rfl, h⟩
theorem eJ13_copyOf_2 {w : Wt} {K : Sg → Option Nat → Prop} {σ : Sg} (l0 : Option Nat) (l1 : Int32) (l2 : Option Nat) (h : G w mJ13_copyOf_2 (KR K) 1 22 σ 0 [va_rf l0, .int l1, va_rf l2, U_] []) : CalR w mJ13_copyOf_2 σ [va_rf l0, .int l1, va_rf l2] K :=
  Cal.start 1 mJ13_copyOf_2_plain (catR (catI (catR cat0))) (Nat.le_of_ble_eq_true rfl) rfl h
set_option maxHeartbeats 4000000 in
theorem bJ13_copyOfRange_0 {w : Wt} {K : Sg → Option Nat → Prop} {rc rs : Nat} {σ : Sg} (l0 : Option Nat) (l1 : Int32) (l2 : Int32) (h : ((¬ l1 = 0 → CalR w mJ13_copyOfRangeByte σ [va_rf l0, .int l1, .int l2] (fun s2 x3 => Ext σ s2 → K s2 x3)) ∧ (l1 = 0 → ∃ a6, l0 = some a6 ∧ kd σ a6 ∈ [1, 2, 3, 4, 5, 7, 8] ∧ ((l2 = nI (ln σ a6) → False) ∧ (¬ l2 = nI (ln σ a6) → CalR w mJ13_copyOfRangeByte σ [va_rf l0, .int l1, .int l2] (fun s10 x11 => Ext σ s10 → K s10 x11)))))) : G w mJ13_copyOfRange (KR K) (rc + 1) (rs + 12) σ 0 [va_rf l0, .int l1, .int l2] [] := by
  refine G_iload_n 1 dJ13_copyOfRange_0 rfl rfl ?_
  refine G_if_ne 10 4 dJ13_copyOfRange_1 (by decide) rfl (fun u1 => ?_) (fun u1 => ?_)
  · have h := h.1 u1
    refine G_aload_n 11 dJ13_copyOfRange_10 rfl rfl ?_
    refine G_iload_n 12 dJ13_copyOfRange_11 rfl rfl ?_
    refine G_iload_n 13 dJ13_copyOfRange_12 rfl rfl ?_
    refine G_invS (N := mJ13_copyOfRangeByte) (As := [va_rf l0, .int l1, .int l2]) (st := []) (rc) (rs) "" 16 dJ13_copyOfRange_13 (Or.inl q1710) q1711 q50 q1712 rfl mJ13_copyOfRangeByte_args ⟨Nat.le_of_ble_eq_true rfl, Nat.le_of_ble_eq_true rfl⟩ rfl (Nat.zero_le _) (le_b mJ13_copyOfRangeByte_c (Nat.le_refl _)) (le_b mJ13_copyOfRangeByte_s (Nat.le_refl _)) rfl (Cal.mono h ?_)
    rintro s2 v ⟨x3, rfl, h⟩ hx4
    have h := h hx4
    have x5 := hx4.x
    show G w mJ13_copyOfRange (KR K) (rc) (rs) s2 16 [va_rf l0, .int l1, .int l2] [va_rf x3]
    exact G_aret dJ13_copyOfRange_16 rfl (Or.inr ⟨_, rfl⟩) ⟨_, rfl, h⟩
  · have h := h.2 u1
    refine G_iload_n 5 dJ13_copyOfRange_4 rfl rfl ?_
    refine G_aload_n 6 dJ13_copyOfRange_5 rfl rfl ?_
    obtain ⟨a6, e7, h⟩ := h
    obtain ⟨c8, h⟩ := h
    refine G_alen (a := a6) 7 dJ13_copyOfRange_6 rfl e7 c8 ?_
    refine G_icmp_eq 17 10 dJ13_copyOfRange_7 (by decide) rfl (fun u9 => ?_) (fun u9 => ?_)
    · have h := h.1 u9
      refine G_aload_n 18 dJ13_copyOfRange_17 rfl rfl ?_
      exact h.elim
    · have h := h.2 u9
      refine G_aload_n 11 dJ13_copyOfRange_10 rfl rfl ?_
      refine G_iload_n 12 dJ13_copyOfRange_11 rfl rfl ?_
      refine G_iload_n 13 dJ13_copyOfRange_12 rfl rfl ?_
      refine G_invS (N := mJ13_copyOfRangeByte) (As := [va_rf l0, .int l1, .int l2]) (st := []) (rc) (rs) "" 16 dJ13_copyOfRange_13 (Or.inl q1710) q1711 q50 q1712 rfl mJ13_copyOfRangeByte_args ⟨Nat.le_of_ble_eq_true rfl, Nat.le_of_ble_eq_true rfl⟩ rfl (Nat.zero_le _) (le_b mJ13_copyOfRangeByte_c (Nat.le_refl _)) (le_b mJ13_copyOfRangeByte_s (Nat.le_refl _)) rfl (Cal.mono h ?_)
      rintro s10 v ⟨x11, rfl, h⟩ hx12
      have h := h hx12
      have x13 := hx12.x
      show G w mJ13_copyOfRange (KR K) (rc) (rs) s10 16 [va_rf l0, .int l1, .int l2] [va_rf x11]
      exact G_aret dJ13_copyOfRange_16 rfl (Or.inr ⟨_, rfl⟩) ⟨_, rfl, h⟩
theorem eJ13_copyOfRange {w : Wt} {K : Sg → Option Nat → Prop} {σ : Sg} (l0 : Option Nat) (l1 : Int32) (l2 : Int32) (h : G w mJ13_copyOfRange (KR K) 1 12 σ 0 [va_rf l0, .int l1, .int l2] []) : CalR w mJ13_copyOfRange σ [va_rf l0, .int l1, .int l2] K :=
  Cal.start 0 mJ13_copyOfRange_plain (catR (catI (catI cat0))) (Nat.le_of_ble_eq_true rfl) rfl h
set_option maxHeartbeats 4000000 in
theorem bJ13_copyOfRangeByte_0 {w : Wt} {K : Sg → Option Nat → Prop} {rc rs : Nat} {σ : Sg} (l0 : Option Nat) (l1 : Int32) (l2 : Int32) (h : CalV w mJ13_checkLength σ [.int l1, .int l2] (fun s1 => Ext σ s1 → ∃ N4, l2 - l1 = nI N4 ∧ N4 ≤ 12 ∧ ∀ n7, n7 = nx s1 → kd s1 n7 = 0 → ∀ s8, s8 = nA s1 2 N4 → ∃ a11, l0 = some a11 ∧ kd s8 a11 ∈ [1, 2, 3, 4, 5, 7, 8] ∧ CalI w mJ12_min s8 [.int ((nI (ln s8 a11)) - l1), .int (l2 - l1)] (fun s14 x15 => Ext s8 s14 → ∃ N18 N19 N20, l1 = nI N18 ∧ 0 = nI N19 ∧ x15 = nI N20 ∧ (kd s14 a11 = 2 ∧ kd s14 n7 = 2 ∧ N18 + N20 ≤ ln s14 a11 ∧ N19 + N20 ≤ ln s14 n7 ∧ ln s14 a11 < 2 ^ 31 ∧ ln s14 n7 < 2 ^ 31 ∧ ∀ i, i < N20 → fits (elT 2) (.int (AI s14 a11 (N18 + i))) = true) ∧ ∀ s25, s25 = sAIs s14 n7 (va_cpy (AI s14 a11) (AI s14 n7) N18 N19 N20) → K s25 (some n7)))) : G w mJ13_copyOfRangeByte (KR K) (rc + 1) (rs + 12) σ 0 [va_rf l0, .int l1, .int l2, U_, U_] [] := by
  refine G_iload_n 1 dJ13_copyOfRangeByte_0 rfl rfl ?_
  refine G_iload_n 2 dJ13_copyOfRangeByte_1 rfl rfl ?_
  refine G_invS (N := mJ13_checkLength) (As := [.int l1, .int l2]) (st := []) (rc + 1) (rs + 12) "" 5 dJ13_copyOfRangeByte_2 (Or.inl q1713) q1714 q50 q1715 rfl mJ13_checkLength_args ⟨Nat.le_of_ble_eq_true rfl, Nat.le_of_ble_eq_true rfl⟩ rfl (Nat.zero_le _) (le_b mJ13_checkLength_c (Nat.le_refl _)) (le_b mJ13_checkLength_s (Nat.le_refl _)) rfl (Cal.mono h ?_)
  rintro s1 v ⟨rfl, h⟩ hx2
  have h := h hx2
  have x3 := hx2.x
  show G w mJ13_copyOfRangeByte (KR K) (rc + 1) (rs + 12) s1 5 [va_rf l0, .int l1, .int l2, U_, U_] []
  refine G_iload_n 6 dJ13_copyOfRangeByte_5 rfl rfl ?_
  refine G_iload_n 7 dJ13_copyOfRangeByte_6 rfl rfl ?_
  refine G_isub 8 dJ13_copyOfRangeByte_7 rfl ?_
  refine G_istore_n 9 [va_rf l0, .int l1, .int l2, .int (l2 - l1), U_] dJ13_copyOfRangeByte_8 (Nat.le_of_ble_eq_true rfl) rfl rfl ?_
  refine G_iload_n 10 dJ13_copyOfRangeByte_9 rfl rfl ?_
  obtain ⟨N4, e5, e5l, h⟩ := h
  refine G_newB (N := N4) (rc) (rs) 12 dJ13_copyOfRangeByte_10 e5 (by omega) rfl (Nat.le_refl _) (by omega) q285 (fun z6 => ?_)
  generalize hn7 : nx s1 = n7 at z6 ⊢
  generalize hs8 : nA s1 2 N4 = s8
  have x9 : ∀ a, ¬ kd s1 a = 0 → kd s8 a = kd s1 a := by subst hs8 hn7; exact kdAx z6
  have c10 : kd s8 n7 = 2 := by subst hs8 hn7; exact kdA_self
  have h := h n7 hn7.symm z6 s8 hs8.symm
  refine G_astore 14 [va_rf l0, .int l1, .int l2, .int (l2 - l1), va_rf (some n7)] dJ13_copyOfRangeByte_12 (Nat.le_of_ble_eq_true rfl) rfl rfl ?_
  refine G_aload_n 15 dJ13_copyOfRangeByte_14 rfl rfl ?_
  refine G_iload_n 16 dJ13_copyOfRangeByte_15 rfl rfl ?_
  refine G_aload 18 dJ13_copyOfRangeByte_16 rfl rfl ?_
  refine G_iconst (v := 0) 19 dJ13_copyOfRangeByte_18 (by decide) rfl ?_
  refine G_aload_n 20 dJ13_copyOfRangeByte_19 rfl rfl ?_
  obtain ⟨a11, e12, h⟩ := h
  obtain ⟨c13, h⟩ := h
  refine G_alen (a := a11) 21 dJ13_copyOfRangeByte_20 rfl e12 c13 ?_
  refine G_iload_n 22 dJ13_copyOfRangeByte_21 rfl rfl ?_
  refine G_isub 23 dJ13_copyOfRangeByte_22 rfl ?_
  refine G_iload_n 24 dJ13_copyOfRangeByte_23 rfl rfl ?_
  refine G_invS (N := mJ12_min) (As := [.int ((nI (ln s8 a11)) - l1), .int (l2 - l1)]) (st := [.int 0, va_rf (some n7), .int l1, va_rf l0]) (rc) (rs) "" 27 dJ13_copyOfRangeByte_24 (Or.inl q570) q571 q49 q572 rfl mJ12_min_args ⟨Nat.le_of_ble_eq_true rfl, Nat.le_of_ble_eq_true rfl⟩ rfl (Nat.le_trans (w_I (w_R (w_I (w_R w_0)))) (Nat.le_of_ble_eq_true rfl)) (le_b mJ12_min_c (Nat.le_refl _)) (le_b mJ12_min_s (Nat.le_refl _)) rfl (Cal.mono h ?_)
  rintro s14 v ⟨x15, rfl, h⟩ hx16
  have h := h hx16
  have x17 := hx16.x
  show G w mJ13_copyOfRangeByte (KR K) (rc) (rs) s14 27 [va_rf l0, .int l1, .int l2, .int (l2 - l1), va_rf (some n7)] [.int x15, .int 0, va_rf (some n7), .int l1, va_rf l0]
  obtain ⟨N18, N19, N20, e21, e22, e23, g24, h⟩ := h
  refine G_copyI (kn := 2) (a := a11) (b := n7) N18 N19 N20 30 dJ13_copyOfRangeByte_27 q573 q575 q574 q51 rfl e12 rfl g24.1 g24.2.1 (Or.inr rfl) e21 e22 e23 g24.2.2.1 g24.2.2.2.1 g24.2.2.2.2.1 g24.2.2.2.2.2.1 g24.2.2.2.2.2.2 (Nat.zero_le _) (Nat.le_of_ble_eq_true rfl) (Nat.le_of_ble_eq_true rfl) ?_
  generalize hs25 : sAIs s14 n7 (va_cpy (AI s14 a11) (AI s14 n7) N18 N19 N20) = s25
  have x26 : ∀ a, ¬ kd s14 a = 0 → kd s25 a = kd s14 a := by subst hs25; exact fun a _ => congrFun kd_sAIs a
  have h := h s25 hs25.symm
  refine G_aload 32 dJ13_copyOfRangeByte_30 rfl rfl ?_
  exact G_aret dJ13_copyOfRangeByte_32 rfl (Or.inr ⟨_, rfl⟩) ⟨_, rfl, h⟩
theorem eJ13_copyOfRangeByte {w : Wt} {K : Sg → Option Nat → Prop} {σ : Sg} (l0 : Option Nat) (l1 : Int32) (l2 : Int32) (h : G w mJ13_copyOfRangeByte (KR K) 1 12 σ 0 [va_rf l0, .int l1, .int l2, U_, U_] []) : CalR w mJ13_copyOfRangeByte σ [va_rf l0, .int l1, .int l2] K :=
  Cal.start 2 mJ13_copyOfRangeByte_plain (catR (catI (catI cat0))) (Nat.le_of_ble_eq_true rfl) rfl h
set_option maxHeartbeats 4000000 in
theorem bJ13_checkLength_0 {w : Wt} {K : Sg → Prop} {rc rs : Nat} {σ : Sg} (l0 : Int32) (l1 : Int32) (h : ((l0 ≤ l1 → K σ) ∧ (¬ l0 ≤ l1 → False))) : G w mJ13_checkLength (KV K) (rc) (rs) σ 0 [.int l0, .int l1] [] := by
  refine G_iload_n 1 dJ13_checkLength_0 rfl rfl ?_
  refine G_iload_n 2 dJ13_checkLength_1 rfl rfl ?_
  refine G_icmp_ge 37 5 dJ13_checkLength_2 (by decide) rfl (fun u1 => ?_) (fun u1 => ?_)
  · have h := h.1 u1
    exact G_ret dJ13_checkLength_37 rfl ⟨rfl, h⟩
  · have h := h.2 u1
    exact h.elim
theorem eJ13_checkLength {w : Wt} {K : Sg → Prop} {σ : Sg} (l0 : Int32) (l1 : Int32) (h : G w mJ13_checkLength (KV K) 0 0 σ 0 [.int l0, .int l1] []) : CalV w mJ13_checkLength σ [.int l0, .int l1] K :=
  Cal.start 0 mJ13_checkLength_plain (catI (catI cat0)) (Nat.le_of_ble_eq_true rfl) rfl h
set_option maxHeartbeats 4000000 in
theorem bJ25_init_0 {w : Wt} {K : Sg → Prop} {rc rs : Nat} {σ : Sg} (l0 : Option Nat) (h : ∃ a1, l0 = some a1 ∧ K σ) : G w mJ25_init (KV K) (rc) (rs) σ 0 [va_rf l0] [] := by
  refine G_aload_n 1 dJ25_init_0 rfl rfl ?_
  obtain ⟨a1, e2, h⟩ := h
  refine G_objInit (b := a1) 4 dJ25_init_1 q1968 q85 q86 rfl e2 (Nat.zero_le _) (Nat.le_of_ble_eq_true rfl) (Nat.le_of_ble_eq_true rfl) ?_
  exact G_ret dJ25_init_4 rfl ⟨rfl, h⟩
theorem eJ25_init {w : Wt} {K : Sg → Prop} {σ : Sg} (l0 : Option Nat) (h : G w mJ25_init (KV K) 0 0 σ 0 [va_rf l0] []) : CalV w mJ25_init σ [va_rf l0] K :=
  Cal.start 0 mJ25_init_plain (catR cat0) (Nat.le_of_ble_eq_true rfl) rfl h
set_option maxHeartbeats 4000000 in
theorem bJ26_intValue_0 {w : Wt} {K : Sg → Int32 → Prop} {rc rs : Nat} {σ : Sg} (l0 : Option Nat) (h : ∃ a1, l0 = some a1 ∧ kd σ a1 ∈ [29, 6] ∧ K σ (FI σ 83 a1)) : G w mJ26_intValue (KI K) (rc) (rs) σ 0 [va_rf l0] [] := by
  refine G_aload_n 1 dJ26_intValue_0 rfl rfl ?_
  obtain ⟨a1, e2, h⟩ := h
  obtain ⟨c3, h⟩ := h
  refine G_getI (f := 83) (a := a1) "" 4 dJ26_intValue_1 (Or.inl q1969) (Or.inl rfl) rfl e2 (hf83 c3) rfl ?_
  exact G_iret dJ26_intValue_4 rfl ⟨_, rfl, h⟩
theorem eJ26_intValue {w : Wt} {K : Sg → Int32 → Prop} {σ : Sg} (l0 : Option Nat) (h : G w mJ26_intValue (KI K) 0 0 σ 0 [va_rf l0] []) : CalI w mJ26_intValue σ [va_rf l0] K :=
  Cal.start 0 mJ26_intValue_plain (catR cat0) (Nat.le_of_ble_eq_true rfl) rfl h
set_option maxHeartbeats 4000000 in
theorem bJ26_valueOf_0 {w : Wt} {K : Sg → Option Nat → Prop} {rc rs : Nat} {σ : Sg} (l0 : Int32) (h : ((l0 < (-128) → ∀ n3, n3 = nx σ → kd σ n3 = 0 → ∀ s4, s4 = nO σ 29 → CalV w mJ26_init s4 [va_rf (some n3), .int l0] (fun s7 => Ext s4 s7 → K s7 (some n3))) ∧ (¬ l0 < (-128) → ((127 < l0 → ∀ n12, n12 = nx σ → kd σ n12 = 0 → ∀ s13, s13 = nO σ 29 → CalV w mJ26_init s13 [va_rf (some n12), .int l0] (fun s16 => Ext s13 s16 → K s16 (some n12))) ∧ (¬ 127 < l0 → kd σ (wa w 3) ∈ [3, 4, 7, 8] ∧ vp_in (l0 + 128) (ln σ (wa w 3)) ∧ K σ (AR σ (wa w 3) (l0 + 128).toNatClampNeg)))))) : G w mJ26_valueOf (KR K) (rc + 1) (rs + 1) σ 0 [.int l0] [] := by
  refine G_iload_n 1 dJ26_valueOf_0 rfl rfl ?_
  refine G_bipush (v := (-128)) 3 dJ26_valueOf_1 (by decide) rfl ?_
  refine G_icmp_lt 23 6 dJ26_valueOf_3 (by decide) rfl (fun u1 => ?_) (fun u1 => ?_)
  · have h := h.1 u1
    refine G_new (cc := 19) (kn := 29) (q := (RJ26, TJ26, 1)) (rc) (rs) 26 dJ26_valueOf_23 rfl q1023 q1961 q64 rfl rfl (Nat.le_refl _) (Nat.le_refl _) (fun z2 => ?_)
    generalize hn3 : nx σ = n3 at z2 ⊢
    generalize hs4 : nO σ 29 = s4
    have x5 : ∀ a, ¬ kd σ a = 0 → kd s4 a = kd σ a := by subst hs4 hn3; exact kdNx z2
    have c6 : kd s4 n3 = 29 := by subst hs4 hn3; exact kdO_self
    have h := h n3 hn3.symm z2 s4 hs4.symm
    refine G_dup 27 dJ26_valueOf_26 (rf_cat _) rfl ?_
    refine G_iload_n 28 dJ26_valueOf_27 rfl rfl ?_
    refine G_invI (N := mJ26_init) (As := [.int l0]) (st := [va_rf (some n3)]) (t := (some n3)) (b := n3) (rc) (rs) "" 31 dJ26_valueOf_28 (Or.inl q1962) q1963 q64 q1964 rfl rfl rfl mJ26_init_args ⟨Nat.le_of_ble_eq_true rfl, Nat.le_of_ble_eq_true rfl⟩ rfl rfl (Nat.le_trans (w_R w_0) (Nat.le_of_ble_eq_true rfl)) (le_b mJ26_init_c (Nat.le_refl _)) (le_b mJ26_init_s (Nat.le_refl _)) rfl (Cal.mono h ?_)
    rintro s7 v ⟨rfl, h⟩ hx8
    have h := h hx8
    have x9 := hx8.x
    show G w mJ26_valueOf (KR K) (rc) (rs) s7 31 [.int l0] [va_rf (some n3)]
    exact G_aret dJ26_valueOf_31 rfl (Or.inl ⟨_, rfl⟩) ⟨_, rfl, h⟩
  · have h := h.2 u1
    refine G_iload_n 7 dJ26_valueOf_6 rfl rfl ?_
    refine G_getS (host := "") (C := "java/lang/Integer$IntegerCache") (v := .int 127) 10 dJ26_valueOf_7 (Or.inl q1957) (Or.inl rfl) rfl (List.mem_of_getElem? (i := 4) rfl) ?_
    refine G_icmp_gt 23 13 dJ26_valueOf_10 (by decide) rfl (fun u10 => ?_) (fun u10 => ?_)
    · have h := h.1 u10
      refine G_new (cc := 19) (kn := 29) (q := (RJ26, TJ26, 1)) (rc) (rs) 26 dJ26_valueOf_23 rfl q1023 q1961 q64 rfl rfl (Nat.le_refl _) (Nat.le_refl _) (fun z11 => ?_)
      generalize hn12 : nx σ = n12 at z11 ⊢
      generalize hs13 : nO σ 29 = s13
      have x14 : ∀ a, ¬ kd σ a = 0 → kd s13 a = kd σ a := by subst hs13 hn12; exact kdNx z11
      have c15 : kd s13 n12 = 29 := by subst hs13 hn12; exact kdO_self
      have h := h n12 hn12.symm z11 s13 hs13.symm
      refine G_dup 27 dJ26_valueOf_26 (rf_cat _) rfl ?_
      refine G_iload_n 28 dJ26_valueOf_27 rfl rfl ?_
      refine G_invI (N := mJ26_init) (As := [.int l0]) (st := [va_rf (some n12)]) (t := (some n12)) (b := n12) (rc) (rs) "" 31 dJ26_valueOf_28 (Or.inl q1962) q1963 q64 q1964 rfl rfl rfl mJ26_init_args ⟨Nat.le_of_ble_eq_true rfl, Nat.le_of_ble_eq_true rfl⟩ rfl rfl (Nat.le_trans (w_R w_0) (Nat.le_of_ble_eq_true rfl)) (le_b mJ26_init_c (Nat.le_refl _)) (le_b mJ26_init_s (Nat.le_refl _)) rfl (Cal.mono h ?_)
      rintro s16 v ⟨rfl, h⟩ hx17
      have h := h hx17
      have x18 := hx17.x
      show G w mJ26_valueOf (KR K) (rc) (rs) s16 31 [.int l0] [va_rf (some n12)]
      exact G_aret dJ26_valueOf_31 rfl (Or.inl ⟨_, rfl⟩) ⟨_, rfl, h⟩
    · have h := h.2 u10
      refine G_getS (host := "") (C := "java/lang/Integer$IntegerCache") (v := va_rf (some (wa w 3))) 16 dJ26_valueOf_13 (Or.inl q1959) (Or.inl rfl) rfl (List.mem_of_getElem? (i := 3) rfl) ?_
      refine G_iload_n 17 dJ26_valueOf_16 rfl rfl ?_
      refine G_sipush (v := 128) 20 dJ26_valueOf_17 (by decide) rfl ?_
      refine G_iadd 21 dJ26_valueOf_20 rfl ?_
      obtain ⟨c19, h⟩ := h
      obtain ⟨c20, h⟩ := h
      refine G_aald (a := (wa w 3)) 22 dJ26_valueOf_21 rfl rfl c19 c20 ?_
      exact G_aret dJ26_valueOf_22 rfl (Or.inl ⟨_, rfl⟩) ⟨_, rfl, h⟩
theorem eJ26_valueOf {w : Wt} {K : Sg → Option Nat → Prop} {σ : Sg} (l0 : Int32) (h : G w mJ26_valueOf (KR K) 1 1 σ 0 [.int l0] []) : CalR w mJ26_valueOf σ [.int l0] K :=
  Cal.start 0 mJ26_valueOf_plain (catI cat0) (Nat.le_of_ble_eq_true rfl) rfl h
set_option maxHeartbeats 4000000 in
theorem bJ26_init_0 {w : Wt} {K : Sg → Prop} {rc rs : Nat} {σ : Sg} (l0 : Option Nat) (l1 : Int32) (h : ∃ a1, l0 = some a1 ∧ CalV w mJ25_init σ [va_rf l0] (fun s3 => Ext σ s3 → kd s3 a1 = 29 ∧ ∀ s7, s7 = sFI s3 83 a1 l1 → K s7)) : G w mJ26_init (KV K) (rc) (rs) σ 0 [va_rf l0, .int l1] [] := by
  refine G_aload_n 1 dJ26_init_0 rfl rfl ?_
  obtain ⟨a1, e2, h⟩ := h
  refine G_invI (N := mJ25_init) (As := []) (st := []) (t := l0) (b := a1) (rc) (rs) "" 4 dJ26_init_1 (Or.inl q1965) q1966 q63 q1967 rfl rfl rfl mJ25_init_args ⟨Nat.le_of_ble_eq_true rfl, Nat.le_of_ble_eq_true rfl⟩ e2 rfl (Nat.zero_le _) (le_b mJ25_init_c (Nat.le_refl _)) (le_b mJ25_init_s (Nat.le_refl _)) rfl (Cal.mono h ?_)
  rintro s3 v ⟨rfl, h⟩ hx4
  have h := h hx4
  have x5 := hx4.x
  show G w mJ26_init (KV K) (rc) (rs) s3 4 [va_rf l0, .int l1] []
  refine G_aload_n 5 dJ26_init_4 rfl rfl ?_
  refine G_iload_n 6 dJ26_init_5 rfl rfl ?_
  obtain ⟨c6, h⟩ := h
  refine G_putI (f := 83) (a := a1) "" 9 dJ26_init_6 (Or.inl q1969) (Or.inl rfl) rfl e2 (hp83 c6) (nk83 c6) (Or.inr ⟨rfl, rfl, rfl⟩) rfl rfl rfl ?_
  generalize hs7 : sFI s3 83 a1 l1 = s7
  have x8 : ∀ a, ¬ kd s3 a = 0 → kd s7 a = kd s3 a := by subst hs7; exact fun a _ => congrFun kd_sFI a
  have h := h s7 hs7.symm
  exact G_ret dJ26_init_9 rfl ⟨rfl, h⟩
theorem eJ26_init {w : Wt} {K : Sg → Prop} {σ : Sg} (l0 : Option Nat) (l1 : Int32) (h : G w mJ26_init (KV K) 0 0 σ 0 [va_rf l0, .int l1] []) : CalV w mJ26_init σ [va_rf l0, .int l1] K :=
  Cal.start 0 mJ26_init_plain (catR (catI cat0)) (Nat.le_of_ble_eq_true rfl) rfl h
set_option maxHeartbeats 4000000 in
theorem bJ27_canEncode_0 {w : Wt} {K : Sg → Int32 → Prop} {rc rs : Nat} {σ : Sg} (l0 : Int32) (h : ((255 < l0 → K σ 0) ∧ (¬ 255 < l0 → K σ 1))) : G w mJ27_canEncode (KI K) (rc) (rs) σ 0 [.int l0] [] := by
  refine G_iload_n 1 dJ27_canEncode_0 rfl rfl ?_
  refine G_sipush (v := 255) 4 dJ27_canEncode_1 (by decide) rfl ?_
  refine G_icmp_gt 11 7 dJ27_canEncode_4 (by decide) rfl (fun u1 => ?_) (fun u1 => ?_)
  · have h := h.1 u1
    refine G_iconst (v := 0) 12 dJ27_canEncode_11 (by decide) rfl ?_
    exact G_zret dJ27_canEncode_12 rfl rfl ⟨_, rfl, h⟩
  · have h := h.2 u1
    refine G_iconst (v := 1) 8 dJ27_canEncode_7 (by decide) rfl ?_
    refine G_goto 12 dJ27_canEncode_8 (by decide) ?_
    exact G_zret dJ27_canEncode_12 rfl rfl ⟨_, rfl, h⟩
theorem eJ27_canEncode {w : Wt} {K : Sg → Int32 → Prop} {σ : Sg} (l0 : Int32) (h : G w mJ27_canEncode (KI K) 0 0 σ 0 [.int l0] []) : CalI w mJ27_canEncode σ [.int l0] K :=
  Cal.start 0 mJ27_canEncode_plain (catI cat0) (Nat.le_of_ble_eq_true rfl) rfl h
set_option maxHeartbeats 4000000 in
theorem bJ27_charAt_0 {w : Wt} {K : Sg → Int32 → Prop} {rc rs : Nat} {σ : Sg} (l0 : Option Nat) (l1 : Int32) (h : ∃ a1, l0 = some a1 ∧ kd σ a1 ∈ [1, 2, 3, 4, 5, 7, 8] ∧ CalV w mJ8_checkIndex σ [.int l1, .int (nI (ln σ a1))] (fun s4 => Ext σ s4 → kd s4 a1 = 2 ∧ vp_in l1 (ln s4 a1) ∧ (narrow .char (.int ((((AI s4 a1 l1.toNatClampNeg) &&& 255).toUInt32 % 65536).toInt32)) = .int ((((AI s4 a1 l1.toNatClampNeg) &&& 255).toUInt32 % 65536).toInt32) ∧ K s4 ((((AI s4 a1 l1.toNatClampNeg) &&& 255).toUInt32 % 65536).toInt32)))) : G w mJ27_charAt (KI K) (rc) (rs) σ 0 [va_rf l0, .int l1] [] := by
  refine G_iload_n 1 dJ27_charAt_0 rfl rfl ?_
  refine G_aload_n 2 dJ27_charAt_1 rfl rfl ?_
  obtain ⟨a1, e2, h⟩ := h
  obtain ⟨c3, h⟩ := h
  refine G_alen (a := a1) 3 dJ27_charAt_2 rfl e2 c3 ?_
  refine G_invS (N := mJ8_checkIndex) (As := [.int l1, .int (nI (ln σ a1))]) (st := []) (rc) (rs) "" 6 dJ27_charAt_3 (Or.inl q1883) q1603 q42 q1604 rfl mJ8_checkIndex_args ⟨Nat.le_of_ble_eq_true rfl, Nat.le_of_ble_eq_true rfl⟩ rfl (Nat.zero_le _) (le_b mJ8_checkIndex_c (Nat.le_refl _)) (le_b mJ8_checkIndex_s (Nat.le_refl _)) rfl (Cal.mono h ?_)
  rintro s4 v ⟨rfl, h⟩ hx5
  have h := h hx5
  have x6 := hx5.x
  show G w mJ27_charAt (KI K) (rc) (rs) s4 6 [va_rf l0, .int l1] []
  refine G_aload_n 7 dJ27_charAt_6 rfl rfl ?_
  refine G_iload_n 8 dJ27_charAt_7 rfl rfl ?_
  obtain ⟨c7, h⟩ := h
  obtain ⟨c8, h⟩ := h
  refine G_bald (a := a1) 9 dJ27_charAt_8 rfl e2 c7 c8 ?_
  refine G_sipush (v := 255) 12 dJ27_charAt_9 (by decide) rfl ?_
  refine G_iand 13 dJ27_charAt_12 rfl ?_
  refine G_i2c 14 dJ27_charAt_13 rfl ?_
  exact G_zret dJ27_charAt_14 rfl h.1 ⟨_, rfl, h.2⟩
theorem eJ27_charAt {w : Wt} {K : Sg → Int32 → Prop} {σ : Sg} (l0 : Option Nat) (l1 : Int32) (h : G w mJ27_charAt (KI K) 0 0 σ 0 [va_rf l0, .int l1] []) : CalI w mJ27_charAt σ [va_rf l0, .int l1] K :=
  Cal.start 0 mJ27_charAt_plain (catR (catI cat0)) (Nat.le_of_ble_eq_true rfl) rfl h
set_option maxHeartbeats 4000000 in
theorem bJ32_checkIndex_0 {w : Wt} {K : Sg → Int32 → Prop} {rc rs : Nat} {σ : Sg} (l0 : Int32) (l1 : Int32) (l2 : Option Nat) (h : ((l0 < 0 → False) ∧ (¬ l0 < 0 → ((l0 < l1 → K σ l0) ∧ (¬ l0 < l1 → False))))) : G w mJ32_checkIndex (KI K) (rc) (rs) σ 0 [.int l0, .int l1, va_rf l2] [] := by
  refine G_iload_n 1 dJ32_checkIndex_0 rfl rfl ?_
  refine G_if_lt 9 4 dJ32_checkIndex_1 (by decide) rfl (fun u1 => ?_) (fun u1 => ?_)
  · have h := h.1 u1
    refine G_aload_n 10 dJ32_checkIndex_9 rfl rfl ?_
    refine G_iload_n 11 dJ32_checkIndex_10 rfl rfl ?_
    refine G_iload_n 12 dJ32_checkIndex_11 rfl rfl ?_
    exact h.elim
  · have h := h.2 u1
    refine G_iload_n 5 dJ32_checkIndex_4 rfl rfl ?_
    refine G_iload_n 6 dJ32_checkIndex_5 rfl rfl ?_
    refine G_icmp_lt 16 9 dJ32_checkIndex_6 (by decide) rfl (fun u2 => ?_) (fun u2 => ?_)
    · have h := h.1 u2
      refine G_iload_n 17 dJ32_checkIndex_16 rfl rfl ?_
      exact G_iret dJ32_checkIndex_17 rfl ⟨_, rfl, h⟩
    · have h := h.2 u2
      refine G_aload_n 10 dJ32_checkIndex_9 rfl rfl ?_
      refine G_iload_n 11 dJ32_checkIndex_10 rfl rfl ?_
      refine G_iload_n 12 dJ32_checkIndex_11 rfl rfl ?_
      exact h.elim
theorem eJ32_checkIndex {w : Wt} {K : Sg → Int32 → Prop} {σ : Sg} (l0 : Int32) (l1 : Int32) (l2 : Option Nat) (h : G w mJ32_checkIndex (KI K) 0 0 σ 0 [.int l0, .int l1, va_rf l2] []) : CalI w mJ32_checkIndex σ [.int l0, .int l1, va_rf l2] K :=
  Cal.start 0 mJ32_checkIndex_plain (catI (catI (catR cat0))) (Nat.le_of_ble_eq_true rfl) rfl h
set_option maxHeartbeats 4000000 in
theorem bJ34_checkIndex_0 {w : Wt} {K : Sg → Int32 → Prop} {rc rs : Nat} {σ : Sg} (l0 : Int32) (l1 : Int32) (h : CalI w mJ32_checkIndex σ [.int l0, .int l1, va_rf none] (fun s1 x2 => Ext σ s1 → K s1 x2)) : G w mJ34_checkIndex (KI K) (rc) (rs) σ 0 [.int l0, .int l1] [] := by
  refine G_iload_n 1 dJ34_checkIndex_0 rfl rfl ?_
  refine G_iload_n 2 dJ34_checkIndex_1 rfl rfl ?_
  refine G_null 3 dJ34_checkIndex_2 rfl ?_
  refine G_invS (N := mJ32_checkIndex) (As := [.int l0, .int l1, va_rf none]) (st := []) (rc) (rs) "" 6 dJ34_checkIndex_3 (Or.inl q1401) q1402 q71 q1403 rfl mJ32_checkIndex_args ⟨Nat.le_of_ble_eq_true rfl, Nat.le_of_ble_eq_true rfl⟩ rfl (Nat.zero_le _) (le_b mJ32_checkIndex_c (Nat.le_refl _)) (le_b mJ32_checkIndex_s (Nat.le_refl _)) rfl (Cal.mono h ?_)
  rintro s1 v ⟨x2, rfl, h⟩ hx3
  have h := h hx3
  have x4 := hx3.x
  show G w mJ34_checkIndex (KI K) (rc) (rs) s1 6 [.int l0, .int l1] [.int x2]
  exact G_iret dJ34_checkIndex_6 rfl ⟨_, rfl, h⟩
theorem eJ34_checkIndex {w : Wt} {K : Sg → Int32 → Prop} {σ : Sg} (l0 : Int32) (l1 : Int32) (h : G w mJ34_checkIndex (KI K) 0 0 σ 0 [.int l0, .int l1] []) : CalI w mJ34_checkIndex σ [.int l0, .int l1] K :=
  Cal.start 0 mJ34_checkIndex_plain (catI (catI cat0)) (Nat.le_of_ble_eq_true rfl) rfl h
set_option maxHeartbeats 4000000 in
theorem bJ36_equals_0 {w : Wt} {K : Sg → Int32 → Prop} {rc rs : Nat} {σ : Sg} (l0 : Option Nat) (l1 : Option Nat) (h : ((¬ l0 = l1 → K σ 0) ∧ (l0 = l1 → K σ 1))) : G w mJ36_equals (KI K) (rc) (rs) σ 0 [va_rf l0, va_rf l1] [] := by
  refine G_aload_n 1 dJ36_equals_0 rfl rfl ?_
  refine G_aload_n 2 dJ36_equals_1 rfl rfl ?_
  refine G_acmp_ne 9 5 dJ36_equals_2 (by decide) rfl (fun u1 => ?_) (fun u1 => ?_)
  · have h := h.1 u1
    refine G_iconst (v := 0) 10 dJ36_equals_9 (by decide) rfl ?_
    exact G_zret dJ36_equals_10 rfl rfl ⟨_, rfl, h⟩
  · have h := h.2 u1
    refine G_iconst (v := 1) 6 dJ36_equals_5 (by decide) rfl ?_
    refine G_goto 10 dJ36_equals_6 (by decide) ?_
    exact G_zret dJ36_equals_10 rfl rfl ⟨_, rfl, h⟩
theorem eJ36_equals {w : Wt} {K : Sg → Int32 → Prop} {σ : Sg} (l0 : Option Nat) (l1 : Option Nat) (h : G w mJ36_equals (KI K) 0 0 σ 0 [va_rf l0, va_rf l1] []) : CalI w mJ36_equals σ [va_rf l0, va_rf l1] K :=
  Cal.start 0 mJ36_equals_plain (catR (catR cat0)) (Nat.le_of_ble_eq_true rfl) rfl h
