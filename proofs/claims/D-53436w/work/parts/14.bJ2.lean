/-! printed by tools/drive.py -/
set_option maxRecDepth 100000
set_option maxHeartbeats 4000000 in
theorem bJ3_init_0 {w : Wt} {K : Sg → Prop} {rc rs : Nat} {σ : Sg} (l0 : Option Nat) (h : ∃ a1, l0 = some a1 ∧ K σ) : G w mJ3_init (KV K) (rc) (rs) σ 0 [va_rf l0] [] := by
  refine G_aload_n 1 dJ3_init_0 rfl rfl ?_
  obtain ⟨a1, e2, h⟩ := h
  refine G_objInit (b := a1) 4 dJ3_init_1 q133 q85 q86 rfl e2 (Nat.zero_le _) (Nat.le_of_ble_eq_true rfl) (Nat.le_of_ble_eq_true rfl) ?_
  exact G_ret dJ3_init_4 rfl ⟨rfl, h⟩
theorem eJ3_init {w : Wt} {K : Sg → Prop} {σ : Sg} (l0 : Option Nat) (h : G w mJ3_init (KV K) 0 0 σ 0 [va_rf l0] []) : CalV w mJ3_init σ [va_rf l0] K :=
  Cal.start 0 mJ3_init_plain (catR cat0) (Nat.le_of_ble_eq_true rfl) rfl h
set_option maxHeartbeats 4000000 in
theorem bJ4_init_0 {w : Wt} {K : Sg → Prop} {rc rs : Nat} {σ : Sg} (l0 : Option Nat) (h : ∃ a1, l0 = some a1 ∧ CalV w mJ3_init σ [va_rf l0] (fun s3 => Ext σ s3 → kd s3 a1 ∈ [21, 22] ∧ ∀ s7, s7 = sFI s3 61 a1 (1061158912 : UInt32).toInt32 → K s7)) : G w mJ4_init (KV K) (rc) (rs) σ 0 [va_rf l0] [] := by
  refine G_aload_n 1 dJ4_init_0 rfl rfl ?_
  obtain ⟨a1, e2, h⟩ := h
  refine G_invI (N := mJ3_init) (As := []) (st := []) (t := l0) (b := a1) (rc) (rs) "" 4 dJ4_init_1 (Or.inl q130) q131 q36 q132 rfl rfl rfl mJ3_init_args ⟨Nat.le_of_ble_eq_true rfl, Nat.le_of_ble_eq_true rfl⟩ e2 rfl (Nat.zero_le _) (le_b mJ3_init_c (Nat.le_refl _)) (le_b mJ3_init_s (Nat.le_refl _)) rfl (Cal.mono h ?_)
  rintro s3 v ⟨rfl, h⟩ hx4
  have h := h hx4
  have x5 := hx4.x
  show G w mJ4_init (KV K) (rc) (rs) s3 4 [va_rf l0] []
  refine G_aload_n 5 dJ4_init_4 rfl rfl ?_
  refine G_ldcf (v := 1061158912) 7 dJ4_init_5 q134 rfl ?_
  obtain ⟨c6, h⟩ := h
  refine G_putF (f := 61) (a := a1) "" 10 dJ4_init_7 (Or.inl q154) (Or.inl rfl) rfl e2 (hp61 c6) (nk61 c6) (Or.inr ⟨rfl, rfl, rfl⟩) rfl rfl rfl ?_
  generalize hs7 : sFI s3 61 a1 (1061158912 : UInt32).toInt32 = s7
  have x8 : ∀ a, ¬ kd s3 a = 0 → kd s7 a = kd s3 a := by subst hs7; exact fun a _ => congrFun kd_sFI a
  have h := h s7 hs7.symm
  exact G_ret dJ4_init_10 rfl ⟨rfl, h⟩
theorem eJ4_init {w : Wt} {K : Sg → Prop} {σ : Sg} (l0 : Option Nat) (h : G w mJ4_init (KV K) 0 0 σ 0 [va_rf l0] []) : CalV w mJ4_init σ [va_rf l0] K :=
  Cal.start 0 mJ4_init_plain (catR cat0) (Nat.le_of_ble_eq_true rfl) rfl h
set_option maxHeartbeats 4000000 in
theorem bJ4_put_0 {w : Wt} {K : Sg → Option Nat → Prop} {rc rs : Nat} {σ : Sg} (l0 : Option Nat) (l1 : Option Nat) (l2 : Option Nat) (h : CalI w mJ4_hash σ [va_rf l1] (fun s1 x2 => Ext σ s1 → ∃ a5, l0 = some a5 ∧ kd s1 a5 ∈ [21, 22] ∧ CalR w mJ4_putVal s1 [va_rf l0, .int x2, va_rf l1, va_rf l2, .int 0, .int 1] (fun s7 x8 => Ext s1 s7 → K s7 x8))) : G w mJ4_put (KR K) (rc + 25) (rs + 450) σ 0 [va_rf l0, va_rf l1, va_rf l2] [] := by
  refine G_aload_n 1 dJ4_put_0 rfl rfl ?_
  refine G_aload_n 2 dJ4_put_1 rfl rfl ?_
  refine G_invS (N := mJ4_hash) (As := [va_rf l1]) (st := [va_rf l0]) (rc + 25) (rs + 450) "" 5 dJ4_put_2 (Or.inl q810) q811 q37 q812 rfl mJ4_hash_args ⟨Nat.le_of_ble_eq_true rfl, Nat.le_of_ble_eq_true rfl⟩ rfl (Nat.le_trans (w_R w_0) (Nat.le_of_ble_eq_true rfl)) (le_b mJ4_hash_c (Nat.le_refl _)) (le_b mJ4_hash_s (Nat.le_refl _)) rfl (Cal.mono h ?_)
  rintro s1 v ⟨x2, rfl, h⟩ hx3
  have h := h hx3
  have x4 := hx3.x
  show G w mJ4_put (KR K) (rc + 25) (rs + 450) s1 5 [va_rf l0, va_rf l1, va_rf l2] [.int x2, va_rf l0]
  refine G_aload_n 6 dJ4_put_5 rfl rfl ?_
  refine G_aload_n 7 dJ4_put_6 rfl rfl ?_
  refine G_iconst (v := 0) 8 dJ4_put_7 (by decide) rfl ?_
  refine G_iconst (v := 1) 9 dJ4_put_8 (by decide) rfl ?_
  obtain ⟨a5, e6, h⟩ := h
  obtain ⟨c9, h⟩ := h
  have fin : Cal w mJ4_putVal s1 [va_rf l0, .int x2, va_rf l1, va_rf l2, .int 0, .int 1] (fun σ1 v => Ext s1 σ1 → G w mJ4_put (KR K) (rc) (rs) σ1 12 [va_rf l0, va_rf l1, va_rf l2] (v.toList ++ [])) := by
    refine Cal.mono h ?_
    rintro s7 v ⟨x8, rfl, h⟩ hx10
    have h := h hx10
    have x11 := hx10.x
    show G w mJ4_put (KR K) (rc) (rs) s7 12 [va_rf l0, va_rf l1, va_rf l2] [va_rf x8]
    exact G_aret dJ4_put_12 rfl (Or.inl ⟨_, rfl⟩) ⟨_, rfl, h⟩
  have k12 : kd s1 a5 ∈ [21, 22] := c9
  simp only [List.mem_cons, List.not_mem_nil, or_false] at k12
  rcases k12 with k12 | k12
  · exact G_invU (N := mJ4_putVal) (owner := "java/util/HashMap") (x := ⟨"java/util/HashMap", "putVal", "(ILjava/lang/Object;Ljava/lang/Object;ZZ)Ljava/lang/Object;"⟩) (As := [.int x2, va_rf l1, va_rf l2, .int 0, .int 1]) (st := []) (t := l0) (b := a5) (rc) (rs) 12 dJ4_put_9 q903 q906 q907 q904 q37 q908 (Or.inl rfl) rfl ax1 ⟨Nat.le_of_ble_eq_true rfl, Nat.le_of_ble_eq_true rfl⟩ rfl (Nat.zero_le _) e6 (rk21 k12) (le_b mJ4_putVal_c (Nat.le_refl _)) (le_b mJ4_putVal_s (Nat.le_refl _)) rfl fin
  · exact G_invV (N := mJ4_putVal) (As := [.int x2, va_rf l1, va_rf l2, .int 0, .int 1]) (st := []) (t := l0) (b := a5) (rc) (rs) 12 dJ4_put_9 q903 q904 q905 q37 q908 rfl rfl mJ4_putVal_args ⟨Nat.le_of_ble_eq_true rfl, Nat.le_of_ble_eq_true rfl⟩ rfl (Nat.zero_le _) e6 (rk22 k12) (le_b mJ4_putVal_c (Nat.le_refl _)) (le_b mJ4_putVal_s (Nat.le_refl _)) rfl fin
theorem eJ4_put {w : Wt} {K : Sg → Option Nat → Prop} {σ : Sg} (l0 : Option Nat) (l1 : Option Nat) (l2 : Option Nat) (h : G w mJ4_put (KR K) 25 450 σ 0 [va_rf l0, va_rf l1, va_rf l2] []) : CalR w mJ4_put σ [va_rf l0, va_rf l1, va_rf l2] K :=
  Cal.start 0 mJ4_put_plain (catR (catR (catR cat0))) (Nat.le_of_ble_eq_true rfl) rfl h
set_option maxHeartbeats 4000000 in
theorem bJ4_hash_0 {w : Wt} {K : Sg → Int32 → Prop} {rc rs : Nat} {σ : Sg} (l0 : Option Nat) (h : ((¬ l0 = none → ∃ a2, l0 = some a2 ∧ kd σ a2 = 16 ∧ CalI w mX6_hashCode σ [va_rf l0] (fun s4 x5 => Ext σ s4 → K s4 (x5 ^^^ ((x5.toUInt32 >>> ((16 : Int32).toUInt32 &&& Int32.toUInt32 31)).toInt32)))) ∧ (l0 = none → K σ 0))) : G w mJ4_hash (KI K) (rc) (rs) σ 0 [va_rf l0, U_] [] := by
  refine G_aload_n 1 dJ4_hash_0 rfl rfl ?_
  refine G_ifnonnull 8 4 dJ4_hash_1 (by decide) rfl (fun u1 => ?_) (fun u1 => ?_)
  · have h := h.1 u1
    refine G_aload_n 9 dJ4_hash_8 rfl rfl ?_
    obtain ⟨a2, e3, h⟩ := h
    obtain ⟨c6, h⟩ := h
    refine G_invU (N := mX6_hashCode) (owner := "java/lang/Object") (x := ⟨"java/lang/Object", "hashCode", "()I"⟩) (As := []) (st := []) (t := l0) (b := a2) (rc) (rs) 12 dJ4_hash_9 q814 q816 q820 q821 q74 q822 (Or.inr (Or.inr q813)) rfl ax2 ⟨Nat.le_of_ble_eq_true rfl, Nat.le_of_ble_eq_true rfl⟩ rfl (Nat.zero_le _) e3 (rk16 c6) (le_b mX6_hashCode_c (Nat.le_refl _)) (le_b mX6_hashCode_s (Nat.le_refl _)) rfl (Cal.mono h ?_)
    rintro s4 v ⟨x5, rfl, h⟩ hx7
    have h := h hx7
    have x8 := hx7.x
    show G w mJ4_hash (KI K) (rc) (rs) s4 12 [va_rf l0, U_] [.int x5]
    refine G_dup 13 dJ4_hash_12 (rfl) rfl ?_
    refine G_istore_n 14 [va_rf l0, .int x5] dJ4_hash_13 (Nat.le_of_ble_eq_true rfl) rfl rfl ?_
    refine G_iload_n 15 dJ4_hash_14 rfl rfl ?_
    refine G_bipush (v := 16) 17 dJ4_hash_15 (by decide) rfl ?_
    refine G_iushr 18 dJ4_hash_17 rfl ?_
    refine G_ixor 19 dJ4_hash_18 rfl ?_
    exact G_iret dJ4_hash_19 rfl ⟨_, rfl, h⟩
  · have h := h.2 u1
    refine G_iconst (v := 0) 5 dJ4_hash_4 (by decide) rfl ?_
    refine G_goto 19 dJ4_hash_5 (by decide) ?_
    exact G_iret dJ4_hash_19 rfl ⟨_, rfl, h⟩
theorem eJ4_hash {w : Wt} {K : Sg → Int32 → Prop} {σ : Sg} (l0 : Option Nat) (h : G w mJ4_hash (KI K) 0 0 σ 0 [va_rf l0, U_] []) : CalI w mJ4_hash σ [va_rf l0] K :=
  Cal.start 1 mJ4_hash_plain (catR cat0) (Nat.le_of_ble_eq_true rfl) rfl h
set_option maxHeartbeats 4000000 in
theorem bJ4_putVal_0 {w : Wt} {K : Sg → Option Nat → Prop} {rc rs : Nat} {σ : Sg} (l0 : Option Nat) (l1 : Int32) (l2 : Option Nat) (l3 : Option Nat) (l4 : Int32) (l5 : Int32) (h : ∃ a1, l0 = some a1 ∧ kd σ a1 ∈ [21, 22] ∧ ((FR σ 56 a1 = none → G w mJ4_putVal (KR K) (rc) (rs) σ 19 [va_rf l0, .int l1, va_rf l2, va_rf l3, .int l4, .int l5, va_rf (FR σ 56 a1), U_, U_, U_, U_, U_, U_] []) ∧ (¬ FR σ 56 a1 = none → ∃ a5, FR σ 56 a1 = some a5 ∧ kd σ a5 ∈ [1, 2, 3, 4, 5, 7, 8] ∧ ((¬ nI (ln σ a5) = 0 → G w mJ4_putVal (KR K) (rc) (rs) σ 29 [va_rf l0, .int l1, va_rf l2, va_rf l3, .int l4, .int l5, va_rf (FR σ 56 a1), U_, .int (nI (ln σ a5)), U_, U_, U_, U_] []) ∧ (nI (ln σ a5) = 0 → G w mJ4_putVal (KR K) (rc) (rs) σ 19 [va_rf l0, .int l1, va_rf l2, va_rf l3, .int l4, .int l5, va_rf (FR σ 56 a1), U_, .int (nI (ln σ a5)), U_, U_, U_, U_] []))))) : G w mJ4_putVal (KR K) (rc) (rs) σ 0 [va_rf l0, .int l1, va_rf l2, va_rf l3, .int l4, .int l5, U_, U_, U_, U_, U_, U_, U_] [] := by
  refine G_aload_n 1 dJ4_putVal_0 rfl rfl ?_
  obtain ⟨a1, e2, h⟩ := h
  obtain ⟨c3, h⟩ := h
  refine G_getR (f := 56) (a := a1) "" 4 dJ4_putVal_1 (Or.inl q142) (Or.inl rfl) rfl e2 (hf56 c3) rfl ?_
  refine G_dup 5 dJ4_putVal_4 (rf_cat _) rfl ?_
  refine G_astore 7 [va_rf l0, .int l1, va_rf l2, va_rf l3, .int l4, .int l5, va_rf (FR σ 56 a1), U_, U_, U_, U_, U_, U_] dJ4_putVal_5 (Nat.le_of_ble_eq_true rfl) rfl rfl ?_
  refine G_ifnull 19 10 dJ4_putVal_7 (by decide) rfl (fun u4 => ?_) (fun u4 => ?_)
  · have h := h.1 u4
    exact h
  · have h := h.2 u4
    refine G_aload 12 dJ4_putVal_10 rfl rfl ?_
    obtain ⟨a5, e6, h⟩ := h
    obtain ⟨c7, h⟩ := h
    refine G_alen (a := a5) 13 dJ4_putVal_12 rfl e6 c7 ?_
    refine G_dup 14 dJ4_putVal_13 (rfl) rfl ?_
    refine G_istore 16 [va_rf l0, .int l1, va_rf l2, va_rf l3, .int l4, .int l5, va_rf (FR σ 56 a1), U_, .int (nI (ln σ a5)), U_, U_, U_, U_] dJ4_putVal_14 (Nat.le_of_ble_eq_true rfl) rfl rfl ?_
    refine G_if_ne 29 19 dJ4_putVal_16 (by decide) rfl (fun u8 => ?_) (fun u8 => ?_)
    · have h := h.1 u8
      exact h
    · have h := h.2 u8
      exact h
set_option maxHeartbeats 4000000 in
theorem bJ4_putVal_19 {w : Wt} {K : Sg → Option Nat → Prop} {rc rs : Nat} {σ : Sg} (l0 : Option Nat) (l1 : Int32) (l2 : Option Nat) (l3 : Option Nat) (l4 : Int32) (l5 : Int32) (l6 : Option Nat) (v7 : Value) (v8 : Value) (v9 : Value) (v10 : Value) (v11 : Value) (v12 : Value) (h : ∃ a1, l0 = some a1 ∧ kd σ a1 ∈ [21, 22] ∧ CalR w mJ4_resize σ [va_rf l0] (fun s3 x4 => Ext σ s3 → ∃ a8, x4 = some a8 ∧ kd s3 a8 ∈ [1, 2, 3, 4, 5, 7, 8] ∧ G w mJ4_putVal (KR K) (rc) (rs) s3 29 [va_rf l0, .int l1, va_rf l2, va_rf l3, .int l4, .int l5, va_rf x4, v7, .int (nI (ln s3 a8)), v9, v10, v11, v12] [])) : G w mJ4_putVal (KR K) (rc + 1) (rs + 64) σ 19 [va_rf l0, .int l1, va_rf l2, va_rf l3, .int l4, .int l5, va_rf l6, v7, v8, v9, v10, v11, v12] [] := by
  refine G_aload_n 20 dJ4_putVal_19 rfl rfl ?_
  obtain ⟨a1, e2, h⟩ := h
  obtain ⟨c5, h⟩ := h
  have fin : Cal w mJ4_resize σ [va_rf l0] (fun σ1 v => Ext σ σ1 → G w mJ4_putVal (KR K) (rc) (rs) σ1 23 [va_rf l0, .int l1, va_rf l2, va_rf l3, .int l4, .int l5, va_rf l6, v7, v8, v9, v10, v11, v12] (v.toList ++ [])) := by
    refine Cal.mono h ?_
    rintro s3 v ⟨x4, rfl, h⟩ hx6
    have h := h hx6
    have x7 := hx6.x
    show G w mJ4_putVal (KR K) (rc) (rs) s3 23 [va_rf l0, .int l1, va_rf l2, va_rf l3, .int l4, .int l5, va_rf l6, v7, v8, v9, v10, v11, v12] [va_rf x4]
    refine G_dup 24 dJ4_putVal_23 (rf_cat _) rfl ?_
    refine G_astore 26 [va_rf l0, .int l1, va_rf l2, va_rf l3, .int l4, .int l5, va_rf x4, v7, v8, v9, v10, v11, v12] dJ4_putVal_24 (Nat.le_of_ble_eq_true rfl) rfl rfl ?_
    obtain ⟨a8, e9, h⟩ := h
    obtain ⟨c10, h⟩ := h
    refine G_alen (a := a8) 27 dJ4_putVal_26 rfl e9 c10 ?_
    refine G_istore 29 [va_rf l0, .int l1, va_rf l2, va_rf l3, .int l4, .int l5, va_rf x4, v7, .int (nI (ln s3 a8)), v9, v10, v11, v12] dJ4_putVal_27 (Nat.le_of_ble_eq_true rfl) rfl rfl ?_
    exact h
  have k11 : kd σ a1 ∈ [21, 22] := c5
  simp only [List.mem_cons, List.not_mem_nil, or_false] at k11
  rcases k11 with k11 | k11
  · exact G_invU (N := mJ4_resize) (owner := "java/util/HashMap") (x := ⟨"java/util/HashMap", "resize", "()[Ljava/util/HashMap$Node;"⟩) (As := []) (st := []) (t := l0) (b := a1) (rc) (rs) 23 dJ4_putVal_20 q909 q912 q913 q910 q37 q914 (Or.inl rfl) rfl ax4 ⟨Nat.le_of_ble_eq_true rfl, Nat.le_of_ble_eq_true rfl⟩ rfl (Nat.zero_le _) e2 (rk21 k11) (le_b mJ4_resize_c (Nat.le_refl _)) (le_b mJ4_resize_s (Nat.le_refl _)) rfl fin
  · exact G_invV (N := mJ4_resize) (As := []) (st := []) (t := l0) (b := a1) (rc) (rs) 23 dJ4_putVal_20 q909 q910 q911 q37 q914 rfl rfl mJ4_resize_args ⟨Nat.le_of_ble_eq_true rfl, Nat.le_of_ble_eq_true rfl⟩ rfl (Nat.zero_le _) e2 (rk22 k11) (le_b mJ4_resize_c (Nat.le_refl _)) (le_b mJ4_resize_s (Nat.le_refl _)) rfl fin
set_option maxHeartbeats 4000000 in
theorem bJ4_putVal_29 {w : Wt} {K : Sg → Option Nat → Prop} {rc rs : Nat} {σ : Sg} (l0 : Option Nat) (l1 : Int32) (l2 : Option Nat) (l3 : Option Nat) (l4 : Int32) (l5 : Int32) (l6 : Option Nat) (v7 : Value) (l8 : Int32) (v9 : Value) (v10 : Value) (v11 : Value) (v12 : Value) (h : ∃ a1, l6 = some a1 ∧ kd σ a1 ∈ [3, 4, 7, 8] ∧ vp_in ((l8 - 1) &&& l1) (ln σ a1) ∧ ((¬ AR σ a1 ((l8 - 1) &&& l1).toNatClampNeg = none → ∃ a6, AR σ a1 ((l8 - 1) &&& l1).toNatClampNeg = some a6 ∧ kd σ a6 ∈ [30, 31, 32] ∧ ((¬ FI σ 84 a6 = l1 → G w mJ4_putVal (KR K) (rc + 1) (rs + 6) σ 104 [va_rf l0, .int l1, va_rf l2, va_rf l3, .int l4, .int l5, va_rf l6, va_rf (AR σ a1 ((l8 - 1) &&& l1).toNatClampNeg), .int l8, .int ((l8 - 1) &&& l1), v10, v11, v12] []) ∧ (FI σ 84 a6 = l1 → ((FR σ 85 a6 = l2 → G w mJ4_putVal (KR K) (rc + 1) (rs + 6) σ 97 [va_rf l0, .int l1, va_rf l2, va_rf l3, .int l4, .int l5, va_rf l6, va_rf (AR σ a1 ((l8 - 1) &&& l1).toNatClampNeg), .int l8, .int ((l8 - 1) &&& l1), v10, va_rf (FR σ 85 a6), v12] []) ∧ (¬ FR σ 85 a6 = l2 → ((l2 = none → G w mJ4_putVal (KR K) (rc + 1) (rs + 6) σ 104 [va_rf l0, .int l1, va_rf l2, va_rf l3, .int l4, .int l5, va_rf l6, va_rf (AR σ a1 ((l8 - 1) &&& l1).toNatClampNeg), .int l8, .int ((l8 - 1) &&& l1), v10, va_rf (FR σ 85 a6), v12] []) ∧ (¬ l2 = none → ∃ a12, l2 = some a12 ∧ ((kd σ a12 = 16 ∧ CalI w mX6_equals σ [va_rf l2, va_rf (FR σ 85 a6)] (fun s14 x15 => Ext σ s14 → ((x15 = 0 → G w mJ4_putVal (KR K) (rc + 1) (rs + 6) s14 104 [va_rf l0, .int l1, va_rf l2, va_rf l3, .int l4, .int l5, va_rf l6, va_rf (AR σ a1 ((l8 - 1) &&& l1).toNatClampNeg), .int l8, .int ((l8 - 1) &&& l1), v10, va_rf (FR σ 85 a6), v12] []) ∧ (¬ x15 = 0 → G w mJ4_putVal (KR K) (rc + 1) (rs + 6) s14 97 [va_rf l0, .int l1, va_rf l2, va_rf l3, .int l4, .int l5, va_rf l6, va_rf (AR σ a1 ((l8 - 1) &&& l1).toNatClampNeg), .int l8, .int ((l8 - 1) &&& l1), v10, va_rf (FR σ 85 a6), v12] [])))) ∨ (kd σ a12 = 17 ∧ CalI w mJ36_equals σ [va_rf l2, va_rf (FR σ 85 a6)] (fun s20 x21 => Ext σ s20 → ((x21 = 0 → G w mJ4_putVal (KR K) (rc + 1) (rs + 6) s20 104 [va_rf l0, .int l1, va_rf l2, va_rf l3, .int l4, .int l5, va_rf l6, va_rf (AR σ a1 ((l8 - 1) &&& l1).toNatClampNeg), .int l8, .int ((l8 - 1) &&& l1), v10, va_rf (FR σ 85 a6), v12] []) ∧ (¬ x21 = 0 → G w mJ4_putVal (KR K) (rc + 1) (rs + 6) s20 97 [va_rf l0, .int l1, va_rf l2, va_rf l3, .int l4, .int l5, va_rf l6, va_rf (AR σ a1 ((l8 - 1) &&& l1).toNatClampNeg), .int l8, .int ((l8 - 1) &&& l1), v10, va_rf (FR σ 85 a6), v12] [])))))))))))) ∧ (AR σ a1 ((l8 - 1) &&& l1).toNatClampNeg = none → ∃ a26, l0 = some a26 ∧ ((kd σ a26 = 22 ∧ CalR w mJ4_newNode σ [va_rf l0, .int l1, va_rf l2, va_rf l3, va_rf none] (fun s28 x29 => Ext σ s28 → kd s28 a1 = 4 ∧ vp_in ((l8 - 1) &&& l1) (ln s28 a1) ∧ (x29 = none ∨ ∃ b, x29 = some b ∧ kd s28 b ∈ [30, 31, 32]) ∧ ∀ s36, s36 = sAR s28 a1 ((l8 - 1) &&& l1).toNatClampNeg x29 → G w mJ4_putVal (KR K) (rc) (rs + 2) s36 259 [va_rf l0, .int l1, va_rf l2, va_rf l3, .int l4, .int l5, va_rf l6, va_rf (AR σ a1 ((l8 - 1) &&& l1).toNatClampNeg), .int l8, .int ((l8 - 1) &&& l1), v10, v11, v12] [])) ∨ (kd σ a26 = 21 ∧ CalR w mJ5_newNode σ [va_rf l0, .int l1, va_rf l2, va_rf l3, va_rf none] (fun s38 x39 => Ext σ s38 → kd s38 a1 = 4 ∧ vp_in ((l8 - 1) &&& l1) (ln s38 a1) ∧ (x39 = none ∨ ∃ b, x39 = some b ∧ kd s38 b ∈ [30, 31, 32]) ∧ ∀ s46, s46 = sAR s38 a1 ((l8 - 1) &&& l1).toNatClampNeg x39 → G w mJ4_putVal (KR K) (rc) (rs) s46 259 [va_rf l0, .int l1, va_rf l2, va_rf l3, .int l4, .int l5, va_rf l6, va_rf (AR σ a1 ((l8 - 1) &&& l1).toNatClampNeg), .int l8, .int ((l8 - 1) &&& l1), v10, v11, v12] [])))))) : G w mJ4_putVal (KR K) (rc + 1) (rs + 6) σ 29 [va_rf l0, .int l1, va_rf l2, va_rf l3, .int l4, .int l5, va_rf l6, v7, .int l8, v9, v10, v11, v12] [] := by
  refine G_aload 31 dJ4_putVal_29 rfl rfl ?_
  refine G_iload 33 dJ4_putVal_31 rfl rfl ?_
  refine G_iconst (v := 1) 34 dJ4_putVal_33 (by decide) rfl ?_
  refine G_isub 35 dJ4_putVal_34 rfl ?_
  refine G_iload_n 36 dJ4_putVal_35 rfl rfl ?_
  refine G_iand 37 dJ4_putVal_36 rfl ?_
  refine G_dup 38 dJ4_putVal_37 (rfl) rfl ?_
  refine G_istore 40 [va_rf l0, .int l1, va_rf l2, va_rf l3, .int l4, .int l5, va_rf l6, v7, .int l8, .int ((l8 - 1) &&& l1), v10, v11, v12] dJ4_putVal_38 (Nat.le_of_ble_eq_true rfl) rfl rfl ?_
  obtain ⟨a1, e2, h⟩ := h
  obtain ⟨c3, h⟩ := h
  obtain ⟨c4, h⟩ := h
  refine G_aald (a := a1) 41 dJ4_putVal_40 rfl e2 c3 c4 ?_
  refine G_dup 42 dJ4_putVal_41 (rf_cat _) rfl ?_
  refine G_astore 44 [va_rf l0, .int l1, va_rf l2, va_rf l3, .int l4, .int l5, va_rf l6, va_rf (AR σ a1 ((l8 - 1) &&& l1).toNatClampNeg), .int l8, .int ((l8 - 1) &&& l1), v10, v11, v12] dJ4_putVal_42 (Nat.le_of_ble_eq_true rfl) rfl rfl ?_
  refine G_ifnonnull 63 47 dJ4_putVal_44 (by decide) rfl (fun u5 => ?_) (fun u5 => ?_)
  · have h := h.1 u5
    refine G_aload 65 dJ4_putVal_63 rfl rfl ?_
    obtain ⟨a6, e7, h⟩ := h
    obtain ⟨c8, h⟩ := h
    refine G_getI (f := 84) (a := a6) "" 68 dJ4_putVal_65 (Or.inl q955) (Or.inl rfl) rfl e7 (hf84 c8) rfl ?_
    refine G_iload_n 69 dJ4_putVal_68 rfl rfl ?_
    refine G_icmp_ne 104 72 dJ4_putVal_69 (by decide) rfl (fun u9 => ?_) (fun u9 => ?_)
    · have h := h.1 u9
      exact h
    · have h := h.2 u9
      refine G_aload 74 dJ4_putVal_72 rfl rfl ?_
      refine G_getR (f := 85) (a := a6) "" 77 dJ4_putVal_74 (Or.inl q962) (Or.inl rfl) rfl e7 (hf85 c8) rfl ?_
      refine G_dup 78 dJ4_putVal_77 (rf_cat _) rfl ?_
      refine G_astore 80 [va_rf l0, .int l1, va_rf l2, va_rf l3, .int l4, .int l5, va_rf l6, va_rf (AR σ a1 ((l8 - 1) &&& l1).toNatClampNeg), .int l8, .int ((l8 - 1) &&& l1), v10, va_rf (FR σ 85 a6), v12] dJ4_putVal_78 (Nat.le_of_ble_eq_true rfl) rfl rfl ?_
      refine G_aload_n 81 dJ4_putVal_80 rfl rfl ?_
      refine G_acmp_eq 97 84 dJ4_putVal_81 (by decide) rfl (fun u10 => ?_) (fun u10 => ?_)
      · have h := h.1 u10
        exact h
      · have h := h.2 u10
        refine G_aload_n 85 dJ4_putVal_84 rfl rfl ?_
        refine G_ifnull 104 88 dJ4_putVal_85 (by decide) rfl (fun u11 => ?_) (fun u11 => ?_)
        · have h := h.1 u11
          exact h
        · have h := h.2 u11
          refine G_aload_n 89 dJ4_putVal_88 rfl rfl ?_
          refine G_aload 91 dJ4_putVal_89 rfl rfl ?_
          obtain ⟨a12, e13, h⟩ := h
          rcases h with ⟨c16, h⟩ | ⟨c22, h⟩
          · refine G_invU (N := mX6_equals) (owner := "java/lang/Object") (x := ⟨"java/lang/Object", "equals", "(Ljava/lang/Object;)Z"⟩) (As := [va_rf (FR σ 85 a6)]) (st := []) (t := l2) (b := a12) (rc + 1) (rs + 6) 94 dJ4_putVal_91 q1251 q1253 q1257 q1258 q74 q1259 (Or.inr (Or.inl ⟨q1252, _, _, _, q1282⟩)) rfl ax0 ⟨Nat.le_of_ble_eq_true rfl, Nat.le_of_ble_eq_true rfl⟩ rfl (Nat.zero_le _) e13 (rk16 c16) (le_b mX6_equals_c (Nat.le_refl _)) (le_b mX6_equals_s (Nat.le_refl _)) rfl (Cal.mono h ?_)
            rintro s14 v ⟨x15, rfl, h⟩ hx17
            have h := h hx17
            have x18 := hx17.x
            show G w mJ4_putVal (KR K) (rc + 1) (rs + 6) s14 94 [va_rf l0, .int l1, va_rf l2, va_rf l3, .int l4, .int l5, va_rf l6, va_rf (AR σ a1 ((l8 - 1) &&& l1).toNatClampNeg), .int l8, .int ((l8 - 1) &&& l1), v10, va_rf (FR σ 85 a6), v12] [.int x15]
            refine G_if_eq 104 97 dJ4_putVal_94 (by decide) rfl (fun u19 => ?_) (fun u19 => ?_)
            · have h := h.1 u19
              exact h
            · have h := h.2 u19
              exact h
          · refine G_invU (N := mJ36_equals) (owner := "java/lang/Object") (x := ⟨"java/lang/Object", "equals", "(Ljava/lang/Object;)Z"⟩) (As := [va_rf (FR σ 85 a6)]) (st := []) (t := l2) (b := a12) (rc + 1) (rs + 6) 94 dJ4_putVal_91 q1251 q1253 q1256 q1252 q2405 q1282 (Or.inl rfl) rfl ax0 ⟨Nat.le_of_ble_eq_true rfl, Nat.le_of_ble_eq_true rfl⟩ rfl (Nat.zero_le _) e13 (rk17 c22) (le_b mJ36_equals_c (Nat.le_refl _)) (le_b mJ36_equals_s (Nat.le_refl _)) rfl (Cal.mono h ?_)
            rintro s20 v ⟨x21, rfl, h⟩ hx23
            have h := h hx23
            have x24 := hx23.x
            show G w mJ4_putVal (KR K) (rc + 1) (rs + 6) s20 94 [va_rf l0, .int l1, va_rf l2, va_rf l3, .int l4, .int l5, va_rf l6, va_rf (AR σ a1 ((l8 - 1) &&& l1).toNatClampNeg), .int l8, .int ((l8 - 1) &&& l1), v10, va_rf (FR σ 85 a6), v12] [.int x21]
            refine G_if_eq 104 97 dJ4_putVal_94 (by decide) rfl (fun u25 => ?_) (fun u25 => ?_)
            · have h := h.1 u25
              exact h
            · have h := h.2 u25
              exact h
  · have h := h.2 u5
    refine G_aload 49 dJ4_putVal_47 rfl rfl ?_
    refine G_iload 51 dJ4_putVal_49 rfl rfl ?_
    refine G_aload_n 52 dJ4_putVal_51 rfl rfl ?_
    refine G_iload_n 53 dJ4_putVal_52 rfl rfl ?_
    refine G_aload_n 54 dJ4_putVal_53 rfl rfl ?_
    refine G_aload_n 55 dJ4_putVal_54 rfl rfl ?_
    refine G_null 56 dJ4_putVal_55 rfl ?_
    obtain ⟨a26, e27, h⟩ := h
    rcases h with ⟨c30, h⟩ | ⟨c40, h⟩
    · refine G_invV (N := mJ4_newNode) (As := [.int l1, va_rf l2, va_rf l3, va_rf none]) (st := [.int ((l8 - 1) &&& l1), va_rf l6]) (t := l0) (b := a26) (rc) (rs + 2) 59 dJ4_putVal_56 q1238 q1239 q1240 q37 q1249 rfl rfl mJ4_newNode_args ⟨Nat.le_of_ble_eq_true rfl, Nat.le_of_ble_eq_true rfl⟩ rfl (Nat.le_trans (w_I (w_R w_0)) (Nat.le_of_ble_eq_true rfl)) e27 (rk22 c30) (le_b mJ4_newNode_c (Nat.le_refl _)) (le_b mJ4_newNode_s (Nat.le_refl _)) rfl (Cal.mono h ?_)
      rintro s28 v ⟨x29, rfl, h⟩ hx31
      have h := h hx31
      have x32 := hx31.x
      show G w mJ4_putVal (KR K) (rc) (rs + 2) s28 59 [va_rf l0, .int l1, va_rf l2, va_rf l3, .int l4, .int l5, va_rf l6, va_rf (AR σ a1 ((l8 - 1) &&& l1).toNatClampNeg), .int l8, .int ((l8 - 1) &&& l1), v10, v11, v12] [va_rf x29, .int ((l8 - 1) &&& l1), va_rf l6]
      obtain ⟨c33, h⟩ := h
      obtain ⟨c34, h⟩ := h
      obtain ⟨c35, h⟩ := h
      refine G_aast (a := a1) (kn := 4) 60 dJ4_putVal_59 rfl e2 c33 (Or.inr rfl) c34 (c35.imp id (fun ⟨b, e, k⟩ => ⟨b, e, eo4 k⟩)) ?_
      generalize hs36 : sAR s28 a1 ((l8 - 1) &&& l1).toNatClampNeg x29 = s36
      have x37 : ∀ a, ¬ kd s28 a = 0 → kd s36 a = kd s28 a := by subst hs36; exact fun a _ => congrFun kd_sAR a
      have h := h s36 hs36.symm
      refine G_goto 259 dJ4_putVal_60 (by decide) ?_
      exact h
    · refine G_invU (N := mJ5_newNode) (owner := "java/util/HashMap") (x := ⟨"java/util/HashMap", "newNode", "(ILjava/lang/Object;Ljava/lang/Object;Ljava/util/HashMap$Node;)Ljava/util/HashMap$Node;"⟩) (As := [.int l1, va_rf l2, va_rf l3, va_rf none]) (st := [.int ((l8 - 1) &&& l1), va_rf l6]) (t := l0) (b := a26) (rc) (rs) 59 dJ4_putVal_56 q1238 q1241 q1242 q1243 q38 q1244 (Or.inr (Or.inl ⟨q1239, _, _, _, q1249⟩)) rfl ax5 ⟨Nat.le_of_ble_eq_true rfl, Nat.le_of_ble_eq_true rfl⟩ rfl (Nat.le_trans (w_I (w_R w_0)) (Nat.le_of_ble_eq_true rfl)) e27 (rk21 c40) (le_b mJ5_newNode_c (Nat.le_refl _)) (le_b mJ5_newNode_s (Nat.le_refl _)) rfl (Cal.mono h ?_)
      rintro s38 v ⟨x39, rfl, h⟩ hx41
      have h := h hx41
      have x42 := hx41.x
      show G w mJ4_putVal (KR K) (rc) (rs) s38 59 [va_rf l0, .int l1, va_rf l2, va_rf l3, .int l4, .int l5, va_rf l6, va_rf (AR σ a1 ((l8 - 1) &&& l1).toNatClampNeg), .int l8, .int ((l8 - 1) &&& l1), v10, v11, v12] [va_rf x39, .int ((l8 - 1) &&& l1), va_rf l6]
      obtain ⟨c43, h⟩ := h
      obtain ⟨c44, h⟩ := h
      obtain ⟨c45, h⟩ := h
      refine G_aast (a := a1) (kn := 4) 60 dJ4_putVal_59 rfl e2 c43 (Or.inr rfl) c44 (c45.imp id (fun ⟨b, e, k⟩ => ⟨b, e, eo4 k⟩)) ?_
      generalize hs46 : sAR s38 a1 ((l8 - 1) &&& l1).toNatClampNeg x39 = s46
      have x47 : ∀ a, ¬ kd s38 a = 0 → kd s46 a = kd s38 a := by subst hs46; exact fun a _ => congrFun kd_sAR a
      have h := h s46 hs46.symm
      refine G_goto 259 dJ4_putVal_60 (by decide) ?_
      exact h
set_option maxHeartbeats 4000000 in
theorem bJ4_putVal_97 {w : Wt} {K : Sg → Option Nat → Prop} {rc rs : Nat} {σ : Sg} (l0 : Option Nat) (l1 : Int32) (l2 : Option Nat) (l3 : Option Nat) (l4 : Int32) (l5 : Int32) (l6 : Option Nat) (l7 : Option Nat) (l8 : Int32) (l9 : Int32) (v10 : Value) (l11 : Option Nat) (v12 : Value) (h : G w mJ4_putVal (KR K) (rc) (rs) σ 222 [va_rf l0, .int l1, va_rf l2, va_rf l3, .int l4, .int l5, va_rf l6, va_rf l7, .int l8, .int l9, va_rf l7, va_rf l11, v12] []) : G w mJ4_putVal (KR K) (rc) (rs) σ 97 [va_rf l0, .int l1, va_rf l2, va_rf l3, .int l4, .int l5, va_rf l6, va_rf l7, .int l8, .int l9, v10, va_rf l11, v12] [] := by
  refine G_aload 99 dJ4_putVal_97 rfl rfl ?_
  refine G_astore 101 [va_rf l0, .int l1, va_rf l2, va_rf l3, .int l4, .int l5, va_rf l6, va_rf l7, .int l8, .int l9, va_rf l7, va_rf l11, v12] dJ4_putVal_99 (Nat.le_of_ble_eq_true rfl) rfl rfl ?_
  refine G_goto 222 dJ4_putVal_101 (by decide) ?_
  exact h
set_option maxHeartbeats 4000000 in
theorem bJ4_putVal_104 {w : Wt} {K : Sg → Option Nat → Prop} {rc rs : Nat} {σ : Sg} (l0 : Option Nat) (l1 : Int32) (l2 : Option Nat) (l3 : Option Nat) (l4 : Int32) (l5 : Int32) (l6 : Option Nat) (l7 : Option Nat) (l8 : Int32) (l9 : Int32) (v10 : Value) (v11 : Value) (v12 : Value) (h : ∃ a1, l7 = some a1 ∧ ((kd σ a1 = 32 ∧ CalR w mJ33_putTreeVal σ [va_rf l7, va_rf l0, va_rf l6, .int l1, va_rf l2, va_rf l3] (fun s4 x5 => Ext σ s4 → G w mJ4_putVal (KR K) (rc) (rs) s4 222 [va_rf l0, .int l1, va_rf l2, va_rf l3, .int l4, .int l5, va_rf l6, va_rf l7, .int l8, .int l9, va_rf x5, v11, v12] [])) ∨ (kd σ a1 ∈ [31, 30] ∧ G w mJ4_putVal (KR K) (rc + 1) (rs + 11) σ 134 [va_rf l0, .int l1, va_rf l2, va_rf l3, .int l4, .int l5, va_rf l6, va_rf l7, .int l8, .int l9, v10, v11, .int 0] []))) : G w mJ4_putVal (KR K) (rc + 1) (rs + 11) σ 104 [va_rf l0, .int l1, va_rf l2, va_rf l3, .int l4, .int l5, va_rf l6, va_rf l7, .int l8, .int l9, v10, v11, v12] [] := by
  refine G_aload 106 dJ4_putVal_104 rfl rfl ?_
  obtain ⟨a1, e2, h⟩ := h
  rcases h with ⟨c3, h⟩ | ⟨c3, h⟩
  · refine G_instY (a := a1) 109 dJ4_putVal_106 q920 rfl e2 (iy1 c3) ?_
    refine G_if_eq 131 112 dJ4_putVal_109 (by decide) rfl (fun q => absurd q (by decide)) (fun _ => ?_)
    refine G_aload 114 dJ4_putVal_112 rfl rfl ?_
    refine G_cast 117 dJ4_putVal_114 q920 rfl (Or.inr ⟨a1, e2, co1 c3⟩) ?_
    refine G_aload_n 118 dJ4_putVal_117 rfl rfl ?_
    refine G_aload 120 dJ4_putVal_118 rfl rfl ?_
    refine G_iload_n 121 dJ4_putVal_120 rfl rfl ?_
    refine G_aload_n 122 dJ4_putVal_121 rfl rfl ?_
    refine G_aload_n 123 dJ4_putVal_122 rfl rfl ?_
    refine G_invV (N := mJ33_putTreeVal) (As := [va_rf l0, va_rf l6, .int l1, va_rf l2, va_rf l3]) (st := []) (t := l7) (b := a1) (rc) (rs) 126 dJ4_putVal_123 q1283 q1284 q1285 q72 q1286 rfl rfl mJ33_putTreeVal_args ⟨Nat.le_of_ble_eq_true rfl, Nat.le_of_ble_eq_true rfl⟩ rfl (Nat.zero_le _) e2 (rk32 c3) (le_b mJ33_putTreeVal_c (Nat.le_refl _)) (le_b mJ33_putTreeVal_s (Nat.le_refl _)) rfl (Cal.mono h ?_)
    rintro s4 v ⟨x5, rfl, h⟩ hx6
    have h := h hx6
    have x7 := hx6.x
    show G w mJ4_putVal (KR K) (rc) (rs) s4 126 [va_rf l0, .int l1, va_rf l2, va_rf l3, .int l4, .int l5, va_rf l6, va_rf l7, .int l8, .int l9, v10, v11, v12] [va_rf x5]
    refine G_astore 128 [va_rf l0, .int l1, va_rf l2, va_rf l3, .int l4, .int l5, va_rf l6, va_rf l7, .int l8, .int l9, va_rf x5, v11, v12] dJ4_putVal_126 (Nat.le_of_ble_eq_true rfl) rfl rfl ?_
    refine G_goto 222 dJ4_putVal_128 (by decide) ?_
    exact h
  · refine G_instN 109 dJ4_putVal_106 q920 rfl (Or.inr ⟨a1, e2, in0 c3⟩) ?_
    refine G_if_eq 131 112 dJ4_putVal_109 (by decide) rfl (fun _ => ?_) (fun q => absurd q (by decide))
    refine G_iconst (v := 0) 132 dJ4_putVal_131 (by decide) rfl ?_
    refine G_istore 134 [va_rf l0, .int l1, va_rf l2, va_rf l3, .int l4, .int l5, va_rf l6, va_rf l7, .int l8, .int l9, v10, v11, .int 0] dJ4_putVal_132 (Nat.le_of_ble_eq_true rfl) rfl rfl ?_
    exact h
set_option maxHeartbeats 4000000 in
theorem bJ4_putVal_134 {w : Wt} {K : Sg → Option Nat → Prop} {rc rs : Nat} {σ : Sg} (l0 : Option Nat) (l1 : Int32) (l2 : Option Nat) (l3 : Option Nat) (l4 : Int32) (l5 : Int32) (l6 : Option Nat) (l7 : Option Nat) (l8 : Int32) (l9 : Int32) (v10 : Value) (v11 : Value) (l12 : Int32) (h : ∃ a1, l7 = some a1 ∧ kd σ a1 ∈ [30, 31, 32] ∧ ((¬ FR σ 87 a1 = none → ∃ a5, FR σ 87 a1 = some a5 ∧ kd σ a5 ∈ [30, 31, 32] ∧ ((¬ FI σ 84 a5 = l1 → G w mJ4_putVal (KR K) (rc + 21) (rs + 306) σ 212 [va_rf l0, .int l1, va_rf l2, va_rf l3, .int l4, .int l5, va_rf l6, va_rf l7, .int l8, .int l9, va_rf (FR σ 87 a1), v11, .int l12] []) ∧ (FI σ 84 a5 = l1 → ((FR σ 85 a5 = l2 → G w mJ4_putVal (KR K) (rc + 21) (rs + 306) σ 222 [va_rf l0, .int l1, va_rf l2, va_rf l3, .int l4, .int l5, va_rf l6, va_rf l7, .int l8, .int l9, va_rf (FR σ 87 a1), va_rf (FR σ 85 a5), .int l12] []) ∧ (¬ FR σ 85 a5 = l2 → ((l2 = none → G w mJ4_putVal (KR K) (rc + 21) (rs + 306) σ 212 [va_rf l0, .int l1, va_rf l2, va_rf l3, .int l4, .int l5, va_rf l6, va_rf l7, .int l8, .int l9, va_rf (FR σ 87 a1), va_rf (FR σ 85 a5), .int l12] []) ∧ (¬ l2 = none → ∃ a11, l2 = some a11 ∧ ((kd σ a11 = 16 ∧ CalI w mX6_equals σ [va_rf l2, va_rf (FR σ 85 a5)] (fun s13 x14 => Ext σ s13 → ((x14 = 0 → G w mJ4_putVal (KR K) (rc + 21) (rs + 306) s13 212 [va_rf l0, .int l1, va_rf l2, va_rf l3, .int l4, .int l5, va_rf l6, va_rf l7, .int l8, .int l9, va_rf (FR σ 87 a1), va_rf (FR σ 85 a5), .int l12] []) ∧ (¬ x14 = 0 → G w mJ4_putVal (KR K) (rc + 21) (rs + 306) s13 222 [va_rf l0, .int l1, va_rf l2, va_rf l3, .int l4, .int l5, va_rf l6, va_rf l7, .int l8, .int l9, va_rf (FR σ 87 a1), va_rf (FR σ 85 a5), .int l12] [])))) ∨ (kd σ a11 = 17 ∧ CalI w mJ36_equals σ [va_rf l2, va_rf (FR σ 85 a5)] (fun s19 x20 => Ext σ s19 → ((x20 = 0 → G w mJ4_putVal (KR K) (rc + 21) (rs + 306) s19 212 [va_rf l0, .int l1, va_rf l2, va_rf l3, .int l4, .int l5, va_rf l6, va_rf l7, .int l8, .int l9, va_rf (FR σ 87 a1), va_rf (FR σ 85 a5), .int l12] []) ∧ (¬ x20 = 0 → G w mJ4_putVal (KR K) (rc + 21) (rs + 306) s19 222 [va_rf l0, .int l1, va_rf l2, va_rf l3, .int l4, .int l5, va_rf l6, va_rf l7, .int l8, .int l9, va_rf (FR σ 87 a1), va_rf (FR σ 85 a5), .int l12] [])))))))))))) ∧ (FR σ 87 a1 = none → ∃ a25, l0 = some a25 ∧ ((kd σ a25 = 22 ∧ CalR w mJ4_newNode σ [va_rf l0, .int l1, va_rf l2, va_rf l3, va_rf none] (fun s27 x28 => Ext σ s27 → ∀ s32, s32 = sFR s27 87 a1 x28 → ((l12 < 7 → G w mJ4_putVal (KR K) (rc + 20) (rs + 302) s32 222 [va_rf l0, .int l1, va_rf l2, va_rf l3, .int l4, .int l5, va_rf l6, va_rf l7, .int l8, .int l9, va_rf (FR σ 87 a1), v11, .int l12] []) ∧ (¬ l12 < 7 → CalV w mJ4_treeifyBin s32 [va_rf l0, va_rf l6, .int l1] (fun s35 => Ext s32 s35 → G w mJ4_putVal (KR K) (rc) (rs + 2) s35 222 [va_rf l0, .int l1, va_rf l2, va_rf l3, .int l4, .int l5, va_rf l6, va_rf l7, .int l8, .int l9, va_rf (FR σ 87 a1), v11, .int l12] []))))) ∨ (kd σ a25 = 21 ∧ CalR w mJ5_newNode σ [va_rf l0, .int l1, va_rf l2, va_rf l3, va_rf none] (fun s39 x40 => Ext σ s39 → ∀ s44, s44 = sFR s39 87 a1 x40 → ((l12 < 7 → G w mJ4_putVal (KR K) (rc + 20) (rs + 300) s44 222 [va_rf l0, .int l1, va_rf l2, va_rf l3, .int l4, .int l5, va_rf l6, va_rf l7, .int l8, .int l9, va_rf (FR σ 87 a1), v11, .int l12] []) ∧ (¬ l12 < 7 → CalV w mJ4_treeifyBin s44 [va_rf l0, va_rf l6, .int l1] (fun s47 => Ext s44 s47 → G w mJ4_putVal (KR K) (rc) (rs) s47 222 [va_rf l0, .int l1, va_rf l2, va_rf l3, .int l4, .int l5, va_rf l6, va_rf l7, .int l8, .int l9, va_rf (FR σ 87 a1), v11, .int l12] []))))))))) : G w mJ4_putVal (KR K) (rc + 21) (rs + 306) σ 134 [va_rf l0, .int l1, va_rf l2, va_rf l3, .int l4, .int l5, va_rf l6, va_rf l7, .int l8, .int l9, v10, v11, .int l12] [] := by
  refine G_aload 136 dJ4_putVal_134 rfl rfl ?_
  obtain ⟨a1, e2, h⟩ := h
  obtain ⟨c3, h⟩ := h
  refine G_getR (f := 87) (a := a1) "" 139 dJ4_putVal_136 (Or.inl q973) (Or.inl rfl) rfl e2 (hf87 c3) rfl ?_
  refine G_dup 140 dJ4_putVal_139 (rf_cat _) rfl ?_
  refine G_astore 142 [va_rf l0, .int l1, va_rf l2, va_rf l3, .int l4, .int l5, va_rf l6, va_rf l7, .int l8, .int l9, va_rf (FR σ 87 a1), v11, .int l12] dJ4_putVal_140 (Nat.le_of_ble_eq_true rfl) rfl rfl ?_
  refine G_ifnonnull 175 145 dJ4_putVal_142 (by decide) rfl (fun u4 => ?_) (fun u4 => ?_)
  · have h := h.1 u4
    refine G_aload 177 dJ4_putVal_175 rfl rfl ?_
    obtain ⟨a5, e6, h⟩ := h
    obtain ⟨c7, h⟩ := h
    refine G_getI (f := 84) (a := a5) "" 180 dJ4_putVal_177 (Or.inl q955) (Or.inl rfl) rfl e6 (hf84 c7) rfl ?_
    refine G_iload_n 181 dJ4_putVal_180 rfl rfl ?_
    refine G_icmp_ne 212 184 dJ4_putVal_181 (by decide) rfl (fun u8 => ?_) (fun u8 => ?_)
    · have h := h.1 u8
      exact h
    · have h := h.2 u8
      refine G_aload 186 dJ4_putVal_184 rfl rfl ?_
      refine G_getR (f := 85) (a := a5) "" 189 dJ4_putVal_186 (Or.inl q962) (Or.inl rfl) rfl e6 (hf85 c7) rfl ?_
      refine G_dup 190 dJ4_putVal_189 (rf_cat _) rfl ?_
      refine G_astore 192 [va_rf l0, .int l1, va_rf l2, va_rf l3, .int l4, .int l5, va_rf l6, va_rf l7, .int l8, .int l9, va_rf (FR σ 87 a1), va_rf (FR σ 85 a5), .int l12] dJ4_putVal_190 (Nat.le_of_ble_eq_true rfl) rfl rfl ?_
      refine G_aload_n 193 dJ4_putVal_192 rfl rfl ?_
      refine G_acmp_eq 222 196 dJ4_putVal_193 (by decide) rfl (fun u9 => ?_) (fun u9 => ?_)
      · have h := h.1 u9
        exact h
      · have h := h.2 u9
        refine G_aload_n 197 dJ4_putVal_196 rfl rfl ?_
        refine G_ifnull 212 200 dJ4_putVal_197 (by decide) rfl (fun u10 => ?_) (fun u10 => ?_)
        · have h := h.1 u10
          exact h
        · have h := h.2 u10
          refine G_aload_n 201 dJ4_putVal_200 rfl rfl ?_
          refine G_aload 203 dJ4_putVal_201 rfl rfl ?_
          obtain ⟨a11, e12, h⟩ := h
          rcases h with ⟨c15, h⟩ | ⟨c21, h⟩
          · refine G_invU (N := mX6_equals) (owner := "java/lang/Object") (x := ⟨"java/lang/Object", "equals", "(Ljava/lang/Object;)Z"⟩) (As := [va_rf (FR σ 85 a5)]) (st := []) (t := l2) (b := a11) (rc + 21) (rs + 306) 206 dJ4_putVal_203 q1251 q1253 q1257 q1258 q74 q1259 (Or.inr (Or.inl ⟨q1252, _, _, _, q1282⟩)) rfl ax0 ⟨Nat.le_of_ble_eq_true rfl, Nat.le_of_ble_eq_true rfl⟩ rfl (Nat.zero_le _) e12 (rk16 c15) (le_b mX6_equals_c (Nat.le_refl _)) (le_b mX6_equals_s (Nat.le_refl _)) rfl (Cal.mono h ?_)
            rintro s13 v ⟨x14, rfl, h⟩ hx16
            have h := h hx16
            have x17 := hx16.x
            show G w mJ4_putVal (KR K) (rc + 21) (rs + 306) s13 206 [va_rf l0, .int l1, va_rf l2, va_rf l3, .int l4, .int l5, va_rf l6, va_rf l7, .int l8, .int l9, va_rf (FR σ 87 a1), va_rf (FR σ 85 a5), .int l12] [.int x14]
            refine G_if_eq 212 209 dJ4_putVal_206 (by decide) rfl (fun u18 => ?_) (fun u18 => ?_)
            · have h := h.1 u18
              exact h
            · have h := h.2 u18
              refine G_goto 222 dJ4_putVal_209 (by decide) ?_
              exact h
          · refine G_invU (N := mJ36_equals) (owner := "java/lang/Object") (x := ⟨"java/lang/Object", "equals", "(Ljava/lang/Object;)Z"⟩) (As := [va_rf (FR σ 85 a5)]) (st := []) (t := l2) (b := a11) (rc + 21) (rs + 306) 206 dJ4_putVal_203 q1251 q1253 q1256 q1252 q2405 q1282 (Or.inl rfl) rfl ax0 ⟨Nat.le_of_ble_eq_true rfl, Nat.le_of_ble_eq_true rfl⟩ rfl (Nat.zero_le _) e12 (rk17 c21) (le_b mJ36_equals_c (Nat.le_refl _)) (le_b mJ36_equals_s (Nat.le_refl _)) rfl (Cal.mono h ?_)
            rintro s19 v ⟨x20, rfl, h⟩ hx22
            have h := h hx22
            have x23 := hx22.x
            show G w mJ4_putVal (KR K) (rc + 21) (rs + 306) s19 206 [va_rf l0, .int l1, va_rf l2, va_rf l3, .int l4, .int l5, va_rf l6, va_rf l7, .int l8, .int l9, va_rf (FR σ 87 a1), va_rf (FR σ 85 a5), .int l12] [.int x20]
            refine G_if_eq 212 209 dJ4_putVal_206 (by decide) rfl (fun u24 => ?_) (fun u24 => ?_)
            · have h := h.1 u24
              exact h
            · have h := h.2 u24
              refine G_goto 222 dJ4_putVal_209 (by decide) ?_
              exact h
  · have h := h.2 u4
    refine G_aload 147 dJ4_putVal_145 rfl rfl ?_
    refine G_aload_n 148 dJ4_putVal_147 rfl rfl ?_
    refine G_iload_n 149 dJ4_putVal_148 rfl rfl ?_
    refine G_aload_n 150 dJ4_putVal_149 rfl rfl ?_
    refine G_aload_n 151 dJ4_putVal_150 rfl rfl ?_
    refine G_null 152 dJ4_putVal_151 rfl ?_
    obtain ⟨a25, e26, h⟩ := h
    rcases h with ⟨c29, h⟩ | ⟨c41, h⟩
    · refine G_invV (N := mJ4_newNode) (As := [.int l1, va_rf l2, va_rf l3, va_rf none]) (st := [va_rf l7]) (t := l0) (b := a25) (rc + 20) (rs + 302) 155 dJ4_putVal_152 q1238 q1239 q1240 q37 q1249 rfl rfl mJ4_newNode_args ⟨Nat.le_of_ble_eq_true rfl, Nat.le_of_ble_eq_true rfl⟩ rfl (Nat.le_trans (w_R w_0) (Nat.le_of_ble_eq_true rfl)) e26 (rk22 c29) (le_b mJ4_newNode_c (Nat.le_refl _)) (le_b mJ4_newNode_s (Nat.le_refl _)) rfl (Cal.mono h ?_)
      rintro s27 v ⟨x28, rfl, h⟩ hx30
      have h := h hx30
      have x31 := hx30.x
      show G w mJ4_putVal (KR K) (rc + 20) (rs + 302) s27 155 [va_rf l0, .int l1, va_rf l2, va_rf l3, .int l4, .int l5, va_rf l6, va_rf l7, .int l8, .int l9, va_rf (FR σ 87 a1), v11, .int l12] [va_rf x28, va_rf l7]
      have c3 := kdM x31 c3 (by decide)
      refine G_putR (f := 87) (a := a1) "" 158 dJ4_putVal_155 (Or.inl q973) (Or.inl rfl) rfl e2 (hp87 c3) (nk87 c3) (Or.inl rfl) (fun y => by cases y <;> rfl) (fun y => by cases y <;> rfl) rfl ?_
      generalize hs32 : sFR s27 87 a1 x28 = s32
      have x33 : ∀ a, ¬ kd s27 a = 0 → kd s32 a = kd s27 a := by subst hs32; exact fun a _ => congrFun kd_sFR a
      have h := h s32 hs32.symm
      refine G_iload 160 dJ4_putVal_158 rfl rfl ?_
      refine G_bipush (v := 7) 162 dJ4_putVal_160 (by decide) rfl ?_
      refine G_icmp_lt 222 165 dJ4_putVal_162 (by decide) rfl (fun u34 => ?_) (fun u34 => ?_)
      · have h := h.1 u34
        exact h
      · have h := h.2 u34
        refine G_aload_n 166 dJ4_putVal_165 rfl rfl ?_
        refine G_aload 168 dJ4_putVal_166 rfl rfl ?_
        refine G_iload_n 169 dJ4_putVal_168 rfl rfl ?_
        have c29 := kdE x31 c29 (by decide)
        have c29 := kdE x33 c29 (by decide)
        have fin : Cal w mJ4_treeifyBin s32 [va_rf l0, va_rf l6, .int l1] (fun σ1 v => Ext s32 σ1 → G w mJ4_putVal (KR K) (rc) (rs + 2) σ1 172 [va_rf l0, .int l1, va_rf l2, va_rf l3, .int l4, .int l5, va_rf l6, va_rf l7, .int l8, .int l9, va_rf (FR σ 87 a1), v11, .int l12] (v.toList ++ [])) := by
          refine Cal.mono h ?_
          rintro s35 v ⟨rfl, h⟩ hx36
          have h := h hx36
          have x37 := hx36.x
          show G w mJ4_putVal (KR K) (rc) (rs + 2) s35 172 [va_rf l0, .int l1, va_rf l2, va_rf l3, .int l4, .int l5, va_rf l6, va_rf l7, .int l8, .int l9, va_rf (FR σ 87 a1), v11, .int l12] []
          refine G_goto 222 dJ4_putVal_172 (by decide) ?_
          exact h
        have k38 : kd s32 a25 ∈ [21, 22] := (memE c29 (by decide))
        simp only [List.mem_cons, List.not_mem_nil, or_false] at k38
        rcases k38 with k38 | k38
        · exact G_invU (N := mJ4_treeifyBin) (owner := "java/util/HashMap") (x := ⟨"java/util/HashMap", "treeifyBin", "([Ljava/util/HashMap$Node;I)V"⟩) (As := [va_rf l6, .int l1]) (st := []) (t := l0) (b := a25) (rc) (rs + 2) 172 dJ4_putVal_169 q1334 q1337 q1338 q1335 q37 q1339 (Or.inl rfl) rfl ax6 ⟨Nat.le_of_ble_eq_true rfl, Nat.le_of_ble_eq_true rfl⟩ rfl (Nat.zero_le _) e26 (rk21 k38) (le_b mJ4_treeifyBin_c (Nat.le_refl _)) (le_b mJ4_treeifyBin_s (Nat.le_refl _)) rfl fin
        · exact G_invV (N := mJ4_treeifyBin) (As := [va_rf l6, .int l1]) (st := []) (t := l0) (b := a25) (rc) (rs + 2) 172 dJ4_putVal_169 q1334 q1335 q1336 q37 q1339 rfl rfl mJ4_treeifyBin_args ⟨Nat.le_of_ble_eq_true rfl, Nat.le_of_ble_eq_true rfl⟩ rfl (Nat.zero_le _) e26 (rk22 k38) (le_b mJ4_treeifyBin_c (Nat.le_refl _)) (le_b mJ4_treeifyBin_s (Nat.le_refl _)) rfl fin
    · refine G_invU (N := mJ5_newNode) (owner := "java/util/HashMap") (x := ⟨"java/util/HashMap", "newNode", "(ILjava/lang/Object;Ljava/lang/Object;Ljava/util/HashMap$Node;)Ljava/util/HashMap$Node;"⟩) (As := [.int l1, va_rf l2, va_rf l3, va_rf none]) (st := [va_rf l7]) (t := l0) (b := a25) (rc + 20) (rs + 300) 155 dJ4_putVal_152 q1238 q1241 q1242 q1243 q38 q1244 (Or.inr (Or.inl ⟨q1239, _, _, _, q1249⟩)) rfl ax5 ⟨Nat.le_of_ble_eq_true rfl, Nat.le_of_ble_eq_true rfl⟩ rfl (Nat.le_trans (w_R w_0) (Nat.le_of_ble_eq_true rfl)) e26 (rk21 c41) (le_b mJ5_newNode_c (Nat.le_refl _)) (le_b mJ5_newNode_s (Nat.le_refl _)) rfl (Cal.mono h ?_)
      rintro s39 v ⟨x40, rfl, h⟩ hx42
      have h := h hx42
      have x43 := hx42.x
      show G w mJ4_putVal (KR K) (rc + 20) (rs + 300) s39 155 [va_rf l0, .int l1, va_rf l2, va_rf l3, .int l4, .int l5, va_rf l6, va_rf l7, .int l8, .int l9, va_rf (FR σ 87 a1), v11, .int l12] [va_rf x40, va_rf l7]
      have c3 := kdM x43 c3 (by decide)
      refine G_putR (f := 87) (a := a1) "" 158 dJ4_putVal_155 (Or.inl q973) (Or.inl rfl) rfl e2 (hp87 c3) (nk87 c3) (Or.inl rfl) (fun y => by cases y <;> rfl) (fun y => by cases y <;> rfl) rfl ?_
      generalize hs44 : sFR s39 87 a1 x40 = s44
      have x45 : ∀ a, ¬ kd s39 a = 0 → kd s44 a = kd s39 a := by subst hs44; exact fun a _ => congrFun kd_sFR a
      have h := h s44 hs44.symm
      refine G_iload 160 dJ4_putVal_158 rfl rfl ?_
      refine G_bipush (v := 7) 162 dJ4_putVal_160 (by decide) rfl ?_
      refine G_icmp_lt 222 165 dJ4_putVal_162 (by decide) rfl (fun u46 => ?_) (fun u46 => ?_)
      · have h := h.1 u46
        exact h
      · have h := h.2 u46
        refine G_aload_n 166 dJ4_putVal_165 rfl rfl ?_
        refine G_aload 168 dJ4_putVal_166 rfl rfl ?_
        refine G_iload_n 169 dJ4_putVal_168 rfl rfl ?_
        have c41 := kdE x43 c41 (by decide)
        have c41 := kdE x45 c41 (by decide)
        have fin : Cal w mJ4_treeifyBin s44 [va_rf l0, va_rf l6, .int l1] (fun σ1 v => Ext s44 σ1 → G w mJ4_putVal (KR K) (rc) (rs) σ1 172 [va_rf l0, .int l1, va_rf l2, va_rf l3, .int l4, .int l5, va_rf l6, va_rf l7, .int l8, .int l9, va_rf (FR σ 87 a1), v11, .int l12] (v.toList ++ [])) := by
          refine Cal.mono h ?_
          rintro s47 v ⟨rfl, h⟩ hx48
          have h := h hx48
          have x49 := hx48.x
          show G w mJ4_putVal (KR K) (rc) (rs) s47 172 [va_rf l0, .int l1, va_rf l2, va_rf l3, .int l4, .int l5, va_rf l6, va_rf l7, .int l8, .int l9, va_rf (FR σ 87 a1), v11, .int l12] []
          refine G_goto 222 dJ4_putVal_172 (by decide) ?_
          exact h
        have k50 : kd s44 a25 ∈ [21, 22] := (memE c41 (by decide))
        simp only [List.mem_cons, List.not_mem_nil, or_false] at k50
        rcases k50 with k50 | k50
        · exact G_invU (N := mJ4_treeifyBin) (owner := "java/util/HashMap") (x := ⟨"java/util/HashMap", "treeifyBin", "([Ljava/util/HashMap$Node;I)V"⟩) (As := [va_rf l6, .int l1]) (st := []) (t := l0) (b := a25) (rc) (rs) 172 dJ4_putVal_169 q1334 q1337 q1338 q1335 q37 q1339 (Or.inl rfl) rfl ax6 ⟨Nat.le_of_ble_eq_true rfl, Nat.le_of_ble_eq_true rfl⟩ rfl (Nat.zero_le _) e26 (rk21 k50) (le_b mJ4_treeifyBin_c (Nat.le_refl _)) (le_b mJ4_treeifyBin_s (Nat.le_refl _)) rfl fin
        · exact G_invV (N := mJ4_treeifyBin) (As := [va_rf l6, .int l1]) (st := []) (t := l0) (b := a25) (rc) (rs) 172 dJ4_putVal_169 q1334 q1335 q1336 q37 q1339 rfl rfl mJ4_treeifyBin_args ⟨Nat.le_of_ble_eq_true rfl, Nat.le_of_ble_eq_true rfl⟩ rfl (Nat.zero_le _) e26 (rk22 k50) (le_b mJ4_treeifyBin_c (Nat.le_refl _)) (le_b mJ4_treeifyBin_s (Nat.le_refl _)) rfl fin
set_option maxHeartbeats 4000000 in
theorem bJ4_putVal_212 {w : Wt} {K : Sg → Option Nat → Prop} {rc rs : Nat} {σ : Sg} (l0 : Option Nat) (l1 : Int32) (l2 : Option Nat) (l3 : Option Nat) (l4 : Int32) (l5 : Int32) (l6 : Option Nat) (l7 : Option Nat) (l8 : Int32) (l9 : Int32) (l10 : Option Nat) (v11 : Value) (l12 : Int32) (h : G w mJ4_putVal (KR K) (rc) (rs) σ 134 [va_rf l0, .int l1, va_rf l2, va_rf l3, .int l4, .int l5, va_rf l6, va_rf l10, .int l8, .int l9, va_rf l10, v11, .int (l12 + 1)] []) : G w mJ4_putVal (KR K) (rc) (rs) σ 212 [va_rf l0, .int l1, va_rf l2, va_rf l3, .int l4, .int l5, va_rf l6, va_rf l7, .int l8, .int l9, va_rf l10, v11, .int l12] [] := by
  refine G_aload 214 dJ4_putVal_212 rfl rfl ?_
  refine G_astore 216 [va_rf l0, .int l1, va_rf l2, va_rf l3, .int l4, .int l5, va_rf l6, va_rf l10, .int l8, .int l9, va_rf l10, v11, .int l12] dJ4_putVal_214 (Nat.le_of_ble_eq_true rfl) rfl rfl ?_
  refine G_iinc 219 [va_rf l0, .int l1, va_rf l2, va_rf l3, .int l4, .int l5, va_rf l6, va_rf l10, .int l8, .int l9, va_rf l10, v11, .int (l12 + 1)] dJ4_putVal_216 rfl rfl (Nat.le_of_ble_eq_true rfl) rfl rfl ?_
  refine G_goto 134 dJ4_putVal_219 (by decide) ?_
  exact h
set_option maxHeartbeats 4000000 in
theorem bJ4_putVal_222 {w : Wt} {K : Sg → Option Nat → Prop} {rc rs : Nat} {σ : Sg} (l0 : Option Nat) (l1 : Int32) (l2 : Option Nat) (l3 : Option Nat) (l4 : Int32) (l5 : Int32) (l6 : Option Nat) (l7 : Option Nat) (l8 : Int32) (l9 : Int32) (l10 : Option Nat) (v11 : Value) (v12 : Value) (h : ((l10 = none → G w mJ4_putVal (KR K) (rc) (rs) σ 259 [va_rf l0, .int l1, va_rf l2, va_rf l3, .int l4, .int l5, va_rf l6, va_rf l7, .int l8, .int l9, va_rf l10, v11, v12] []) ∧ (¬ l10 = none → ∃ a2, l10 = some a2 ∧ kd σ a2 ∈ [30, 31, 32] ∧ ((l4 = 0 → G w mJ4_putVal (KR K) (rc) (rs) σ 244 [va_rf l0, .int l1, va_rf l2, va_rf l3, .int l4, .int l5, va_rf l6, va_rf l7, .int l8, .int l9, va_rf l10, v11, va_rf (FR σ 86 a2)] []) ∧ (¬ l4 = 0 → ((¬ FR σ 86 a2 = none → G w mJ4_putVal (KR K) (rc) (rs) σ 250 [va_rf l0, .int l1, va_rf l2, va_rf l3, .int l4, .int l5, va_rf l6, va_rf l7, .int l8, .int l9, va_rf l10, v11, va_rf (FR σ 86 a2)] []) ∧ (FR σ 86 a2 = none → G w mJ4_putVal (KR K) (rc) (rs) σ 244 [va_rf l0, .int l1, va_rf l2, va_rf l3, .int l4, .int l5, va_rf l6, va_rf l7, .int l8, .int l9, va_rf l10, v11, va_rf (FR σ 86 a2)] []))))))) : G w mJ4_putVal (KR K) (rc) (rs) σ 222 [va_rf l0, .int l1, va_rf l2, va_rf l3, .int l4, .int l5, va_rf l6, va_rf l7, .int l8, .int l9, va_rf l10, v11, v12] [] := by
  refine G_aload 224 dJ4_putVal_222 rfl rfl ?_
  refine G_ifnull 259 227 dJ4_putVal_224 (by decide) rfl (fun u1 => ?_) (fun u1 => ?_)
  · have h := h.1 u1
    exact h
  · have h := h.2 u1
    refine G_aload 229 dJ4_putVal_227 rfl rfl ?_
    obtain ⟨a2, e3, h⟩ := h
    obtain ⟨c4, h⟩ := h
    refine G_getR (f := 86) (a := a2) "" 232 dJ4_putVal_229 (Or.inl q966) (Or.inl rfl) rfl e3 (hf86 c4) rfl ?_
    refine G_astore 234 [va_rf l0, .int l1, va_rf l2, va_rf l3, .int l4, .int l5, va_rf l6, va_rf l7, .int l8, .int l9, va_rf l10, v11, va_rf (FR σ 86 a2)] dJ4_putVal_232 (Nat.le_of_ble_eq_true rfl) rfl rfl ?_
    refine G_iload 236 dJ4_putVal_234 rfl rfl ?_
    refine G_if_eq 244 239 dJ4_putVal_236 (by decide) rfl (fun u5 => ?_) (fun u5 => ?_)
    · have h := h.1 u5
      exact h
    · have h := h.2 u5
      refine G_aload 241 dJ4_putVal_239 rfl rfl ?_
      refine G_ifnonnull 250 244 dJ4_putVal_241 (by decide) rfl (fun u6 => ?_) (fun u6 => ?_)
      · have h := h.1 u6
        exact h
      · have h := h.2 u6
        exact h
set_option maxHeartbeats 4000000 in
theorem bJ4_putVal_244 {w : Wt} {K : Sg → Option Nat → Prop} {rc rs : Nat} {σ : Sg} (l0 : Option Nat) (l1 : Int32) (l2 : Option Nat) (l3 : Option Nat) (l4 : Int32) (l5 : Int32) (l6 : Option Nat) (l7 : Option Nat) (l8 : Int32) (l9 : Int32) (l10 : Option Nat) (v11 : Value) (l12 : Option Nat) (h : ∃ a1, l10 = some a1 ∧ kd σ a1 ∈ [30, 31, 32] ∧ ∀ s4, s4 = sFR σ 86 a1 l3 → G w mJ4_putVal (KR K) (rc) (rs) s4 250 [va_rf l0, .int l1, va_rf l2, va_rf l3, .int l4, .int l5, va_rf l6, va_rf l7, .int l8, .int l9, va_rf l10, v11, va_rf l12] []) : G w mJ4_putVal (KR K) (rc) (rs) σ 244 [va_rf l0, .int l1, va_rf l2, va_rf l3, .int l4, .int l5, va_rf l6, va_rf l7, .int l8, .int l9, va_rf l10, v11, va_rf l12] [] := by
  refine G_aload 246 dJ4_putVal_244 rfl rfl ?_
  refine G_aload_n 247 dJ4_putVal_246 rfl rfl ?_
  obtain ⟨a1, e2, h⟩ := h
  obtain ⟨c3, h⟩ := h
  refine G_putR (f := 86) (a := a1) "" 250 dJ4_putVal_247 (Or.inl q966) (Or.inl rfl) rfl e2 (hp86 c3) (nk86 c3) (Or.inl rfl) (fun y => by cases y <;> rfl) (fun y => by cases y <;> rfl) rfl ?_
  generalize hs4 : sFR σ 86 a1 l3 = s4
  have x5 : ∀ a, ¬ kd σ a = 0 → kd s4 a = kd σ a := by subst hs4; exact fun a _ => congrFun kd_sFR a
  have h := h s4 hs4.symm
  exact h
set_option maxHeartbeats 4000000 in
theorem bJ4_putVal_250 {w : Wt} {K : Sg → Option Nat → Prop} {rc rs : Nat} {σ : Sg} (l0 : Option Nat) (l1 : Int32) (l2 : Option Nat) (l3 : Option Nat) (l4 : Int32) (l5 : Int32) (l6 : Option Nat) (l7 : Option Nat) (l8 : Int32) (l9 : Int32) (l10 : Option Nat) (v11 : Value) (l12 : Option Nat) (h : ∃ a1, l0 = some a1 ∧ kd σ a1 = 22 ∧ CalV w mJ4_afterNodeAccess σ [va_rf l0, va_rf l10] (fun s3 => Ext σ s3 → K s3 l12)) : G w mJ4_putVal (KR K) (rc) (rs) σ 250 [va_rf l0, .int l1, va_rf l2, va_rf l3, .int l4, .int l5, va_rf l6, va_rf l7, .int l8, .int l9, va_rf l10, v11, va_rf l12] [] := by
  refine G_aload_n 251 dJ4_putVal_250 rfl rfl ?_
  refine G_aload 253 dJ4_putVal_251 rfl rfl ?_
  obtain ⟨a1, e2, h⟩ := h
  obtain ⟨c4, h⟩ := h
  refine G_invV (N := mJ4_afterNodeAccess) (As := [va_rf l10]) (st := []) (t := l0) (b := a1) (rc) (rs) 256 dJ4_putVal_253 q1349 q1350 q1351 q37 q1356 rfl rfl mJ4_afterNodeAccess_args ⟨Nat.le_of_ble_eq_true rfl, Nat.le_of_ble_eq_true rfl⟩ rfl (Nat.zero_le _) e2 (rk22 c4) (le_b mJ4_afterNodeAccess_c (Nat.le_refl _)) (le_b mJ4_afterNodeAccess_s (Nat.le_refl _)) rfl (Cal.mono h ?_)
  rintro s3 v ⟨rfl, h⟩ hx5
  have h := h hx5
  have x6 := hx5.x
  show G w mJ4_putVal (KR K) (rc) (rs) s3 256 [va_rf l0, .int l1, va_rf l2, va_rf l3, .int l4, .int l5, va_rf l6, va_rf l7, .int l8, .int l9, va_rf l10, v11, va_rf l12] []
  refine G_aload 258 dJ4_putVal_256 rfl rfl ?_
  exact G_aret dJ4_putVal_258 rfl (Or.inl ⟨_, rfl⟩) ⟨_, rfl, h⟩
set_option maxHeartbeats 4000000 in
theorem bJ4_putVal_259 {w : Wt} {K : Sg → Option Nat → Prop} {rc rs : Nat} {σ : Sg} (l0 : Option Nat) (l1 : Int32) (l2 : Option Nat) (l3 : Option Nat) (l4 : Int32) (l5 : Int32) (l6 : Option Nat) (l7 : Option Nat) (l8 : Int32) (l9 : Int32) (v10 : Value) (v11 : Value) (v12 : Value) (h : ∃ a1, l0 = some a1 ∧ kd σ a1 ∈ [21, 22] ∧ ∀ s4, s4 = sFI σ 59 a1 ((FI σ 59 a1) + 1) → ∀ s6, s6 = sFI s4 58 a1 ((FI s4 58 a1) + 1) → (((FI s4 58 a1) + 1 ≤ FI s6 60 a1 → G w mJ4_putVal (KR K) (rc + 1) (rs + 64) s6 292 [va_rf l0, .int l1, va_rf l2, va_rf l3, .int l4, .int l5, va_rf l6, va_rf l7, .int l8, .int l9, v10, v11, v12] []) ∧ (¬ (FI s4 58 a1) + 1 ≤ FI s6 60 a1 → CalR w mJ4_resize s6 [va_rf l0] (fun s9 x10 => Ext s6 s9 → G w mJ4_putVal (KR K) (rc) (rs) s9 292 [va_rf l0, .int l1, va_rf l2, va_rf l3, .int l4, .int l5, va_rf l6, va_rf l7, .int l8, .int l9, v10, v11, v12] [])))) : G w mJ4_putVal (KR K) (rc + 1) (rs + 64) σ 259 [va_rf l0, .int l1, va_rf l2, va_rf l3, .int l4, .int l5, va_rf l6, va_rf l7, .int l8, .int l9, v10, v11, v12] [] := by
  refine G_aload_n 260 dJ4_putVal_259 rfl rfl ?_
  refine G_dup 261 dJ4_putVal_260 (rf_cat _) rfl ?_
  obtain ⟨a1, e2, h⟩ := h
  obtain ⟨c3, h⟩ := h
  refine G_getI (f := 59) (a := a1) "" 264 dJ4_putVal_261 (Or.inl q152) (Or.inl rfl) rfl e2 (hf59 c3) rfl ?_
  refine G_iconst (v := 1) 265 dJ4_putVal_264 (by decide) rfl ?_
  refine G_iadd 266 dJ4_putVal_265 rfl ?_
  refine G_putI (f := 59) (a := a1) "" 269 dJ4_putVal_266 (Or.inl q152) (Or.inl rfl) rfl e2 (hp59 c3) (nk59 c3) (Or.inl rfl) rfl rfl rfl ?_
  generalize hs4 : sFI σ 59 a1 ((FI σ 59 a1) + 1) = s4
  have x5 : ∀ a, ¬ kd σ a = 0 → kd s4 a = kd σ a := by subst hs4; exact fun a _ => congrFun kd_sFI a
  have h := h s4 hs4.symm
  refine G_aload_n 270 dJ4_putVal_269 rfl rfl ?_
  refine G_dup 271 dJ4_putVal_270 (rf_cat _) rfl ?_
  have c3 := kdM x5 c3 (by decide)
  refine G_getI (f := 58) (a := a1) "" 274 dJ4_putVal_271 (Or.inl q147) (Or.inl rfl) rfl e2 (hf58 c3) rfl ?_
  refine G_iconst (v := 1) 275 dJ4_putVal_274 (by decide) rfl ?_
  refine G_iadd 276 dJ4_putVal_275 rfl ?_
  refine G_dup_x1 277 dJ4_putVal_276 (rfl) (rf_cat _) rfl ?_
  refine G_putI (f := 58) (a := a1) "" 280 dJ4_putVal_277 (Or.inl q147) (Or.inl rfl) rfl e2 (hp58 c3) (nk58 c3) (Or.inl rfl) rfl rfl rfl ?_
  generalize hs6 : sFI s4 58 a1 ((FI s4 58 a1) + 1) = s6
  have x7 : ∀ a, ¬ kd s4 a = 0 → kd s6 a = kd s4 a := by subst hs6; exact fun a _ => congrFun kd_sFI a
  have h := h s6 hs6.symm
  refine G_aload_n 281 dJ4_putVal_280 rfl rfl ?_
  have c3 := kdM x7 c3 (by decide)
  refine G_getI (f := 60) (a := a1) "" 284 dJ4_putVal_281 (Or.inl q153) (Or.inl rfl) rfl e2 (hf60 c3) rfl ?_
  refine G_icmp_le 292 287 dJ4_putVal_284 (by decide) rfl (fun u8 => ?_) (fun u8 => ?_)
  · have h := h.1 u8
    exact h
  · have h := h.2 u8
    refine G_aload_n 288 dJ4_putVal_287 rfl rfl ?_
    have fin : Cal w mJ4_resize s6 [va_rf l0] (fun σ1 v => Ext s6 σ1 → G w mJ4_putVal (KR K) (rc) (rs) σ1 291 [va_rf l0, .int l1, va_rf l2, va_rf l3, .int l4, .int l5, va_rf l6, va_rf l7, .int l8, .int l9, v10, v11, v12] (v.toList ++ [])) := by
      refine Cal.mono h ?_
      rintro s9 v ⟨x10, rfl, h⟩ hx11
      have h := h hx11
      have x12 := hx11.x
      show G w mJ4_putVal (KR K) (rc) (rs) s9 291 [va_rf l0, .int l1, va_rf l2, va_rf l3, .int l4, .int l5, va_rf l6, va_rf l7, .int l8, .int l9, v10, v11, v12] [va_rf x10]
      refine G_pop 292 dJ4_putVal_291 (rf_cat _) rfl ?_
      exact h
    have k13 : kd s6 a1 ∈ [21, 22] := c3
    simp only [List.mem_cons, List.not_mem_nil, or_false] at k13
    rcases k13 with k13 | k13
    · exact G_invU (N := mJ4_resize) (owner := "java/util/HashMap") (x := ⟨"java/util/HashMap", "resize", "()[Ljava/util/HashMap$Node;"⟩) (As := []) (st := []) (t := l0) (b := a1) (rc) (rs) 291 dJ4_putVal_288 q909 q912 q913 q910 q37 q914 (Or.inl rfl) rfl ax4 ⟨Nat.le_of_ble_eq_true rfl, Nat.le_of_ble_eq_true rfl⟩ rfl (Nat.zero_le _) e2 (rk21 k13) (le_b mJ4_resize_c (Nat.le_refl _)) (le_b mJ4_resize_s (Nat.le_refl _)) rfl fin
    · exact G_invV (N := mJ4_resize) (As := []) (st := []) (t := l0) (b := a1) (rc) (rs) 291 dJ4_putVal_288 q909 q910 q911 q37 q914 rfl rfl mJ4_resize_args ⟨Nat.le_of_ble_eq_true rfl, Nat.le_of_ble_eq_true rfl⟩ rfl (Nat.zero_le _) e2 (rk22 k13) (le_b mJ4_resize_c (Nat.le_refl _)) (le_b mJ4_resize_s (Nat.le_refl _)) rfl fin
set_option maxHeartbeats 4000000 in
theorem bJ4_putVal_292 {w : Wt} {K : Sg → Option Nat → Prop} {rc rs : Nat} {σ : Sg} (l0 : Option Nat) (l1 : Int32) (l2 : Option Nat) (l3 : Option Nat) (l4 : Int32) (l5 : Int32) (l6 : Option Nat) (l7 : Option Nat) (l8 : Int32) (l9 : Int32) (v10 : Value) (v11 : Value) (v12 : Value) (h : ∃ a1, l0 = some a1 ∧ ((kd σ a1 = 22 ∧ CalV w mJ4_afterNodeInsertion σ [va_rf l0, .int l5] (fun s3 => Ext σ s3 → K s3 none)) ∨ (kd σ a1 = 21 ∧ CalV w mJ5_afterNodeInsertion σ [va_rf l0, .int l5] (fun s7 => Ext σ s7 → K s7 none)))) : G w mJ4_putVal (KR K) (rc) (rs) σ 292 [va_rf l0, .int l1, va_rf l2, va_rf l3, .int l4, .int l5, va_rf l6, va_rf l7, .int l8, .int l9, v10, v11, v12] [] := by
  refine G_aload_n 293 dJ4_putVal_292 rfl rfl ?_
  refine G_iload 295 dJ4_putVal_293 rfl rfl ?_
  obtain ⟨a1, e2, h⟩ := h
  rcases h with ⟨c4, h⟩ | ⟨c8, h⟩
  · refine G_invV (N := mJ4_afterNodeInsertion) (As := [.int l5]) (st := []) (t := l0) (b := a1) (rc) (rs) 298 dJ4_putVal_295 q1357 q1358 q1359 q37 q1368 rfl rfl mJ4_afterNodeInsertion_args ⟨Nat.le_of_ble_eq_true rfl, Nat.le_of_ble_eq_true rfl⟩ rfl (Nat.zero_le _) e2 (rk22 c4) (le_b mJ4_afterNodeInsertion_c (Nat.le_refl _)) (le_b mJ4_afterNodeInsertion_s (Nat.le_refl _)) rfl (Cal.mono h ?_)
    rintro s3 v ⟨rfl, h⟩ hx5
    have h := h hx5
    have x6 := hx5.x
    show G w mJ4_putVal (KR K) (rc) (rs) s3 298 [va_rf l0, .int l1, va_rf l2, va_rf l3, .int l4, .int l5, va_rf l6, va_rf l7, .int l8, .int l9, v10, v11, v12] []
    refine G_null 299 dJ4_putVal_298 rfl ?_
    exact G_aret dJ4_putVal_299 rfl (Or.inl ⟨_, rfl⟩) ⟨_, rfl, h⟩
  · refine G_invU (N := mJ5_afterNodeInsertion) (owner := "java/util/HashMap") (x := ⟨"java/util/HashMap", "afterNodeInsertion", "(Z)V"⟩) (As := [.int l5]) (st := []) (t := l0) (b := a1) (rc) (rs) 298 dJ4_putVal_295 q1357 q1360 q1361 q1362 q38 q1363 (Or.inr (Or.inl ⟨q1358, _, _, _, q1368⟩)) rfl ax3 ⟨Nat.le_of_ble_eq_true rfl, Nat.le_of_ble_eq_true rfl⟩ rfl (Nat.zero_le _) e2 (rk21 c8) (le_b mJ5_afterNodeInsertion_c (Nat.le_refl _)) (le_b mJ5_afterNodeInsertion_s (Nat.le_refl _)) rfl (Cal.mono h ?_)
    rintro s7 v ⟨rfl, h⟩ hx9
    have h := h hx9
    have x10 := hx9.x
    show G w mJ4_putVal (KR K) (rc) (rs) s7 298 [va_rf l0, .int l1, va_rf l2, va_rf l3, .int l4, .int l5, va_rf l6, va_rf l7, .int l8, .int l9, v10, v11, v12] []
    refine G_null 299 dJ4_putVal_298 rfl ?_
    exact G_aret dJ4_putVal_299 rfl (Or.inl ⟨_, rfl⟩) ⟨_, rfl, h⟩
theorem eJ4_putVal {w : Wt} {K : Sg → Option Nat → Prop} {σ : Sg} (l0 : Option Nat) (l1 : Int32) (l2 : Option Nat) (l3 : Option Nat) (l4 : Int32) (l5 : Int32) (h : G w mJ4_putVal (KR K) 25 450 σ 0 [va_rf l0, .int l1, va_rf l2, va_rf l3, .int l4, .int l5, U_, U_, U_, U_, U_, U_, U_] []) : CalR w mJ4_putVal σ [va_rf l0, .int l1, va_rf l2, va_rf l3, .int l4, .int l5] K :=
  Cal.start 7 mJ4_putVal_plain (catR (catI (catR (catR (catI (catI cat0)))))) (Nat.le_of_ble_eq_true rfl) rfl h
set_option maxHeartbeats 4000000 in
theorem bJ4_resize_0 {w : Wt} {K : Sg → Option Nat → Prop} {rc rs : Nat} {σ : Sg} (l0 : Option Nat) (h : ∃ a1, l0 = some a1 ∧ kd σ a1 ∈ [21, 22] ∧ ((¬ FR σ 56 a1 = none → ∃ a5, FR σ 56 a1 = some a5 ∧ kd σ a5 ∈ [1, 2, 3, 4, 5, 7, 8] ∧ ((nI (ln σ a5) ≤ 0 → ((FI σ 60 a1 ≤ 0 → ∀ s10, s10 = sFI σ 60 a1 12 → ∀ n13, n13 = nx s10 → kd s10 n13 = 0 → ∀ s14, s14 = nA s10 4 16 → ∀ s17, s17 = sFR s14 56 a1 (some n13) → G w mJ4_resize (KR K) (rc) (rs + 48) s17 151 [va_rf l0, va_rf (FR σ 56 a1), .int (nI (ln σ a5)), .int (FI σ 60 a1), .int 16, .int 12, va_rf (some n13), .int 0, U_, U_, U_, U_, U_, U_] []) ∧ (¬ FI σ 60 a1 ≤ 0 → False))) ∧ (¬ nI (ln σ a5) ≤ 0 → ((nI (ln σ a5) < 1073741824 → ((1073741824 ≤ (nI (ln σ a5)) <<< ((1 : Int32) &&& 31) → False) ∧ (¬ 1073741824 ≤ (nI (ln σ a5)) <<< ((1 : Int32) &&& 31) → ((nI (ln σ a5) < 16 → False) ∧ (¬ nI (ln σ a5) < 16 → ((¬ (FI σ 60 a1) <<< ((1 : Int32) &&& 31) = 0 → ∀ s23, s23 = sFI σ 60 a1 ((FI σ 60 a1) <<< ((1 : Int32) &&& 31)) → ∃ N25, (nI (ln σ a5)) <<< ((1 : Int32) &&& 31) = nI N25 ∧ N25 ≤ 64 ∧ ∀ n28, n28 = nx s23 → kd s23 n28 = 0 → ∀ s29, s29 = nA s23 4 N25 → ∀ s32, s32 = sFR s29 56 a1 (some n28) → G w mJ4_resize (KR K) (rc) (rs) s32 151 [va_rf l0, va_rf (FR σ 56 a1), .int (nI (ln σ a5)), .int (FI σ 60 a1), .int ((nI (ln σ a5)) <<< ((1 : Int32) &&& 31)), .int ((FI σ 60 a1) <<< ((1 : Int32) &&& 31)), va_rf (some n28), .int 0, U_, U_, U_, U_, U_, U_] []) ∧ ((FI σ 60 a1) <<< ((1 : Int32) &&& 31) = 0 → False))))))) ∧ (¬ nI (ln σ a5) < 1073741824 → ∀ s34, s34 = sFI σ 60 a1 2147483647 → K s34 (FR σ 56 a1)))))) ∧ (FR σ 56 a1 = none → ((FI σ 60 a1 ≤ 0 → ∀ s37, s37 = sFI σ 60 a1 12 → ∀ n40, n40 = nx s37 → kd s37 n40 = 0 → ∀ s41, s41 = nA s37 4 16 → ∀ s44, s44 = sFR s41 56 a1 (some n40) → ((FR σ 56 a1 = none → K s44 (some n40)) ∧ (¬ FR σ 56 a1 = none → G w mJ4_resize (KR K) (rc) (rs + 48) s44 151 [va_rf l0, va_rf (FR σ 56 a1), .int 0, .int (FI σ 60 a1), .int 16, .int 12, va_rf (some n40), .int 0, U_, U_, U_, U_, U_, U_] []))) ∧ (¬ FI σ 60 a1 ≤ 0 → False))))) : G w mJ4_resize (KR K) (rc + 1) (rs + 64) σ 0 [va_rf l0, U_, U_, U_, U_, U_, U_, U_, U_, U_, U_, U_, U_, U_] [] := by
  refine G_aload_n 1 dJ4_resize_0 rfl rfl ?_
  obtain ⟨a1, e2, h⟩ := h
  obtain ⟨c3, h⟩ := h
  refine G_getR (f := 56) (a := a1) "" 4 dJ4_resize_1 (Or.inl q142) (Or.inl rfl) rfl e2 (hf56 c3) rfl ?_
  refine G_astore_n 5 [va_rf l0, va_rf (FR σ 56 a1), U_, U_, U_, U_, U_, U_, U_, U_, U_, U_, U_, U_] dJ4_resize_4 (Nat.le_of_ble_eq_true rfl) rfl rfl ?_
  refine G_aload_n 6 dJ4_resize_5 rfl rfl ?_
  refine G_ifnonnull 13 9 dJ4_resize_6 (by decide) rfl (fun u4 => ?_) (fun u4 => ?_)
  · have h := h.1 u4
    refine G_aload_n 14 dJ4_resize_13 rfl rfl ?_
    obtain ⟨a5, e6, h⟩ := h
    obtain ⟨c7, h⟩ := h
    refine G_alen (a := a5) 15 dJ4_resize_14 rfl e6 c7 ?_
    refine G_istore_n 16 [va_rf l0, va_rf (FR σ 56 a1), .int (nI (ln σ a5)), U_, U_, U_, U_, U_, U_, U_, U_, U_, U_, U_] dJ4_resize_15 (Nat.le_of_ble_eq_true rfl) rfl rfl ?_
    refine G_aload_n 17 dJ4_resize_16 rfl rfl ?_
    refine G_getI (f := 60) (a := a1) "" 20 dJ4_resize_17 (Or.inl q153) (Or.inl rfl) rfl e2 (hf60 c3) rfl ?_
    refine G_istore_n 21 [va_rf l0, va_rf (FR σ 56 a1), .int (nI (ln σ a5)), .int (FI σ 60 a1), U_, U_, U_, U_, U_, U_, U_, U_, U_, U_] dJ4_resize_20 (Nat.le_of_ble_eq_true rfl) rfl rfl ?_
    refine G_iconst (v := 0) 22 dJ4_resize_21 (by decide) rfl ?_
    refine G_istore 24 [va_rf l0, va_rf (FR σ 56 a1), .int (nI (ln σ a5)), .int (FI σ 60 a1), U_, .int 0, U_, U_, U_, U_, U_, U_, U_, U_] dJ4_resize_22 (Nat.le_of_ble_eq_true rfl) rfl rfl ?_
    refine G_iload_n 25 dJ4_resize_24 rfl rfl ?_
    refine G_if_le 67 28 dJ4_resize_25 (by decide) rfl (fun u8 => ?_) (fun u8 => ?_)
    · have h := h.1 u8
      refine G_iload_n 68 dJ4_resize_67 rfl rfl ?_
      refine G_if_le 77 71 dJ4_resize_68 (by decide) rfl (fun u9 => ?_) (fun u9 => ?_)
      · have h := h.1 u9
        refine G_bipush (v := 16) 79 dJ4_resize_77 (by decide) rfl ?_
        refine G_istore 81 [va_rf l0, va_rf (FR σ 56 a1), .int (nI (ln σ a5)), .int (FI σ 60 a1), .int 16, .int 0, U_, U_, U_, U_, U_, U_, U_, U_] dJ4_resize_79 (Nat.le_of_ble_eq_true rfl) rfl rfl ?_
        refine G_bipush (v := 12) 83 dJ4_resize_81 (by decide) rfl ?_
        refine G_istore 85 [va_rf l0, va_rf (FR σ 56 a1), .int (nI (ln σ a5)), .int (FI σ 60 a1), .int 16, .int 12, U_, U_, U_, U_, U_, U_, U_, U_] dJ4_resize_83 (Nat.le_of_ble_eq_true rfl) rfl rfl ?_
        refine G_iload 87 dJ4_resize_85 rfl rfl ?_
        refine G_if_ne 125 90 dJ4_resize_87 (by decide) rfl (fun _ => ?_) (fun q => absurd q (by decide))
        refine G_aload_n 126 dJ4_resize_125 rfl rfl ?_
        refine G_iload 128 dJ4_resize_126 rfl rfl ?_
        refine G_putI (f := 60) (a := a1) "" 131 dJ4_resize_128 (Or.inl q153) (Or.inl rfl) rfl e2 (hp60 c3) (nk60 c3) (Or.inl rfl) rfl rfl rfl ?_
        generalize hs10 : sFI σ 60 a1 12 = s10
        have x11 : ∀ a, ¬ kd σ a = 0 → kd s10 a = kd σ a := by subst hs10; exact fun a _ => congrFun kd_sFI a
        have h := h s10 hs10.symm
        refine G_iload 133 dJ4_resize_131 rfl rfl ?_
        refine G_newR (E := "java/util/HashMap$Node") (kn := 4) (N := 16) (rc) (rs + 48) 136 dJ4_resize_133 (Or.inr ⟨rfl, rfl⟩) q918 q919 rfl (by decide) rfl (Nat.le_refl _) (Nat.le_refl _) (fun z12 => ?_)
        generalize hn13 : nx s10 = n13 at z12 ⊢
        generalize hs14 : nA s10 4 16 = s14
        have x15 : ∀ a, ¬ kd s10 a = 0 → kd s14 a = kd s10 a := by subst hs14 hn13; exact kdAx z12
        have c16 : kd s14 n13 = 4 := by subst hs14 hn13; exact kdA_self
        have h := h n13 hn13.symm z12 s14 hs14.symm
        refine G_astore 138 [va_rf l0, va_rf (FR σ 56 a1), .int (nI (ln σ a5)), .int (FI σ 60 a1), .int 16, .int 12, va_rf (some n13), U_, U_, U_, U_, U_, U_, U_] dJ4_resize_136 (Nat.le_of_ble_eq_true rfl) rfl rfl ?_
        refine G_aload_n 139 dJ4_resize_138 rfl rfl ?_
        refine G_aload 141 dJ4_resize_139 rfl rfl ?_
        have c3 := kdM x11 c3 (by decide)
        have c3 := kdM x15 c3 (by decide)
        refine G_putR (f := 56) (a := a1) "" 144 dJ4_resize_141 (Or.inl q142) (Or.inl rfl) rfl e2 (hp56 c3) (nk56 c3) (Or.inl rfl) (fun y => by cases y <;> rfl) (fun y => by cases y <;> rfl) rfl ?_
        generalize hs17 : sFR s14 56 a1 (some n13) = s17
        have x18 : ∀ a, ¬ kd s14 a = 0 → kd s17 a = kd s14 a := by subst hs17; exact fun a _ => congrFun kd_sFR a
        have h := h s17 hs17.symm
        refine G_aload_n 145 dJ4_resize_144 rfl rfl ?_
        refine G_ifnull 353 148 dJ4_resize_145 (by decide) rfl (fun q => absurd (q.symm.trans e6) (by simp)) (fun _ => ?_)
        refine G_iconst (v := 0) 149 dJ4_resize_148 (by decide) rfl ?_
        refine G_istore 151 [va_rf l0, va_rf (FR σ 56 a1), .int (nI (ln σ a5)), .int (FI σ 60 a1), .int 16, .int 12, va_rf (some n13), .int 0, U_, U_, U_, U_, U_, U_] dJ4_resize_149 (Nat.le_of_ble_eq_true rfl) rfl rfl ?_
        exact h
      · have h := h.2 u9
        refine G_iload_n 72 dJ4_resize_71 rfl rfl ?_
        refine G_istore 74 [va_rf l0, va_rf (FR σ 56 a1), .int (nI (ln σ a5)), .int (FI σ 60 a1), .int (FI σ 60 a1), .int 0, U_, U_, U_, U_, U_, U_, U_, U_] dJ4_resize_72 (Nat.le_of_ble_eq_true rfl) rfl rfl ?_
        refine G_goto 85 dJ4_resize_74 (by decide) ?_
        refine G_iload 87 dJ4_resize_85 rfl rfl ?_
        refine G_if_ne 125 90 dJ4_resize_87 (by decide) rfl (fun q => absurd q (by decide)) (fun _ => ?_)
        refine G_iload 92 dJ4_resize_90 rfl rfl ?_
        exact h.elim
    · have h := h.2 u8
      refine G_iload_n 29 dJ4_resize_28 rfl rfl ?_
      refine G_ldc (v := 1073741824) 31 dJ4_resize_29 q915 rfl ?_
      refine G_icmp_lt 42 34 dJ4_resize_31 (by decide) rfl (fun u19 => ?_) (fun u19 => ?_)
      · have h := h.1 u19
        refine G_iload_n 43 dJ4_resize_42 rfl rfl ?_
        refine G_iconst (v := 1) 44 dJ4_resize_43 (by decide) rfl ?_
        refine G_ishl 45 dJ4_resize_44 rfl ?_
        refine G_dup 46 dJ4_resize_45 (rfl) rfl ?_
        refine G_istore 48 [va_rf l0, va_rf (FR σ 56 a1), .int (nI (ln σ a5)), .int (FI σ 60 a1), .int ((nI (ln σ a5)) <<< ((1 : Int32) &&& 31)), .int 0, U_, U_, U_, U_, U_, U_, U_, U_] dJ4_resize_46 (Nat.le_of_ble_eq_true rfl) rfl rfl ?_
        refine G_ldc (v := 1073741824) 50 dJ4_resize_48 q915 rfl ?_
        refine G_icmp_ge 85 53 dJ4_resize_50 (by decide) rfl (fun u20 => ?_) (fun u20 => ?_)
        · have h := h.1 u20
          refine G_iload 87 dJ4_resize_85 rfl rfl ?_
          refine G_if_ne 125 90 dJ4_resize_87 (by decide) rfl (fun q => absurd q (by decide)) (fun _ => ?_)
          refine G_iload 92 dJ4_resize_90 rfl rfl ?_
          exact h.elim
        · have h := h.2 u20
          refine G_iload_n 54 dJ4_resize_53 rfl rfl ?_
          refine G_bipush (v := 16) 56 dJ4_resize_54 (by decide) rfl ?_
          refine G_icmp_lt 85 59 dJ4_resize_56 (by decide) rfl (fun u21 => ?_) (fun u21 => ?_)
          · have h := h.1 u21
            refine G_iload 87 dJ4_resize_85 rfl rfl ?_
            refine G_if_ne 125 90 dJ4_resize_87 (by decide) rfl (fun q => absurd q (by decide)) (fun _ => ?_)
            refine G_iload 92 dJ4_resize_90 rfl rfl ?_
            exact h.elim
          · have h := h.2 u21
            refine G_iload_n 60 dJ4_resize_59 rfl rfl ?_
            refine G_iconst (v := 1) 61 dJ4_resize_60 (by decide) rfl ?_
            refine G_ishl 62 dJ4_resize_61 rfl ?_
            refine G_istore 64 [va_rf l0, va_rf (FR σ 56 a1), .int (nI (ln σ a5)), .int (FI σ 60 a1), .int ((nI (ln σ a5)) <<< ((1 : Int32) &&& 31)), .int ((FI σ 60 a1) <<< ((1 : Int32) &&& 31)), U_, U_, U_, U_, U_, U_, U_, U_] dJ4_resize_62 (Nat.le_of_ble_eq_true rfl) rfl rfl ?_
            refine G_goto 85 dJ4_resize_64 (by decide) ?_
            refine G_iload 87 dJ4_resize_85 rfl rfl ?_
            refine G_if_ne 125 90 dJ4_resize_87 (by decide) rfl (fun u22 => ?_) (fun u22 => ?_)
            · have h := h.1 u22
              refine G_aload_n 126 dJ4_resize_125 rfl rfl ?_
              refine G_iload 128 dJ4_resize_126 rfl rfl ?_
              refine G_putI (f := 60) (a := a1) "" 131 dJ4_resize_128 (Or.inl q153) (Or.inl rfl) rfl e2 (hp60 c3) (nk60 c3) (Or.inl rfl) rfl rfl rfl ?_
              generalize hs23 : sFI σ 60 a1 ((FI σ 60 a1) <<< ((1 : Int32) &&& 31)) = s23
              have x24 : ∀ a, ¬ kd σ a = 0 → kd s23 a = kd σ a := by subst hs23; exact fun a _ => congrFun kd_sFI a
              have h := h s23 hs23.symm
              refine G_iload 133 dJ4_resize_131 rfl rfl ?_
              obtain ⟨N25, e26, e26l, h⟩ := h
              refine G_newR (E := "java/util/HashMap$Node") (kn := 4) (N := N25) (rc) (rs) 136 dJ4_resize_133 (Or.inr ⟨rfl, rfl⟩) q918 q919 e26 (by omega) rfl (Nat.le_refl _) (by omega) (fun z27 => ?_)
              generalize hn28 : nx s23 = n28 at z27 ⊢
              generalize hs29 : nA s23 4 N25 = s29
              have x30 : ∀ a, ¬ kd s23 a = 0 → kd s29 a = kd s23 a := by subst hs29 hn28; exact kdAx z27
              have c31 : kd s29 n28 = 4 := by subst hs29 hn28; exact kdA_self
              have h := h n28 hn28.symm z27 s29 hs29.symm
              refine G_astore 138 [va_rf l0, va_rf (FR σ 56 a1), .int (nI (ln σ a5)), .int (FI σ 60 a1), .int ((nI (ln σ a5)) <<< ((1 : Int32) &&& 31)), .int ((FI σ 60 a1) <<< ((1 : Int32) &&& 31)), va_rf (some n28), U_, U_, U_, U_, U_, U_, U_] dJ4_resize_136 (Nat.le_of_ble_eq_true rfl) rfl rfl ?_
              refine G_aload_n 139 dJ4_resize_138 rfl rfl ?_
              refine G_aload 141 dJ4_resize_139 rfl rfl ?_
              have c3 := kdM x24 c3 (by decide)
              have c3 := kdM x30 c3 (by decide)
              refine G_putR (f := 56) (a := a1) "" 144 dJ4_resize_141 (Or.inl q142) (Or.inl rfl) rfl e2 (hp56 c3) (nk56 c3) (Or.inl rfl) (fun y => by cases y <;> rfl) (fun y => by cases y <;> rfl) rfl ?_
              generalize hs32 : sFR s29 56 a1 (some n28) = s32
              have x33 : ∀ a, ¬ kd s29 a = 0 → kd s32 a = kd s29 a := by subst hs32; exact fun a _ => congrFun kd_sFR a
              have h := h s32 hs32.symm
              refine G_aload_n 145 dJ4_resize_144 rfl rfl ?_
              refine G_ifnull 353 148 dJ4_resize_145 (by decide) rfl (fun q => absurd (q.symm.trans e6) (by simp)) (fun _ => ?_)
              refine G_iconst (v := 0) 149 dJ4_resize_148 (by decide) rfl ?_
              refine G_istore 151 [va_rf l0, va_rf (FR σ 56 a1), .int (nI (ln σ a5)), .int (FI σ 60 a1), .int ((nI (ln σ a5)) <<< ((1 : Int32) &&& 31)), .int ((FI σ 60 a1) <<< ((1 : Int32) &&& 31)), va_rf (some n28), .int 0, U_, U_, U_, U_, U_, U_] dJ4_resize_149 (Nat.le_of_ble_eq_true rfl) rfl rfl ?_
              exact h
            · have h := h.2 u22
              refine G_iload 92 dJ4_resize_90 rfl rfl ?_
              exact h.elim
      · have h := h.2 u19
        refine G_aload_n 35 dJ4_resize_34 rfl rfl ?_
        refine G_ldc (v := 2147483647) 37 dJ4_resize_35 q916 rfl ?_
        refine G_putI (f := 60) (a := a1) "" 40 dJ4_resize_37 (Or.inl q153) (Or.inl rfl) rfl e2 (hp60 c3) (nk60 c3) (Or.inl rfl) rfl rfl rfl ?_
        generalize hs34 : sFI σ 60 a1 2147483647 = s34
        have x35 : ∀ a, ¬ kd σ a = 0 → kd s34 a = kd σ a := by subst hs34; exact fun a _ => congrFun kd_sFI a
        have h := h s34 hs34.symm
        refine G_aload_n 41 dJ4_resize_40 rfl rfl ?_
        exact G_aret dJ4_resize_41 rfl (Or.inr ⟨_, rfl⟩) ⟨_, rfl, h⟩
  · have h := h.2 u4
    refine G_iconst (v := 0) 10 dJ4_resize_9 (by decide) rfl ?_
    refine G_goto 15 dJ4_resize_10 (by decide) ?_
    refine G_istore_n 16 [va_rf l0, va_rf (FR σ 56 a1), .int 0, U_, U_, U_, U_, U_, U_, U_, U_, U_, U_, U_] dJ4_resize_15 (Nat.le_of_ble_eq_true rfl) rfl rfl ?_
    refine G_aload_n 17 dJ4_resize_16 rfl rfl ?_
    refine G_getI (f := 60) (a := a1) "" 20 dJ4_resize_17 (Or.inl q153) (Or.inl rfl) rfl e2 (hf60 c3) rfl ?_
    refine G_istore_n 21 [va_rf l0, va_rf (FR σ 56 a1), .int 0, .int (FI σ 60 a1), U_, U_, U_, U_, U_, U_, U_, U_, U_, U_] dJ4_resize_20 (Nat.le_of_ble_eq_true rfl) rfl rfl ?_
    refine G_iconst (v := 0) 22 dJ4_resize_21 (by decide) rfl ?_
    refine G_istore 24 [va_rf l0, va_rf (FR σ 56 a1), .int 0, .int (FI σ 60 a1), U_, .int 0, U_, U_, U_, U_, U_, U_, U_, U_] dJ4_resize_22 (Nat.le_of_ble_eq_true rfl) rfl rfl ?_
    refine G_iload_n 25 dJ4_resize_24 rfl rfl ?_
    refine G_if_le 67 28 dJ4_resize_25 (by decide) rfl (fun _ => ?_) (fun q => absurd q (by decide))
    refine G_iload_n 68 dJ4_resize_67 rfl rfl ?_
    refine G_if_le 77 71 dJ4_resize_68 (by decide) rfl (fun u36 => ?_) (fun u36 => ?_)
    · have h := h.1 u36
      refine G_bipush (v := 16) 79 dJ4_resize_77 (by decide) rfl ?_
      refine G_istore 81 [va_rf l0, va_rf (FR σ 56 a1), .int 0, .int (FI σ 60 a1), .int 16, .int 0, U_, U_, U_, U_, U_, U_, U_, U_] dJ4_resize_79 (Nat.le_of_ble_eq_true rfl) rfl rfl ?_
      refine G_bipush (v := 12) 83 dJ4_resize_81 (by decide) rfl ?_
      refine G_istore 85 [va_rf l0, va_rf (FR σ 56 a1), .int 0, .int (FI σ 60 a1), .int 16, .int 12, U_, U_, U_, U_, U_, U_, U_, U_] dJ4_resize_83 (Nat.le_of_ble_eq_true rfl) rfl rfl ?_
      refine G_iload 87 dJ4_resize_85 rfl rfl ?_
      refine G_if_ne 125 90 dJ4_resize_87 (by decide) rfl (fun _ => ?_) (fun q => absurd q (by decide))
      refine G_aload_n 126 dJ4_resize_125 rfl rfl ?_
      refine G_iload 128 dJ4_resize_126 rfl rfl ?_
      refine G_putI (f := 60) (a := a1) "" 131 dJ4_resize_128 (Or.inl q153) (Or.inl rfl) rfl e2 (hp60 c3) (nk60 c3) (Or.inl rfl) rfl rfl rfl ?_
      generalize hs37 : sFI σ 60 a1 12 = s37
      have x38 : ∀ a, ¬ kd σ a = 0 → kd s37 a = kd σ a := by subst hs37; exact fun a _ => congrFun kd_sFI a
      have h := h s37 hs37.symm
      refine G_iload 133 dJ4_resize_131 rfl rfl ?_
      refine G_newR (E := "java/util/HashMap$Node") (kn := 4) (N := 16) (rc) (rs + 48) 136 dJ4_resize_133 (Or.inr ⟨rfl, rfl⟩) q918 q919 rfl (by decide) rfl (Nat.le_refl _) (Nat.le_refl _) (fun z39 => ?_)
      generalize hn40 : nx s37 = n40 at z39 ⊢
      generalize hs41 : nA s37 4 16 = s41
      have x42 : ∀ a, ¬ kd s37 a = 0 → kd s41 a = kd s37 a := by subst hs41 hn40; exact kdAx z39
      have c43 : kd s41 n40 = 4 := by subst hs41 hn40; exact kdA_self
      have h := h n40 hn40.symm z39 s41 hs41.symm
      refine G_astore 138 [va_rf l0, va_rf (FR σ 56 a1), .int 0, .int (FI σ 60 a1), .int 16, .int 12, va_rf (some n40), U_, U_, U_, U_, U_, U_, U_] dJ4_resize_136 (Nat.le_of_ble_eq_true rfl) rfl rfl ?_
      refine G_aload_n 139 dJ4_resize_138 rfl rfl ?_
      refine G_aload 141 dJ4_resize_139 rfl rfl ?_
      have c3 := kdM x38 c3 (by decide)
      have c3 := kdM x42 c3 (by decide)
      refine G_putR (f := 56) (a := a1) "" 144 dJ4_resize_141 (Or.inl q142) (Or.inl rfl) rfl e2 (hp56 c3) (nk56 c3) (Or.inl rfl) (fun y => by cases y <;> rfl) (fun y => by cases y <;> rfl) rfl ?_
      generalize hs44 : sFR s41 56 a1 (some n40) = s44
      have x45 : ∀ a, ¬ kd s41 a = 0 → kd s44 a = kd s41 a := by subst hs44; exact fun a _ => congrFun kd_sFR a
      have h := h s44 hs44.symm
      refine G_aload_n 145 dJ4_resize_144 rfl rfl ?_
      refine G_ifnull 353 148 dJ4_resize_145 (by decide) rfl (fun u46 => ?_) (fun u46 => ?_)
      · have h := h.1 u46
        refine G_aload 355 dJ4_resize_353 rfl rfl ?_
        exact G_aret dJ4_resize_355 rfl (Or.inr ⟨_, rfl⟩) ⟨_, rfl, h⟩
      · have h := h.2 u46
        refine G_iconst (v := 0) 149 dJ4_resize_148 (by decide) rfl ?_
        refine G_istore 151 [va_rf l0, va_rf (FR σ 56 a1), .int 0, .int (FI σ 60 a1), .int 16, .int 12, va_rf (some n40), .int 0, U_, U_, U_, U_, U_, U_] dJ4_resize_149 (Nat.le_of_ble_eq_true rfl) rfl rfl ?_
        exact h
    · have h := h.2 u36
      refine G_iload_n 72 dJ4_resize_71 rfl rfl ?_
      refine G_istore 74 [va_rf l0, va_rf (FR σ 56 a1), .int 0, .int (FI σ 60 a1), .int (FI σ 60 a1), .int 0, U_, U_, U_, U_, U_, U_, U_, U_] dJ4_resize_72 (Nat.le_of_ble_eq_true rfl) rfl rfl ?_
      refine G_goto 85 dJ4_resize_74 (by decide) ?_
      refine G_iload 87 dJ4_resize_85 rfl rfl ?_
      refine G_if_ne 125 90 dJ4_resize_87 (by decide) rfl (fun q => absurd q (by decide)) (fun _ => ?_)
      refine G_iload 92 dJ4_resize_90 rfl rfl ?_
      exact h.elim
set_option maxHeartbeats 4000000 in
theorem bJ4_resize_151 {w : Wt} {K : Sg → Option Nat → Prop} {rc rs : Nat} {σ : Sg} (l0 : Option Nat) (l1 : Option Nat) (l2 : Int32) (l3 : Int32) (l4 : Int32) (l5 : Int32) (l6 : Option Nat) (l7 : Int32) (v8 : Value) (v9 : Value) (v10 : Value) (v11 : Value) (v12 : Value) (v13 : Value) (h : ((l2 ≤ l7 → K σ l6) ∧ (¬ l2 ≤ l7 → ∃ a2, l1 = some a2 ∧ kd σ a2 ∈ [3, 4, 7, 8] ∧ vp_in l7 (ln σ a2) ∧ ((AR σ a2 l7.toNatClampNeg = none → G w mJ4_resize (KR K) (rc) (rs) σ 151 [va_rf l0, va_rf l1, .int l2, .int l3, .int l4, .int l5, va_rf l6, .int (l7 + 1), va_rf (AR σ a2 l7.toNatClampNeg), v9, v10, v11, v12, v13] []) ∧ (¬ AR σ a2 l7.toNatClampNeg = none → kd σ a2 = 4 ∧ ∀ s8, s8 = sAR σ a2 l7.toNatClampNeg none → ∃ a10, AR σ a2 l7.toNatClampNeg = some a10 ∧ kd s8 a10 ∈ [30, 31, 32] ∧ ((¬ FR s8 87 a10 = none → ((kd s8 a10 = 32 ∧ False) ∨ (kd s8 a10 ∈ [31, 30] ∧ G w mJ4_resize (KR K) (rc) (rs) s8 235 [va_rf l0, va_rf l1, .int l2, .int l3, .int l4, .int l5, va_rf l6, .int l7, va_rf (AR σ a2 l7.toNatClampNeg), va_rf none, va_rf none, va_rf none, va_rf none, v13] []))) ∧ (FR s8 87 a10 = none → ∃ a15, l6 = some a15 ∧ kd s8 a15 = 4 ∧ vp_in ((FI s8 84 a10) &&& (l4 - 1)) (ln s8 a15) ∧ ∀ s19, s19 = sAR s8 a15 ((FI s8 84 a10) &&& (l4 - 1)).toNatClampNeg (AR σ a2 l7.toNatClampNeg) → G w mJ4_resize (KR K) (rc) (rs) s19 151 [va_rf l0, va_rf l1, .int l2, .int l3, .int l4, .int l5, va_rf l6, .int (l7 + 1), va_rf (AR σ a2 l7.toNatClampNeg), v9, v10, v11, v12, v13] []))))))) : G w mJ4_resize (KR K) (rc) (rs) σ 151 [va_rf l0, va_rf l1, .int l2, .int l3, .int l4, .int l5, va_rf l6, .int l7, v8, v9, v10, v11, v12, v13] [] := by
  refine G_iload 153 dJ4_resize_151 rfl rfl ?_
  refine G_iload_n 154 dJ4_resize_153 rfl rfl ?_
  refine G_icmp_ge 353 157 dJ4_resize_154 (by decide) rfl (fun u1 => ?_) (fun u1 => ?_)
  · have h := h.1 u1
    refine G_aload 355 dJ4_resize_353 rfl rfl ?_
    exact G_aret dJ4_resize_355 rfl (Or.inr ⟨_, rfl⟩) ⟨_, rfl, h⟩
  · have h := h.2 u1
    refine G_aload_n 158 dJ4_resize_157 rfl rfl ?_
    refine G_iload 160 dJ4_resize_158 rfl rfl ?_
    obtain ⟨a2, e3, h⟩ := h
    obtain ⟨c4, h⟩ := h
    obtain ⟨c5, h⟩ := h
    refine G_aald (a := a2) 161 dJ4_resize_160 rfl e3 c4 c5 ?_
    refine G_dup 162 dJ4_resize_161 (rf_cat _) rfl ?_
    refine G_astore 164 [va_rf l0, va_rf l1, .int l2, .int l3, .int l4, .int l5, va_rf l6, .int l7, va_rf (AR σ a2 l7.toNatClampNeg), v9, v10, v11, v12, v13] dJ4_resize_162 (Nat.le_of_ble_eq_true rfl) rfl rfl ?_
    refine G_ifnull 347 167 dJ4_resize_164 (by decide) rfl (fun u6 => ?_) (fun u6 => ?_)
    · have h := h.1 u6
      refine G_iinc 350 [va_rf l0, va_rf l1, .int l2, .int l3, .int l4, .int l5, va_rf l6, .int (l7 + 1), va_rf (AR σ a2 l7.toNatClampNeg), v9, v10, v11, v12, v13] dJ4_resize_347 rfl rfl (Nat.le_of_ble_eq_true rfl) rfl rfl ?_
      refine G_goto 151 dJ4_resize_350 (by decide) ?_
      exact h
    · have h := h.2 u6
      refine G_aload_n 168 dJ4_resize_167 rfl rfl ?_
      refine G_iload 170 dJ4_resize_168 rfl rfl ?_
      refine G_null 171 dJ4_resize_170 rfl ?_
      obtain ⟨c7, h⟩ := h
      refine G_aast (a := a2) (kn := 4) 172 dJ4_resize_171 rfl e3 c7 (Or.inr rfl) c5 (Or.inl rfl) ?_
      generalize hs8 : sAR σ a2 l7.toNatClampNeg none = s8
      have x9 : ∀ a, ¬ kd σ a = 0 → kd s8 a = kd σ a := by subst hs8; exact fun a _ => congrFun kd_sAR a
      have h := h s8 hs8.symm
      refine G_aload 174 dJ4_resize_172 rfl rfl ?_
      obtain ⟨a10, e11, h⟩ := h
      obtain ⟨c12, h⟩ := h
      refine G_getR (f := 87) (a := a10) "" 177 dJ4_resize_174 (Or.inl q973) (Or.inl rfl) rfl e11 (hf87 c12) rfl ?_
      refine G_ifnonnull 198 180 dJ4_resize_177 (by decide) rfl (fun u13 => ?_) (fun u13 => ?_)
      · have h := h.1 u13
        refine G_aload 200 dJ4_resize_198 rfl rfl ?_
        rcases h with ⟨c14, h⟩ | ⟨c14, h⟩
        · refine G_instY (a := a10) 203 dJ4_resize_200 q920 rfl e11 (iy1 c14) ?_
          refine G_if_eq 223 206 dJ4_resize_203 (by decide) rfl (fun q => absurd q (by decide)) (fun _ => ?_)
          refine G_aload 208 dJ4_resize_206 rfl rfl ?_
          refine G_cast 211 dJ4_resize_208 q920 rfl (Or.inr ⟨a10, e11, co1 c14⟩) ?_
          refine G_aload_n 212 dJ4_resize_211 rfl rfl ?_
          refine G_aload 214 dJ4_resize_212 rfl rfl ?_
          refine G_iload 216 dJ4_resize_214 rfl rfl ?_
          refine G_iload_n 217 dJ4_resize_216 rfl rfl ?_
          exact h.elim
        · refine G_instN 203 dJ4_resize_200 q920 rfl (Or.inr ⟨a10, e11, in0 c14⟩) ?_
          refine G_if_eq 223 206 dJ4_resize_203 (by decide) rfl (fun _ => ?_) (fun q => absurd q (by decide))
          refine G_null 224 dJ4_resize_223 rfl ?_
          refine G_astore 226 [va_rf l0, va_rf l1, .int l2, .int l3, .int l4, .int l5, va_rf l6, .int l7, va_rf (AR σ a2 l7.toNatClampNeg), va_rf none, v10, v11, v12, v13] dJ4_resize_224 (Nat.le_of_ble_eq_true rfl) rfl rfl ?_
          refine G_null 227 dJ4_resize_226 rfl ?_
          refine G_astore 229 [va_rf l0, va_rf l1, .int l2, .int l3, .int l4, .int l5, va_rf l6, .int l7, va_rf (AR σ a2 l7.toNatClampNeg), va_rf none, va_rf none, v11, v12, v13] dJ4_resize_227 (Nat.le_of_ble_eq_true rfl) rfl rfl ?_
          refine G_null 230 dJ4_resize_229 rfl ?_
          refine G_astore 232 [va_rf l0, va_rf l1, .int l2, .int l3, .int l4, .int l5, va_rf l6, .int l7, va_rf (AR σ a2 l7.toNatClampNeg), va_rf none, va_rf none, va_rf none, v12, v13] dJ4_resize_230 (Nat.le_of_ble_eq_true rfl) rfl rfl ?_
          refine G_null 233 dJ4_resize_232 rfl ?_
          refine G_astore 235 [va_rf l0, va_rf l1, .int l2, .int l3, .int l4, .int l5, va_rf l6, .int l7, va_rf (AR σ a2 l7.toNatClampNeg), va_rf none, va_rf none, va_rf none, va_rf none, v13] dJ4_resize_233 (Nat.le_of_ble_eq_true rfl) rfl rfl ?_
          exact h
      · have h := h.2 u13
        refine G_aload 182 dJ4_resize_180 rfl rfl ?_
        refine G_aload 184 dJ4_resize_182 rfl rfl ?_
        refine G_getI (f := 84) (a := a10) "" 187 dJ4_resize_184 (Or.inl q955) (Or.inl rfl) rfl e11 (hf84 c12) rfl ?_
        refine G_iload 189 dJ4_resize_187 rfl rfl ?_
        refine G_iconst (v := 1) 190 dJ4_resize_189 (by decide) rfl ?_
        refine G_isub 191 dJ4_resize_190 rfl ?_
        refine G_iand 192 dJ4_resize_191 rfl ?_
        refine G_aload 194 dJ4_resize_192 rfl rfl ?_
        obtain ⟨a15, e16, h⟩ := h
        obtain ⟨c17, h⟩ := h
        obtain ⟨c18, h⟩ := h
        refine G_aast (a := a15) (kn := 4) 195 dJ4_resize_194 rfl e16 c17 (Or.inr rfl) c18 (Or.inr ⟨a10, e11, eo4 c12⟩) ?_
        generalize hs19 : sAR s8 a15 ((FI s8 84 a10) &&& (l4 - 1)).toNatClampNeg (AR σ a2 l7.toNatClampNeg) = s19
        have x20 : ∀ a, ¬ kd s8 a = 0 → kd s19 a = kd s8 a := by subst hs19; exact fun a _ => congrFun kd_sAR a
        have h := h s19 hs19.symm
        refine G_goto 347 dJ4_resize_195 (by decide) ?_
        refine G_iinc 350 [va_rf l0, va_rf l1, .int l2, .int l3, .int l4, .int l5, va_rf l6, .int (l7 + 1), va_rf (AR σ a2 l7.toNatClampNeg), v9, v10, v11, v12, v13] dJ4_resize_347 rfl rfl (Nat.le_of_ble_eq_true rfl) rfl rfl ?_
        refine G_goto 151 dJ4_resize_350 (by decide) ?_
        exact h
set_option maxHeartbeats 4000000 in
theorem bJ4_resize_235 {w : Wt} {K : Sg → Option Nat → Prop} {rc rs : Nat} {σ : Sg} (l0 : Option Nat) (l1 : Option Nat) (l2 : Int32) (l3 : Int32) (l4 : Int32) (l5 : Int32) (l6 : Option Nat) (l7 : Int32) (l8 : Option Nat) (l9 : Option Nat) (l10 : Option Nat) (l11 : Option Nat) (l12 : Option Nat) (v13 : Value) (h : ∃ a1, l8 = some a1 ∧ kd σ a1 ∈ [30, 31, 32] ∧ ((¬ (FI σ 84 a1) &&& l2 = 0 → ((¬ l12 = none → ∃ a6, l12 = some a6 ∧ kd σ a6 ∈ [30, 31, 32] ∧ ∀ s9, s9 = sFR σ 87 a6 l8 → ((¬ FR σ 87 a1 = none → G w mJ4_resize (KR K) (rc) (rs) s9 235 [va_rf l0, va_rf l1, .int l2, .int l3, .int l4, .int l5, va_rf l6, .int l7, va_rf (FR σ 87 a1), va_rf l9, va_rf l10, va_rf l11, va_rf l8, va_rf (FR σ 87 a1)] []) ∧ (FR σ 87 a1 = none → ((l10 = none → ∀ s13, s13 = sFR s9 87 a1 none → ∃ a15, l6 = some a15 ∧ kd s13 a15 = 4 ∧ vp_in (l7 + l2) (ln s13 a15) ∧ (l11 = none ∨ ∃ b, l11 = some b ∧ kd s13 b ∈ [30, 31, 32]) ∧ ∀ s20, s20 = sAR s13 a15 (l7 + l2).toNatClampNeg l11 → G w mJ4_resize (KR K) (rc) (rs) s20 151 [va_rf l0, va_rf l1, .int l2, .int l3, .int l4, .int l5, va_rf l6, .int (l7 + 1), va_rf (FR σ 87 a1), va_rf l9, va_rf l10, va_rf l11, va_rf l8, va_rf (FR σ 87 a1)] []) ∧ (¬ l10 = none → ∃ a22, l10 = some a22 ∧ kd s9 a22 ∈ [30, 31, 32] ∧ ∀ s25, s25 = sFR s9 87 a22 none → ∃ a27, l6 = some a27 ∧ kd s25 a27 = 4 ∧ vp_in l7 (ln s25 a27) ∧ (l9 = none ∨ ∃ b, l9 = some b ∧ kd s25 b ∈ [30, 31, 32]) ∧ ∀ s32, s32 = sAR s25 a27 l7.toNatClampNeg l9 → ∀ s34, s34 = sFR s32 87 a1 none → vp_in (l7 + l2) (ln s34 a27) ∧ (l11 = none ∨ ∃ b, l11 = some b ∧ kd s34 b ∈ [30, 31, 32]) ∧ ∀ s38, s38 = sAR s34 a27 (l7 + l2).toNatClampNeg l11 → G w mJ4_resize (KR K) (rc) (rs) s38 151 [va_rf l0, va_rf l1, .int l2, .int l3, .int l4, .int l5, va_rf l6, .int (l7 + 1), va_rf (FR σ 87 a1), va_rf l9, va_rf l10, va_rf l11, va_rf l8, va_rf (FR σ 87 a1)] []))))) ∧ (l12 = none → ((¬ FR σ 87 a1 = none → G w mJ4_resize (KR K) (rc) (rs) σ 235 [va_rf l0, va_rf l1, .int l2, .int l3, .int l4, .int l5, va_rf l6, .int l7, va_rf (FR σ 87 a1), va_rf l9, va_rf l10, va_rf l8, va_rf l8, va_rf (FR σ 87 a1)] []) ∧ (FR σ 87 a1 = none → ((l10 = none → ∀ s42, s42 = sFR σ 87 a1 none → ∃ a44, l6 = some a44 ∧ kd s42 a44 = 4 ∧ vp_in (l7 + l2) (ln s42 a44) ∧ ∀ s48, s48 = sAR s42 a44 (l7 + l2).toNatClampNeg l8 → G w mJ4_resize (KR K) (rc) (rs) s48 151 [va_rf l0, va_rf l1, .int l2, .int l3, .int l4, .int l5, va_rf l6, .int (l7 + 1), va_rf (FR σ 87 a1), va_rf l9, va_rf l10, va_rf l8, va_rf l8, va_rf (FR σ 87 a1)] []) ∧ (¬ l10 = none → ∃ a50, l10 = some a50 ∧ kd σ a50 ∈ [30, 31, 32] ∧ ∀ s53, s53 = sFR σ 87 a50 none → ∃ a55, l6 = some a55 ∧ kd s53 a55 = 4 ∧ vp_in l7 (ln s53 a55) ∧ (l9 = none ∨ ∃ b, l9 = some b ∧ kd s53 b ∈ [30, 31, 32]) ∧ ∀ s60, s60 = sAR s53 a55 l7.toNatClampNeg l9 → ∀ s62, s62 = sFR s60 87 a1 none → vp_in (l7 + l2) (ln s62 a55) ∧ ∀ s65, s65 = sAR s62 a55 (l7 + l2).toNatClampNeg l8 → G w mJ4_resize (KR K) (rc) (rs) s65 151 [va_rf l0, va_rf l1, .int l2, .int l3, .int l4, .int l5, va_rf l6, .int (l7 + 1), va_rf (FR σ 87 a1), va_rf l9, va_rf l10, va_rf l8, va_rf l8, va_rf (FR σ 87 a1)] []))))))) ∧ ((FI σ 84 a1) &&& l2 = 0 → ((¬ l10 = none → ∃ a68, l10 = some a68 ∧ kd σ a68 ∈ [30, 31, 32] ∧ ∀ s71, s71 = sFR σ 87 a68 l8 → ((¬ FR σ 87 a1 = none → G w mJ4_resize (KR K) (rc) (rs) s71 235 [va_rf l0, va_rf l1, .int l2, .int l3, .int l4, .int l5, va_rf l6, .int l7, va_rf (FR σ 87 a1), va_rf l9, va_rf l8, va_rf l11, va_rf l12, va_rf (FR σ 87 a1)] []) ∧ (FR σ 87 a1 = none → ∀ s74, s74 = sFR s71 87 a1 none → ∃ a76, l6 = some a76 ∧ kd s74 a76 = 4 ∧ vp_in l7 (ln s74 a76) ∧ (l9 = none ∨ ∃ b, l9 = some b ∧ kd s74 b ∈ [30, 31, 32]) ∧ ∀ s81, s81 = sAR s74 a76 l7.toNatClampNeg l9 → ((l12 = none → G w mJ4_resize (KR K) (rc) (rs) s81 151 [va_rf l0, va_rf l1, .int l2, .int l3, .int l4, .int l5, va_rf l6, .int (l7 + 1), va_rf (FR σ 87 a1), va_rf l9, va_rf l8, va_rf l11, va_rf l12, va_rf (FR σ 87 a1)] []) ∧ (¬ l12 = none → ∃ a84, l12 = some a84 ∧ kd s81 a84 ∈ [30, 31, 32] ∧ ∀ s87, s87 = sFR s81 87 a84 none → vp_in (l7 + l2) (ln s87 a76) ∧ (l11 = none ∨ ∃ b, l11 = some b ∧ kd s87 b ∈ [30, 31, 32]) ∧ ∀ s91, s91 = sAR s87 a76 (l7 + l2).toNatClampNeg l11 → G w mJ4_resize (KR K) (rc) (rs) s91 151 [va_rf l0, va_rf l1, .int l2, .int l3, .int l4, .int l5, va_rf l6, .int (l7 + 1), va_rf (FR σ 87 a1), va_rf l9, va_rf l8, va_rf l11, va_rf l12, va_rf (FR σ 87 a1)] []))))) ∧ (l10 = none → ((¬ FR σ 87 a1 = none → G w mJ4_resize (KR K) (rc) (rs) σ 235 [va_rf l0, va_rf l1, .int l2, .int l3, .int l4, .int l5, va_rf l6, .int l7, va_rf (FR σ 87 a1), va_rf l8, va_rf l8, va_rf l11, va_rf l12, va_rf (FR σ 87 a1)] []) ∧ (FR σ 87 a1 = none → ∀ s94, s94 = sFR σ 87 a1 none → ∃ a96, l6 = some a96 ∧ kd s94 a96 = 4 ∧ vp_in l7 (ln s94 a96) ∧ ∀ s100, s100 = sAR s94 a96 l7.toNatClampNeg l8 → ((l12 = none → G w mJ4_resize (KR K) (rc) (rs) s100 151 [va_rf l0, va_rf l1, .int l2, .int l3, .int l4, .int l5, va_rf l6, .int (l7 + 1), va_rf (FR σ 87 a1), va_rf l8, va_rf l8, va_rf l11, va_rf l12, va_rf (FR σ 87 a1)] []) ∧ (¬ l12 = none → ∃ a103, l12 = some a103 ∧ kd s100 a103 ∈ [30, 31, 32] ∧ ∀ s106, s106 = sFR s100 87 a103 none → vp_in (l7 + l2) (ln s106 a96) ∧ (l11 = none ∨ ∃ b, l11 = some b ∧ kd s106 b ∈ [30, 31, 32]) ∧ ∀ s110, s110 = sAR s106 a96 (l7 + l2).toNatClampNeg l11 → G w mJ4_resize (KR K) (rc) (rs) s110 151 [va_rf l0, va_rf l1, .int l2, .int l3, .int l4, .int l5, va_rf l6, .int (l7 + 1), va_rf (FR σ 87 a1), va_rf l8, va_rf l8, va_rf l11, va_rf l12, va_rf (FR σ 87 a1)] []))))))))) : G w mJ4_resize (KR K) (rc) (rs) σ 235 [va_rf l0, va_rf l1, .int l2, .int l3, .int l4, .int l5, va_rf l6, .int l7, va_rf l8, va_rf l9, va_rf l10, va_rf l11, va_rf l12, v13] [] := by
  refine G_aload 237 dJ4_resize_235 rfl rfl ?_
  obtain ⟨a1, e2, h⟩ := h
  obtain ⟨c3, h⟩ := h
  refine G_getR (f := 87) (a := a1) "" 240 dJ4_resize_237 (Or.inl q973) (Or.inl rfl) rfl e2 (hf87 c3) rfl ?_
  refine G_astore 242 [va_rf l0, va_rf l1, .int l2, .int l3, .int l4, .int l5, va_rf l6, .int l7, va_rf l8, va_rf l9, va_rf l10, va_rf l11, va_rf l12, va_rf (FR σ 87 a1)] dJ4_resize_240 (Nat.le_of_ble_eq_true rfl) rfl rfl ?_
  refine G_aload 244 dJ4_resize_242 rfl rfl ?_
  refine G_getI (f := 84) (a := a1) "" 247 dJ4_resize_244 (Or.inl q955) (Or.inl rfl) rfl e2 (hf84 c3) rfl ?_
  refine G_iload_n 248 dJ4_resize_247 rfl rfl ?_
  refine G_iand 249 dJ4_resize_248 rfl ?_
  refine G_if_ne 278 252 dJ4_resize_249 (by decide) rfl (fun u4 => ?_) (fun u4 => ?_)
  · have h := h.1 u4
    refine G_aload 280 dJ4_resize_278 rfl rfl ?_
    refine G_ifnonnull 290 283 dJ4_resize_280 (by decide) rfl (fun u5 => ?_) (fun u5 => ?_)
    · have h := h.1 u5
      refine G_aload 292 dJ4_resize_290 rfl rfl ?_
      refine G_aload 294 dJ4_resize_292 rfl rfl ?_
      obtain ⟨a6, e7, h⟩ := h
      obtain ⟨c8, h⟩ := h
      refine G_putR (f := 87) (a := a6) "" 297 dJ4_resize_294 (Or.inl q973) (Or.inl rfl) rfl e7 (hp87 c8) (nk87 c8) (Or.inl rfl) (fun y => by cases y <;> rfl) (fun y => by cases y <;> rfl) rfl ?_
      generalize hs9 : sFR σ 87 a6 l8 = s9
      have x10 : ∀ a, ¬ kd σ a = 0 → kd s9 a = kd σ a := by subst hs9; exact fun a _ => congrFun kd_sFR a
      have h := h s9 hs9.symm
      refine G_aload 299 dJ4_resize_297 rfl rfl ?_
      refine G_astore 301 [va_rf l0, va_rf l1, .int l2, .int l3, .int l4, .int l5, va_rf l6, .int l7, va_rf l8, va_rf l9, va_rf l10, va_rf l11, va_rf l8, va_rf (FR σ 87 a1)] dJ4_resize_299 (Nat.le_of_ble_eq_true rfl) rfl rfl ?_
      refine G_aload 303 dJ4_resize_301 rfl rfl ?_
      refine G_dup 304 dJ4_resize_303 (rf_cat _) rfl ?_
      refine G_astore 306 [va_rf l0, va_rf l1, .int l2, .int l3, .int l4, .int l5, va_rf l6, .int l7, va_rf (FR σ 87 a1), va_rf l9, va_rf l10, va_rf l11, va_rf l8, va_rf (FR σ 87 a1)] dJ4_resize_304 (Nat.le_of_ble_eq_true rfl) rfl rfl ?_
      refine G_ifnonnull 235 309 dJ4_resize_306 (by decide) rfl (fun u11 => ?_) (fun u11 => ?_)
      · have h := h.1 u11
        exact h
      · have h := h.2 u11
        refine G_aload 311 dJ4_resize_309 rfl rfl ?_
        refine G_ifnull 327 314 dJ4_resize_311 (by decide) rfl (fun u12 => ?_) (fun u12 => ?_)
        · have h := h.1 u12
          refine G_aload 329 dJ4_resize_327 rfl rfl ?_
          refine G_ifnull 347 332 dJ4_resize_329 (by decide) rfl (fun q => absurd (q.symm.trans e2) (by simp)) (fun _ => ?_)
          refine G_aload 334 dJ4_resize_332 rfl rfl ?_
          refine G_null 335 dJ4_resize_334 rfl ?_
          have c3 := kdM x10 c3 (by decide)
          refine G_putR (f := 87) (a := a1) "" 338 dJ4_resize_335 (Or.inl q973) (Or.inl rfl) rfl e2 (hp87 c3) (nk87 c3) (Or.inl rfl) (fun y => by cases y <;> rfl) (fun y => by cases y <;> rfl) rfl ?_
          generalize hs13 : sFR s9 87 a1 none = s13
          have x14 : ∀ a, ¬ kd s9 a = 0 → kd s13 a = kd s9 a := by subst hs13; exact fun a _ => congrFun kd_sFR a
          have h := h s13 hs13.symm
          refine G_aload 340 dJ4_resize_338 rfl rfl ?_
          refine G_iload 342 dJ4_resize_340 rfl rfl ?_
          refine G_iload_n 343 dJ4_resize_342 rfl rfl ?_
          refine G_iadd 344 dJ4_resize_343 rfl ?_
          refine G_aload 346 dJ4_resize_344 rfl rfl ?_
          obtain ⟨a15, e16, h⟩ := h
          obtain ⟨c17, h⟩ := h
          obtain ⟨c18, h⟩ := h
          obtain ⟨c19, h⟩ := h
          refine G_aast (a := a15) (kn := 4) 347 dJ4_resize_346 rfl e16 c17 (Or.inr rfl) c18 (c19.imp id (fun ⟨b, e, k⟩ => ⟨b, e, eo4 k⟩)) ?_
          generalize hs20 : sAR s13 a15 (l7 + l2).toNatClampNeg l11 = s20
          have x21 : ∀ a, ¬ kd s13 a = 0 → kd s20 a = kd s13 a := by subst hs20; exact fun a _ => congrFun kd_sAR a
          have h := h s20 hs20.symm
          refine G_iinc 350 [va_rf l0, va_rf l1, .int l2, .int l3, .int l4, .int l5, va_rf l6, .int (l7 + 1), va_rf (FR σ 87 a1), va_rf l9, va_rf l10, va_rf l11, va_rf l8, va_rf (FR σ 87 a1)] dJ4_resize_347 rfl rfl (Nat.le_of_ble_eq_true rfl) rfl rfl ?_
          refine G_goto 151 dJ4_resize_350 (by decide) ?_
          exact h
        · have h := h.2 u12
          refine G_aload 316 dJ4_resize_314 rfl rfl ?_
          refine G_null 317 dJ4_resize_316 rfl ?_
          obtain ⟨a22, e23, h⟩ := h
          obtain ⟨c24, h⟩ := h
          refine G_putR (f := 87) (a := a22) "" 320 dJ4_resize_317 (Or.inl q973) (Or.inl rfl) rfl e23 (hp87 c24) (nk87 c24) (Or.inl rfl) (fun y => by cases y <;> rfl) (fun y => by cases y <;> rfl) rfl ?_
          generalize hs25 : sFR s9 87 a22 none = s25
          have x26 : ∀ a, ¬ kd s9 a = 0 → kd s25 a = kd s9 a := by subst hs25; exact fun a _ => congrFun kd_sFR a
          have h := h s25 hs25.symm
          refine G_aload 322 dJ4_resize_320 rfl rfl ?_
          refine G_iload 324 dJ4_resize_322 rfl rfl ?_
          refine G_aload 326 dJ4_resize_324 rfl rfl ?_
          obtain ⟨a27, e28, h⟩ := h
          obtain ⟨c29, h⟩ := h
          obtain ⟨c30, h⟩ := h
          obtain ⟨c31, h⟩ := h
          refine G_aast (a := a27) (kn := 4) 327 dJ4_resize_326 rfl e28 c29 (Or.inr rfl) c30 (c31.imp id (fun ⟨b, e, k⟩ => ⟨b, e, eo4 k⟩)) ?_
          generalize hs32 : sAR s25 a27 l7.toNatClampNeg l9 = s32
          have x33 : ∀ a, ¬ kd s25 a = 0 → kd s32 a = kd s25 a := by subst hs32; exact fun a _ => congrFun kd_sAR a
          have h := h s32 hs32.symm
          refine G_aload 329 dJ4_resize_327 rfl rfl ?_
          refine G_ifnull 347 332 dJ4_resize_329 (by decide) rfl (fun q => absurd (q.symm.trans e2) (by simp)) (fun _ => ?_)
          refine G_aload 334 dJ4_resize_332 rfl rfl ?_
          refine G_null 335 dJ4_resize_334 rfl ?_
          have c3 := kdM x10 c3 (by decide)
          have c3 := kdM x26 c3 (by decide)
          have c3 := kdM x33 c3 (by decide)
          refine G_putR (f := 87) (a := a1) "" 338 dJ4_resize_335 (Or.inl q973) (Or.inl rfl) rfl e2 (hp87 c3) (nk87 c3) (Or.inl rfl) (fun y => by cases y <;> rfl) (fun y => by cases y <;> rfl) rfl ?_
          generalize hs34 : sFR s32 87 a1 none = s34
          have x35 : ∀ a, ¬ kd s32 a = 0 → kd s34 a = kd s32 a := by subst hs34; exact fun a _ => congrFun kd_sFR a
          have h := h s34 hs34.symm
          refine G_aload 340 dJ4_resize_338 rfl rfl ?_
          refine G_iload 342 dJ4_resize_340 rfl rfl ?_
          refine G_iload_n 343 dJ4_resize_342 rfl rfl ?_
          refine G_iadd 344 dJ4_resize_343 rfl ?_
          refine G_aload 346 dJ4_resize_344 rfl rfl ?_
          have c29 := kdE x33 c29 (by decide)
          have c29 := kdE x35 c29 (by decide)
          obtain ⟨c36, h⟩ := h
          obtain ⟨c37, h⟩ := h
          refine G_aast (a := a27) (kn := 4) 347 dJ4_resize_346 rfl e28 c29 (Or.inr rfl) c36 (c37.imp id (fun ⟨b, e, k⟩ => ⟨b, e, eo4 k⟩)) ?_
          generalize hs38 : sAR s34 a27 (l7 + l2).toNatClampNeg l11 = s38
          have x39 : ∀ a, ¬ kd s34 a = 0 → kd s38 a = kd s34 a := by subst hs38; exact fun a _ => congrFun kd_sAR a
          have h := h s38 hs38.symm
          refine G_iinc 350 [va_rf l0, va_rf l1, .int l2, .int l3, .int l4, .int l5, va_rf l6, .int (l7 + 1), va_rf (FR σ 87 a1), va_rf l9, va_rf l10, va_rf l11, va_rf l8, va_rf (FR σ 87 a1)] dJ4_resize_347 rfl rfl (Nat.le_of_ble_eq_true rfl) rfl rfl ?_
          refine G_goto 151 dJ4_resize_350 (by decide) ?_
          exact h
    · have h := h.2 u5
      refine G_aload 285 dJ4_resize_283 rfl rfl ?_
      refine G_astore 287 [va_rf l0, va_rf l1, .int l2, .int l3, .int l4, .int l5, va_rf l6, .int l7, va_rf l8, va_rf l9, va_rf l10, va_rf l8, va_rf l12, va_rf (FR σ 87 a1)] dJ4_resize_285 (Nat.le_of_ble_eq_true rfl) rfl rfl ?_
      refine G_goto 297 dJ4_resize_287 (by decide) ?_
      refine G_aload 299 dJ4_resize_297 rfl rfl ?_
      refine G_astore 301 [va_rf l0, va_rf l1, .int l2, .int l3, .int l4, .int l5, va_rf l6, .int l7, va_rf l8, va_rf l9, va_rf l10, va_rf l8, va_rf l8, va_rf (FR σ 87 a1)] dJ4_resize_299 (Nat.le_of_ble_eq_true rfl) rfl rfl ?_
      refine G_aload 303 dJ4_resize_301 rfl rfl ?_
      refine G_dup 304 dJ4_resize_303 (rf_cat _) rfl ?_
      refine G_astore 306 [va_rf l0, va_rf l1, .int l2, .int l3, .int l4, .int l5, va_rf l6, .int l7, va_rf (FR σ 87 a1), va_rf l9, va_rf l10, va_rf l8, va_rf l8, va_rf (FR σ 87 a1)] dJ4_resize_304 (Nat.le_of_ble_eq_true rfl) rfl rfl ?_
      refine G_ifnonnull 235 309 dJ4_resize_306 (by decide) rfl (fun u40 => ?_) (fun u40 => ?_)
      · have h := h.1 u40
        exact h
      · have h := h.2 u40
        refine G_aload 311 dJ4_resize_309 rfl rfl ?_
        refine G_ifnull 327 314 dJ4_resize_311 (by decide) rfl (fun u41 => ?_) (fun u41 => ?_)
        · have h := h.1 u41
          refine G_aload 329 dJ4_resize_327 rfl rfl ?_
          refine G_ifnull 347 332 dJ4_resize_329 (by decide) rfl (fun q => absurd (q.symm.trans e2) (by simp)) (fun _ => ?_)
          refine G_aload 334 dJ4_resize_332 rfl rfl ?_
          refine G_null 335 dJ4_resize_334 rfl ?_
          refine G_putR (f := 87) (a := a1) "" 338 dJ4_resize_335 (Or.inl q973) (Or.inl rfl) rfl e2 (hp87 c3) (nk87 c3) (Or.inl rfl) (fun y => by cases y <;> rfl) (fun y => by cases y <;> rfl) rfl ?_
          generalize hs42 : sFR σ 87 a1 none = s42
          have x43 : ∀ a, ¬ kd σ a = 0 → kd s42 a = kd σ a := by subst hs42; exact fun a _ => congrFun kd_sFR a
          have h := h s42 hs42.symm
          refine G_aload 340 dJ4_resize_338 rfl rfl ?_
          refine G_iload 342 dJ4_resize_340 rfl rfl ?_
          refine G_iload_n 343 dJ4_resize_342 rfl rfl ?_
          refine G_iadd 344 dJ4_resize_343 rfl ?_
          refine G_aload 346 dJ4_resize_344 rfl rfl ?_
          obtain ⟨a44, e45, h⟩ := h
          obtain ⟨c46, h⟩ := h
          obtain ⟨c47, h⟩ := h
          have c3 := kdM x43 c3 (by decide)
          refine G_aast (a := a44) (kn := 4) 347 dJ4_resize_346 rfl e45 c46 (Or.inr rfl) c47 (Or.inr ⟨a1, e2, eo4 c3⟩) ?_
          generalize hs48 : sAR s42 a44 (l7 + l2).toNatClampNeg l8 = s48
          have x49 : ∀ a, ¬ kd s42 a = 0 → kd s48 a = kd s42 a := by subst hs48; exact fun a _ => congrFun kd_sAR a
          have h := h s48 hs48.symm
          refine G_iinc 350 [va_rf l0, va_rf l1, .int l2, .int l3, .int l4, .int l5, va_rf l6, .int (l7 + 1), va_rf (FR σ 87 a1), va_rf l9, va_rf l10, va_rf l8, va_rf l8, va_rf (FR σ 87 a1)] dJ4_resize_347 rfl rfl (Nat.le_of_ble_eq_true rfl) rfl rfl ?_
          refine G_goto 151 dJ4_resize_350 (by decide) ?_
          exact h
        · have h := h.2 u41
          refine G_aload 316 dJ4_resize_314 rfl rfl ?_
          refine G_null 317 dJ4_resize_316 rfl ?_
          obtain ⟨a50, e51, h⟩ := h
          obtain ⟨c52, h⟩ := h
          refine G_putR (f := 87) (a := a50) "" 320 dJ4_resize_317 (Or.inl q973) (Or.inl rfl) rfl e51 (hp87 c52) (nk87 c52) (Or.inl rfl) (fun y => by cases y <;> rfl) (fun y => by cases y <;> rfl) rfl ?_
          generalize hs53 : sFR σ 87 a50 none = s53
          have x54 : ∀ a, ¬ kd σ a = 0 → kd s53 a = kd σ a := by subst hs53; exact fun a _ => congrFun kd_sFR a
          have h := h s53 hs53.symm
          refine G_aload 322 dJ4_resize_320 rfl rfl ?_
          refine G_iload 324 dJ4_resize_322 rfl rfl ?_
          refine G_aload 326 dJ4_resize_324 rfl rfl ?_
          obtain ⟨a55, e56, h⟩ := h
          obtain ⟨c57, h⟩ := h
          obtain ⟨c58, h⟩ := h
          obtain ⟨c59, h⟩ := h
          refine G_aast (a := a55) (kn := 4) 327 dJ4_resize_326 rfl e56 c57 (Or.inr rfl) c58 (c59.imp id (fun ⟨b, e, k⟩ => ⟨b, e, eo4 k⟩)) ?_
          generalize hs60 : sAR s53 a55 l7.toNatClampNeg l9 = s60
          have x61 : ∀ a, ¬ kd s53 a = 0 → kd s60 a = kd s53 a := by subst hs60; exact fun a _ => congrFun kd_sAR a
          have h := h s60 hs60.symm
          refine G_aload 329 dJ4_resize_327 rfl rfl ?_
          refine G_ifnull 347 332 dJ4_resize_329 (by decide) rfl (fun q => absurd (q.symm.trans e2) (by simp)) (fun _ => ?_)
          refine G_aload 334 dJ4_resize_332 rfl rfl ?_
          refine G_null 335 dJ4_resize_334 rfl ?_
          have c3 := kdM x54 c3 (by decide)
          have c3 := kdM x61 c3 (by decide)
          refine G_putR (f := 87) (a := a1) "" 338 dJ4_resize_335 (Or.inl q973) (Or.inl rfl) rfl e2 (hp87 c3) (nk87 c3) (Or.inl rfl) (fun y => by cases y <;> rfl) (fun y => by cases y <;> rfl) rfl ?_
          generalize hs62 : sFR s60 87 a1 none = s62
          have x63 : ∀ a, ¬ kd s60 a = 0 → kd s62 a = kd s60 a := by subst hs62; exact fun a _ => congrFun kd_sFR a
          have h := h s62 hs62.symm
          refine G_aload 340 dJ4_resize_338 rfl rfl ?_
          refine G_iload 342 dJ4_resize_340 rfl rfl ?_
          refine G_iload_n 343 dJ4_resize_342 rfl rfl ?_
          refine G_iadd 344 dJ4_resize_343 rfl ?_
          refine G_aload 346 dJ4_resize_344 rfl rfl ?_
          have c57 := kdE x61 c57 (by decide)
          have c57 := kdE x63 c57 (by decide)
          obtain ⟨c64, h⟩ := h
          have c3 := kdM x63 c3 (by decide)
          refine G_aast (a := a55) (kn := 4) 347 dJ4_resize_346 rfl e56 c57 (Or.inr rfl) c64 (Or.inr ⟨a1, e2, eo4 c3⟩) ?_
          generalize hs65 : sAR s62 a55 (l7 + l2).toNatClampNeg l8 = s65
          have x66 : ∀ a, ¬ kd s62 a = 0 → kd s65 a = kd s62 a := by subst hs65; exact fun a _ => congrFun kd_sAR a
          have h := h s65 hs65.symm
          refine G_iinc 350 [va_rf l0, va_rf l1, .int l2, .int l3, .int l4, .int l5, va_rf l6, .int (l7 + 1), va_rf (FR σ 87 a1), va_rf l9, va_rf l10, va_rf l8, va_rf l8, va_rf (FR σ 87 a1)] dJ4_resize_347 rfl rfl (Nat.le_of_ble_eq_true rfl) rfl rfl ?_
          refine G_goto 151 dJ4_resize_350 (by decide) ?_
          exact h
  · have h := h.2 u4
    refine G_aload 254 dJ4_resize_252 rfl rfl ?_
    refine G_ifnonnull 264 257 dJ4_resize_254 (by decide) rfl (fun u67 => ?_) (fun u67 => ?_)
    · have h := h.1 u67
      refine G_aload 266 dJ4_resize_264 rfl rfl ?_
      refine G_aload 268 dJ4_resize_266 rfl rfl ?_
      obtain ⟨a68, e69, h⟩ := h
      obtain ⟨c70, h⟩ := h
      refine G_putR (f := 87) (a := a68) "" 271 dJ4_resize_268 (Or.inl q973) (Or.inl rfl) rfl e69 (hp87 c70) (nk87 c70) (Or.inl rfl) (fun y => by cases y <;> rfl) (fun y => by cases y <;> rfl) rfl ?_
      generalize hs71 : sFR σ 87 a68 l8 = s71
      have x72 : ∀ a, ¬ kd σ a = 0 → kd s71 a = kd σ a := by subst hs71; exact fun a _ => congrFun kd_sFR a
      have h := h s71 hs71.symm
      refine G_aload 273 dJ4_resize_271 rfl rfl ?_
      refine G_astore 275 [va_rf l0, va_rf l1, .int l2, .int l3, .int l4, .int l5, va_rf l6, .int l7, va_rf l8, va_rf l9, va_rf l8, va_rf l11, va_rf l12, va_rf (FR σ 87 a1)] dJ4_resize_273 (Nat.le_of_ble_eq_true rfl) rfl rfl ?_
      refine G_goto 301 dJ4_resize_275 (by decide) ?_
      refine G_aload 303 dJ4_resize_301 rfl rfl ?_
      refine G_dup 304 dJ4_resize_303 (rf_cat _) rfl ?_
      refine G_astore 306 [va_rf l0, va_rf l1, .int l2, .int l3, .int l4, .int l5, va_rf l6, .int l7, va_rf (FR σ 87 a1), va_rf l9, va_rf l8, va_rf l11, va_rf l12, va_rf (FR σ 87 a1)] dJ4_resize_304 (Nat.le_of_ble_eq_true rfl) rfl rfl ?_
      refine G_ifnonnull 235 309 dJ4_resize_306 (by decide) rfl (fun u73 => ?_) (fun u73 => ?_)
      · have h := h.1 u73
        exact h
      · have h := h.2 u73
        refine G_aload 311 dJ4_resize_309 rfl rfl ?_
        refine G_ifnull 327 314 dJ4_resize_311 (by decide) rfl (fun q => absurd (q.symm.trans e2) (by simp)) (fun _ => ?_)
        refine G_aload 316 dJ4_resize_314 rfl rfl ?_
        refine G_null 317 dJ4_resize_316 rfl ?_
        have c3 := kdM x72 c3 (by decide)
        refine G_putR (f := 87) (a := a1) "" 320 dJ4_resize_317 (Or.inl q973) (Or.inl rfl) rfl e2 (hp87 c3) (nk87 c3) (Or.inl rfl) (fun y => by cases y <;> rfl) (fun y => by cases y <;> rfl) rfl ?_
        generalize hs74 : sFR s71 87 a1 none = s74
        have x75 : ∀ a, ¬ kd s71 a = 0 → kd s74 a = kd s71 a := by subst hs74; exact fun a _ => congrFun kd_sFR a
        have h := h s74 hs74.symm
        refine G_aload 322 dJ4_resize_320 rfl rfl ?_
        refine G_iload 324 dJ4_resize_322 rfl rfl ?_
        refine G_aload 326 dJ4_resize_324 rfl rfl ?_
        obtain ⟨a76, e77, h⟩ := h
        obtain ⟨c78, h⟩ := h
        obtain ⟨c79, h⟩ := h
        obtain ⟨c80, h⟩ := h
        refine G_aast (a := a76) (kn := 4) 327 dJ4_resize_326 rfl e77 c78 (Or.inr rfl) c79 (c80.imp id (fun ⟨b, e, k⟩ => ⟨b, e, eo4 k⟩)) ?_
        generalize hs81 : sAR s74 a76 l7.toNatClampNeg l9 = s81
        have x82 : ∀ a, ¬ kd s74 a = 0 → kd s81 a = kd s74 a := by subst hs81; exact fun a _ => congrFun kd_sAR a
        have h := h s81 hs81.symm
        refine G_aload 329 dJ4_resize_327 rfl rfl ?_
        refine G_ifnull 347 332 dJ4_resize_329 (by decide) rfl (fun u83 => ?_) (fun u83 => ?_)
        · have h := h.1 u83
          refine G_iinc 350 [va_rf l0, va_rf l1, .int l2, .int l3, .int l4, .int l5, va_rf l6, .int (l7 + 1), va_rf (FR σ 87 a1), va_rf l9, va_rf l8, va_rf l11, va_rf l12, va_rf (FR σ 87 a1)] dJ4_resize_347 rfl rfl (Nat.le_of_ble_eq_true rfl) rfl rfl ?_
          refine G_goto 151 dJ4_resize_350 (by decide) ?_
          exact h
        · have h := h.2 u83
          refine G_aload 334 dJ4_resize_332 rfl rfl ?_
          refine G_null 335 dJ4_resize_334 rfl ?_
          obtain ⟨a84, e85, h⟩ := h
          obtain ⟨c86, h⟩ := h
          refine G_putR (f := 87) (a := a84) "" 338 dJ4_resize_335 (Or.inl q973) (Or.inl rfl) rfl e85 (hp87 c86) (nk87 c86) (Or.inl rfl) (fun y => by cases y <;> rfl) (fun y => by cases y <;> rfl) rfl ?_
          generalize hs87 : sFR s81 87 a84 none = s87
          have x88 : ∀ a, ¬ kd s81 a = 0 → kd s87 a = kd s81 a := by subst hs87; exact fun a _ => congrFun kd_sFR a
          have h := h s87 hs87.symm
          refine G_aload 340 dJ4_resize_338 rfl rfl ?_
          refine G_iload 342 dJ4_resize_340 rfl rfl ?_
          refine G_iload_n 343 dJ4_resize_342 rfl rfl ?_
          refine G_iadd 344 dJ4_resize_343 rfl ?_
          refine G_aload 346 dJ4_resize_344 rfl rfl ?_
          have c78 := kdE x82 c78 (by decide)
          have c78 := kdE x88 c78 (by decide)
          obtain ⟨c89, h⟩ := h
          obtain ⟨c90, h⟩ := h
          refine G_aast (a := a76) (kn := 4) 347 dJ4_resize_346 rfl e77 c78 (Or.inr rfl) c89 (c90.imp id (fun ⟨b, e, k⟩ => ⟨b, e, eo4 k⟩)) ?_
          generalize hs91 : sAR s87 a76 (l7 + l2).toNatClampNeg l11 = s91
          have x92 : ∀ a, ¬ kd s87 a = 0 → kd s91 a = kd s87 a := by subst hs91; exact fun a _ => congrFun kd_sAR a
          have h := h s91 hs91.symm
          refine G_iinc 350 [va_rf l0, va_rf l1, .int l2, .int l3, .int l4, .int l5, va_rf l6, .int (l7 + 1), va_rf (FR σ 87 a1), va_rf l9, va_rf l8, va_rf l11, va_rf l12, va_rf (FR σ 87 a1)] dJ4_resize_347 rfl rfl (Nat.le_of_ble_eq_true rfl) rfl rfl ?_
          refine G_goto 151 dJ4_resize_350 (by decide) ?_
          exact h
    · have h := h.2 u67
      refine G_aload 259 dJ4_resize_257 rfl rfl ?_
      refine G_astore 261 [va_rf l0, va_rf l1, .int l2, .int l3, .int l4, .int l5, va_rf l6, .int l7, va_rf l8, va_rf l8, va_rf l10, va_rf l11, va_rf l12, va_rf (FR σ 87 a1)] dJ4_resize_259 (Nat.le_of_ble_eq_true rfl) rfl rfl ?_
      refine G_goto 271 dJ4_resize_261 (by decide) ?_
      refine G_aload 273 dJ4_resize_271 rfl rfl ?_
      refine G_astore 275 [va_rf l0, va_rf l1, .int l2, .int l3, .int l4, .int l5, va_rf l6, .int l7, va_rf l8, va_rf l8, va_rf l8, va_rf l11, va_rf l12, va_rf (FR σ 87 a1)] dJ4_resize_273 (Nat.le_of_ble_eq_true rfl) rfl rfl ?_
      refine G_goto 301 dJ4_resize_275 (by decide) ?_
      refine G_aload 303 dJ4_resize_301 rfl rfl ?_
      refine G_dup 304 dJ4_resize_303 (rf_cat _) rfl ?_
      refine G_astore 306 [va_rf l0, va_rf l1, .int l2, .int l3, .int l4, .int l5, va_rf l6, .int l7, va_rf (FR σ 87 a1), va_rf l8, va_rf l8, va_rf l11, va_rf l12, va_rf (FR σ 87 a1)] dJ4_resize_304 (Nat.le_of_ble_eq_true rfl) rfl rfl ?_
      refine G_ifnonnull 235 309 dJ4_resize_306 (by decide) rfl (fun u93 => ?_) (fun u93 => ?_)
      · have h := h.1 u93
        exact h
      · have h := h.2 u93
        refine G_aload 311 dJ4_resize_309 rfl rfl ?_
        refine G_ifnull 327 314 dJ4_resize_311 (by decide) rfl (fun q => absurd (q.symm.trans e2) (by simp)) (fun _ => ?_)
        refine G_aload 316 dJ4_resize_314 rfl rfl ?_
        refine G_null 317 dJ4_resize_316 rfl ?_
        refine G_putR (f := 87) (a := a1) "" 320 dJ4_resize_317 (Or.inl q973) (Or.inl rfl) rfl e2 (hp87 c3) (nk87 c3) (Or.inl rfl) (fun y => by cases y <;> rfl) (fun y => by cases y <;> rfl) rfl ?_
        generalize hs94 : sFR σ 87 a1 none = s94
        have x95 : ∀ a, ¬ kd σ a = 0 → kd s94 a = kd σ a := by subst hs94; exact fun a _ => congrFun kd_sFR a
        have h := h s94 hs94.symm
        refine G_aload 322 dJ4_resize_320 rfl rfl ?_
        refine G_iload 324 dJ4_resize_322 rfl rfl ?_
        refine G_aload 326 dJ4_resize_324 rfl rfl ?_
        obtain ⟨a96, e97, h⟩ := h
        obtain ⟨c98, h⟩ := h
        obtain ⟨c99, h⟩ := h
        have c3 := kdM x95 c3 (by decide)
        refine G_aast (a := a96) (kn := 4) 327 dJ4_resize_326 rfl e97 c98 (Or.inr rfl) c99 (Or.inr ⟨a1, e2, eo4 c3⟩) ?_
        generalize hs100 : sAR s94 a96 l7.toNatClampNeg l8 = s100
        have x101 : ∀ a, ¬ kd s94 a = 0 → kd s100 a = kd s94 a := by subst hs100; exact fun a _ => congrFun kd_sAR a
        have h := h s100 hs100.symm
        refine G_aload 329 dJ4_resize_327 rfl rfl ?_
        refine G_ifnull 347 332 dJ4_resize_329 (by decide) rfl (fun u102 => ?_) (fun u102 => ?_)
        · have h := h.1 u102
          refine G_iinc 350 [va_rf l0, va_rf l1, .int l2, .int l3, .int l4, .int l5, va_rf l6, .int (l7 + 1), va_rf (FR σ 87 a1), va_rf l8, va_rf l8, va_rf l11, va_rf l12, va_rf (FR σ 87 a1)] dJ4_resize_347 rfl rfl (Nat.le_of_ble_eq_true rfl) rfl rfl ?_
          refine G_goto 151 dJ4_resize_350 (by decide) ?_
          exact h
        · have h := h.2 u102
          refine G_aload 334 dJ4_resize_332 rfl rfl ?_
          refine G_null 335 dJ4_resize_334 rfl ?_
          obtain ⟨a103, e104, h⟩ := h
          obtain ⟨c105, h⟩ := h
          refine G_putR (f := 87) (a := a103) "" 338 dJ4_resize_335 (Or.inl q973) (Or.inl rfl) rfl e104 (hp87 c105) (nk87 c105) (Or.inl rfl) (fun y => by cases y <;> rfl) (fun y => by cases y <;> rfl) rfl ?_
          generalize hs106 : sFR s100 87 a103 none = s106
          have x107 : ∀ a, ¬ kd s100 a = 0 → kd s106 a = kd s100 a := by subst hs106; exact fun a _ => congrFun kd_sFR a
          have h := h s106 hs106.symm
          refine G_aload 340 dJ4_resize_338 rfl rfl ?_
          refine G_iload 342 dJ4_resize_340 rfl rfl ?_
          refine G_iload_n 343 dJ4_resize_342 rfl rfl ?_
          refine G_iadd 344 dJ4_resize_343 rfl ?_
          refine G_aload 346 dJ4_resize_344 rfl rfl ?_
          have c98 := kdE x101 c98 (by decide)
          have c98 := kdE x107 c98 (by decide)
          obtain ⟨c108, h⟩ := h
          obtain ⟨c109, h⟩ := h
          refine G_aast (a := a96) (kn := 4) 347 dJ4_resize_346 rfl e97 c98 (Or.inr rfl) c108 (c109.imp id (fun ⟨b, e, k⟩ => ⟨b, e, eo4 k⟩)) ?_
          generalize hs110 : sAR s106 a96 (l7 + l2).toNatClampNeg l11 = s110
          have x111 : ∀ a, ¬ kd s106 a = 0 → kd s110 a = kd s106 a := by subst hs110; exact fun a _ => congrFun kd_sAR a
          have h := h s110 hs110.symm
          refine G_iinc 350 [va_rf l0, va_rf l1, .int l2, .int l3, .int l4, .int l5, va_rf l6, .int (l7 + 1), va_rf (FR σ 87 a1), va_rf l8, va_rf l8, va_rf l11, va_rf l12, va_rf (FR σ 87 a1)] dJ4_resize_347 rfl rfl (Nat.le_of_ble_eq_true rfl) rfl rfl ?_
          refine G_goto 151 dJ4_resize_350 (by decide) ?_
          exact h
theorem eJ4_resize {w : Wt} {K : Sg → Option Nat → Prop} {σ : Sg} (l0 : Option Nat) (h : G w mJ4_resize (KR K) 1 64 σ 0 [va_rf l0, U_, U_, U_, U_, U_, U_, U_, U_, U_, U_, U_, U_, U_] []) : CalR w mJ4_resize σ [va_rf l0] K :=
  Cal.start 13 mJ4_resize_plain (catR cat0) (Nat.le_of_ble_eq_true rfl) rfl h
set_option maxHeartbeats 4000000 in
theorem bJ4_newNode_0 {w : Wt} {K : Sg → Option Nat → Prop} {rc rs : Nat} {σ : Sg} (l0 : Option Nat) (l1 : Int32) (l2 : Option Nat) (l3 : Option Nat) (l4 : Option Nat) (h : ∀ n2, n2 = nx σ → kd σ n2 = 0 → ∀ s3, s3 = nO σ 30 → CalV w mJ28_init s3 [va_rf (some n2), .int l1, va_rf l2, va_rf l3, va_rf l4] (fun s6 => Ext s3 s6 → K s6 (some n2))) : G w mJ4_newNode (KR K) (rc + 1) (rs + 4) σ 0 [va_rf l0, .int l1, va_rf l2, va_rf l3, va_rf l4] [] := by
  refine G_new (cc := 20) (kn := 30) (q := (RJ28, TJ28, 4)) (rc) (rs) 3 dJ4_newNode_0 rfl q918 q993 q66 rfl rfl (Nat.le_refl _) (Nat.le_refl _) (fun z1 => ?_)
  generalize hn2 : nx σ = n2 at z1 ⊢
  generalize hs3 : nO σ 30 = s3
  have x4 : ∀ a, ¬ kd σ a = 0 → kd s3 a = kd σ a := by subst hs3 hn2; exact kdNx z1
  have c5 : kd s3 n2 = 30 := by subst hs3 hn2; exact kdO_self
  have h := h n2 hn2.symm z1 s3 hs3.symm
  refine G_dup 4 dJ4_newNode_3 (rf_cat _) rfl ?_
  refine G_iload_n 5 dJ4_newNode_4 rfl rfl ?_
  refine G_aload_n 6 dJ4_newNode_5 rfl rfl ?_
  refine G_aload_n 7 dJ4_newNode_6 rfl rfl ?_
  refine G_aload 9 dJ4_newNode_7 rfl rfl ?_
  refine G_invI (N := mJ28_init) (As := [.int l1, va_rf l2, va_rf l3, va_rf l4]) (st := [va_rf (some n2)]) (t := (some n2)) (b := n2) (rc) (rs) "" 12 dJ4_newNode_9 (Or.inl q994) q943 q66 q944 rfl rfl rfl mJ28_init_args ⟨Nat.le_of_ble_eq_true rfl, Nat.le_of_ble_eq_true rfl⟩ rfl rfl (Nat.le_trans (w_R w_0) (Nat.le_of_ble_eq_true rfl)) (le_b mJ28_init_c (Nat.le_refl _)) (le_b mJ28_init_s (Nat.le_refl _)) rfl (Cal.mono h ?_)
  rintro s6 v ⟨rfl, h⟩ hx7
  have h := h hx7
  have x8 := hx7.x
  show G w mJ4_newNode (KR K) (rc) (rs) s6 12 [va_rf l0, .int l1, va_rf l2, va_rf l3, va_rf l4] [va_rf (some n2)]
  exact G_aret dJ4_newNode_12 rfl (Or.inl ⟨_, rfl⟩) ⟨_, rfl, h⟩
theorem eJ4_newNode {w : Wt} {K : Sg → Option Nat → Prop} {σ : Sg} (l0 : Option Nat) (l1 : Int32) (l2 : Option Nat) (l3 : Option Nat) (l4 : Option Nat) (h : G w mJ4_newNode (KR K) 1 4 σ 0 [va_rf l0, .int l1, va_rf l2, va_rf l3, va_rf l4] []) : CalR w mJ4_newNode σ [va_rf l0, .int l1, va_rf l2, va_rf l3, va_rf l4] K :=
  Cal.start 0 mJ4_newNode_plain (catR (catI (catR (catR (catR cat0))))) (Nat.le_of_ble_eq_true rfl) rfl h
set_option maxHeartbeats 4000000 in
theorem bJ4_treeifyBin_0 {w : Wt} {K : Sg → Prop} {rc rs : Nat} {σ : Sg} (l0 : Option Nat) (l1 : Option Nat) (l2 : Int32) (h : ((l1 = none → ∃ a2, l0 = some a2 ∧ kd σ a2 ∈ [21, 22] ∧ CalR w mJ4_resize σ [va_rf l0] (fun s4 x5 => Ext σ s4 → K s4)) ∧ (¬ l1 = none → ∃ a10, l1 = some a10 ∧ kd σ a10 ∈ [1, 2, 3, 4, 5, 7, 8] ∧ ((64 ≤ nI (ln σ a10) → kd σ a10 ∈ [3, 4, 7, 8] ∧ vp_in (((nI (ln σ a10)) - 1) &&& l2) (ln σ a10) ∧ ((AR σ a10 (((nI (ln σ a10)) - 1) &&& l2).toNatClampNeg = none → K σ) ∧ (¬ AR σ a10 (((nI (ln σ a10)) - 1) &&& l2).toNatClampNeg = none → G w mJ4_treeifyBin (KV K) (rc + 1) (rs + 64) σ 43 [va_rf l0, va_rf l1, .int l2, .int (nI (ln σ a10)), .int (((nI (ln σ a10)) - 1) &&& l2), va_rf (AR σ a10 (((nI (ln σ a10)) - 1) &&& l2).toNatClampNeg), va_rf none, va_rf none, U_] []))) ∧ (¬ 64 ≤ nI (ln σ a10) → ∃ a17, l0 = some a17 ∧ kd σ a17 ∈ [21, 22] ∧ CalR w mJ4_resize σ [va_rf l0] (fun s19 x20 => Ext σ s19 → K s19)))))) : G w mJ4_treeifyBin (KV K) (rc + 1) (rs + 64) σ 0 [va_rf l0, va_rf l1, .int l2, U_, U_, U_, U_, U_, U_] [] := by
  refine G_aload_n 1 dJ4_treeifyBin_0 rfl rfl ?_
  refine G_ifnull 13 4 dJ4_treeifyBin_1 (by decide) rfl (fun u1 => ?_) (fun u1 => ?_)
  · have h := h.1 u1
    refine G_aload_n 14 dJ4_treeifyBin_13 rfl rfl ?_
    obtain ⟨a2, e3, h⟩ := h
    obtain ⟨c6, h⟩ := h
    have fin : Cal w mJ4_resize σ [va_rf l0] (fun σ1 v => Ext σ σ1 → G w mJ4_treeifyBin (KV K) (rc) (rs) σ1 17 [va_rf l0, va_rf l1, .int l2, U_, U_, U_, U_, U_, U_] (v.toList ++ [])) := by
      refine Cal.mono h ?_
      rintro s4 v ⟨x5, rfl, h⟩ hx7
      have h := h hx7
      have x8 := hx7.x
      show G w mJ4_treeifyBin (KV K) (rc) (rs) s4 17 [va_rf l0, va_rf l1, .int l2, U_, U_, U_, U_, U_, U_] [va_rf x5]
      refine G_pop 18 dJ4_treeifyBin_17 (rf_cat _) rfl ?_
      refine G_goto 109 dJ4_treeifyBin_18 (by decide) ?_
      exact G_ret dJ4_treeifyBin_109 rfl ⟨rfl, h⟩
    have k9 : kd σ a2 ∈ [21, 22] := c6
    simp only [List.mem_cons, List.not_mem_nil, or_false] at k9
    rcases k9 with k9 | k9
    · exact G_invU (N := mJ4_resize) (owner := "java/util/HashMap") (x := ⟨"java/util/HashMap", "resize", "()[Ljava/util/HashMap$Node;"⟩) (As := []) (st := []) (t := l0) (b := a2) (rc) (rs) 17 dJ4_treeifyBin_14 q909 q912 q913 q910 q37 q914 (Or.inl rfl) rfl ax4 ⟨Nat.le_of_ble_eq_true rfl, Nat.le_of_ble_eq_true rfl⟩ rfl (Nat.zero_le _) e3 (rk21 k9) (le_b mJ4_resize_c (Nat.le_refl _)) (le_b mJ4_resize_s (Nat.le_refl _)) rfl fin
    · exact G_invV (N := mJ4_resize) (As := []) (st := []) (t := l0) (b := a2) (rc) (rs) 17 dJ4_treeifyBin_14 q909 q910 q911 q37 q914 rfl rfl mJ4_resize_args ⟨Nat.le_of_ble_eq_true rfl, Nat.le_of_ble_eq_true rfl⟩ rfl (Nat.zero_le _) e3 (rk22 k9) (le_b mJ4_resize_c (Nat.le_refl _)) (le_b mJ4_resize_s (Nat.le_refl _)) rfl fin
  · have h := h.2 u1
    refine G_aload_n 5 dJ4_treeifyBin_4 rfl rfl ?_
    obtain ⟨a10, e11, h⟩ := h
    obtain ⟨c12, h⟩ := h
    refine G_alen (a := a10) 6 dJ4_treeifyBin_5 rfl e11 c12 ?_
    refine G_dup 7 dJ4_treeifyBin_6 (rfl) rfl ?_
    refine G_istore_n 8 [va_rf l0, va_rf l1, .int l2, .int (nI (ln σ a10)), U_, U_, U_, U_, U_] dJ4_treeifyBin_7 (Nat.le_of_ble_eq_true rfl) rfl rfl ?_
    refine G_bipush (v := 64) 10 dJ4_treeifyBin_8 (by decide) rfl ?_
    refine G_icmp_ge 21 13 dJ4_treeifyBin_10 (by decide) rfl (fun u13 => ?_) (fun u13 => ?_)
    · have h := h.1 u13
      refine G_aload_n 22 dJ4_treeifyBin_21 rfl rfl ?_
      refine G_iload_n 23 dJ4_treeifyBin_22 rfl rfl ?_
      refine G_iconst (v := 1) 24 dJ4_treeifyBin_23 (by decide) rfl ?_
      refine G_isub 25 dJ4_treeifyBin_24 rfl ?_
      refine G_iload_n 26 dJ4_treeifyBin_25 rfl rfl ?_
      refine G_iand 27 dJ4_treeifyBin_26 rfl ?_
      refine G_dup 28 dJ4_treeifyBin_27 (rfl) rfl ?_
      refine G_istore 30 [va_rf l0, va_rf l1, .int l2, .int (nI (ln σ a10)), .int (((nI (ln σ a10)) - 1) &&& l2), U_, U_, U_, U_] dJ4_treeifyBin_28 (Nat.le_of_ble_eq_true rfl) rfl rfl ?_
      obtain ⟨c14, h⟩ := h
      obtain ⟨c15, h⟩ := h
      refine G_aald (a := a10) 31 dJ4_treeifyBin_30 rfl e11 c14 c15 ?_
      refine G_dup 32 dJ4_treeifyBin_31 (rf_cat _) rfl ?_
      refine G_astore 34 [va_rf l0, va_rf l1, .int l2, .int (nI (ln σ a10)), .int (((nI (ln σ a10)) - 1) &&& l2), va_rf (AR σ a10 (((nI (ln σ a10)) - 1) &&& l2).toNatClampNeg), U_, U_, U_] dJ4_treeifyBin_32 (Nat.le_of_ble_eq_true rfl) rfl rfl ?_
      refine G_ifnull 109 37 dJ4_treeifyBin_34 (by decide) rfl (fun u16 => ?_) (fun u16 => ?_)
      · have h := h.1 u16
        exact G_ret dJ4_treeifyBin_109 rfl ⟨rfl, h⟩
      · have h := h.2 u16
        refine G_null 38 dJ4_treeifyBin_37 rfl ?_
        refine G_astore 40 [va_rf l0, va_rf l1, .int l2, .int (nI (ln σ a10)), .int (((nI (ln σ a10)) - 1) &&& l2), va_rf (AR σ a10 (((nI (ln σ a10)) - 1) &&& l2).toNatClampNeg), va_rf none, U_, U_] dJ4_treeifyBin_38 (Nat.le_of_ble_eq_true rfl) rfl rfl ?_
        refine G_null 41 dJ4_treeifyBin_40 rfl ?_
        refine G_astore 43 [va_rf l0, va_rf l1, .int l2, .int (nI (ln σ a10)), .int (((nI (ln σ a10)) - 1) &&& l2), va_rf (AR σ a10 (((nI (ln σ a10)) - 1) &&& l2).toNatClampNeg), va_rf none, va_rf none, U_] dJ4_treeifyBin_41 (Nat.le_of_ble_eq_true rfl) rfl rfl ?_
        exact h
    · have h := h.2 u13
      refine G_aload_n 14 dJ4_treeifyBin_13 rfl rfl ?_
      obtain ⟨a17, e18, h⟩ := h
      obtain ⟨c21, h⟩ := h
      have fin : Cal w mJ4_resize σ [va_rf l0] (fun σ1 v => Ext σ σ1 → G w mJ4_treeifyBin (KV K) (rc) (rs) σ1 17 [va_rf l0, va_rf l1, .int l2, .int (nI (ln σ a10)), U_, U_, U_, U_, U_] (v.toList ++ [])) := by
        refine Cal.mono h ?_
        rintro s19 v ⟨x20, rfl, h⟩ hx22
        have h := h hx22
        have x23 := hx22.x
        show G w mJ4_treeifyBin (KV K) (rc) (rs) s19 17 [va_rf l0, va_rf l1, .int l2, .int (nI (ln σ a10)), U_, U_, U_, U_, U_] [va_rf x20]
        refine G_pop 18 dJ4_treeifyBin_17 (rf_cat _) rfl ?_
        refine G_goto 109 dJ4_treeifyBin_18 (by decide) ?_
        exact G_ret dJ4_treeifyBin_109 rfl ⟨rfl, h⟩
      have k24 : kd σ a17 ∈ [21, 22] := c21
      simp only [List.mem_cons, List.not_mem_nil, or_false] at k24
      rcases k24 with k24 | k24
      · exact G_invU (N := mJ4_resize) (owner := "java/util/HashMap") (x := ⟨"java/util/HashMap", "resize", "()[Ljava/util/HashMap$Node;"⟩) (As := []) (st := []) (t := l0) (b := a17) (rc) (rs) 17 dJ4_treeifyBin_14 q909 q912 q913 q910 q37 q914 (Or.inl rfl) rfl ax4 ⟨Nat.le_of_ble_eq_true rfl, Nat.le_of_ble_eq_true rfl⟩ rfl (Nat.zero_le _) e18 (rk21 k24) (le_b mJ4_resize_c (Nat.le_refl _)) (le_b mJ4_resize_s (Nat.le_refl _)) rfl fin
      · exact G_invV (N := mJ4_resize) (As := []) (st := []) (t := l0) (b := a17) (rc) (rs) 17 dJ4_treeifyBin_14 q909 q910 q911 q37 q914 rfl rfl mJ4_resize_args ⟨Nat.le_of_ble_eq_true rfl, Nat.le_of_ble_eq_true rfl⟩ rfl (Nat.zero_le _) e18 (rk22 k24) (le_b mJ4_resize_c (Nat.le_refl _)) (le_b mJ4_resize_s (Nat.le_refl _)) rfl fin
set_option maxHeartbeats 4000000 in
theorem bJ4_treeifyBin_43 {w : Wt} {K : Sg → Prop} {rc rs : Nat} {σ : Sg} (l0 : Option Nat) (l1 : Option Nat) (l2 : Int32) (l3 : Int32) (l4 : Int32) (l5 : Option Nat) (l6 : Option Nat) (l7 : Option Nat) (v8 : Value) (h : ∃ a1, l0 = some a1 ∧ kd σ a1 = 21 ∧ CalR w mJ5_replacementTreeNode σ [va_rf l0, va_rf l5, va_rf none] (fun s3 x4 => Ext σ s3 → ((¬ l7 = none → ∃ a9, x4 = some a9 ∧ kd s3 a9 = 32 ∧ ∀ s12, s12 = sFR s3 93 a9 l7 → ∃ a14, l7 = some a14 ∧ kd s12 a14 ∈ [30, 31, 32] ∧ ∀ s17, s17 = sFR s12 87 a14 x4 → ∃ a19, l5 = some a19 ∧ kd s17 a19 ∈ [30, 31, 32] ∧ ((¬ FR s17 87 a19 = none → G w mJ4_treeifyBin (KV K) (rc) (rs) s17 43 [va_rf l0, va_rf l1, .int l2, .int l3, .int l4, va_rf (FR s17 87 a19), va_rf l6, va_rf x4, va_rf x4] []) ∧ (FR s17 87 a19 = none → ∃ a23, l1 = some a23 ∧ kd s17 a23 = 4 ∧ vp_in l4 (ln s17 a23) ∧ (l6 = none ∨ ∃ b, l6 = some b ∧ kd s17 b ∈ [30, 31, 32]) ∧ ∀ s28, s28 = sAR s17 a23 l4.toNatClampNeg l6 → ((l6 = none → K s28) ∧ (¬ l6 = none → ∃ a31, l6 = some a31 ∧ kd s28 a31 = 32 ∧ CalV w mJ33_treeify s28 [va_rf l6, va_rf l1] (fun s33 => Ext s28 s33 → K s33)))))) ∧ (l7 = none → ∃ a37, l5 = some a37 ∧ kd s3 a37 ∈ [30, 31, 32] ∧ ((¬ FR s3 87 a37 = none → G w mJ4_treeifyBin (KV K) (rc) (rs) s3 43 [va_rf l0, va_rf l1, .int l2, .int l3, .int l4, va_rf (FR s3 87 a37), va_rf x4, va_rf x4, va_rf x4] []) ∧ (FR s3 87 a37 = none → ∃ a41, l1 = some a41 ∧ kd s3 a41 = 4 ∧ vp_in l4 (ln s3 a41) ∧ (x4 = none ∨ ∃ b, x4 = some b ∧ kd s3 b ∈ [30, 31, 32]) ∧ ∀ s46, s46 = sAR s3 a41 l4.toNatClampNeg x4 → ((x4 = none → K s46) ∧ (¬ x4 = none → ∃ a49, x4 = some a49 ∧ kd s46 a49 = 32 ∧ CalV w mJ33_treeify s46 [va_rf x4, va_rf l1] (fun s51 => Ext s46 s51 → K s51))))))))) : G w mJ4_treeifyBin (KV K) (rc + 1) (rs + 11) σ 43 [va_rf l0, va_rf l1, .int l2, .int l3, .int l4, va_rf l5, va_rf l6, va_rf l7, v8] [] := by
  refine G_aload_n 44 dJ4_treeifyBin_43 rfl rfl ?_
  refine G_aload 46 dJ4_treeifyBin_44 rfl rfl ?_
  refine G_null 47 dJ4_treeifyBin_46 rfl ?_
  obtain ⟨a1, e2, h⟩ := h
  obtain ⟨c5, h⟩ := h
  refine G_invU (N := mJ5_replacementTreeNode) (owner := "java/util/HashMap") (x := ⟨"java/util/HashMap", "replacementTreeNode", "(Ljava/util/HashMap$Node;Ljava/util/HashMap$Node;)Ljava/util/HashMap$TreeNode;"⟩) (As := [va_rf l5, va_rf none]) (st := []) (t := l0) (b := a1) (rc) (rs) 50 dJ4_treeifyBin_47 q1340 q1343 q1344 q1345 q38 q1346 (Or.inr (Or.inl ⟨q1341, _, _, _, q1347⟩)) rfl ax8 ⟨Nat.le_of_ble_eq_true rfl, Nat.le_of_ble_eq_true rfl⟩ rfl (Nat.zero_le _) e2 (rk21 c5) (le_b mJ5_replacementTreeNode_c (Nat.le_refl _)) (le_b mJ5_replacementTreeNode_s (Nat.le_refl _)) rfl (Cal.mono h ?_)
  rintro s3 v ⟨x4, rfl, h⟩ hx6
  have h := h hx6
  have x7 := hx6.x
  show G w mJ4_treeifyBin (KV K) (rc) (rs) s3 50 [va_rf l0, va_rf l1, .int l2, .int l3, .int l4, va_rf l5, va_rf l6, va_rf l7, v8] [va_rf x4]
  refine G_astore 52 [va_rf l0, va_rf l1, .int l2, .int l3, .int l4, va_rf l5, va_rf l6, va_rf l7, va_rf x4] dJ4_treeifyBin_50 (Nat.le_of_ble_eq_true rfl) rfl rfl ?_
  refine G_aload 54 dJ4_treeifyBin_52 rfl rfl ?_
  refine G_ifnonnull 64 57 dJ4_treeifyBin_54 (by decide) rfl (fun u8 => ?_) (fun u8 => ?_)
  · have h := h.1 u8
    refine G_aload 66 dJ4_treeifyBin_64 rfl rfl ?_
    refine G_aload 68 dJ4_treeifyBin_66 rfl rfl ?_
    obtain ⟨a9, e10, h⟩ := h
    obtain ⟨c11, h⟩ := h
    refine G_putR (f := 93) (a := a9) "" 71 dJ4_treeifyBin_68 (Or.inl q1313) (Or.inl rfl) rfl e10 (hp93 c11) (nk93 c11) (Or.inl rfl) (fun y => by cases y <;> rfl) (fun y => by cases y <;> rfl) rfl ?_
    generalize hs12 : sFR s3 93 a9 l7 = s12
    have x13 : ∀ a, ¬ kd s3 a = 0 → kd s12 a = kd s3 a := by subst hs12; exact fun a _ => congrFun kd_sFR a
    have h := h s12 hs12.symm
    refine G_aload 73 dJ4_treeifyBin_71 rfl rfl ?_
    refine G_aload 75 dJ4_treeifyBin_73 rfl rfl ?_
    obtain ⟨a14, e15, h⟩ := h
    obtain ⟨c16, h⟩ := h
    refine G_putR (f := 87) (a := a14) "" 78 dJ4_treeifyBin_75 (Or.inl q974) (Or.inr q971) rfl e15 (hp87 c16) (nk87 c16) (Or.inl rfl) (fun y => by cases y <;> rfl) (fun y => by cases y <;> rfl) rfl ?_
    generalize hs17 : sFR s12 87 a14 x4 = s17
    have x18 : ∀ a, ¬ kd s12 a = 0 → kd s17 a = kd s12 a := by subst hs17; exact fun a _ => congrFun kd_sFR a
    have h := h s17 hs17.symm
    refine G_aload 80 dJ4_treeifyBin_78 rfl rfl ?_
    refine G_astore 82 [va_rf l0, va_rf l1, .int l2, .int l3, .int l4, va_rf l5, va_rf l6, va_rf x4, va_rf x4] dJ4_treeifyBin_80 (Nat.le_of_ble_eq_true rfl) rfl rfl ?_
    refine G_aload 84 dJ4_treeifyBin_82 rfl rfl ?_
    obtain ⟨a19, e20, h⟩ := h
    obtain ⟨c21, h⟩ := h
    refine G_getR (f := 87) (a := a19) "" 87 dJ4_treeifyBin_84 (Or.inl q973) (Or.inl rfl) rfl e20 (hf87 c21) rfl ?_
    refine G_dup 88 dJ4_treeifyBin_87 (rf_cat _) rfl ?_
    refine G_astore 90 [va_rf l0, va_rf l1, .int l2, .int l3, .int l4, va_rf (FR s17 87 a19), va_rf l6, va_rf x4, va_rf x4] dJ4_treeifyBin_88 (Nat.le_of_ble_eq_true rfl) rfl rfl ?_
    refine G_ifnonnull 43 93 dJ4_treeifyBin_90 (by decide) rfl (fun u22 => ?_) (fun u22 => ?_)
    · have h := h.1 u22
      exact h
    · have h := h.2 u22
      refine G_aload_n 94 dJ4_treeifyBin_93 rfl rfl ?_
      refine G_iload 96 dJ4_treeifyBin_94 rfl rfl ?_
      refine G_aload 98 dJ4_treeifyBin_96 rfl rfl ?_
      refine G_dup_x2 99 dJ4_treeifyBin_98 (rf_cat _) (rfl) (rf_cat _) rfl ?_
      obtain ⟨a23, e24, h⟩ := h
      obtain ⟨c25, h⟩ := h
      obtain ⟨c26, h⟩ := h
      obtain ⟨c27, h⟩ := h
      refine G_aast (a := a23) (kn := 4) 100 dJ4_treeifyBin_99 rfl e24 c25 (Or.inr rfl) c26 (c27.imp id (fun ⟨b, e, k⟩ => ⟨b, e, eo4 k⟩)) ?_
      generalize hs28 : sAR s17 a23 l4.toNatClampNeg l6 = s28
      have x29 : ∀ a, ¬ kd s17 a = 0 → kd s28 a = kd s17 a := by subst hs28; exact fun a _ => congrFun kd_sAR a
      have h := h s28 hs28.symm
      refine G_ifnull 109 103 dJ4_treeifyBin_100 (by decide) rfl (fun u30 => ?_) (fun u30 => ?_)
      · have h := h.1 u30
        exact G_ret dJ4_treeifyBin_109 rfl ⟨rfl, h⟩
      · have h := h.2 u30
        refine G_aload 105 dJ4_treeifyBin_103 rfl rfl ?_
        refine G_aload_n 106 dJ4_treeifyBin_105 rfl rfl ?_
        obtain ⟨a31, e32, h⟩ := h
        obtain ⟨c34, h⟩ := h
        refine G_invV (N := mJ33_treeify) (As := [va_rf l1]) (st := []) (t := l6) (b := a31) (rc) (rs) 109 dJ4_treeifyBin_106 q1348 q1001 q1002 q72 q1003 rfl rfl mJ33_treeify_args ⟨Nat.le_of_ble_eq_true rfl, Nat.le_of_ble_eq_true rfl⟩ rfl (Nat.zero_le _) e32 (rk32 c34) (le_b mJ33_treeify_c (Nat.le_refl _)) (le_b mJ33_treeify_s (Nat.le_refl _)) rfl (Cal.mono h ?_)
        rintro s33 v ⟨rfl, h⟩ hx35
        have h := h hx35
        have x36 := hx35.x
        show G w mJ4_treeifyBin (KV K) (rc) (rs) s33 109 [va_rf l0, va_rf l1, .int l2, .int l3, .int l4, va_rf (FR s17 87 a19), va_rf l6, va_rf x4, va_rf x4] []
        exact G_ret dJ4_treeifyBin_109 rfl ⟨rfl, h⟩
  · have h := h.2 u8
    refine G_aload 59 dJ4_treeifyBin_57 rfl rfl ?_
    refine G_astore 61 [va_rf l0, va_rf l1, .int l2, .int l3, .int l4, va_rf l5, va_rf x4, va_rf l7, va_rf x4] dJ4_treeifyBin_59 (Nat.le_of_ble_eq_true rfl) rfl rfl ?_
    refine G_goto 78 dJ4_treeifyBin_61 (by decide) ?_
    refine G_aload 80 dJ4_treeifyBin_78 rfl rfl ?_
    refine G_astore 82 [va_rf l0, va_rf l1, .int l2, .int l3, .int l4, va_rf l5, va_rf x4, va_rf x4, va_rf x4] dJ4_treeifyBin_80 (Nat.le_of_ble_eq_true rfl) rfl rfl ?_
    refine G_aload 84 dJ4_treeifyBin_82 rfl rfl ?_
    obtain ⟨a37, e38, h⟩ := h
    obtain ⟨c39, h⟩ := h
    refine G_getR (f := 87) (a := a37) "" 87 dJ4_treeifyBin_84 (Or.inl q973) (Or.inl rfl) rfl e38 (hf87 c39) rfl ?_
    refine G_dup 88 dJ4_treeifyBin_87 (rf_cat _) rfl ?_
    refine G_astore 90 [va_rf l0, va_rf l1, .int l2, .int l3, .int l4, va_rf (FR s3 87 a37), va_rf x4, va_rf x4, va_rf x4] dJ4_treeifyBin_88 (Nat.le_of_ble_eq_true rfl) rfl rfl ?_
    refine G_ifnonnull 43 93 dJ4_treeifyBin_90 (by decide) rfl (fun u40 => ?_) (fun u40 => ?_)
    · have h := h.1 u40
      exact h
    · have h := h.2 u40
      refine G_aload_n 94 dJ4_treeifyBin_93 rfl rfl ?_
      refine G_iload 96 dJ4_treeifyBin_94 rfl rfl ?_
      refine G_aload 98 dJ4_treeifyBin_96 rfl rfl ?_
      refine G_dup_x2 99 dJ4_treeifyBin_98 (rf_cat _) (rfl) (rf_cat _) rfl ?_
      obtain ⟨a41, e42, h⟩ := h
      obtain ⟨c43, h⟩ := h
      obtain ⟨c44, h⟩ := h
      obtain ⟨c45, h⟩ := h
      refine G_aast (a := a41) (kn := 4) 100 dJ4_treeifyBin_99 rfl e42 c43 (Or.inr rfl) c44 (c45.imp id (fun ⟨b, e, k⟩ => ⟨b, e, eo4 k⟩)) ?_
      generalize hs46 : sAR s3 a41 l4.toNatClampNeg x4 = s46
      have x47 : ∀ a, ¬ kd s3 a = 0 → kd s46 a = kd s3 a := by subst hs46; exact fun a _ => congrFun kd_sAR a
      have h := h s46 hs46.symm
      refine G_ifnull 109 103 dJ4_treeifyBin_100 (by decide) rfl (fun u48 => ?_) (fun u48 => ?_)
      · have h := h.1 u48
        exact G_ret dJ4_treeifyBin_109 rfl ⟨rfl, h⟩
      · have h := h.2 u48
        refine G_aload 105 dJ4_treeifyBin_103 rfl rfl ?_
        refine G_aload_n 106 dJ4_treeifyBin_105 rfl rfl ?_
        obtain ⟨a49, e50, h⟩ := h
        obtain ⟨c52, h⟩ := h
        refine G_invV (N := mJ33_treeify) (As := [va_rf l1]) (st := []) (t := x4) (b := a49) (rc) (rs) 109 dJ4_treeifyBin_106 q1348 q1001 q1002 q72 q1003 rfl rfl mJ33_treeify_args ⟨Nat.le_of_ble_eq_true rfl, Nat.le_of_ble_eq_true rfl⟩ rfl (Nat.zero_le _) e50 (rk32 c52) (le_b mJ33_treeify_c (Nat.le_refl _)) (le_b mJ33_treeify_s (Nat.le_refl _)) rfl (Cal.mono h ?_)
        rintro s51 v ⟨rfl, h⟩ hx53
        have h := h hx53
        have x54 := hx53.x
        show G w mJ4_treeifyBin (KV K) (rc) (rs) s51 109 [va_rf l0, va_rf l1, .int l2, .int l3, .int l4, va_rf (FR s3 87 a37), va_rf x4, va_rf x4, va_rf x4] []
        exact G_ret dJ4_treeifyBin_109 rfl ⟨rfl, h⟩
theorem eJ4_treeifyBin {w : Wt} {K : Sg → Prop} {σ : Sg} (l0 : Option Nat) (l1 : Option Nat) (l2 : Int32) (h : G w mJ4_treeifyBin (KV K) 20 300 σ 0 [va_rf l0, va_rf l1, .int l2, U_, U_, U_, U_, U_, U_] []) : CalV w mJ4_treeifyBin σ [va_rf l0, va_rf l1, .int l2] K :=
  Cal.start 6 mJ4_treeifyBin_plain (catR (catR (catI cat0))) (Nat.le_of_ble_eq_true rfl) rfl h
set_option maxHeartbeats 4000000 in
theorem bJ4_afterNodeAccess_0 {w : Wt} {K : Sg → Prop} {rc rs : Nat} {σ : Sg} (l0 : Option Nat) (l1 : Option Nat) (h : K σ) : G w mJ4_afterNodeAccess (KV K) (rc) (rs) σ 0 [va_rf l0, va_rf l1] [] := by
  exact G_ret dJ4_afterNodeAccess_0 rfl ⟨rfl, h⟩
theorem eJ4_afterNodeAccess {w : Wt} {K : Sg → Prop} {σ : Sg} (l0 : Option Nat) (l1 : Option Nat) (h : G w mJ4_afterNodeAccess (KV K) 0 0 σ 0 [va_rf l0, va_rf l1] []) : CalV w mJ4_afterNodeAccess σ [va_rf l0, va_rf l1] K :=
  Cal.start 0 mJ4_afterNodeAccess_plain (catR (catR cat0)) (Nat.le_of_ble_eq_true rfl) rfl h
set_option maxHeartbeats 4000000 in
theorem bJ4_afterNodeInsertion_0 {w : Wt} {K : Sg → Prop} {rc rs : Nat} {σ : Sg} (l0 : Option Nat) (l1 : Int32) (h : K σ) : G w mJ4_afterNodeInsertion (KV K) (rc) (rs) σ 0 [va_rf l0, .int l1] [] := by
  exact G_ret dJ4_afterNodeInsertion_0 rfl ⟨rfl, h⟩
theorem eJ4_afterNodeInsertion {w : Wt} {K : Sg → Prop} {σ : Sg} (l0 : Option Nat) (l1 : Int32) (h : G w mJ4_afterNodeInsertion (KV K) 0 0 σ 0 [va_rf l0, .int l1] []) : CalV w mJ4_afterNodeInsertion σ [va_rf l0, .int l1] K :=
  Cal.start 0 mJ4_afterNodeInsertion_plain (catR (catI cat0)) (Nat.le_of_ble_eq_true rfl) rfl h
set_option maxHeartbeats 4000000 in
theorem bJ4_get_0 {w : Wt} {K : Sg → Option Nat → Prop} {rc rs : Nat} {σ : Sg} (l0 : Option Nat) (l1 : Option Nat) (h : ∃ a1, l0 = some a1 ∧ kd σ a1 ∈ [21, 22] ∧ CalR w mJ4_getNode σ [va_rf l0, va_rf l1] (fun s3 x4 => Ext σ s3 → ((¬ x4 = none → ∃ a9, x4 = some a9 ∧ kd s3 a9 ∈ [30, 31, 32] ∧ K s3 (FR s3 86 a9)) ∧ (x4 = none → K s3 none)))) : G w mJ4_get (KR K) (rc) (rs) σ 0 [va_rf l0, va_rf l1, U_] [] := by
  refine G_aload_n 1 dJ4_get_0 rfl rfl ?_
  refine G_aload_n 2 dJ4_get_1 rfl rfl ?_
  obtain ⟨a1, e2, h⟩ := h
  obtain ⟨c5, h⟩ := h
  have fin : Cal w mJ4_getNode σ [va_rf l0, va_rf l1] (fun σ1 v => Ext σ σ1 → G w mJ4_get (KR K) (rc) (rs) σ1 5 [va_rf l0, va_rf l1, U_] (v.toList ++ [])) := by
    refine Cal.mono h ?_
    rintro s3 v ⟨x4, rfl, h⟩ hx6
    have h := h hx6
    have x7 := hx6.x
    show G w mJ4_get (KR K) (rc) (rs) s3 5 [va_rf l0, va_rf l1, U_] [va_rf x4]
    refine G_dup 6 dJ4_get_5 (rf_cat _) rfl ?_
    refine G_astore_n 7 [va_rf l0, va_rf l1, va_rf x4] dJ4_get_6 (Nat.le_of_ble_eq_true rfl) rfl rfl ?_
    refine G_ifnonnull 14 10 dJ4_get_7 (by decide) rfl (fun u8 => ?_) (fun u8 => ?_)
    · have h := h.1 u8
      refine G_aload_n 15 dJ4_get_14 rfl rfl ?_
      obtain ⟨a9, e10, h⟩ := h
      obtain ⟨c11, h⟩ := h
      refine G_getR (f := 86) (a := a9) "" 18 dJ4_get_15 (Or.inl q966) (Or.inl rfl) rfl e10 (hf86 c11) rfl ?_
      exact G_aret dJ4_get_18 rfl (Or.inl ⟨_, rfl⟩) ⟨_, rfl, h⟩
    · have h := h.2 u8
      refine G_null 11 dJ4_get_10 rfl ?_
      refine G_goto 18 dJ4_get_11 (by decide) ?_
      exact G_aret dJ4_get_18 rfl (Or.inl ⟨_, rfl⟩) ⟨_, rfl, h⟩
  have k12 : kd σ a1 ∈ [21, 22] := c5
  simp only [List.mem_cons, List.not_mem_nil, or_false] at k12
  rcases k12 with k12 | k12
  · exact G_invU (N := mJ4_getNode) (owner := "java/util/HashMap") (x := ⟨"java/util/HashMap", "getNode", "(Ljava/lang/Object;)Ljava/util/HashMap$Node;"⟩) (As := [va_rf l1]) (st := []) (t := l0) (b := a1) (rc) (rs) 5 dJ4_get_2 q1476 q1479 q1480 q1477 q37 q1481 (Or.inl rfl) rfl ax9 ⟨Nat.le_of_ble_eq_true rfl, Nat.le_of_ble_eq_true rfl⟩ rfl (Nat.zero_le _) e2 (rk21 k12) (le_b mJ4_getNode_c (Nat.le_refl _)) (le_b mJ4_getNode_s (Nat.le_refl _)) rfl fin
  · exact G_invV (N := mJ4_getNode) (As := [va_rf l1]) (st := []) (t := l0) (b := a1) (rc) (rs) 5 dJ4_get_2 q1476 q1477 q1478 q37 q1481 rfl rfl mJ4_getNode_args ⟨Nat.le_of_ble_eq_true rfl, Nat.le_of_ble_eq_true rfl⟩ rfl (Nat.zero_le _) e2 (rk22 k12) (le_b mJ4_getNode_c (Nat.le_refl _)) (le_b mJ4_getNode_s (Nat.le_refl _)) rfl fin
theorem eJ4_get {w : Wt} {K : Sg → Option Nat → Prop} {σ : Sg} (l0 : Option Nat) (l1 : Option Nat) (h : G w mJ4_get (KR K) 0 0 σ 0 [va_rf l0, va_rf l1, U_] []) : CalR w mJ4_get σ [va_rf l0, va_rf l1] K :=
  Cal.start 1 mJ4_get_plain (catR (catR cat0)) (Nat.le_of_ble_eq_true rfl) rfl h
set_option maxHeartbeats 4000000 in
theorem bJ4_getNode_0 {w : Wt} {K : Sg → Option Nat → Prop} {rc rs : Nat} {σ : Sg} (l0 : Option Nat) (l1 : Option Nat) (h : ∃ a1, l0 = some a1 ∧ kd σ a1 ∈ [21, 22] ∧ ((FR σ 56 a1 = none → G w mJ4_getNode (KR K) (rc) (rs) σ 148 [va_rf l0, va_rf l1, va_rf (FR σ 56 a1), U_, U_, U_, U_, U_] []) ∧ (¬ FR σ 56 a1 = none → ∃ a5, FR σ 56 a1 = some a5 ∧ kd σ a5 ∈ [1, 2, 3, 4, 5, 7, 8] ∧ ((nI (ln σ a5) ≤ 0 → G w mJ4_getNode (KR K) (rc) (rs) σ 148 [va_rf l0, va_rf l1, va_rf (FR σ 56 a1), U_, U_, .int (nI (ln σ a5)), U_, U_] []) ∧ (¬ nI (ln σ a5) ≤ 0 → CalI w mJ4_hash σ [va_rf l1] (fun s9 x10 => Ext σ s9 → kd s9 a5 ∈ [3, 4, 7, 8] ∧ vp_in (((nI (ln σ a5)) - 1) &&& x10) (ln s9 a5) ∧ ((AR s9 a5 (((nI (ln σ a5)) - 1) &&& x10).toNatClampNeg = none → G w mJ4_getNode (KR K) (rc) (rs) s9 148 [va_rf l0, va_rf l1, va_rf (FR σ 56 a1), va_rf (AR s9 a5 (((nI (ln σ a5)) - 1) &&& x10).toNatClampNeg), U_, .int (nI (ln σ a5)), .int x10, U_] []) ∧ (¬ AR s9 a5 (((nI (ln σ a5)) - 1) &&& x10).toNatClampNeg = none → ∃ a16, AR s9 a5 (((nI (ln σ a5)) - 1) &&& x10).toNatClampNeg = some a16 ∧ kd s9 a16 ∈ [30, 31, 32] ∧ ((¬ FI s9 84 a16 = x10 → G w mJ4_getNode (KR K) (rc) (rs) s9 71 [va_rf l0, va_rf l1, va_rf (FR σ 56 a1), va_rf (AR s9 a5 (((nI (ln σ a5)) - 1) &&& x10).toNatClampNeg), U_, .int (nI (ln σ a5)), .int x10, U_] []) ∧ (FI s9 84 a16 = x10 → ((FR s9 85 a16 = l1 → G w mJ4_getNode (KR K) (rc) (rs) s9 69 [va_rf l0, va_rf l1, va_rf (FR σ 56 a1), va_rf (AR s9 a5 (((nI (ln σ a5)) - 1) &&& x10).toNatClampNeg), U_, .int (nI (ln σ a5)), .int x10, va_rf (FR s9 85 a16)] []) ∧ (¬ FR s9 85 a16 = l1 → ((l1 = none → G w mJ4_getNode (KR K) (rc) (rs) s9 71 [va_rf l0, va_rf l1, va_rf (FR σ 56 a1), va_rf (AR s9 a5 (((nI (ln σ a5)) - 1) &&& x10).toNatClampNeg), U_, .int (nI (ln σ a5)), .int x10, va_rf (FR s9 85 a16)] []) ∧ (¬ l1 = none → ∃ a22, l1 = some a22 ∧ ((kd s9 a22 = 16 ∧ CalI w mX6_equals s9 [va_rf l1, va_rf (FR s9 85 a16)] (fun s24 x25 => Ext s9 s24 → ((x25 = 0 → G w mJ4_getNode (KR K) (rc) (rs) s24 71 [va_rf l0, va_rf l1, va_rf (FR σ 56 a1), va_rf (AR s9 a5 (((nI (ln σ a5)) - 1) &&& x10).toNatClampNeg), U_, .int (nI (ln σ a5)), .int x10, va_rf (FR s9 85 a16)] []) ∧ (¬ x25 = 0 → G w mJ4_getNode (KR K) (rc) (rs) s24 69 [va_rf l0, va_rf l1, va_rf (FR σ 56 a1), va_rf (AR s9 a5 (((nI (ln σ a5)) - 1) &&& x10).toNatClampNeg), U_, .int (nI (ln σ a5)), .int x10, va_rf (FR s9 85 a16)] [])))) ∨ (kd s9 a22 = 17 ∧ CalI w mJ36_equals s9 [va_rf l1, va_rf (FR s9 85 a16)] (fun s30 x31 => Ext s9 s30 → ((x31 = 0 → G w mJ4_getNode (KR K) (rc) (rs) s30 71 [va_rf l0, va_rf l1, va_rf (FR σ 56 a1), va_rf (AR s9 a5 (((nI (ln σ a5)) - 1) &&& x10).toNatClampNeg), U_, .int (nI (ln σ a5)), .int x10, va_rf (FR s9 85 a16)] []) ∧ (¬ x31 = 0 → G w mJ4_getNode (KR K) (rc) (rs) s30 69 [va_rf l0, va_rf l1, va_rf (FR σ 56 a1), va_rf (AR s9 a5 (((nI (ln σ a5)) - 1) &&& x10).toNatClampNeg), U_, .int (nI (ln σ a5)), .int x10, va_rf (FR s9 85 a16)] []))))))))))))))))))) : G w mJ4_getNode (KR K) (rc) (rs) σ 0 [va_rf l0, va_rf l1, U_, U_, U_, U_, U_, U_] [] := by
  refine G_aload_n 1 dJ4_getNode_0 rfl rfl ?_
  obtain ⟨a1, e2, h⟩ := h
  obtain ⟨c3, h⟩ := h
  refine G_getR (f := 56) (a := a1) "" 4 dJ4_getNode_1 (Or.inl q142) (Or.inl rfl) rfl e2 (hf56 c3) rfl ?_
  refine G_dup 5 dJ4_getNode_4 (rf_cat _) rfl ?_
  refine G_astore_n 6 [va_rf l0, va_rf l1, va_rf (FR σ 56 a1), U_, U_, U_, U_, U_] dJ4_getNode_5 (Nat.le_of_ble_eq_true rfl) rfl rfl ?_
  refine G_ifnull 148 9 dJ4_getNode_6 (by decide) rfl (fun u4 => ?_) (fun u4 => ?_)
  · have h := h.1 u4
    exact h
  · have h := h.2 u4
    refine G_aload_n 10 dJ4_getNode_9 rfl rfl ?_
    obtain ⟨a5, e6, h⟩ := h
    obtain ⟨c7, h⟩ := h
    refine G_alen (a := a5) 11 dJ4_getNode_10 rfl e6 c7 ?_
    refine G_dup 12 dJ4_getNode_11 (rfl) rfl ?_
    refine G_istore 14 [va_rf l0, va_rf l1, va_rf (FR σ 56 a1), U_, U_, .int (nI (ln σ a5)), U_, U_] dJ4_getNode_12 (Nat.le_of_ble_eq_true rfl) rfl rfl ?_
    refine G_if_le 148 17 dJ4_getNode_14 (by decide) rfl (fun u8 => ?_) (fun u8 => ?_)
    · have h := h.1 u8
      exact h
    · have h := h.2 u8
      refine G_aload_n 18 dJ4_getNode_17 rfl rfl ?_
      refine G_iload 20 dJ4_getNode_18 rfl rfl ?_
      refine G_iconst (v := 1) 21 dJ4_getNode_20 (by decide) rfl ?_
      refine G_isub 22 dJ4_getNode_21 rfl ?_
      refine G_aload_n 23 dJ4_getNode_22 rfl rfl ?_
      refine G_invS (N := mJ4_hash) (As := [va_rf l1]) (st := [.int ((nI (ln σ a5)) - 1), va_rf (FR σ 56 a1)]) (rc) (rs) "" 26 dJ4_getNode_23 (Or.inl q810) q811 q37 q812 rfl mJ4_hash_args ⟨Nat.le_of_ble_eq_true rfl, Nat.le_of_ble_eq_true rfl⟩ rfl (Nat.le_trans (w_I (w_R w_0)) (Nat.le_of_ble_eq_true rfl)) (le_b mJ4_hash_c (Nat.le_refl _)) (le_b mJ4_hash_s (Nat.le_refl _)) rfl (Cal.mono h ?_)
      rintro s9 v ⟨x10, rfl, h⟩ hx11
      have h := h hx11
      have x12 := hx11.x
      show G w mJ4_getNode (KR K) (rc) (rs) s9 26 [va_rf l0, va_rf l1, va_rf (FR σ 56 a1), U_, U_, .int (nI (ln σ a5)), U_, U_] [.int x10, .int ((nI (ln σ a5)) - 1), va_rf (FR σ 56 a1)]
      refine G_dup 27 dJ4_getNode_26 (rfl) rfl ?_
      refine G_istore 29 [va_rf l0, va_rf l1, va_rf (FR σ 56 a1), U_, U_, .int (nI (ln σ a5)), .int x10, U_] dJ4_getNode_27 (Nat.le_of_ble_eq_true rfl) rfl rfl ?_
      refine G_iand 30 dJ4_getNode_29 rfl ?_
      obtain ⟨c13, h⟩ := h
      obtain ⟨c14, h⟩ := h
      refine G_aald (a := a5) 31 dJ4_getNode_30 rfl e6 c13 c14 ?_
      refine G_dup 32 dJ4_getNode_31 (rf_cat _) rfl ?_
      refine G_astore_n 33 [va_rf l0, va_rf l1, va_rf (FR σ 56 a1), va_rf (AR s9 a5 (((nI (ln σ a5)) - 1) &&& x10).toNatClampNeg), U_, .int (nI (ln σ a5)), .int x10, U_] dJ4_getNode_32 (Nat.le_of_ble_eq_true rfl) rfl rfl ?_
      refine G_ifnull 148 36 dJ4_getNode_33 (by decide) rfl (fun u15 => ?_) (fun u15 => ?_)
      · have h := h.1 u15
        exact h
      · have h := h.2 u15
        refine G_aload_n 37 dJ4_getNode_36 rfl rfl ?_
        obtain ⟨a16, e17, h⟩ := h
        obtain ⟨c18, h⟩ := h
        refine G_getI (f := 84) (a := a16) "" 40 dJ4_getNode_37 (Or.inl q955) (Or.inl rfl) rfl e17 (hf84 c18) rfl ?_
        refine G_iload 42 dJ4_getNode_40 rfl rfl ?_
        refine G_icmp_ne 71 45 dJ4_getNode_42 (by decide) rfl (fun u19 => ?_) (fun u19 => ?_)
        · have h := h.1 u19
          exact h
        · have h := h.2 u19
          refine G_aload_n 46 dJ4_getNode_45 rfl rfl ?_
          refine G_getR (f := 85) (a := a16) "" 49 dJ4_getNode_46 (Or.inl q962) (Or.inl rfl) rfl e17 (hf85 c18) rfl ?_
          refine G_dup 50 dJ4_getNode_49 (rf_cat _) rfl ?_
          refine G_astore 52 [va_rf l0, va_rf l1, va_rf (FR σ 56 a1), va_rf (AR s9 a5 (((nI (ln σ a5)) - 1) &&& x10).toNatClampNeg), U_, .int (nI (ln σ a5)), .int x10, va_rf (FR s9 85 a16)] dJ4_getNode_50 (Nat.le_of_ble_eq_true rfl) rfl rfl ?_
          refine G_aload_n 53 dJ4_getNode_52 rfl rfl ?_
          refine G_acmp_eq 69 56 dJ4_getNode_53 (by decide) rfl (fun u20 => ?_) (fun u20 => ?_)
          · have h := h.1 u20
            exact h
          · have h := h.2 u20
            refine G_aload_n 57 dJ4_getNode_56 rfl rfl ?_
            refine G_ifnull 71 60 dJ4_getNode_57 (by decide) rfl (fun u21 => ?_) (fun u21 => ?_)
            · have h := h.1 u21
              exact h
            · have h := h.2 u21
              refine G_aload_n 61 dJ4_getNode_60 rfl rfl ?_
              refine G_aload 63 dJ4_getNode_61 rfl rfl ?_
              obtain ⟨a22, e23, h⟩ := h
              rcases h with ⟨c26, h⟩ | ⟨c32, h⟩
              · refine G_invU (N := mX6_equals) (owner := "java/lang/Object") (x := ⟨"java/lang/Object", "equals", "(Ljava/lang/Object;)Z"⟩) (As := [va_rf (FR s9 85 a16)]) (st := []) (t := l1) (b := a22) (rc) (rs) 66 dJ4_getNode_63 q1251 q1253 q1257 q1258 q74 q1259 (Or.inr (Or.inl ⟨q1252, _, _, _, q1282⟩)) rfl ax0 ⟨Nat.le_of_ble_eq_true rfl, Nat.le_of_ble_eq_true rfl⟩ rfl (Nat.zero_le _) e23 (rk16 c26) (le_b mX6_equals_c (Nat.le_refl _)) (le_b mX6_equals_s (Nat.le_refl _)) rfl (Cal.mono h ?_)
                rintro s24 v ⟨x25, rfl, h⟩ hx27
                have h := h hx27
                have x28 := hx27.x
                show G w mJ4_getNode (KR K) (rc) (rs) s24 66 [va_rf l0, va_rf l1, va_rf (FR σ 56 a1), va_rf (AR s9 a5 (((nI (ln σ a5)) - 1) &&& x10).toNatClampNeg), U_, .int (nI (ln σ a5)), .int x10, va_rf (FR s9 85 a16)] [.int x25]
                refine G_if_eq 71 69 dJ4_getNode_66 (by decide) rfl (fun u29 => ?_) (fun u29 => ?_)
                · have h := h.1 u29
                  exact h
                · have h := h.2 u29
                  exact h
              · refine G_invU (N := mJ36_equals) (owner := "java/lang/Object") (x := ⟨"java/lang/Object", "equals", "(Ljava/lang/Object;)Z"⟩) (As := [va_rf (FR s9 85 a16)]) (st := []) (t := l1) (b := a22) (rc) (rs) 66 dJ4_getNode_63 q1251 q1253 q1256 q1252 q2405 q1282 (Or.inl rfl) rfl ax0 ⟨Nat.le_of_ble_eq_true rfl, Nat.le_of_ble_eq_true rfl⟩ rfl (Nat.zero_le _) e23 (rk17 c32) (le_b mJ36_equals_c (Nat.le_refl _)) (le_b mJ36_equals_s (Nat.le_refl _)) rfl (Cal.mono h ?_)
                rintro s30 v ⟨x31, rfl, h⟩ hx33
                have h := h hx33
                have x34 := hx33.x
                show G w mJ4_getNode (KR K) (rc) (rs) s30 66 [va_rf l0, va_rf l1, va_rf (FR σ 56 a1), va_rf (AR s9 a5 (((nI (ln σ a5)) - 1) &&& x10).toNatClampNeg), U_, .int (nI (ln σ a5)), .int x10, va_rf (FR s9 85 a16)] [.int x31]
                refine G_if_eq 71 69 dJ4_getNode_66 (by decide) rfl (fun u35 => ?_) (fun u35 => ?_)
                · have h := h.1 u35
                  exact h
                · have h := h.2 u35
                  exact h
set_option maxHeartbeats 4000000 in
theorem bJ4_getNode_69 {w : Wt} {K : Sg → Option Nat → Prop} {rc rs : Nat} {σ : Sg} (l0 : Option Nat) (l1 : Option Nat) (l2 : Option Nat) (l3 : Option Nat) (v4 : Value) (l5 : Int32) (l6 : Int32) (l7 : Option Nat) (h : K σ l3) : G w mJ4_getNode (KR K) (rc) (rs) σ 69 [va_rf l0, va_rf l1, va_rf l2, va_rf l3, v4, .int l5, .int l6, va_rf l7] [] := by
  refine G_aload_n 70 dJ4_getNode_69 rfl rfl ?_
  exact G_aret dJ4_getNode_70 rfl (Or.inl ⟨_, rfl⟩) ⟨_, rfl, h⟩
set_option maxHeartbeats 4000000 in
theorem bJ4_getNode_71 {w : Wt} {K : Sg → Option Nat → Prop} {rc rs : Nat} {σ : Sg} (l0 : Option Nat) (l1 : Option Nat) (l2 : Option Nat) (l3 : Option Nat) (v4 : Value) (l5 : Int32) (l6 : Int32) (v7 : Value) (h : ∃ a1, l3 = some a1 ∧ kd σ a1 ∈ [30, 31, 32] ∧ ((FR σ 87 a1 = none → G w mJ4_getNode (KR K) (rc) (rs) σ 148 [va_rf l0, va_rf l1, va_rf l2, va_rf l3, va_rf (FR σ 87 a1), .int l5, .int l6, v7] []) ∧ (¬ FR σ 87 a1 = none → ((kd σ a1 = 32 ∧ CalR w mJ33_getTreeNode σ [va_rf l3, .int l6, va_rf l1] (fun s6 x7 => Ext σ s6 → K s6 x7)) ∨ (kd σ a1 ∈ [31, 30] ∧ G w mJ4_getNode (KR K) (rc) (rs) σ 99 [va_rf l0, va_rf l1, va_rf l2, va_rf l3, va_rf (FR σ 87 a1), .int l5, .int l6, v7] []))))) : G w mJ4_getNode (KR K) (rc) (rs) σ 71 [va_rf l0, va_rf l1, va_rf l2, va_rf l3, v4, .int l5, .int l6, v7] [] := by
  refine G_aload_n 72 dJ4_getNode_71 rfl rfl ?_
  obtain ⟨a1, e2, h⟩ := h
  obtain ⟨c3, h⟩ := h
  refine G_getR (f := 87) (a := a1) "" 75 dJ4_getNode_72 (Or.inl q973) (Or.inl rfl) rfl e2 (hf87 c3) rfl ?_
  refine G_dup 76 dJ4_getNode_75 (rf_cat _) rfl ?_
  refine G_astore 78 [va_rf l0, va_rf l1, va_rf l2, va_rf l3, va_rf (FR σ 87 a1), .int l5, .int l6, v7] dJ4_getNode_76 (Nat.le_of_ble_eq_true rfl) rfl rfl ?_
  refine G_ifnull 148 81 dJ4_getNode_78 (by decide) rfl (fun u4 => ?_) (fun u4 => ?_)
  · have h := h.1 u4
    exact h
  · have h := h.2 u4
    refine G_aload_n 82 dJ4_getNode_81 rfl rfl ?_
    rcases h with ⟨c5, h⟩ | ⟨c5, h⟩
    · refine G_instY (a := a1) 85 dJ4_getNode_82 q920 rfl e2 (iy1 c5) ?_
      refine G_if_eq 99 88 dJ4_getNode_85 (by decide) rfl (fun q => absurd q (by decide)) (fun _ => ?_)
      refine G_aload_n 89 dJ4_getNode_88 rfl rfl ?_
      refine G_cast 92 dJ4_getNode_89 q920 rfl (Or.inr ⟨a1, e2, co1 c5⟩) ?_
      refine G_iload 94 dJ4_getNode_92 rfl rfl ?_
      refine G_aload_n 95 dJ4_getNode_94 rfl rfl ?_
      refine G_invV (N := mJ33_getTreeNode) (As := [.int l6, va_rf l1]) (st := []) (t := l3) (b := a1) (rc) (rs) 98 dJ4_getNode_95 q1482 q1483 q1484 q72 q1485 rfl rfl mJ33_getTreeNode_args ⟨Nat.le_of_ble_eq_true rfl, Nat.le_of_ble_eq_true rfl⟩ rfl (Nat.zero_le _) e2 (rk32 c5) (le_b mJ33_getTreeNode_c (Nat.le_refl _)) (le_b mJ33_getTreeNode_s (Nat.le_refl _)) rfl (Cal.mono h ?_)
      rintro s6 v ⟨x7, rfl, h⟩ hx8
      have h := h hx8
      have x9 := hx8.x
      show G w mJ4_getNode (KR K) (rc) (rs) s6 98 [va_rf l0, va_rf l1, va_rf l2, va_rf l3, va_rf (FR σ 87 a1), .int l5, .int l6, v7] [va_rf x7]
      exact G_aret dJ4_getNode_98 rfl (Or.inl ⟨_, rfl⟩) ⟨_, rfl, h⟩
    · refine G_instN 85 dJ4_getNode_82 q920 rfl (Or.inr ⟨a1, e2, in0 c5⟩) ?_
      refine G_if_eq 99 88 dJ4_getNode_85 (by decide) rfl (fun _ => ?_) (fun q => absurd q (by decide))
      exact h
set_option maxHeartbeats 4000000 in
theorem bJ4_getNode_99 {w : Wt} {K : Sg → Option Nat → Prop} {rc rs : Nat} {σ : Sg} (l0 : Option Nat) (l1 : Option Nat) (l2 : Option Nat) (l3 : Option Nat) (l4 : Option Nat) (l5 : Int32) (l6 : Int32) (v7 : Value) (h : ∃ a1, l4 = some a1 ∧ kd σ a1 ∈ [30, 31, 32] ∧ ((¬ FI σ 84 a1 = l6 → G w mJ4_getNode (KR K) (rc) (rs) σ 137 [va_rf l0, va_rf l1, va_rf l2, va_rf l3, va_rf l4, .int l5, .int l6, v7] []) ∧ (FI σ 84 a1 = l6 → ((FR σ 85 a1 = l1 → G w mJ4_getNode (KR K) (rc) (rs) σ 134 [va_rf l0, va_rf l1, va_rf l2, va_rf l3, va_rf l4, .int l5, .int l6, va_rf (FR σ 85 a1)] []) ∧ (¬ FR σ 85 a1 = l1 → ((l1 = none → G w mJ4_getNode (KR K) (rc) (rs) σ 137 [va_rf l0, va_rf l1, va_rf l2, va_rf l3, va_rf l4, .int l5, .int l6, va_rf (FR σ 85 a1)] []) ∧ (¬ l1 = none → ∃ a7, l1 = some a7 ∧ ((kd σ a7 = 16 ∧ CalI w mX6_equals σ [va_rf l1, va_rf (FR σ 85 a1)] (fun s9 x10 => Ext σ s9 → ((x10 = 0 → G w mJ4_getNode (KR K) (rc) (rs) s9 137 [va_rf l0, va_rf l1, va_rf l2, va_rf l3, va_rf l4, .int l5, .int l6, va_rf (FR σ 85 a1)] []) ∧ (¬ x10 = 0 → G w mJ4_getNode (KR K) (rc) (rs) s9 134 [va_rf l0, va_rf l1, va_rf l2, va_rf l3, va_rf l4, .int l5, .int l6, va_rf (FR σ 85 a1)] [])))) ∨ (kd σ a7 = 17 ∧ CalI w mJ36_equals σ [va_rf l1, va_rf (FR σ 85 a1)] (fun s15 x16 => Ext σ s15 → ((x16 = 0 → G w mJ4_getNode (KR K) (rc) (rs) s15 137 [va_rf l0, va_rf l1, va_rf l2, va_rf l3, va_rf l4, .int l5, .int l6, va_rf (FR σ 85 a1)] []) ∧ (¬ x16 = 0 → G w mJ4_getNode (KR K) (rc) (rs) s15 134 [va_rf l0, va_rf l1, va_rf l2, va_rf l3, va_rf l4, .int l5, .int l6, va_rf (FR σ 85 a1)] [])))))))))))) : G w mJ4_getNode (KR K) (rc) (rs) σ 99 [va_rf l0, va_rf l1, va_rf l2, va_rf l3, va_rf l4, .int l5, .int l6, v7] [] := by
  refine G_aload 101 dJ4_getNode_99 rfl rfl ?_
  obtain ⟨a1, e2, h⟩ := h
  obtain ⟨c3, h⟩ := h
  refine G_getI (f := 84) (a := a1) "" 104 dJ4_getNode_101 (Or.inl q955) (Or.inl rfl) rfl e2 (hf84 c3) rfl ?_
  refine G_iload 106 dJ4_getNode_104 rfl rfl ?_
  refine G_icmp_ne 137 109 dJ4_getNode_106 (by decide) rfl (fun u4 => ?_) (fun u4 => ?_)
  · have h := h.1 u4
    exact h
  · have h := h.2 u4
    refine G_aload 111 dJ4_getNode_109 rfl rfl ?_
    refine G_getR (f := 85) (a := a1) "" 114 dJ4_getNode_111 (Or.inl q962) (Or.inl rfl) rfl e2 (hf85 c3) rfl ?_
    refine G_dup 115 dJ4_getNode_114 (rf_cat _) rfl ?_
    refine G_astore 117 [va_rf l0, va_rf l1, va_rf l2, va_rf l3, va_rf l4, .int l5, .int l6, va_rf (FR σ 85 a1)] dJ4_getNode_115 (Nat.le_of_ble_eq_true rfl) rfl rfl ?_
    refine G_aload_n 118 dJ4_getNode_117 rfl rfl ?_
    refine G_acmp_eq 134 121 dJ4_getNode_118 (by decide) rfl (fun u5 => ?_) (fun u5 => ?_)
    · have h := h.1 u5
      exact h
    · have h := h.2 u5
      refine G_aload_n 122 dJ4_getNode_121 rfl rfl ?_
      refine G_ifnull 137 125 dJ4_getNode_122 (by decide) rfl (fun u6 => ?_) (fun u6 => ?_)
      · have h := h.1 u6
        exact h
      · have h := h.2 u6
        refine G_aload_n 126 dJ4_getNode_125 rfl rfl ?_
        refine G_aload 128 dJ4_getNode_126 rfl rfl ?_
        obtain ⟨a7, e8, h⟩ := h
        rcases h with ⟨c11, h⟩ | ⟨c17, h⟩
        · refine G_invU (N := mX6_equals) (owner := "java/lang/Object") (x := ⟨"java/lang/Object", "equals", "(Ljava/lang/Object;)Z"⟩) (As := [va_rf (FR σ 85 a1)]) (st := []) (t := l1) (b := a7) (rc) (rs) 131 dJ4_getNode_128 q1251 q1253 q1257 q1258 q74 q1259 (Or.inr (Or.inl ⟨q1252, _, _, _, q1282⟩)) rfl ax0 ⟨Nat.le_of_ble_eq_true rfl, Nat.le_of_ble_eq_true rfl⟩ rfl (Nat.zero_le _) e8 (rk16 c11) (le_b mX6_equals_c (Nat.le_refl _)) (le_b mX6_equals_s (Nat.le_refl _)) rfl (Cal.mono h ?_)
          rintro s9 v ⟨x10, rfl, h⟩ hx12
          have h := h hx12
          have x13 := hx12.x
          show G w mJ4_getNode (KR K) (rc) (rs) s9 131 [va_rf l0, va_rf l1, va_rf l2, va_rf l3, va_rf l4, .int l5, .int l6, va_rf (FR σ 85 a1)] [.int x10]
          refine G_if_eq 137 134 dJ4_getNode_131 (by decide) rfl (fun u14 => ?_) (fun u14 => ?_)
          · have h := h.1 u14
            exact h
          · have h := h.2 u14
            exact h
        · refine G_invU (N := mJ36_equals) (owner := "java/lang/Object") (x := ⟨"java/lang/Object", "equals", "(Ljava/lang/Object;)Z"⟩) (As := [va_rf (FR σ 85 a1)]) (st := []) (t := l1) (b := a7) (rc) (rs) 131 dJ4_getNode_128 q1251 q1253 q1256 q1252 q2405 q1282 (Or.inl rfl) rfl ax0 ⟨Nat.le_of_ble_eq_true rfl, Nat.le_of_ble_eq_true rfl⟩ rfl (Nat.zero_le _) e8 (rk17 c17) (le_b mJ36_equals_c (Nat.le_refl _)) (le_b mJ36_equals_s (Nat.le_refl _)) rfl (Cal.mono h ?_)
          rintro s15 v ⟨x16, rfl, h⟩ hx18
          have h := h hx18
          have x19 := hx18.x
          show G w mJ4_getNode (KR K) (rc) (rs) s15 131 [va_rf l0, va_rf l1, va_rf l2, va_rf l3, va_rf l4, .int l5, .int l6, va_rf (FR σ 85 a1)] [.int x16]
          refine G_if_eq 137 134 dJ4_getNode_131 (by decide) rfl (fun u20 => ?_) (fun u20 => ?_)
          · have h := h.1 u20
            exact h
          · have h := h.2 u20
            exact h
set_option maxHeartbeats 4000000 in
theorem bJ4_getNode_134 {w : Wt} {K : Sg → Option Nat → Prop} {rc rs : Nat} {σ : Sg} (l0 : Option Nat) (l1 : Option Nat) (l2 : Option Nat) (l3 : Option Nat) (l4 : Option Nat) (l5 : Int32) (l6 : Int32) (l7 : Option Nat) (h : K σ l4) : G w mJ4_getNode (KR K) (rc) (rs) σ 134 [va_rf l0, va_rf l1, va_rf l2, va_rf l3, va_rf l4, .int l5, .int l6, va_rf l7] [] := by
  refine G_aload 136 dJ4_getNode_134 rfl rfl ?_
  exact G_aret dJ4_getNode_136 rfl (Or.inl ⟨_, rfl⟩) ⟨_, rfl, h⟩
set_option maxHeartbeats 4000000 in
theorem bJ4_getNode_137 {w : Wt} {K : Sg → Option Nat → Prop} {rc rs : Nat} {σ : Sg} (l0 : Option Nat) (l1 : Option Nat) (l2 : Option Nat) (l3 : Option Nat) (l4 : Option Nat) (l5 : Int32) (l6 : Int32) (v7 : Value) (h : ∃ a1, l4 = some a1 ∧ kd σ a1 ∈ [30, 31, 32] ∧ ((¬ FR σ 87 a1 = none → G w mJ4_getNode (KR K) (rc) (rs) σ 99 [va_rf l0, va_rf l1, va_rf l2, va_rf l3, va_rf (FR σ 87 a1), .int l5, .int l6, v7] []) ∧ (FR σ 87 a1 = none → G w mJ4_getNode (KR K) (rc) (rs) σ 148 [va_rf l0, va_rf l1, va_rf l2, va_rf l3, va_rf (FR σ 87 a1), .int l5, .int l6, v7] []))) : G w mJ4_getNode (KR K) (rc) (rs) σ 137 [va_rf l0, va_rf l1, va_rf l2, va_rf l3, va_rf l4, .int l5, .int l6, v7] [] := by
  refine G_aload 139 dJ4_getNode_137 rfl rfl ?_
  obtain ⟨a1, e2, h⟩ := h
  obtain ⟨c3, h⟩ := h
  refine G_getR (f := 87) (a := a1) "" 142 dJ4_getNode_139 (Or.inl q973) (Or.inl rfl) rfl e2 (hf87 c3) rfl ?_
  refine G_dup 143 dJ4_getNode_142 (rf_cat _) rfl ?_
  refine G_astore 145 [va_rf l0, va_rf l1, va_rf l2, va_rf l3, va_rf (FR σ 87 a1), .int l5, .int l6, v7] dJ4_getNode_143 (Nat.le_of_ble_eq_true rfl) rfl rfl ?_
  refine G_ifnonnull 99 148 dJ4_getNode_145 (by decide) rfl (fun u4 => ?_) (fun u4 => ?_)
  · have h := h.1 u4
    exact h
  · have h := h.2 u4
    exact h
set_option maxHeartbeats 4000000 in
theorem bJ4_getNode_148 {w : Wt} {K : Sg → Option Nat → Prop} {rc rs : Nat} {σ : Sg} (l0 : Option Nat) (l1 : Option Nat) (l2 : Option Nat) (v3 : Value) (v4 : Value) (v5 : Value) (v6 : Value) (v7 : Value) (h : K σ none) : G w mJ4_getNode (KR K) (rc) (rs) σ 148 [va_rf l0, va_rf l1, va_rf l2, v3, v4, v5, v6, v7] [] := by
  refine G_null 149 dJ4_getNode_148 rfl ?_
  exact G_aret dJ4_getNode_149 rfl (Or.inl ⟨_, rfl⟩) ⟨_, rfl, h⟩
theorem eJ4_getNode {w : Wt} {K : Sg → Option Nat → Prop} {σ : Sg} (l0 : Option Nat) (l1 : Option Nat) (h : G w mJ4_getNode (KR K) 0 0 σ 0 [va_rf l0, va_rf l1, U_, U_, U_, U_, U_, U_] []) : CalR w mJ4_getNode σ [va_rf l0, va_rf l1] K :=
  Cal.start 6 mJ4_getNode_plain (catR (catR cat0)) (Nat.le_of_ble_eq_true rfl) rfl h
set_option maxHeartbeats 4000000 in
theorem bJ4_remove_0 {w : Wt} {K : Sg → Option Nat → Prop} {rc rs : Nat} {σ : Sg} (l0 : Option Nat) (l1 : Option Nat) (h : CalI w mJ4_hash σ [va_rf l1] (fun s1 x2 => Ext σ s1 → ∃ a5, l0 = some a5 ∧ kd s1 a5 ∈ [21, 22] ∧ CalR w mJ4_removeNode s1 [va_rf l0, .int x2, va_rf l1, va_rf none, .int 0, .int 1] (fun s7 x8 => Ext s1 s7 → ((¬ x8 = none → ∃ a13, x8 = some a13 ∧ kd s7 a13 ∈ [30, 31, 32] ∧ K s7 (FR s7 86 a13)) ∧ (x8 = none → K s7 none))))) : G w mJ4_remove (KR K) (rc + 20) (rs + 120) σ 0 [va_rf l0, va_rf l1, U_] [] := by
  refine G_aload_n 1 dJ4_remove_0 rfl rfl ?_
  refine G_aload_n 2 dJ4_remove_1 rfl rfl ?_
  refine G_invS (N := mJ4_hash) (As := [va_rf l1]) (st := [va_rf l0]) (rc + 20) (rs + 120) "" 5 dJ4_remove_2 (Or.inl q810) q811 q37 q812 rfl mJ4_hash_args ⟨Nat.le_of_ble_eq_true rfl, Nat.le_of_ble_eq_true rfl⟩ rfl (Nat.le_trans (w_R w_0) (Nat.le_of_ble_eq_true rfl)) (le_b mJ4_hash_c (Nat.le_refl _)) (le_b mJ4_hash_s (Nat.le_refl _)) rfl (Cal.mono h ?_)
  rintro s1 v ⟨x2, rfl, h⟩ hx3
  have h := h hx3
  have x4 := hx3.x
  show G w mJ4_remove (KR K) (rc + 20) (rs + 120) s1 5 [va_rf l0, va_rf l1, U_] [.int x2, va_rf l0]
  refine G_aload_n 6 dJ4_remove_5 rfl rfl ?_
  refine G_null 7 dJ4_remove_6 rfl ?_
  refine G_iconst (v := 0) 8 dJ4_remove_7 (by decide) rfl ?_
  refine G_iconst (v := 1) 9 dJ4_remove_8 (by decide) rfl ?_
  obtain ⟨a5, e6, h⟩ := h
  obtain ⟨c9, h⟩ := h
  have fin : Cal w mJ4_removeNode s1 [va_rf l0, .int x2, va_rf l1, va_rf none, .int 0, .int 1] (fun σ1 v => Ext s1 σ1 → G w mJ4_remove (KR K) (rc) (rs) σ1 12 [va_rf l0, va_rf l1, U_] (v.toList ++ [])) := by
    refine Cal.mono h ?_
    rintro s7 v ⟨x8, rfl, h⟩ hx10
    have h := h hx10
    have x11 := hx10.x
    show G w mJ4_remove (KR K) (rc) (rs) s7 12 [va_rf l0, va_rf l1, U_] [va_rf x8]
    refine G_dup 13 dJ4_remove_12 (rf_cat _) rfl ?_
    refine G_astore_n 14 [va_rf l0, va_rf l1, va_rf x8] dJ4_remove_13 (Nat.le_of_ble_eq_true rfl) rfl rfl ?_
    refine G_ifnonnull 21 17 dJ4_remove_14 (by decide) rfl (fun u12 => ?_) (fun u12 => ?_)
    · have h := h.1 u12
      refine G_aload_n 22 dJ4_remove_21 rfl rfl ?_
      obtain ⟨a13, e14, h⟩ := h
      obtain ⟨c15, h⟩ := h
      refine G_getR (f := 86) (a := a13) "" 25 dJ4_remove_22 (Or.inl q966) (Or.inl rfl) rfl e14 (hf86 c15) rfl ?_
      exact G_aret dJ4_remove_25 rfl (Or.inl ⟨_, rfl⟩) ⟨_, rfl, h⟩
    · have h := h.2 u12
      refine G_null 18 dJ4_remove_17 rfl ?_
      refine G_goto 25 dJ4_remove_18 (by decide) ?_
      exact G_aret dJ4_remove_25 rfl (Or.inl ⟨_, rfl⟩) ⟨_, rfl, h⟩
  have k16 : kd s1 a5 ∈ [21, 22] := c9
  simp only [List.mem_cons, List.not_mem_nil, or_false] at k16
  rcases k16 with k16 | k16
  · exact G_invU (N := mJ4_removeNode) (owner := "java/util/HashMap") (x := ⟨"java/util/HashMap", "removeNode", "(ILjava/lang/Object;Ljava/lang/Object;ZZ)Ljava/util/HashMap$Node;"⟩) (As := [.int x2, va_rf l1, va_rf none, .int 0, .int 1]) (st := []) (t := l0) (b := a5) (rc) (rs) 12 dJ4_remove_9 q1510 q1513 q1514 q1511 q37 q1515 (Or.inl rfl) rfl ax10 ⟨Nat.le_of_ble_eq_true rfl, Nat.le_of_ble_eq_true rfl⟩ rfl (Nat.zero_le _) e6 (rk21 k16) (le_b mJ4_removeNode_c (Nat.le_refl _)) (le_b mJ4_removeNode_s (Nat.le_refl _)) rfl fin
  · exact G_invV (N := mJ4_removeNode) (As := [.int x2, va_rf l1, va_rf none, .int 0, .int 1]) (st := []) (t := l0) (b := a5) (rc) (rs) 12 dJ4_remove_9 q1510 q1511 q1512 q37 q1515 rfl rfl mJ4_removeNode_args ⟨Nat.le_of_ble_eq_true rfl, Nat.le_of_ble_eq_true rfl⟩ rfl (Nat.zero_le _) e6 (rk22 k16) (le_b mJ4_removeNode_c (Nat.le_refl _)) (le_b mJ4_removeNode_s (Nat.le_refl _)) rfl fin
theorem eJ4_remove {w : Wt} {K : Sg → Option Nat → Prop} {σ : Sg} (l0 : Option Nat) (l1 : Option Nat) (h : G w mJ4_remove (KR K) 20 120 σ 0 [va_rf l0, va_rf l1, U_] []) : CalR w mJ4_remove σ [va_rf l0, va_rf l1] K :=
  Cal.start 1 mJ4_remove_plain (catR (catR cat0)) (Nat.le_of_ble_eq_true rfl) rfl h
set_option maxHeartbeats 4000000 in
theorem bJ4_removeNode_0 {w : Wt} {K : Sg → Option Nat → Prop} {rc rs : Nat} {σ : Sg} (l0 : Option Nat) (l1 : Int32) (l2 : Option Nat) (l3 : Option Nat) (l4 : Int32) (l5 : Int32) (h : ∃ a1, l0 = some a1 ∧ kd σ a1 ∈ [21, 22] ∧ ((FR σ 56 a1 = none → G w mJ4_removeNode (KR K) (rc) (rs) σ 289 [va_rf l0, .int l1, va_rf l2, va_rf l3, .int l4, .int l5, va_rf (FR σ 56 a1), U_, U_, U_, U_, U_, U_, U_] []) ∧ (¬ FR σ 56 a1 = none → ∃ a5, FR σ 56 a1 = some a5 ∧ kd σ a5 ∈ [1, 2, 3, 4, 5, 7, 8] ∧ ((nI (ln σ a5) ≤ 0 → G w mJ4_removeNode (KR K) (rc) (rs) σ 289 [va_rf l0, .int l1, va_rf l2, va_rf l3, .int l4, .int l5, va_rf (FR σ 56 a1), U_, .int (nI (ln σ a5)), U_, U_, U_, U_, U_] []) ∧ (¬ nI (ln σ a5) ≤ 0 → kd σ a5 ∈ [3, 4, 7, 8] ∧ vp_in (((nI (ln σ a5)) - 1) &&& l1) (ln σ a5) ∧ ((AR σ a5 (((nI (ln σ a5)) - 1) &&& l1).toNatClampNeg = none → G w mJ4_removeNode (KR K) (rc) (rs) σ 289 [va_rf l0, .int l1, va_rf l2, va_rf l3, .int l4, .int l5, va_rf (FR σ 56 a1), va_rf (AR σ a5 (((nI (ln σ a5)) - 1) &&& l1).toNatClampNeg), .int (nI (ln σ a5)), .int (((nI (ln σ a5)) - 1) &&& l1), U_, U_, U_, U_] []) ∧ (¬ AR σ a5 (((nI (ln σ a5)) - 1) &&& l1).toNatClampNeg = none → ∃ a12, AR σ a5 (((nI (ln σ a5)) - 1) &&& l1).toNatClampNeg = some a12 ∧ kd σ a12 ∈ [30, 31, 32] ∧ ((¬ FI σ 84 a12 = l1 → G w mJ4_removeNode (KR K) (rc) (rs) σ 81 [va_rf l0, .int l1, va_rf l2, va_rf l3, .int l4, .int l5, va_rf (FR σ 56 a1), va_rf (AR σ a5 (((nI (ln σ a5)) - 1) &&& l1).toNatClampNeg), .int (nI (ln σ a5)), .int (((nI (ln σ a5)) - 1) &&& l1), va_rf none, U_, U_, U_] []) ∧ (FI σ 84 a12 = l1 → ((FR σ 85 a12 = l2 → G w mJ4_removeNode (KR K) (rc) (rs) σ 74 [va_rf l0, .int l1, va_rf l2, va_rf l3, .int l4, .int l5, va_rf (FR σ 56 a1), va_rf (AR σ a5 (((nI (ln σ a5)) - 1) &&& l1).toNatClampNeg), .int (nI (ln σ a5)), .int (((nI (ln σ a5)) - 1) &&& l1), va_rf none, U_, va_rf (FR σ 85 a12), U_] []) ∧ (¬ FR σ 85 a12 = l2 → ((l2 = none → G w mJ4_removeNode (KR K) (rc) (rs) σ 81 [va_rf l0, .int l1, va_rf l2, va_rf l3, .int l4, .int l5, va_rf (FR σ 56 a1), va_rf (AR σ a5 (((nI (ln σ a5)) - 1) &&& l1).toNatClampNeg), .int (nI (ln σ a5)), .int (((nI (ln σ a5)) - 1) &&& l1), va_rf none, U_, va_rf (FR σ 85 a12), U_] []) ∧ (¬ l2 = none → ∃ a18, l2 = some a18 ∧ ((kd σ a18 = 16 ∧ CalI w mX6_equals σ [va_rf l2, va_rf (FR σ 85 a12)] (fun s20 x21 => Ext σ s20 → ((x21 = 0 → G w mJ4_removeNode (KR K) (rc) (rs) s20 81 [va_rf l0, .int l1, va_rf l2, va_rf l3, .int l4, .int l5, va_rf (FR σ 56 a1), va_rf (AR σ a5 (((nI (ln σ a5)) - 1) &&& l1).toNatClampNeg), .int (nI (ln σ a5)), .int (((nI (ln σ a5)) - 1) &&& l1), va_rf none, U_, va_rf (FR σ 85 a12), U_] []) ∧ (¬ x21 = 0 → G w mJ4_removeNode (KR K) (rc) (rs) s20 74 [va_rf l0, .int l1, va_rf l2, va_rf l3, .int l4, .int l5, va_rf (FR σ 56 a1), va_rf (AR σ a5 (((nI (ln σ a5)) - 1) &&& l1).toNatClampNeg), .int (nI (ln σ a5)), .int (((nI (ln σ a5)) - 1) &&& l1), va_rf none, U_, va_rf (FR σ 85 a12), U_] [])))) ∨ (kd σ a18 = 17 ∧ CalI w mJ36_equals σ [va_rf l2, va_rf (FR σ 85 a12)] (fun s26 x27 => Ext σ s26 → ((x27 = 0 → G w mJ4_removeNode (KR K) (rc) (rs) s26 81 [va_rf l0, .int l1, va_rf l2, va_rf l3, .int l4, .int l5, va_rf (FR σ 56 a1), va_rf (AR σ a5 (((nI (ln σ a5)) - 1) &&& l1).toNatClampNeg), .int (nI (ln σ a5)), .int (((nI (ln σ a5)) - 1) &&& l1), va_rf none, U_, va_rf (FR σ 85 a12), U_] []) ∧ (¬ x27 = 0 → G w mJ4_removeNode (KR K) (rc) (rs) s26 74 [va_rf l0, .int l1, va_rf l2, va_rf l3, .int l4, .int l5, va_rf (FR σ 56 a1), va_rf (AR σ a5 (((nI (ln σ a5)) - 1) &&& l1).toNatClampNeg), .int (nI (ln σ a5)), .int (((nI (ln σ a5)) - 1) &&& l1), va_rf none, U_, va_rf (FR σ 85 a12), U_] [])))))))))))))))))) : G w mJ4_removeNode (KR K) (rc) (rs) σ 0 [va_rf l0, .int l1, va_rf l2, va_rf l3, .int l4, .int l5, U_, U_, U_, U_, U_, U_, U_, U_] [] := by
  refine G_aload_n 1 dJ4_removeNode_0 rfl rfl ?_
  obtain ⟨a1, e2, h⟩ := h
  obtain ⟨c3, h⟩ := h
  refine G_getR (f := 56) (a := a1) "" 4 dJ4_removeNode_1 (Or.inl q142) (Or.inl rfl) rfl e2 (hf56 c3) rfl ?_
  refine G_dup 5 dJ4_removeNode_4 (rf_cat _) rfl ?_
  refine G_astore 7 [va_rf l0, .int l1, va_rf l2, va_rf l3, .int l4, .int l5, va_rf (FR σ 56 a1), U_, U_, U_, U_, U_, U_, U_] dJ4_removeNode_5 (Nat.le_of_ble_eq_true rfl) rfl rfl ?_
  refine G_ifnull 289 10 dJ4_removeNode_7 (by decide) rfl (fun u4 => ?_) (fun u4 => ?_)
  · have h := h.1 u4
    exact h
  · have h := h.2 u4
    refine G_aload 12 dJ4_removeNode_10 rfl rfl ?_
    obtain ⟨a5, e6, h⟩ := h
    obtain ⟨c7, h⟩ := h
    refine G_alen (a := a5) 13 dJ4_removeNode_12 rfl e6 c7 ?_
    refine G_dup 14 dJ4_removeNode_13 (rfl) rfl ?_
    refine G_istore 16 [va_rf l0, .int l1, va_rf l2, va_rf l3, .int l4, .int l5, va_rf (FR σ 56 a1), U_, .int (nI (ln σ a5)), U_, U_, U_, U_, U_] dJ4_removeNode_14 (Nat.le_of_ble_eq_true rfl) rfl rfl ?_
    refine G_if_le 289 19 dJ4_removeNode_16 (by decide) rfl (fun u8 => ?_) (fun u8 => ?_)
    · have h := h.1 u8
      exact h
    · have h := h.2 u8
      refine G_aload 21 dJ4_removeNode_19 rfl rfl ?_
      refine G_iload 23 dJ4_removeNode_21 rfl rfl ?_
      refine G_iconst (v := 1) 24 dJ4_removeNode_23 (by decide) rfl ?_
      refine G_isub 25 dJ4_removeNode_24 rfl ?_
      refine G_iload_n 26 dJ4_removeNode_25 rfl rfl ?_
      refine G_iand 27 dJ4_removeNode_26 rfl ?_
      refine G_dup 28 dJ4_removeNode_27 (rfl) rfl ?_
      refine G_istore 30 [va_rf l0, .int l1, va_rf l2, va_rf l3, .int l4, .int l5, va_rf (FR σ 56 a1), U_, .int (nI (ln σ a5)), .int (((nI (ln σ a5)) - 1) &&& l1), U_, U_, U_, U_] dJ4_removeNode_28 (Nat.le_of_ble_eq_true rfl) rfl rfl ?_
      obtain ⟨c9, h⟩ := h
      obtain ⟨c10, h⟩ := h
      refine G_aald (a := a5) 31 dJ4_removeNode_30 rfl e6 c9 c10 ?_
      refine G_dup 32 dJ4_removeNode_31 (rf_cat _) rfl ?_
      refine G_astore 34 [va_rf l0, .int l1, va_rf l2, va_rf l3, .int l4, .int l5, va_rf (FR σ 56 a1), va_rf (AR σ a5 (((nI (ln σ a5)) - 1) &&& l1).toNatClampNeg), .int (nI (ln σ a5)), .int (((nI (ln σ a5)) - 1) &&& l1), U_, U_, U_, U_] dJ4_removeNode_32 (Nat.le_of_ble_eq_true rfl) rfl rfl ?_
      refine G_ifnull 289 37 dJ4_removeNode_34 (by decide) rfl (fun u11 => ?_) (fun u11 => ?_)
      · have h := h.1 u11
        exact h
      · have h := h.2 u11
        refine G_null 38 dJ4_removeNode_37 rfl ?_
        refine G_astore 40 [va_rf l0, .int l1, va_rf l2, va_rf l3, .int l4, .int l5, va_rf (FR σ 56 a1), va_rf (AR σ a5 (((nI (ln σ a5)) - 1) &&& l1).toNatClampNeg), .int (nI (ln σ a5)), .int (((nI (ln σ a5)) - 1) &&& l1), va_rf none, U_, U_, U_] dJ4_removeNode_38 (Nat.le_of_ble_eq_true rfl) rfl rfl ?_
        refine G_aload 42 dJ4_removeNode_40 rfl rfl ?_
        obtain ⟨a12, e13, h⟩ := h
        obtain ⟨c14, h⟩ := h
        refine G_getI (f := 84) (a := a12) "" 45 dJ4_removeNode_42 (Or.inl q955) (Or.inl rfl) rfl e13 (hf84 c14) rfl ?_
        refine G_iload_n 46 dJ4_removeNode_45 rfl rfl ?_
        refine G_icmp_ne 81 49 dJ4_removeNode_46 (by decide) rfl (fun u15 => ?_) (fun u15 => ?_)
        · have h := h.1 u15
          exact h
        · have h := h.2 u15
          refine G_aload 51 dJ4_removeNode_49 rfl rfl ?_
          refine G_getR (f := 85) (a := a12) "" 54 dJ4_removeNode_51 (Or.inl q962) (Or.inl rfl) rfl e13 (hf85 c14) rfl ?_
          refine G_dup 55 dJ4_removeNode_54 (rf_cat _) rfl ?_
          refine G_astore 57 [va_rf l0, .int l1, va_rf l2, va_rf l3, .int l4, .int l5, va_rf (FR σ 56 a1), va_rf (AR σ a5 (((nI (ln σ a5)) - 1) &&& l1).toNatClampNeg), .int (nI (ln σ a5)), .int (((nI (ln σ a5)) - 1) &&& l1), va_rf none, U_, va_rf (FR σ 85 a12), U_] dJ4_removeNode_55 (Nat.le_of_ble_eq_true rfl) rfl rfl ?_
          refine G_aload_n 58 dJ4_removeNode_57 rfl rfl ?_
          refine G_acmp_eq 74 61 dJ4_removeNode_58 (by decide) rfl (fun u16 => ?_) (fun u16 => ?_)
          · have h := h.1 u16
            exact h
          · have h := h.2 u16
            refine G_aload_n 62 dJ4_removeNode_61 rfl rfl ?_
            refine G_ifnull 81 65 dJ4_removeNode_62 (by decide) rfl (fun u17 => ?_) (fun u17 => ?_)
            · have h := h.1 u17
              exact h
            · have h := h.2 u17
              refine G_aload_n 66 dJ4_removeNode_65 rfl rfl ?_
              refine G_aload 68 dJ4_removeNode_66 rfl rfl ?_
              obtain ⟨a18, e19, h⟩ := h
              rcases h with ⟨c22, h⟩ | ⟨c28, h⟩
              · refine G_invU (N := mX6_equals) (owner := "java/lang/Object") (x := ⟨"java/lang/Object", "equals", "(Ljava/lang/Object;)Z"⟩) (As := [va_rf (FR σ 85 a12)]) (st := []) (t := l2) (b := a18) (rc) (rs) 71 dJ4_removeNode_68 q1251 q1253 q1257 q1258 q74 q1259 (Or.inr (Or.inl ⟨q1252, _, _, _, q1282⟩)) rfl ax0 ⟨Nat.le_of_ble_eq_true rfl, Nat.le_of_ble_eq_true rfl⟩ rfl (Nat.zero_le _) e19 (rk16 c22) (le_b mX6_equals_c (Nat.le_refl _)) (le_b mX6_equals_s (Nat.le_refl _)) rfl (Cal.mono h ?_)
                rintro s20 v ⟨x21, rfl, h⟩ hx23
                have h := h hx23
                have x24 := hx23.x
                show G w mJ4_removeNode (KR K) (rc) (rs) s20 71 [va_rf l0, .int l1, va_rf l2, va_rf l3, .int l4, .int l5, va_rf (FR σ 56 a1), va_rf (AR σ a5 (((nI (ln σ a5)) - 1) &&& l1).toNatClampNeg), .int (nI (ln σ a5)), .int (((nI (ln σ a5)) - 1) &&& l1), va_rf none, U_, va_rf (FR σ 85 a12), U_] [.int x21]
                refine G_if_eq 81 74 dJ4_removeNode_71 (by decide) rfl (fun u25 => ?_) (fun u25 => ?_)
                · have h := h.1 u25
                  exact h
                · have h := h.2 u25
                  exact h
              · refine G_invU (N := mJ36_equals) (owner := "java/lang/Object") (x := ⟨"java/lang/Object", "equals", "(Ljava/lang/Object;)Z"⟩) (As := [va_rf (FR σ 85 a12)]) (st := []) (t := l2) (b := a18) (rc) (rs) 71 dJ4_removeNode_68 q1251 q1253 q1256 q1252 q2405 q1282 (Or.inl rfl) rfl ax0 ⟨Nat.le_of_ble_eq_true rfl, Nat.le_of_ble_eq_true rfl⟩ rfl (Nat.zero_le _) e19 (rk17 c28) (le_b mJ36_equals_c (Nat.le_refl _)) (le_b mJ36_equals_s (Nat.le_refl _)) rfl (Cal.mono h ?_)
                rintro s26 v ⟨x27, rfl, h⟩ hx29
                have h := h hx29
                have x30 := hx29.x
                show G w mJ4_removeNode (KR K) (rc) (rs) s26 71 [va_rf l0, .int l1, va_rf l2, va_rf l3, .int l4, .int l5, va_rf (FR σ 56 a1), va_rf (AR σ a5 (((nI (ln σ a5)) - 1) &&& l1).toNatClampNeg), .int (nI (ln σ a5)), .int (((nI (ln σ a5)) - 1) &&& l1), va_rf none, U_, va_rf (FR σ 85 a12), U_] [.int x27]
                refine G_if_eq 81 74 dJ4_removeNode_71 (by decide) rfl (fun u31 => ?_) (fun u31 => ?_)
                · have h := h.1 u31
                  exact h
                · have h := h.2 u31
                  exact h
set_option maxHeartbeats 4000000 in
theorem bJ4_removeNode_74 {w : Wt} {K : Sg → Option Nat → Prop} {rc rs : Nat} {σ : Sg} (l0 : Option Nat) (l1 : Int32) (l2 : Option Nat) (l3 : Option Nat) (l4 : Int32) (l5 : Int32) (l6 : Option Nat) (l7 : Option Nat) (l8 : Int32) (l9 : Int32) (l10 : Option Nat) (v11 : Value) (l12 : Option Nat) (v13 : Value) (h : G w mJ4_removeNode (KR K) (rc) (rs) σ 171 [va_rf l0, .int l1, va_rf l2, va_rf l3, .int l4, .int l5, va_rf l6, va_rf l7, .int l8, .int l9, va_rf l7, v11, va_rf l12, v13] []) : G w mJ4_removeNode (KR K) (rc) (rs) σ 74 [va_rf l0, .int l1, va_rf l2, va_rf l3, .int l4, .int l5, va_rf l6, va_rf l7, .int l8, .int l9, va_rf l10, v11, va_rf l12, v13] [] := by
  refine G_aload 76 dJ4_removeNode_74 rfl rfl ?_
  refine G_astore 78 [va_rf l0, .int l1, va_rf l2, va_rf l3, .int l4, .int l5, va_rf l6, va_rf l7, .int l8, .int l9, va_rf l7, v11, va_rf l12, v13] dJ4_removeNode_76 (Nat.le_of_ble_eq_true rfl) rfl rfl ?_
  refine G_goto 171 dJ4_removeNode_78 (by decide) ?_
  exact h
set_option maxHeartbeats 4000000 in
theorem bJ4_removeNode_81 {w : Wt} {K : Sg → Option Nat → Prop} {rc rs : Nat} {σ : Sg} (l0 : Option Nat) (l1 : Int32) (l2 : Option Nat) (l3 : Option Nat) (l4 : Int32) (l5 : Int32) (l6 : Option Nat) (l7 : Option Nat) (l8 : Int32) (l9 : Int32) (l10 : Option Nat) (v11 : Value) (v12 : Value) (v13 : Value) (h : ∃ a1, l7 = some a1 ∧ kd σ a1 ∈ [30, 31, 32] ∧ ((FR σ 87 a1 = none → G w mJ4_removeNode (KR K) (rc) (rs) σ 171 [va_rf l0, .int l1, va_rf l2, va_rf l3, .int l4, .int l5, va_rf l6, va_rf l7, .int l8, .int l9, va_rf l10, va_rf (FR σ 87 a1), v12, v13] []) ∧ (¬ FR σ 87 a1 = none → ((kd σ a1 = 32 ∧ CalR w mJ33_getTreeNode σ [va_rf l7, .int l1, va_rf l2] (fun s6 x7 => Ext σ s6 → G w mJ4_removeNode (KR K) (rc) (rs) s6 171 [va_rf l0, .int l1, va_rf l2, va_rf l3, .int l4, .int l5, va_rf l6, va_rf l7, .int l8, .int l9, va_rf x7, va_rf (FR σ 87 a1), v12, v13] [])) ∨ (kd σ a1 ∈ [31, 30] ∧ G w mJ4_removeNode (KR K) (rc) (rs) σ 115 [va_rf l0, .int l1, va_rf l2, va_rf l3, .int l4, .int l5, va_rf l6, va_rf l7, .int l8, .int l9, va_rf l10, va_rf (FR σ 87 a1), v12, v13] []))))) : G w mJ4_removeNode (KR K) (rc) (rs) σ 81 [va_rf l0, .int l1, va_rf l2, va_rf l3, .int l4, .int l5, va_rf l6, va_rf l7, .int l8, .int l9, va_rf l10, v11, v12, v13] [] := by
  refine G_aload 83 dJ4_removeNode_81 rfl rfl ?_
  obtain ⟨a1, e2, h⟩ := h
  obtain ⟨c3, h⟩ := h
  refine G_getR (f := 87) (a := a1) "" 86 dJ4_removeNode_83 (Or.inl q973) (Or.inl rfl) rfl e2 (hf87 c3) rfl ?_
  refine G_dup 87 dJ4_removeNode_86 (rf_cat _) rfl ?_
  refine G_astore 89 [va_rf l0, .int l1, va_rf l2, va_rf l3, .int l4, .int l5, va_rf l6, va_rf l7, .int l8, .int l9, va_rf l10, va_rf (FR σ 87 a1), v12, v13] dJ4_removeNode_87 (Nat.le_of_ble_eq_true rfl) rfl rfl ?_
  refine G_ifnull 171 92 dJ4_removeNode_89 (by decide) rfl (fun u4 => ?_) (fun u4 => ?_)
  · have h := h.1 u4
    exact h
  · have h := h.2 u4
    refine G_aload 94 dJ4_removeNode_92 rfl rfl ?_
    rcases h with ⟨c5, h⟩ | ⟨c5, h⟩
    · refine G_instY (a := a1) 97 dJ4_removeNode_94 q920 rfl e2 (iy1 c5) ?_
      refine G_if_eq 115 100 dJ4_removeNode_97 (by decide) rfl (fun q => absurd q (by decide)) (fun _ => ?_)
      refine G_aload 102 dJ4_removeNode_100 rfl rfl ?_
      refine G_cast 105 dJ4_removeNode_102 q920 rfl (Or.inr ⟨a1, e2, co1 c5⟩) ?_
      refine G_iload_n 106 dJ4_removeNode_105 rfl rfl ?_
      refine G_aload_n 107 dJ4_removeNode_106 rfl rfl ?_
      refine G_invV (N := mJ33_getTreeNode) (As := [.int l1, va_rf l2]) (st := []) (t := l7) (b := a1) (rc) (rs) 110 dJ4_removeNode_107 q1482 q1483 q1484 q72 q1485 rfl rfl mJ33_getTreeNode_args ⟨Nat.le_of_ble_eq_true rfl, Nat.le_of_ble_eq_true rfl⟩ rfl (Nat.zero_le _) e2 (rk32 c5) (le_b mJ33_getTreeNode_c (Nat.le_refl _)) (le_b mJ33_getTreeNode_s (Nat.le_refl _)) rfl (Cal.mono h ?_)
      rintro s6 v ⟨x7, rfl, h⟩ hx8
      have h := h hx8
      have x9 := hx8.x
      show G w mJ4_removeNode (KR K) (rc) (rs) s6 110 [va_rf l0, .int l1, va_rf l2, va_rf l3, .int l4, .int l5, va_rf l6, va_rf l7, .int l8, .int l9, va_rf l10, va_rf (FR σ 87 a1), v12, v13] [va_rf x7]
      refine G_astore 112 [va_rf l0, .int l1, va_rf l2, va_rf l3, .int l4, .int l5, va_rf l6, va_rf l7, .int l8, .int l9, va_rf x7, va_rf (FR σ 87 a1), v12, v13] dJ4_removeNode_110 (Nat.le_of_ble_eq_true rfl) rfl rfl ?_
      refine G_goto 171 dJ4_removeNode_112 (by decide) ?_
      exact h
    · refine G_instN 97 dJ4_removeNode_94 q920 rfl (Or.inr ⟨a1, e2, in0 c5⟩) ?_
      refine G_if_eq 115 100 dJ4_removeNode_97 (by decide) rfl (fun _ => ?_) (fun q => absurd q (by decide))
      exact h
set_option maxHeartbeats 4000000 in
theorem bJ4_removeNode_115 {w : Wt} {K : Sg → Option Nat → Prop} {rc rs : Nat} {σ : Sg} (l0 : Option Nat) (l1 : Int32) (l2 : Option Nat) (l3 : Option Nat) (l4 : Int32) (l5 : Int32) (l6 : Option Nat) (l7 : Option Nat) (l8 : Int32) (l9 : Int32) (l10 : Option Nat) (l11 : Option Nat) (v12 : Value) (v13 : Value) (h : ∃ a1, l11 = some a1 ∧ kd σ a1 ∈ [30, 31, 32] ∧ ((¬ FI σ 84 a1 = l1 → G w mJ4_removeNode (KR K) (rc) (rs) σ 156 [va_rf l0, .int l1, va_rf l2, va_rf l3, .int l4, .int l5, va_rf l6, va_rf l7, .int l8, .int l9, va_rf l10, va_rf l11, v12, v13] []) ∧ (FI σ 84 a1 = l1 → ((FR σ 85 a1 = l2 → G w mJ4_removeNode (KR K) (rc) (rs) σ 149 [va_rf l0, .int l1, va_rf l2, va_rf l3, .int l4, .int l5, va_rf l6, va_rf l7, .int l8, .int l9, va_rf l10, va_rf l11, va_rf (FR σ 85 a1), v13] []) ∧ (¬ FR σ 85 a1 = l2 → ((l2 = none → G w mJ4_removeNode (KR K) (rc) (rs) σ 156 [va_rf l0, .int l1, va_rf l2, va_rf l3, .int l4, .int l5, va_rf l6, va_rf l7, .int l8, .int l9, va_rf l10, va_rf l11, va_rf (FR σ 85 a1), v13] []) ∧ (¬ l2 = none → ∃ a7, l2 = some a7 ∧ ((kd σ a7 = 16 ∧ CalI w mX6_equals σ [va_rf l2, va_rf (FR σ 85 a1)] (fun s9 x10 => Ext σ s9 → ((x10 = 0 → G w mJ4_removeNode (KR K) (rc) (rs) s9 156 [va_rf l0, .int l1, va_rf l2, va_rf l3, .int l4, .int l5, va_rf l6, va_rf l7, .int l8, .int l9, va_rf l10, va_rf l11, va_rf (FR σ 85 a1), v13] []) ∧ (¬ x10 = 0 → G w mJ4_removeNode (KR K) (rc) (rs) s9 149 [va_rf l0, .int l1, va_rf l2, va_rf l3, .int l4, .int l5, va_rf l6, va_rf l7, .int l8, .int l9, va_rf l10, va_rf l11, va_rf (FR σ 85 a1), v13] [])))) ∨ (kd σ a7 = 17 ∧ CalI w mJ36_equals σ [va_rf l2, va_rf (FR σ 85 a1)] (fun s15 x16 => Ext σ s15 → ((x16 = 0 → G w mJ4_removeNode (KR K) (rc) (rs) s15 156 [va_rf l0, .int l1, va_rf l2, va_rf l3, .int l4, .int l5, va_rf l6, va_rf l7, .int l8, .int l9, va_rf l10, va_rf l11, va_rf (FR σ 85 a1), v13] []) ∧ (¬ x16 = 0 → G w mJ4_removeNode (KR K) (rc) (rs) s15 149 [va_rf l0, .int l1, va_rf l2, va_rf l3, .int l4, .int l5, va_rf l6, va_rf l7, .int l8, .int l9, va_rf l10, va_rf l11, va_rf (FR σ 85 a1), v13] [])))))))))))) : G w mJ4_removeNode (KR K) (rc) (rs) σ 115 [va_rf l0, .int l1, va_rf l2, va_rf l3, .int l4, .int l5, va_rf l6, va_rf l7, .int l8, .int l9, va_rf l10, va_rf l11, v12, v13] [] := by
  refine G_aload 117 dJ4_removeNode_115 rfl rfl ?_
  obtain ⟨a1, e2, h⟩ := h
  obtain ⟨c3, h⟩ := h
  refine G_getI (f := 84) (a := a1) "" 120 dJ4_removeNode_117 (Or.inl q955) (Or.inl rfl) rfl e2 (hf84 c3) rfl ?_
  refine G_iload_n 121 dJ4_removeNode_120 rfl rfl ?_
  refine G_icmp_ne 156 124 dJ4_removeNode_121 (by decide) rfl (fun u4 => ?_) (fun u4 => ?_)
  · have h := h.1 u4
    exact h
  · have h := h.2 u4
    refine G_aload 126 dJ4_removeNode_124 rfl rfl ?_
    refine G_getR (f := 85) (a := a1) "" 129 dJ4_removeNode_126 (Or.inl q962) (Or.inl rfl) rfl e2 (hf85 c3) rfl ?_
    refine G_dup 130 dJ4_removeNode_129 (rf_cat _) rfl ?_
    refine G_astore 132 [va_rf l0, .int l1, va_rf l2, va_rf l3, .int l4, .int l5, va_rf l6, va_rf l7, .int l8, .int l9, va_rf l10, va_rf l11, va_rf (FR σ 85 a1), v13] dJ4_removeNode_130 (Nat.le_of_ble_eq_true rfl) rfl rfl ?_
    refine G_aload_n 133 dJ4_removeNode_132 rfl rfl ?_
    refine G_acmp_eq 149 136 dJ4_removeNode_133 (by decide) rfl (fun u5 => ?_) (fun u5 => ?_)
    · have h := h.1 u5
      exact h
    · have h := h.2 u5
      refine G_aload_n 137 dJ4_removeNode_136 rfl rfl ?_
      refine G_ifnull 156 140 dJ4_removeNode_137 (by decide) rfl (fun u6 => ?_) (fun u6 => ?_)
      · have h := h.1 u6
        exact h
      · have h := h.2 u6
        refine G_aload_n 141 dJ4_removeNode_140 rfl rfl ?_
        refine G_aload 143 dJ4_removeNode_141 rfl rfl ?_
        obtain ⟨a7, e8, h⟩ := h
        rcases h with ⟨c11, h⟩ | ⟨c17, h⟩
        · refine G_invU (N := mX6_equals) (owner := "java/lang/Object") (x := ⟨"java/lang/Object", "equals", "(Ljava/lang/Object;)Z"⟩) (As := [va_rf (FR σ 85 a1)]) (st := []) (t := l2) (b := a7) (rc) (rs) 146 dJ4_removeNode_143 q1251 q1253 q1257 q1258 q74 q1259 (Or.inr (Or.inl ⟨q1252, _, _, _, q1282⟩)) rfl ax0 ⟨Nat.le_of_ble_eq_true rfl, Nat.le_of_ble_eq_true rfl⟩ rfl (Nat.zero_le _) e8 (rk16 c11) (le_b mX6_equals_c (Nat.le_refl _)) (le_b mX6_equals_s (Nat.le_refl _)) rfl (Cal.mono h ?_)
          rintro s9 v ⟨x10, rfl, h⟩ hx12
          have h := h hx12
          have x13 := hx12.x
          show G w mJ4_removeNode (KR K) (rc) (rs) s9 146 [va_rf l0, .int l1, va_rf l2, va_rf l3, .int l4, .int l5, va_rf l6, va_rf l7, .int l8, .int l9, va_rf l10, va_rf l11, va_rf (FR σ 85 a1), v13] [.int x10]
          refine G_if_eq 156 149 dJ4_removeNode_146 (by decide) rfl (fun u14 => ?_) (fun u14 => ?_)
          · have h := h.1 u14
            exact h
          · have h := h.2 u14
            exact h
        · refine G_invU (N := mJ36_equals) (owner := "java/lang/Object") (x := ⟨"java/lang/Object", "equals", "(Ljava/lang/Object;)Z"⟩) (As := [va_rf (FR σ 85 a1)]) (st := []) (t := l2) (b := a7) (rc) (rs) 146 dJ4_removeNode_143 q1251 q1253 q1256 q1252 q2405 q1282 (Or.inl rfl) rfl ax0 ⟨Nat.le_of_ble_eq_true rfl, Nat.le_of_ble_eq_true rfl⟩ rfl (Nat.zero_le _) e8 (rk17 c17) (le_b mJ36_equals_c (Nat.le_refl _)) (le_b mJ36_equals_s (Nat.le_refl _)) rfl (Cal.mono h ?_)
          rintro s15 v ⟨x16, rfl, h⟩ hx18
          have h := h hx18
          have x19 := hx18.x
          show G w mJ4_removeNode (KR K) (rc) (rs) s15 146 [va_rf l0, .int l1, va_rf l2, va_rf l3, .int l4, .int l5, va_rf l6, va_rf l7, .int l8, .int l9, va_rf l10, va_rf l11, va_rf (FR σ 85 a1), v13] [.int x16]
          refine G_if_eq 156 149 dJ4_removeNode_146 (by decide) rfl (fun u20 => ?_) (fun u20 => ?_)
          · have h := h.1 u20
            exact h
          · have h := h.2 u20
            exact h
set_option maxHeartbeats 4000000 in
theorem bJ4_removeNode_149 {w : Wt} {K : Sg → Option Nat → Prop} {rc rs : Nat} {σ : Sg} (l0 : Option Nat) (l1 : Int32) (l2 : Option Nat) (l3 : Option Nat) (l4 : Int32) (l5 : Int32) (l6 : Option Nat) (l7 : Option Nat) (l8 : Int32) (l9 : Int32) (l10 : Option Nat) (l11 : Option Nat) (l12 : Option Nat) (v13 : Value) (h : G w mJ4_removeNode (KR K) (rc) (rs) σ 171 [va_rf l0, .int l1, va_rf l2, va_rf l3, .int l4, .int l5, va_rf l6, va_rf l7, .int l8, .int l9, va_rf l11, va_rf l11, va_rf l12, v13] []) : G w mJ4_removeNode (KR K) (rc) (rs) σ 149 [va_rf l0, .int l1, va_rf l2, va_rf l3, .int l4, .int l5, va_rf l6, va_rf l7, .int l8, .int l9, va_rf l10, va_rf l11, va_rf l12, v13] [] := by
  refine G_aload 151 dJ4_removeNode_149 rfl rfl ?_
  refine G_astore 153 [va_rf l0, .int l1, va_rf l2, va_rf l3, .int l4, .int l5, va_rf l6, va_rf l7, .int l8, .int l9, va_rf l11, va_rf l11, va_rf l12, v13] dJ4_removeNode_151 (Nat.le_of_ble_eq_true rfl) rfl rfl ?_
  refine G_goto 171 dJ4_removeNode_153 (by decide) ?_
  exact h
set_option maxHeartbeats 4000000 in
theorem bJ4_removeNode_156 {w : Wt} {K : Sg → Option Nat → Prop} {rc rs : Nat} {σ : Sg} (l0 : Option Nat) (l1 : Int32) (l2 : Option Nat) (l3 : Option Nat) (l4 : Int32) (l5 : Int32) (l6 : Option Nat) (l7 : Option Nat) (l8 : Int32) (l9 : Int32) (l10 : Option Nat) (l11 : Option Nat) (v12 : Value) (v13 : Value) (h : ∃ a1, l11 = some a1 ∧ kd σ a1 ∈ [30, 31, 32] ∧ ((¬ FR σ 87 a1 = none → G w mJ4_removeNode (KR K) (rc) (rs) σ 115 [va_rf l0, .int l1, va_rf l2, va_rf l3, .int l4, .int l5, va_rf l6, va_rf l11, .int l8, .int l9, va_rf l10, va_rf (FR σ 87 a1), v12, v13] []) ∧ (FR σ 87 a1 = none → G w mJ4_removeNode (KR K) (rc) (rs) σ 171 [va_rf l0, .int l1, va_rf l2, va_rf l3, .int l4, .int l5, va_rf l6, va_rf l11, .int l8, .int l9, va_rf l10, va_rf (FR σ 87 a1), v12, v13] []))) : G w mJ4_removeNode (KR K) (rc) (rs) σ 156 [va_rf l0, .int l1, va_rf l2, va_rf l3, .int l4, .int l5, va_rf l6, va_rf l7, .int l8, .int l9, va_rf l10, va_rf l11, v12, v13] [] := by
  refine G_aload 158 dJ4_removeNode_156 rfl rfl ?_
  refine G_astore 160 [va_rf l0, .int l1, va_rf l2, va_rf l3, .int l4, .int l5, va_rf l6, va_rf l11, .int l8, .int l9, va_rf l10, va_rf l11, v12, v13] dJ4_removeNode_158 (Nat.le_of_ble_eq_true rfl) rfl rfl ?_
  refine G_aload 162 dJ4_removeNode_160 rfl rfl ?_
  obtain ⟨a1, e2, h⟩ := h
  obtain ⟨c3, h⟩ := h
  refine G_getR (f := 87) (a := a1) "" 165 dJ4_removeNode_162 (Or.inl q973) (Or.inl rfl) rfl e2 (hf87 c3) rfl ?_
  refine G_dup 166 dJ4_removeNode_165 (rf_cat _) rfl ?_
  refine G_astore 168 [va_rf l0, .int l1, va_rf l2, va_rf l3, .int l4, .int l5, va_rf l6, va_rf l11, .int l8, .int l9, va_rf l10, va_rf (FR σ 87 a1), v12, v13] dJ4_removeNode_166 (Nat.le_of_ble_eq_true rfl) rfl rfl ?_
  refine G_ifnonnull 115 171 dJ4_removeNode_168 (by decide) rfl (fun u4 => ?_) (fun u4 => ?_)
  · have h := h.1 u4
    exact h
  · have h := h.2 u4
    exact h
set_option maxHeartbeats 4000000 in
theorem bJ4_removeNode_171 {w : Wt} {K : Sg → Option Nat → Prop} {rc rs : Nat} {σ : Sg} (l0 : Option Nat) (l1 : Int32) (l2 : Option Nat) (l3 : Option Nat) (l4 : Int32) (l5 : Int32) (l6 : Option Nat) (l7 : Option Nat) (l8 : Int32) (l9 : Int32) (l10 : Option Nat) (v11 : Value) (v12 : Value) (v13 : Value) (h : ((l10 = none → G w mJ4_removeNode (KR K) (rc) (rs) σ 289 [va_rf l0, .int l1, va_rf l2, va_rf l3, .int l4, .int l5, va_rf l6, va_rf l7, .int l8, .int l9, va_rf l10, v11, v12, v13] []) ∧ (¬ l10 = none → ((l4 = 0 → G w mJ4_removeNode (KR K) (rc) (rs) σ 206 [va_rf l0, .int l1, va_rf l2, va_rf l3, .int l4, .int l5, va_rf l6, va_rf l7, .int l8, .int l9, va_rf l10, v11, v12, v13] []) ∧ (¬ l4 = 0 → ∃ a3, l10 = some a3 ∧ kd σ a3 ∈ [30, 31, 32] ∧ ((FR σ 86 a3 = l3 → G w mJ4_removeNode (KR K) (rc) (rs) σ 206 [va_rf l0, .int l1, va_rf l2, va_rf l3, .int l4, .int l5, va_rf l6, va_rf l7, .int l8, .int l9, va_rf l10, v11, v12, va_rf (FR σ 86 a3)] []) ∧ (¬ FR σ 86 a3 = l3 → ((l3 = none → G w mJ4_removeNode (KR K) (rc) (rs) σ 289 [va_rf l0, .int l1, va_rf l2, va_rf l3, .int l4, .int l5, va_rf l6, va_rf l7, .int l8, .int l9, va_rf l10, v11, v12, va_rf (FR σ 86 a3)] []) ∧ (¬ l3 = none → ∃ a8, l3 = some a8 ∧ ((kd σ a8 = 16 ∧ CalI w mX6_equals σ [va_rf l3, va_rf (FR σ 86 a3)] (fun s10 x11 => Ext σ s10 → ((x11 = 0 → G w mJ4_removeNode (KR K) (rc) (rs) s10 289 [va_rf l0, .int l1, va_rf l2, va_rf l3, .int l4, .int l5, va_rf l6, va_rf l7, .int l8, .int l9, va_rf l10, v11, v12, va_rf (FR σ 86 a3)] []) ∧ (¬ x11 = 0 → G w mJ4_removeNode (KR K) (rc) (rs) s10 206 [va_rf l0, .int l1, va_rf l2, va_rf l3, .int l4, .int l5, va_rf l6, va_rf l7, .int l8, .int l9, va_rf l10, v11, v12, va_rf (FR σ 86 a3)] [])))) ∨ (kd σ a8 = 17 ∧ CalI w mJ36_equals σ [va_rf l3, va_rf (FR σ 86 a3)] (fun s16 x17 => Ext σ s16 → ((x17 = 0 → G w mJ4_removeNode (KR K) (rc) (rs) s16 289 [va_rf l0, .int l1, va_rf l2, va_rf l3, .int l4, .int l5, va_rf l6, va_rf l7, .int l8, .int l9, va_rf l10, v11, v12, va_rf (FR σ 86 a3)] []) ∧ (¬ x17 = 0 → G w mJ4_removeNode (KR K) (rc) (rs) s16 206 [va_rf l0, .int l1, va_rf l2, va_rf l3, .int l4, .int l5, va_rf l6, va_rf l7, .int l8, .int l9, va_rf l10, v11, v12, va_rf (FR σ 86 a3)] [])))))))))))))) : G w mJ4_removeNode (KR K) (rc) (rs) σ 171 [va_rf l0, .int l1, va_rf l2, va_rf l3, .int l4, .int l5, va_rf l6, va_rf l7, .int l8, .int l9, va_rf l10, v11, v12, v13] [] := by
  refine G_aload 173 dJ4_removeNode_171 rfl rfl ?_
  refine G_ifnull 289 176 dJ4_removeNode_173 (by decide) rfl (fun u1 => ?_) (fun u1 => ?_)
  · have h := h.1 u1
    exact h
  · have h := h.2 u1
    refine G_iload 178 dJ4_removeNode_176 rfl rfl ?_
    refine G_if_eq 206 181 dJ4_removeNode_178 (by decide) rfl (fun u2 => ?_) (fun u2 => ?_)
    · have h := h.1 u2
      exact h
    · have h := h.2 u2
      refine G_aload 183 dJ4_removeNode_181 rfl rfl ?_
      obtain ⟨a3, e4, h⟩ := h
      obtain ⟨c5, h⟩ := h
      refine G_getR (f := 86) (a := a3) "" 186 dJ4_removeNode_183 (Or.inl q966) (Or.inl rfl) rfl e4 (hf86 c5) rfl ?_
      refine G_dup 187 dJ4_removeNode_186 (rf_cat _) rfl ?_
      refine G_astore 189 [va_rf l0, .int l1, va_rf l2, va_rf l3, .int l4, .int l5, va_rf l6, va_rf l7, .int l8, .int l9, va_rf l10, v11, v12, va_rf (FR σ 86 a3)] dJ4_removeNode_187 (Nat.le_of_ble_eq_true rfl) rfl rfl ?_
      refine G_aload_n 190 dJ4_removeNode_189 rfl rfl ?_
      refine G_acmp_eq 206 193 dJ4_removeNode_190 (by decide) rfl (fun u6 => ?_) (fun u6 => ?_)
      · have h := h.1 u6
        exact h
      · have h := h.2 u6
        refine G_aload_n 194 dJ4_removeNode_193 rfl rfl ?_
        refine G_ifnull 289 197 dJ4_removeNode_194 (by decide) rfl (fun u7 => ?_) (fun u7 => ?_)
        · have h := h.1 u7
          exact h
        · have h := h.2 u7
          refine G_aload_n 198 dJ4_removeNode_197 rfl rfl ?_
          refine G_aload 200 dJ4_removeNode_198 rfl rfl ?_
          obtain ⟨a8, e9, h⟩ := h
          rcases h with ⟨c12, h⟩ | ⟨c18, h⟩
          · refine G_invU (N := mX6_equals) (owner := "java/lang/Object") (x := ⟨"java/lang/Object", "equals", "(Ljava/lang/Object;)Z"⟩) (As := [va_rf (FR σ 86 a3)]) (st := []) (t := l3) (b := a8) (rc) (rs) 203 dJ4_removeNode_200 q1251 q1253 q1257 q1258 q74 q1259 (Or.inr (Or.inl ⟨q1252, _, _, _, q1282⟩)) rfl ax0 ⟨Nat.le_of_ble_eq_true rfl, Nat.le_of_ble_eq_true rfl⟩ rfl (Nat.zero_le _) e9 (rk16 c12) (le_b mX6_equals_c (Nat.le_refl _)) (le_b mX6_equals_s (Nat.le_refl _)) rfl (Cal.mono h ?_)
            rintro s10 v ⟨x11, rfl, h⟩ hx13
            have h := h hx13
            have x14 := hx13.x
            show G w mJ4_removeNode (KR K) (rc) (rs) s10 203 [va_rf l0, .int l1, va_rf l2, va_rf l3, .int l4, .int l5, va_rf l6, va_rf l7, .int l8, .int l9, va_rf l10, v11, v12, va_rf (FR σ 86 a3)] [.int x11]
            refine G_if_eq 289 206 dJ4_removeNode_203 (by decide) rfl (fun u15 => ?_) (fun u15 => ?_)
            · have h := h.1 u15
              exact h
            · have h := h.2 u15
              exact h
          · refine G_invU (N := mJ36_equals) (owner := "java/lang/Object") (x := ⟨"java/lang/Object", "equals", "(Ljava/lang/Object;)Z"⟩) (As := [va_rf (FR σ 86 a3)]) (st := []) (t := l3) (b := a8) (rc) (rs) 203 dJ4_removeNode_200 q1251 q1253 q1256 q1252 q2405 q1282 (Or.inl rfl) rfl ax0 ⟨Nat.le_of_ble_eq_true rfl, Nat.le_of_ble_eq_true rfl⟩ rfl (Nat.zero_le _) e9 (rk17 c18) (le_b mJ36_equals_c (Nat.le_refl _)) (le_b mJ36_equals_s (Nat.le_refl _)) rfl (Cal.mono h ?_)
            rintro s16 v ⟨x17, rfl, h⟩ hx19
            have h := h hx19
            have x20 := hx19.x
            show G w mJ4_removeNode (KR K) (rc) (rs) s16 203 [va_rf l0, .int l1, va_rf l2, va_rf l3, .int l4, .int l5, va_rf l6, va_rf l7, .int l8, .int l9, va_rf l10, v11, v12, va_rf (FR σ 86 a3)] [.int x17]
            refine G_if_eq 289 206 dJ4_removeNode_203 (by decide) rfl (fun u21 => ?_) (fun u21 => ?_)
            · have h := h.1 u21
              exact h
            · have h := h.2 u21
              exact h
set_option maxHeartbeats 4000000 in
theorem bJ4_removeNode_206 {w : Wt} {K : Sg → Option Nat → Prop} {rc rs : Nat} {σ : Sg} (l0 : Option Nat) (l1 : Int32) (l2 : Option Nat) (l3 : Option Nat) (l4 : Int32) (l5 : Int32) (l6 : Option Nat) (l7 : Option Nat) (l8 : Int32) (l9 : Int32) (l10 : Option Nat) (v11 : Value) (v12 : Value) (v13 : Value) (h : ∃ a1, l10 = some a1 ∧ ((kd σ a1 = 32 ∧ CalV w mJ33_removeTreeNode σ [va_rf l10, va_rf l0, va_rf l6, .int l5] (fun s4 => Ext σ s4 → G w mJ4_removeNode (KR K) (rc) (rs) s4 260 [va_rf l0, .int l1, va_rf l2, va_rf l3, .int l4, .int l5, va_rf l6, va_rf l7, .int l8, .int l9, va_rf l10, v11, v12, v13] [])) ∨ (kd σ a1 ∈ [31, 30] ∧ ((¬ l10 = l7 → kd σ a1 ∈ [30, 31, 32] ∧ ∃ a9, l7 = some a9 ∧ kd σ a9 ∈ [30, 31, 32] ∧ ∀ s12, s12 = sFR σ 87 a9 (FR σ 87 a1) → G w mJ4_removeNode (KR K) (rc + 19) (rs + 114) s12 260 [va_rf l0, .int l1, va_rf l2, va_rf l3, .int l4, .int l5, va_rf l6, va_rf l7, .int l8, .int l9, va_rf l10, v11, v12, v13] []) ∧ (l10 = l7 → kd σ a1 ∈ [30, 31, 32] ∧ ∃ a15, l6 = some a15 ∧ kd σ a15 = 4 ∧ vp_in l9 (ln σ a15) ∧ (FR σ 87 a1 = none ∨ ∃ b, FR σ 87 a1 = some b ∧ kd σ b ∈ [30, 31, 32]) ∧ ∀ s20, s20 = sAR σ a15 l9.toNatClampNeg (FR σ 87 a1) → G w mJ4_removeNode (KR K) (rc + 19) (rs + 114) s20 260 [va_rf l0, .int l1, va_rf l2, va_rf l3, .int l4, .int l5, va_rf l6, va_rf l7, .int l8, .int l9, va_rf l10, v11, v12, v13] []))))) : G w mJ4_removeNode (KR K) (rc + 19) (rs + 114) σ 206 [va_rf l0, .int l1, va_rf l2, va_rf l3, .int l4, .int l5, va_rf l6, va_rf l7, .int l8, .int l9, va_rf l10, v11, v12, v13] [] := by
  refine G_aload 208 dJ4_removeNode_206 rfl rfl ?_
  obtain ⟨a1, e2, h⟩ := h
  rcases h with ⟨c3, h⟩ | ⟨c3, h⟩
  · refine G_instY (a := a1) 211 dJ4_removeNode_208 q920 rfl e2 (iy1 c3) ?_
    refine G_if_eq 230 214 dJ4_removeNode_211 (by decide) rfl (fun q => absurd q (by decide)) (fun _ => ?_)
    refine G_aload 216 dJ4_removeNode_214 rfl rfl ?_
    refine G_cast 219 dJ4_removeNode_216 q920 rfl (Or.inr ⟨a1, e2, co1 c3⟩) ?_
    refine G_aload_n 220 dJ4_removeNode_219 rfl rfl ?_
    refine G_aload 222 dJ4_removeNode_220 rfl rfl ?_
    refine G_iload 224 dJ4_removeNode_222 rfl rfl ?_
    refine G_invV (N := mJ33_removeTreeNode) (As := [va_rf l0, va_rf l6, .int l5]) (st := []) (t := l10) (b := a1) (rc) (rs) 227 dJ4_removeNode_224 q1516 q1517 q1518 q72 q1519 rfl rfl mJ33_removeTreeNode_args ⟨Nat.le_of_ble_eq_true rfl, Nat.le_of_ble_eq_true rfl⟩ rfl (Nat.zero_le _) e2 (rk32 c3) (le_b mJ33_removeTreeNode_c (Nat.le_refl _)) (le_b mJ33_removeTreeNode_s (Nat.le_refl _)) rfl (Cal.mono h ?_)
    rintro s4 v ⟨rfl, h⟩ hx5
    have h := h hx5
    have x6 := hx5.x
    show G w mJ4_removeNode (KR K) (rc) (rs) s4 227 [va_rf l0, .int l1, va_rf l2, va_rf l3, .int l4, .int l5, va_rf l6, va_rf l7, .int l8, .int l9, va_rf l10, v11, v12, v13] []
    refine G_goto 260 dJ4_removeNode_227 (by decide) ?_
    exact h
  · refine G_instN 211 dJ4_removeNode_208 q920 rfl (Or.inr ⟨a1, e2, in0 c3⟩) ?_
    refine G_if_eq 230 214 dJ4_removeNode_211 (by decide) rfl (fun _ => ?_) (fun q => absurd q (by decide))
    refine G_aload 232 dJ4_removeNode_230 rfl rfl ?_
    refine G_aload 234 dJ4_removeNode_232 rfl rfl ?_
    refine G_acmp_ne 250 237 dJ4_removeNode_234 (by decide) rfl (fun u7 => ?_) (fun u7 => ?_)
    · have h := h.1 u7
      refine G_aload 252 dJ4_removeNode_250 rfl rfl ?_
      refine G_aload 254 dJ4_removeNode_252 rfl rfl ?_
      obtain ⟨c8, h⟩ := h
      refine G_getR (f := 87) (a := a1) "" 257 dJ4_removeNode_254 (Or.inl q973) (Or.inl rfl) rfl e2 (hf87 c8) rfl ?_
      obtain ⟨a9, e10, h⟩ := h
      obtain ⟨c11, h⟩ := h
      refine G_putR (f := 87) (a := a9) "" 260 dJ4_removeNode_257 (Or.inl q973) (Or.inl rfl) rfl e10 (hp87 c11) (nk87 c11) (Or.inl rfl) (fun y => by cases y <;> rfl) (fun y => by cases y <;> rfl) rfl ?_
      generalize hs12 : sFR σ 87 a9 (FR σ 87 a1) = s12
      have x13 : ∀ a, ¬ kd σ a = 0 → kd s12 a = kd σ a := by subst hs12; exact fun a _ => congrFun kd_sFR a
      have h := h s12 hs12.symm
      exact h
    · have h := h.2 u7
      refine G_aload 239 dJ4_removeNode_237 rfl rfl ?_
      refine G_iload 241 dJ4_removeNode_239 rfl rfl ?_
      refine G_aload 243 dJ4_removeNode_241 rfl rfl ?_
      obtain ⟨c14, h⟩ := h
      refine G_getR (f := 87) (a := a1) "" 246 dJ4_removeNode_243 (Or.inl q973) (Or.inl rfl) rfl e2 (hf87 c14) rfl ?_
      obtain ⟨a15, e16, h⟩ := h
      obtain ⟨c17, h⟩ := h
      obtain ⟨c18, h⟩ := h
      obtain ⟨c19, h⟩ := h
      refine G_aast (a := a15) (kn := 4) 247 dJ4_removeNode_246 rfl e16 c17 (Or.inr rfl) c18 (c19.imp id (fun ⟨b, e, k⟩ => ⟨b, e, eo4 k⟩)) ?_
      generalize hs20 : sAR σ a15 l9.toNatClampNeg (FR σ 87 a1) = s20
      have x21 : ∀ a, ¬ kd σ a = 0 → kd s20 a = kd σ a := by subst hs20; exact fun a _ => congrFun kd_sAR a
      have h := h s20 hs20.symm
      refine G_goto 260 dJ4_removeNode_247 (by decide) ?_
      exact h
set_option maxHeartbeats 4000000 in
theorem bJ4_removeNode_260 {w : Wt} {K : Sg → Option Nat → Prop} {rc rs : Nat} {σ : Sg} (l0 : Option Nat) (l1 : Int32) (l2 : Option Nat) (l3 : Option Nat) (l4 : Int32) (l5 : Int32) (l6 : Option Nat) (l7 : Option Nat) (l8 : Int32) (l9 : Int32) (l10 : Option Nat) (v11 : Value) (v12 : Value) (v13 : Value) (h : ∃ a1, l0 = some a1 ∧ kd σ a1 ∈ [21, 22] ∧ ∀ s4, s4 = sFI σ 59 a1 ((FI σ 59 a1) + 1) → ∀ s6, s6 = sFI s4 58 a1 ((FI s4 58 a1) - 1) → ((kd s6 a1 = 22 ∧ CalV w mJ4_afterNodeRemoval s6 [va_rf l0, va_rf l10] (fun s8 => Ext s6 s8 → K s8 l10)) ∨ (kd s6 a1 = 21 ∧ CalV w mJ5_afterNodeRemoval s6 [va_rf l0, va_rf l10] (fun s12 => Ext s6 s12 → K s12 l10)))) : G w mJ4_removeNode (KR K) (rc) (rs) σ 260 [va_rf l0, .int l1, va_rf l2, va_rf l3, .int l4, .int l5, va_rf l6, va_rf l7, .int l8, .int l9, va_rf l10, v11, v12, v13] [] := by
  refine G_aload_n 261 dJ4_removeNode_260 rfl rfl ?_
  refine G_dup 262 dJ4_removeNode_261 (rf_cat _) rfl ?_
  obtain ⟨a1, e2, h⟩ := h
  obtain ⟨c3, h⟩ := h
  refine G_getI (f := 59) (a := a1) "" 265 dJ4_removeNode_262 (Or.inl q152) (Or.inl rfl) rfl e2 (hf59 c3) rfl ?_
  refine G_iconst (v := 1) 266 dJ4_removeNode_265 (by decide) rfl ?_
  refine G_iadd 267 dJ4_removeNode_266 rfl ?_
  refine G_putI (f := 59) (a := a1) "" 270 dJ4_removeNode_267 (Or.inl q152) (Or.inl rfl) rfl e2 (hp59 c3) (nk59 c3) (Or.inl rfl) rfl rfl rfl ?_
  generalize hs4 : sFI σ 59 a1 ((FI σ 59 a1) + 1) = s4
  have x5 : ∀ a, ¬ kd σ a = 0 → kd s4 a = kd σ a := by subst hs4; exact fun a _ => congrFun kd_sFI a
  have h := h s4 hs4.symm
  refine G_aload_n 271 dJ4_removeNode_270 rfl rfl ?_
  refine G_dup 272 dJ4_removeNode_271 (rf_cat _) rfl ?_
  have c3 := kdM x5 c3 (by decide)
  refine G_getI (f := 58) (a := a1) "" 275 dJ4_removeNode_272 (Or.inl q147) (Or.inl rfl) rfl e2 (hf58 c3) rfl ?_
  refine G_iconst (v := 1) 276 dJ4_removeNode_275 (by decide) rfl ?_
  refine G_isub 277 dJ4_removeNode_276 rfl ?_
  refine G_putI (f := 58) (a := a1) "" 280 dJ4_removeNode_277 (Or.inl q147) (Or.inl rfl) rfl e2 (hp58 c3) (nk58 c3) (Or.inl rfl) rfl rfl rfl ?_
  generalize hs6 : sFI s4 58 a1 ((FI s4 58 a1) - 1) = s6
  have x7 : ∀ a, ¬ kd s4 a = 0 → kd s6 a = kd s4 a := by subst hs6; exact fun a _ => congrFun kd_sFI a
  have h := h s6 hs6.symm
  refine G_aload_n 281 dJ4_removeNode_280 rfl rfl ?_
  refine G_aload 283 dJ4_removeNode_281 rfl rfl ?_
  rcases h with ⟨c9, h⟩ | ⟨c13, h⟩
  · refine G_invV (N := mJ4_afterNodeRemoval) (As := [va_rf l10]) (st := []) (t := l0) (b := a1) (rc) (rs) 286 dJ4_removeNode_283 q1523 q1524 q1525 q37 q1530 rfl rfl mJ4_afterNodeRemoval_args ⟨Nat.le_of_ble_eq_true rfl, Nat.le_of_ble_eq_true rfl⟩ rfl (Nat.zero_le _) e2 (rk22 c9) (le_b mJ4_afterNodeRemoval_c (Nat.le_refl _)) (le_b mJ4_afterNodeRemoval_s (Nat.le_refl _)) rfl (Cal.mono h ?_)
    rintro s8 v ⟨rfl, h⟩ hx10
    have h := h hx10
    have x11 := hx10.x
    show G w mJ4_removeNode (KR K) (rc) (rs) s8 286 [va_rf l0, .int l1, va_rf l2, va_rf l3, .int l4, .int l5, va_rf l6, va_rf l7, .int l8, .int l9, va_rf l10, v11, v12, v13] []
    refine G_aload 288 dJ4_removeNode_286 rfl rfl ?_
    exact G_aret dJ4_removeNode_288 rfl (Or.inl ⟨_, rfl⟩) ⟨_, rfl, h⟩
  · refine G_invU (N := mJ5_afterNodeRemoval) (owner := "java/util/HashMap") (x := ⟨"java/util/HashMap", "afterNodeRemoval", "(Ljava/util/HashMap$Node;)V"⟩) (As := [va_rf l10]) (st := []) (t := l0) (b := a1) (rc) (rs) 286 dJ4_removeNode_283 q1523 q1526 q1527 q1528 q38 q1529 (Or.inr (Or.inl ⟨q1524, _, _, _, q1530⟩)) rfl ax11 ⟨Nat.le_of_ble_eq_true rfl, Nat.le_of_ble_eq_true rfl⟩ rfl (Nat.zero_le _) e2 (rk21 c13) (le_b mJ5_afterNodeRemoval_c (Nat.le_refl _)) (le_b mJ5_afterNodeRemoval_s (Nat.le_refl _)) rfl (Cal.mono h ?_)
    rintro s12 v ⟨rfl, h⟩ hx14
    have h := h hx14
    have x15 := hx14.x
    show G w mJ4_removeNode (KR K) (rc) (rs) s12 286 [va_rf l0, .int l1, va_rf l2, va_rf l3, .int l4, .int l5, va_rf l6, va_rf l7, .int l8, .int l9, va_rf l10, v11, v12, v13] []
    refine G_aload 288 dJ4_removeNode_286 rfl rfl ?_
    exact G_aret dJ4_removeNode_288 rfl (Or.inl ⟨_, rfl⟩) ⟨_, rfl, h⟩
set_option maxHeartbeats 4000000 in
theorem bJ4_removeNode_289 {w : Wt} {K : Sg → Option Nat → Prop} {rc rs : Nat} {σ : Sg} (l0 : Option Nat) (l1 : Int32) (l2 : Option Nat) (l3 : Option Nat) (l4 : Int32) (l5 : Int32) (l6 : Option Nat) (v7 : Value) (v8 : Value) (v9 : Value) (v10 : Value) (v11 : Value) (v12 : Value) (v13 : Value) (h : K σ none) : G w mJ4_removeNode (KR K) (rc) (rs) σ 289 [va_rf l0, .int l1, va_rf l2, va_rf l3, .int l4, .int l5, va_rf l6, v7, v8, v9, v10, v11, v12, v13] [] := by
  refine G_null 290 dJ4_removeNode_289 rfl ?_
  exact G_aret dJ4_removeNode_290 rfl (Or.inl ⟨_, rfl⟩) ⟨_, rfl, h⟩
theorem eJ4_removeNode {w : Wt} {K : Sg → Option Nat → Prop} {σ : Sg} (l0 : Option Nat) (l1 : Int32) (l2 : Option Nat) (l3 : Option Nat) (l4 : Int32) (l5 : Int32) (h : G w mJ4_removeNode (KR K) 20 120 σ 0 [va_rf l0, .int l1, va_rf l2, va_rf l3, .int l4, .int l5, U_, U_, U_, U_, U_, U_, U_, U_] []) : CalR w mJ4_removeNode σ [va_rf l0, .int l1, va_rf l2, va_rf l3, .int l4, .int l5] K :=
  Cal.start 8 mJ4_removeNode_plain (catR (catI (catR (catR (catI (catI cat0)))))) (Nat.le_of_ble_eq_true rfl) rfl h
set_option maxHeartbeats 4000000 in
theorem bJ4_afterNodeRemoval_0 {w : Wt} {K : Sg → Prop} {rc rs : Nat} {σ : Sg} (l0 : Option Nat) (l1 : Option Nat) (h : K σ) : G w mJ4_afterNodeRemoval (KV K) (rc) (rs) σ 0 [va_rf l0, va_rf l1] [] := by
  exact G_ret dJ4_afterNodeRemoval_0 rfl ⟨rfl, h⟩
theorem eJ4_afterNodeRemoval {w : Wt} {K : Sg → Prop} {σ : Sg} (l0 : Option Nat) (l1 : Option Nat) (h : G w mJ4_afterNodeRemoval (KV K) 0 0 σ 0 [va_rf l0, va_rf l1] []) : CalV w mJ4_afterNodeRemoval σ [va_rf l0, va_rf l1] K :=
  Cal.start 0 mJ4_afterNodeRemoval_plain (catR (catR cat0)) (Nat.le_of_ble_eq_true rfl) rfl h
set_option maxHeartbeats 4000000 in
theorem bJ4_containsKey_0 {w : Wt} {K : Sg → Int32 → Prop} {rc rs : Nat} {σ : Sg} (l0 : Option Nat) (l1 : Option Nat) (h : ∃ a1, l0 = some a1 ∧ kd σ a1 ∈ [21, 22] ∧ CalR w mJ4_getNode σ [va_rf l0, va_rf l1] (fun s3 x4 => Ext σ s3 → ((x4 = none → K s3 0) ∧ (¬ x4 = none → K s3 1)))) : G w mJ4_containsKey (KI K) (rc) (rs) σ 0 [va_rf l0, va_rf l1] [] := by
  refine G_aload_n 1 dJ4_containsKey_0 rfl rfl ?_
  refine G_aload_n 2 dJ4_containsKey_1 rfl rfl ?_
  obtain ⟨a1, e2, h⟩ := h
  obtain ⟨c5, h⟩ := h
  have fin : Cal w mJ4_getNode σ [va_rf l0, va_rf l1] (fun σ1 v => Ext σ σ1 → G w mJ4_containsKey (KI K) (rc) (rs) σ1 5 [va_rf l0, va_rf l1] (v.toList ++ [])) := by
    refine Cal.mono h ?_
    rintro s3 v ⟨x4, rfl, h⟩ hx6
    have h := h hx6
    have x7 := hx6.x
    show G w mJ4_containsKey (KI K) (rc) (rs) s3 5 [va_rf l0, va_rf l1] [va_rf x4]
    refine G_ifnull 12 8 dJ4_containsKey_5 (by decide) rfl (fun u8 => ?_) (fun u8 => ?_)
    · have h := h.1 u8
      refine G_iconst (v := 0) 13 dJ4_containsKey_12 (by decide) rfl ?_
      exact G_zret dJ4_containsKey_13 rfl rfl ⟨_, rfl, h⟩
    · have h := h.2 u8
      refine G_iconst (v := 1) 9 dJ4_containsKey_8 (by decide) rfl ?_
      refine G_goto 13 dJ4_containsKey_9 (by decide) ?_
      exact G_zret dJ4_containsKey_13 rfl rfl ⟨_, rfl, h⟩
  have k9 : kd σ a1 ∈ [21, 22] := c5
  simp only [List.mem_cons, List.not_mem_nil, or_false] at k9
  rcases k9 with k9 | k9
  · exact G_invU (N := mJ4_getNode) (owner := "java/util/HashMap") (x := ⟨"java/util/HashMap", "getNode", "(Ljava/lang/Object;)Ljava/util/HashMap$Node;"⟩) (As := [va_rf l1]) (st := []) (t := l0) (b := a1) (rc) (rs) 5 dJ4_containsKey_2 q1476 q1479 q1480 q1477 q37 q1481 (Or.inl rfl) rfl ax9 ⟨Nat.le_of_ble_eq_true rfl, Nat.le_of_ble_eq_true rfl⟩ rfl (Nat.zero_le _) e2 (rk21 k9) (le_b mJ4_getNode_c (Nat.le_refl _)) (le_b mJ4_getNode_s (Nat.le_refl _)) rfl fin
  · exact G_invV (N := mJ4_getNode) (As := [va_rf l1]) (st := []) (t := l0) (b := a1) (rc) (rs) 5 dJ4_containsKey_2 q1476 q1477 q1478 q37 q1481 rfl rfl mJ4_getNode_args ⟨Nat.le_of_ble_eq_true rfl, Nat.le_of_ble_eq_true rfl⟩ rfl (Nat.zero_le _) e2 (rk22 k9) (le_b mJ4_getNode_c (Nat.le_refl _)) (le_b mJ4_getNode_s (Nat.le_refl _)) rfl fin
theorem eJ4_containsKey {w : Wt} {K : Sg → Int32 → Prop} {σ : Sg} (l0 : Option Nat) (l1 : Option Nat) (h : G w mJ4_containsKey (KI K) 0 0 σ 0 [va_rf l0, va_rf l1] []) : CalI w mJ4_containsKey σ [va_rf l0, va_rf l1] K :=
  Cal.start 0 mJ4_containsKey_plain (catR (catR cat0)) (Nat.le_of_ble_eq_true rfl) rfl h
set_option maxHeartbeats 4000000 in
theorem bJ5_init_0 {w : Wt} {K : Sg → Prop} {rc rs : Nat} {σ : Sg} (l0 : Option Nat) (h : ∃ a1, l0 = some a1 ∧ CalV w mJ4_init σ [va_rf l0] (fun s3 => Ext σ s3 → kd s3 a1 = 21 ∧ ∀ s7, s7 = sFI s3 65 a1 0 → ∀ s9, s9 = sFI s7 64 a1 0 → K s9)) : G w mJ5_init (KV K) (rc) (rs) σ 0 [va_rf l0] [] := by
  refine G_aload_n 1 dJ5_init_0 rfl rfl ?_
  obtain ⟨a1, e2, h⟩ := h
  refine G_invI (N := mJ4_init) (As := []) (st := []) (t := l0) (b := a1) (rc) (rs) "" 4 dJ5_init_1 (Or.inl q127) q128 q37 q129 rfl rfl rfl mJ4_init_args ⟨Nat.le_of_ble_eq_true rfl, Nat.le_of_ble_eq_true rfl⟩ e2 rfl (Nat.zero_le _) (le_b mJ4_init_c (Nat.le_refl _)) (le_b mJ4_init_s (Nat.le_refl _)) rfl (Cal.mono h ?_)
  rintro s3 v ⟨rfl, h⟩ hx4
  have h := h hx4
  have x5 := hx4.x
  show G w mJ5_init (KV K) (rc) (rs) s3 4 [va_rf l0] []
  refine G_aload_n 5 dJ5_init_4 rfl rfl ?_
  refine G_iconst (v := 0) 6 dJ5_init_5 (by decide) rfl ?_
  obtain ⟨c6, h⟩ := h
  refine G_putI (f := 65) (a := a1) "" 9 dJ5_init_6 (Or.inl q140) (Or.inl rfl) rfl e2 (hp65 c6) (nk65 c6) (Or.inl rfl) rfl rfl rfl ?_
  generalize hs7 : sFI s3 65 a1 0 = s7
  have x8 : ∀ a, ¬ kd s3 a = 0 → kd s7 a = kd s3 a := by subst hs7; exact fun a _ => congrFun kd_sFI a
  have h := h s7 hs7.symm
  refine G_aload_n 10 dJ5_init_9 rfl rfl ?_
  refine G_iconst (v := 0) 11 dJ5_init_10 (by decide) rfl ?_
  have c6 := kdE x8 c6 (by decide)
  refine G_putI (f := 64) (a := a1) "" 14 dJ5_init_11 (Or.inl q139) (Or.inl rfl) rfl e2 (hp64 c6) (nk64 c6) (Or.inr ⟨rfl, rfl, rfl⟩) rfl rfl rfl ?_
  generalize hs9 : sFI s7 64 a1 0 = s9
  have x10 : ∀ a, ¬ kd s7 a = 0 → kd s9 a = kd s7 a := by subst hs9; exact fun a _ => congrFun kd_sFI a
  have h := h s9 hs9.symm
  exact G_ret dJ5_init_14 rfl ⟨rfl, h⟩
theorem eJ5_init {w : Wt} {K : Sg → Prop} {σ : Sg} (l0 : Option Nat) (h : G w mJ5_init (KV K) 0 0 σ 0 [va_rf l0] []) : CalV w mJ5_init σ [va_rf l0] K :=
  Cal.start 0 mJ5_init_plain (catR cat0) (Nat.le_of_ble_eq_true rfl) rfl h
set_option maxHeartbeats 4000000 in
theorem bJ5_entrySet_0 {w : Wt} {K : Sg → Option Nat → Prop} {rc rs : Nat} {σ : Sg} (l0 : Option Nat) (h : ∃ a1, l0 = some a1 ∧ kd σ a1 = 21 ∧ CalR w mJ5_sequencedEntrySet σ [va_rf l0] (fun s3 x4 => Ext σ s3 → K s3 x4)) : G w mJ5_entrySet (KR K) (rc + 1) (rs + 2) σ 0 [va_rf l0] [] := by
  refine G_aload_n 1 dJ5_entrySet_0 rfl rfl ?_
  obtain ⟨a1, e2, h⟩ := h
  obtain ⟨c5, h⟩ := h
  refine G_invV (N := mJ5_sequencedEntrySet) (As := []) (st := []) (t := l0) (b := a1) (rc) (rs) 4 dJ5_entrySet_1 q608 q609 q610 q38 q611 rfl rfl mJ5_sequencedEntrySet_args ⟨Nat.le_of_ble_eq_true rfl, Nat.le_of_ble_eq_true rfl⟩ rfl (Nat.zero_le _) e2 (rk21 c5) (le_b mJ5_sequencedEntrySet_c (Nat.le_refl _)) (le_b mJ5_sequencedEntrySet_s (Nat.le_refl _)) rfl (Cal.mono h ?_)
  rintro s3 v ⟨x4, rfl, h⟩ hx6
  have h := h hx6
  have x7 := hx6.x
  show G w mJ5_entrySet (KR K) (rc) (rs) s3 4 [va_rf l0] [va_rf x4]
  exact G_aret dJ5_entrySet_4 rfl (Or.inl ⟨_, rfl⟩) ⟨_, rfl, h⟩
theorem eJ5_entrySet {w : Wt} {K : Sg → Option Nat → Prop} {σ : Sg} (l0 : Option Nat) (h : G w mJ5_entrySet (KR K) 1 2 σ 0 [va_rf l0] []) : CalR w mJ5_entrySet σ [va_rf l0] K :=
  Cal.start 0 mJ5_entrySet_plain (catR cat0) (Nat.le_of_ble_eq_true rfl) rfl h
set_option maxHeartbeats 4000000 in
theorem bJ5_sequencedEntrySet_0 {w : Wt} {K : Sg → Option Nat → Prop} {rc rs : Nat} {σ : Sg} (l0 : Option Nat) (h : ∃ a1, l0 = some a1 ∧ kd σ a1 ∈ [21, 22] ∧ ((¬ FR σ 57 a1 = none → (FR σ 57 a1 = none ∨ ∃ b, FR σ 57 a1 = some b ∧ kd σ b ∈ [25, 26]) ∧ K σ (FR σ 57 a1)) ∧ (FR σ 57 a1 = none → ∀ n7, n7 = nx σ → kd σ n7 = 0 → ∀ s8, s8 = nO σ 25 → CalV w mJ16_init s8 [va_rf (some n7), va_rf l0, .int 0] (fun s11 => Ext s8 s11 → ∀ s14, s14 = sFR s11 57 a1 (some n7) → K s14 (some n7))))) : G w mJ5_sequencedEntrySet (KR K) (rc + 1) (rs + 2) σ 0 [va_rf l0, U_, U_] [] := by
  refine G_aload_n 1 dJ5_sequencedEntrySet_0 rfl rfl ?_
  obtain ⟨a1, e2, h⟩ := h
  obtain ⟨c3, h⟩ := h
  refine G_getR (f := 57) (a := a1) "" 4 dJ5_sequencedEntrySet_1 (Or.inl q144) (Or.inr q145) rfl e2 (hf57 c3) rfl ?_
  refine G_astore_n 5 [va_rf l0, va_rf (FR σ 57 a1), U_] dJ5_sequencedEntrySet_4 (Nat.le_of_ble_eq_true rfl) rfl rfl ?_
  refine G_aload_n 6 dJ5_sequencedEntrySet_5 rfl rfl ?_
  refine G_ifnonnull 26 9 dJ5_sequencedEntrySet_6 (by decide) rfl (fun u4 => ?_) (fun u4 => ?_)
  · have h := h.1 u4
    refine G_aload_n 27 dJ5_sequencedEntrySet_26 rfl rfl ?_
    obtain ⟨c5, h⟩ := h
    refine G_cast 30 dJ5_sequencedEntrySet_27 q625 rfl (c5.imp id (fun ⟨b, e, k⟩ => ⟨b, e, co3 k⟩)) ?_
    exact G_aret dJ5_sequencedEntrySet_30 rfl (Or.inl ⟨_, rfl⟩) ⟨_, rfl, h⟩
  · have h := h.2 u4
    refine G_new (cc := 15) (kn := 25) (q := (RJ16, TJ16, 2)) (rc) (rs) 12 dJ5_sequencedEntrySet_9 rfl q612 q613 q54 rfl rfl (Nat.le_refl _) (Nat.le_refl _) (fun z6 => ?_)
    generalize hn7 : nx σ = n7 at z6 ⊢
    generalize hs8 : nO σ 25 = s8
    have x9 : ∀ a, ¬ kd σ a = 0 → kd s8 a = kd σ a := by subst hs8 hn7; exact kdNx z6
    have c10 : kd s8 n7 = 25 := by subst hs8 hn7; exact kdO_self
    have h := h n7 hn7.symm z6 s8 hs8.symm
    refine G_dup 13 dJ5_sequencedEntrySet_12 (rf_cat _) rfl ?_
    refine G_aload_n 14 dJ5_sequencedEntrySet_13 rfl rfl ?_
    refine G_iconst (v := 0) 15 dJ5_sequencedEntrySet_14 (by decide) rfl ?_
    refine G_invI (N := mJ16_init) (As := [va_rf l0, .int 0]) (st := [va_rf (some n7)]) (t := (some n7)) (b := n7) (rc) (rs) "" 18 dJ5_sequencedEntrySet_15 (Or.inl q614) q615 q54 q616 rfl rfl rfl mJ16_init_args ⟨Nat.le_of_ble_eq_true rfl, Nat.le_of_ble_eq_true rfl⟩ rfl rfl (Nat.le_trans (w_R w_0) (Nat.le_of_ble_eq_true rfl)) (le_b mJ16_init_c (Nat.le_refl _)) (le_b mJ16_init_s (Nat.le_refl _)) rfl (Cal.mono h ?_)
    rintro s11 v ⟨rfl, h⟩ hx12
    have h := h hx12
    have x13 := hx12.x
    show G w mJ5_sequencedEntrySet (KR K) (rc) (rs) s11 18 [va_rf l0, va_rf (FR σ 57 a1), U_] [va_rf (some n7)]
    refine G_astore_n 19 [va_rf l0, va_rf (FR σ 57 a1), va_rf (some n7)] dJ5_sequencedEntrySet_18 (Nat.le_of_ble_eq_true rfl) rfl rfl ?_
    refine G_aload_n 20 dJ5_sequencedEntrySet_19 rfl rfl ?_
    refine G_aload_n 21 dJ5_sequencedEntrySet_20 rfl rfl ?_
    have c3 := kdM x9 c3 (by decide)
    have c3 := kdM x13 c3 (by decide)
    refine G_putR (f := 57) (a := a1) "" 24 dJ5_sequencedEntrySet_21 (Or.inl q144) (Or.inr q145) rfl e2 (hp57 c3) (nk57 c3) (Or.inl rfl) (fun y => by cases y <;> rfl) (fun y => by cases y <;> rfl) rfl ?_
    generalize hs14 : sFR s11 57 a1 (some n7) = s14
    have x15 : ∀ a, ¬ kd s11 a = 0 → kd s14 a = kd s11 a := by subst hs14; exact fun a _ => congrFun kd_sFR a
    have h := h s14 hs14.symm
    refine G_aload_n 25 dJ5_sequencedEntrySet_24 rfl rfl ?_
    exact G_aret dJ5_sequencedEntrySet_25 rfl (Or.inl ⟨_, rfl⟩) ⟨_, rfl, h⟩
theorem eJ5_sequencedEntrySet {w : Wt} {K : Sg → Option Nat → Prop} {σ : Sg} (l0 : Option Nat) (h : G w mJ5_sequencedEntrySet (KR K) 1 2 σ 0 [va_rf l0, U_, U_] []) : CalR w mJ5_sequencedEntrySet σ [va_rf l0] K :=
  Cal.start 2 mJ5_sequencedEntrySet_plain (catR cat0) (Nat.le_of_ble_eq_true rfl) rfl h
set_option maxHeartbeats 4000000 in
theorem bJ5_keySet_0 {w : Wt} {K : Sg → Option Nat → Prop} {rc rs : Nat} {σ : Sg} (l0 : Option Nat) (h : ∃ a1, l0 = some a1 ∧ kd σ a1 = 21 ∧ CalR w mJ5_sequencedKeySet σ [va_rf l0] (fun s3 x4 => Ext σ s3 → K s3 x4)) : G w mJ5_keySet (KR K) (rc + 1) (rs + 2) σ 0 [va_rf l0] [] := by
  refine G_aload_n 1 dJ5_keySet_0 rfl rfl ?_
  obtain ⟨a1, e2, h⟩ := h
  obtain ⟨c5, h⟩ := h
  refine G_invV (N := mJ5_sequencedKeySet) (As := []) (st := []) (t := l0) (b := a1) (rc) (rs) 4 dJ5_keySet_1 q692 q693 q694 q38 q695 rfl rfl mJ5_sequencedKeySet_args ⟨Nat.le_of_ble_eq_true rfl, Nat.le_of_ble_eq_true rfl⟩ rfl (Nat.zero_le _) e2 (rk21 c5) (le_b mJ5_sequencedKeySet_c (Nat.le_refl _)) (le_b mJ5_sequencedKeySet_s (Nat.le_refl _)) rfl (Cal.mono h ?_)
  rintro s3 v ⟨x4, rfl, h⟩ hx6
  have h := h hx6
  have x7 := hx6.x
  show G w mJ5_keySet (KR K) (rc) (rs) s3 4 [va_rf l0] [va_rf x4]
  exact G_aret dJ5_keySet_4 rfl (Or.inl ⟨_, rfl⟩) ⟨_, rfl, h⟩
theorem eJ5_keySet {w : Wt} {K : Sg → Option Nat → Prop} {σ : Sg} (l0 : Option Nat) (h : G w mJ5_keySet (KR K) 1 2 σ 0 [va_rf l0] []) : CalR w mJ5_keySet σ [va_rf l0] K :=
  Cal.start 0 mJ5_keySet_plain (catR cat0) (Nat.le_of_ble_eq_true rfl) rfl h
set_option maxHeartbeats 4000000 in
theorem bJ5_sequencedKeySet_0 {w : Wt} {K : Sg → Option Nat → Prop} {rc rs : Nat} {σ : Sg} (l0 : Option Nat) (h : ∃ a1, l0 = some a1 ∧ kd σ a1 ∈ [21, 22] ∧ ((¬ FR σ 54 a1 = none → (FR σ 54 a1 = none ∨ ∃ b, FR σ 54 a1 = some b ∧ kd σ b ∈ [25, 26]) ∧ K σ (FR σ 54 a1)) ∧ (FR σ 54 a1 = none → ∀ n7, n7 = nx σ → kd σ n7 = 0 → ∀ s8, s8 = nO σ 26 → CalV w mJ21_init s8 [va_rf (some n7), va_rf l0, .int 0] (fun s11 => Ext s8 s11 → ∀ s14, s14 = sFR s11 54 a1 (some n7) → K s14 (some n7))))) : G w mJ5_sequencedKeySet (KR K) (rc + 1) (rs + 2) σ 0 [va_rf l0, U_, U_] [] := by
  refine G_aload_n 1 dJ5_sequencedKeySet_0 rfl rfl ?_
  obtain ⟨a1, e2, h⟩ := h
  obtain ⟨c3, h⟩ := h
  refine G_getR (f := 54) (a := a1) "" 4 dJ5_sequencedKeySet_1 (Or.inl q157) (Or.inr q158) rfl e2 (hf54 c3) rfl ?_
  refine G_astore_n 5 [va_rf l0, va_rf (FR σ 54 a1), U_] dJ5_sequencedKeySet_4 (Nat.le_of_ble_eq_true rfl) rfl rfl ?_
  refine G_aload_n 6 dJ5_sequencedKeySet_5 rfl rfl ?_
  refine G_ifnonnull 26 9 dJ5_sequencedKeySet_6 (by decide) rfl (fun u4 => ?_) (fun u4 => ?_)
  · have h := h.1 u4
    refine G_aload_n 27 dJ5_sequencedKeySet_26 rfl rfl ?_
    obtain ⟨c5, h⟩ := h
    refine G_cast 30 dJ5_sequencedKeySet_27 q625 rfl (c5.imp id (fun ⟨b, e, k⟩ => ⟨b, e, co3 k⟩)) ?_
    exact G_aret dJ5_sequencedKeySet_30 rfl (Or.inl ⟨_, rfl⟩) ⟨_, rfl, h⟩
  · have h := h.2 u4
    refine G_new (cc := 16) (kn := 26) (q := (RJ21, TJ21, 2)) (rc) (rs) 12 dJ5_sequencedKeySet_9 rfl q696 q697 q59 rfl rfl (Nat.le_refl _) (Nat.le_refl _) (fun z6 => ?_)
    generalize hn7 : nx σ = n7 at z6 ⊢
    generalize hs8 : nO σ 26 = s8
    have x9 : ∀ a, ¬ kd σ a = 0 → kd s8 a = kd σ a := by subst hs8 hn7; exact kdNx z6
    have c10 : kd s8 n7 = 26 := by subst hs8 hn7; exact kdO_self
    have h := h n7 hn7.symm z6 s8 hs8.symm
    refine G_dup 13 dJ5_sequencedKeySet_12 (rf_cat _) rfl ?_
    refine G_aload_n 14 dJ5_sequencedKeySet_13 rfl rfl ?_
    refine G_iconst (v := 0) 15 dJ5_sequencedKeySet_14 (by decide) rfl ?_
    refine G_invI (N := mJ21_init) (As := [va_rf l0, .int 0]) (st := [va_rf (some n7)]) (t := (some n7)) (b := n7) (rc) (rs) "" 18 dJ5_sequencedKeySet_15 (Or.inl q698) q699 q59 q700 rfl rfl rfl mJ21_init_args ⟨Nat.le_of_ble_eq_true rfl, Nat.le_of_ble_eq_true rfl⟩ rfl rfl (Nat.le_trans (w_R w_0) (Nat.le_of_ble_eq_true rfl)) (le_b mJ21_init_c (Nat.le_refl _)) (le_b mJ21_init_s (Nat.le_refl _)) rfl (Cal.mono h ?_)
    rintro s11 v ⟨rfl, h⟩ hx12
    have h := h hx12
    have x13 := hx12.x
    show G w mJ5_sequencedKeySet (KR K) (rc) (rs) s11 18 [va_rf l0, va_rf (FR σ 54 a1), U_] [va_rf (some n7)]
    refine G_astore_n 19 [va_rf l0, va_rf (FR σ 54 a1), va_rf (some n7)] dJ5_sequencedKeySet_18 (Nat.le_of_ble_eq_true rfl) rfl rfl ?_
    refine G_aload_n 20 dJ5_sequencedKeySet_19 rfl rfl ?_
    refine G_aload_n 21 dJ5_sequencedKeySet_20 rfl rfl ?_
    have c3 := kdM x9 c3 (by decide)
    have c3 := kdM x13 c3 (by decide)
    refine G_putR (f := 54) (a := a1) "" 24 dJ5_sequencedKeySet_21 (Or.inl q157) (Or.inr q158) rfl e2 (hp54 c3) (nk54 c3) (Or.inl rfl) (fun y => by cases y <;> rfl) (fun y => by cases y <;> rfl) rfl ?_
    generalize hs14 : sFR s11 54 a1 (some n7) = s14
    have x15 : ∀ a, ¬ kd s11 a = 0 → kd s14 a = kd s11 a := by subst hs14; exact fun a _ => congrFun kd_sFR a
    have h := h s14 hs14.symm
    refine G_aload_n 25 dJ5_sequencedKeySet_24 rfl rfl ?_
    exact G_aret dJ5_sequencedKeySet_25 rfl (Or.inl ⟨_, rfl⟩) ⟨_, rfl, h⟩
theorem eJ5_sequencedKeySet {w : Wt} {K : Sg → Option Nat → Prop} {σ : Sg} (l0 : Option Nat) (h : G w mJ5_sequencedKeySet (KR K) 1 2 σ 0 [va_rf l0, U_, U_] []) : CalR w mJ5_sequencedKeySet σ [va_rf l0] K :=
  Cal.start 2 mJ5_sequencedKeySet_plain (catR cat0) (Nat.le_of_ble_eq_true rfl) rfl h
set_option maxHeartbeats 4000000 in
theorem bJ5_replacementNode_0 {w : Wt} {K : Sg → Option Nat → Prop} {rc rs : Nat} {σ : Sg} (l0 : Option Nat) (l1 : Option Nat) (l2 : Option Nat) (h : (l1 = none ∨ ∃ b, l1 = some b ∧ kd σ b ∈ [31, 32]) ∧ ∀ n3, n3 = nx σ → kd σ n3 = 0 → ∀ s4, s4 = nO σ 31 → ∃ a7, l1 = some a7 ∧ kd s4 a7 ∈ [30, 31, 32] ∧ CalV w mJ29_init s4 [va_rf (some n3), .int (FI s4 84 a7), va_rf (FR s4 85 a7), va_rf (FR s4 86 a7), va_rf l2] (fun s10 => Ext s4 s10 → ∃ a13, l0 = some a13 ∧ kd s10 a13 = 21 ∧ CalV w mJ5_transferLinks s10 [va_rf l0, va_rf l1, va_rf (some n3)] (fun s15 => Ext s10 s15 → K s15 (some n3)))) : G w mJ5_replacementNode (KR K) (rc + 1) (rs + 6) σ 0 [va_rf l0, va_rf l1, va_rf l2, U_, U_] [] := by
  refine G_aload_n 1 dJ5_replacementNode_0 rfl rfl ?_
  obtain ⟨c1, h⟩ := h
  refine G_cast 4 dJ5_replacementNode_1 q937 rfl (c1.imp id (fun ⟨b, e, k⟩ => ⟨b, e, co2 k⟩)) ?_
  refine G_astore_n 5 [va_rf l0, va_rf l1, va_rf l2, va_rf l1, U_] dJ5_replacementNode_4 (Nat.le_of_ble_eq_true rfl) rfl rfl ?_
  refine G_new (cc := 21) (kn := 31) (q := (RJ29, TJ29, 6)) (rc) (rs) 8 dJ5_replacementNode_5 rfl q937 q938 q67 rfl rfl (Nat.le_refl _) (Nat.le_refl _) (fun z2 => ?_)
  generalize hn3 : nx σ = n3 at z2 ⊢
  generalize hs4 : nO σ 31 = s4
  have x5 : ∀ a, ¬ kd σ a = 0 → kd s4 a = kd σ a := by subst hs4 hn3; exact kdNx z2
  have c6 : kd s4 n3 = 31 := by subst hs4 hn3; exact kdO_self
  have h := h n3 hn3.symm z2 s4 hs4.symm
  refine G_dup 9 dJ5_replacementNode_8 (rf_cat _) rfl ?_
  refine G_aload_n 10 dJ5_replacementNode_9 rfl rfl ?_
  obtain ⟨a7, e8, h⟩ := h
  obtain ⟨c9, h⟩ := h
  refine G_getI (f := 84) (a := a7) "" 13 dJ5_replacementNode_10 (Or.inl q953) (Or.inr q954) rfl e8 (hf84 c9) rfl ?_
  refine G_aload_n 14 dJ5_replacementNode_13 rfl rfl ?_
  refine G_getR (f := 85) (a := a7) "" 17 dJ5_replacementNode_14 (Or.inl q960) (Or.inr q961) rfl e8 (hf85 c9) rfl ?_
  refine G_aload_n 18 dJ5_replacementNode_17 rfl rfl ?_
  refine G_getR (f := 86) (a := a7) "" 21 dJ5_replacementNode_18 (Or.inl q964) (Or.inr q965) rfl e8 (hf86 c9) rfl ?_
  refine G_aload_n 22 dJ5_replacementNode_21 rfl rfl ?_
  refine G_invI (N := mJ29_init) (As := [.int (FI s4 84 a7), va_rf (FR s4 85 a7), va_rf (FR s4 86 a7), va_rf l2]) (st := [va_rf (some n3)]) (t := (some n3)) (b := n3) (rc) (rs) "" 25 dJ5_replacementNode_22 (Or.inl q939) q940 q67 q941 rfl rfl rfl mJ29_init_args ⟨Nat.le_of_ble_eq_true rfl, Nat.le_of_ble_eq_true rfl⟩ rfl rfl (Nat.le_trans (w_R w_0) (Nat.le_of_ble_eq_true rfl)) (le_b mJ29_init_c (Nat.le_refl _)) (le_b mJ29_init_s (Nat.le_refl _)) rfl (Cal.mono h ?_)
  rintro s10 v ⟨rfl, h⟩ hx11
  have h := h hx11
  have x12 := hx11.x
  show G w mJ5_replacementNode (KR K) (rc) (rs) s10 25 [va_rf l0, va_rf l1, va_rf l2, va_rf l1, U_] [va_rf (some n3)]
  refine G_astore 27 [va_rf l0, va_rf l1, va_rf l2, va_rf l1, va_rf (some n3)] dJ5_replacementNode_25 (Nat.le_of_ble_eq_true rfl) rfl rfl ?_
  refine G_aload_n 28 dJ5_replacementNode_27 rfl rfl ?_
  refine G_aload_n 29 dJ5_replacementNode_28 rfl rfl ?_
  refine G_aload 31 dJ5_replacementNode_29 rfl rfl ?_
  obtain ⟨a13, e14, h⟩ := h
  obtain ⟨c16, h⟩ := h
  refine G_invV (N := mJ5_transferLinks) (As := [va_rf l1, va_rf (some n3)]) (st := []) (t := l0) (b := a13) (rc) (rs) 34 dJ5_replacementNode_31 q988 q990 qs4 q38 q991 rfl rfl mJ5_transferLinks_args ⟨Nat.le_of_ble_eq_true rfl, Nat.le_of_ble_eq_true rfl⟩ rfl (Nat.zero_le _) e14 (rk21 c16) (le_b mJ5_transferLinks_c (Nat.le_refl _)) (le_b mJ5_transferLinks_s (Nat.le_refl _)) rfl (Cal.mono h ?_)
  rintro s15 v ⟨rfl, h⟩ hx17
  have h := h hx17
  have x18 := hx17.x
  show G w mJ5_replacementNode (KR K) (rc) (rs) s15 34 [va_rf l0, va_rf l1, va_rf l2, va_rf l1, va_rf (some n3)] []
  refine G_aload 36 dJ5_replacementNode_34 rfl rfl ?_
  exact G_aret dJ5_replacementNode_36 rfl (Or.inl ⟨_, rfl⟩) ⟨_, rfl, h⟩
theorem eJ5_replacementNode {w : Wt} {K : Sg → Option Nat → Prop} {σ : Sg} (l0 : Option Nat) (l1 : Option Nat) (l2 : Option Nat) (h : G w mJ5_replacementNode (KR K) 1 6 σ 0 [va_rf l0, va_rf l1, va_rf l2, U_, U_] []) : CalR w mJ5_replacementNode σ [va_rf l0, va_rf l1, va_rf l2] K :=
  Cal.start 2 mJ5_replacementNode_plain (catR (catR (catR cat0))) (Nat.le_of_ble_eq_true rfl) rfl h
set_option maxHeartbeats 4000000 in
theorem bJ5_transferLinks_0 {w : Wt} {K : Sg → Prop} {rc rs : Nat} {σ : Sg} (l0 : Option Nat) (l1 : Option Nat) (l2 : Option Nat) (h : ∃ a1, l1 = some a1 ∧ kd σ a1 ∈ [31, 32] ∧ ∃ a4, l2 = some a4 ∧ kd σ a4 ∈ [31, 32] ∧ ∀ s7, s7 = sFR σ 88 a4 (FR σ 88 a1) → ∀ s9, s9 = sFR s7 89 a4 (FR s7 89 a1) → ((¬ FR σ 88 a1 = none → ∃ a12, FR σ 88 a1 = some a12 ∧ kd s9 a12 ∈ [31, 32] ∧ ∀ s15, s15 = sFR s9 89 a12 l2 → ((¬ FR s7 89 a1 = none → ∃ a18, FR s7 89 a1 = some a18 ∧ kd s15 a18 ∈ [31, 32] ∧ ∀ s21, s21 = sFR s15 88 a18 l2 → K s21) ∧ (FR s7 89 a1 = none → ∃ a23, l0 = some a23 ∧ kd s15 a23 = 21 ∧ ∀ s26, s26 = sFR s15 63 a23 l2 → K s26))) ∧ (FR σ 88 a1 = none → ∃ a28, l0 = some a28 ∧ kd s9 a28 = 21 ∧ ∀ s31, s31 = sFR s9 62 a28 l2 → ((¬ FR s7 89 a1 = none → ∃ a34, FR s7 89 a1 = some a34 ∧ kd s31 a34 ∈ [31, 32] ∧ ∀ s37, s37 = sFR s31 88 a34 l2 → K s37) ∧ (FR s7 89 a1 = none → ∀ s39, s39 = sFR s31 63 a28 l2 → K s39))))) : G w mJ5_transferLinks (KV K) (rc) (rs) σ 0 [va_rf l0, va_rf l1, va_rf l2, U_, U_] [] := by
  refine G_aload_n 1 dJ5_transferLinks_0 rfl rfl ?_
  refine G_aload_n 2 dJ5_transferLinks_1 rfl rfl ?_
  obtain ⟨a1, e2, h⟩ := h
  obtain ⟨c3, h⟩ := h
  refine G_getR (f := 88) (a := a1) "" 5 dJ5_transferLinks_2 (Or.inl q946) (Or.inl rfl) rfl e2 (hf88 c3) rfl ?_
  refine G_dup_x1 6 dJ5_transferLinks_5 (rf_cat _) (rf_cat _) rfl ?_
  obtain ⟨a4, e5, h⟩ := h
  obtain ⟨c6, h⟩ := h
  refine G_putR (f := 88) (a := a4) "" 9 dJ5_transferLinks_6 (Or.inl q946) (Or.inl rfl) rfl e5 (hp88 c6) (nk88 c6) (Or.inl rfl) (fun y => by cases y <;> rfl) (fun y => by cases y <;> rfl) rfl ?_
  generalize hs7 : sFR σ 88 a4 (FR σ 88 a1) = s7
  have x8 : ∀ a, ¬ kd σ a = 0 → kd s7 a = kd σ a := by subst hs7; exact fun a _ => congrFun kd_sFR a
  have h := h s7 hs7.symm
  refine G_astore_n 10 [va_rf l0, va_rf l1, va_rf l2, va_rf (FR σ 88 a1), U_] dJ5_transferLinks_9 (Nat.le_of_ble_eq_true rfl) rfl rfl ?_
  refine G_aload_n 11 dJ5_transferLinks_10 rfl rfl ?_
  refine G_aload_n 12 dJ5_transferLinks_11 rfl rfl ?_
  have c3 := kdM x8 c3 (by decide)
  refine G_getR (f := 89) (a := a1) "" 15 dJ5_transferLinks_12 (Or.inl q948) (Or.inl rfl) rfl e2 (hf89 c3) rfl ?_
  refine G_dup_x1 16 dJ5_transferLinks_15 (rf_cat _) (rf_cat _) rfl ?_
  have c6 := kdM x8 c6 (by decide)
  refine G_putR (f := 89) (a := a4) "" 19 dJ5_transferLinks_16 (Or.inl q948) (Or.inl rfl) rfl e5 (hp89 c6) (nk89 c6) (Or.inl rfl) (fun y => by cases y <;> rfl) (fun y => by cases y <;> rfl) rfl ?_
  generalize hs9 : sFR s7 89 a4 (FR s7 89 a1) = s9
  have x10 : ∀ a, ¬ kd s7 a = 0 → kd s9 a = kd s7 a := by subst hs9; exact fun a _ => congrFun kd_sFR a
  have h := h s9 hs9.symm
  refine G_astore 21 [va_rf l0, va_rf l1, va_rf l2, va_rf (FR σ 88 a1), va_rf (FR s7 89 a1)] dJ5_transferLinks_19 (Nat.le_of_ble_eq_true rfl) rfl rfl ?_
  refine G_aload_n 22 dJ5_transferLinks_21 rfl rfl ?_
  refine G_ifnonnull 33 25 dJ5_transferLinks_22 (by decide) rfl (fun u11 => ?_) (fun u11 => ?_)
  · have h := h.1 u11
    refine G_aload_n 34 dJ5_transferLinks_33 rfl rfl ?_
    refine G_aload_n 35 dJ5_transferLinks_34 rfl rfl ?_
    obtain ⟨a12, e13, h⟩ := h
    obtain ⟨c14, h⟩ := h
    refine G_putR (f := 89) (a := a12) "" 38 dJ5_transferLinks_35 (Or.inl q948) (Or.inl rfl) rfl e13 (hp89 c14) (nk89 c14) (Or.inl rfl) (fun y => by cases y <;> rfl) (fun y => by cases y <;> rfl) rfl ?_
    generalize hs15 : sFR s9 89 a12 l2 = s15
    have x16 : ∀ a, ¬ kd s9 a = 0 → kd s15 a = kd s9 a := by subst hs15; exact fun a _ => congrFun kd_sFR a
    have h := h s15 hs15.symm
    refine G_aload 40 dJ5_transferLinks_38 rfl rfl ?_
    refine G_ifnonnull 51 43 dJ5_transferLinks_40 (by decide) rfl (fun u17 => ?_) (fun u17 => ?_)
    · have h := h.1 u17
      refine G_aload 53 dJ5_transferLinks_51 rfl rfl ?_
      refine G_aload_n 54 dJ5_transferLinks_53 rfl rfl ?_
      obtain ⟨a18, e19, h⟩ := h
      obtain ⟨c20, h⟩ := h
      refine G_putR (f := 88) (a := a18) "" 57 dJ5_transferLinks_54 (Or.inl q946) (Or.inl rfl) rfl e19 (hp88 c20) (nk88 c20) (Or.inl rfl) (fun y => by cases y <;> rfl) (fun y => by cases y <;> rfl) rfl ?_
      generalize hs21 : sFR s15 88 a18 l2 = s21
      have x22 : ∀ a, ¬ kd s15 a = 0 → kd s21 a = kd s15 a := by subst hs21; exact fun a _ => congrFun kd_sFR a
      have h := h s21 hs21.symm
      exact G_ret dJ5_transferLinks_57 rfl ⟨rfl, h⟩
    · have h := h.2 u17
      refine G_aload_n 44 dJ5_transferLinks_43 rfl rfl ?_
      refine G_aload_n 45 dJ5_transferLinks_44 rfl rfl ?_
      obtain ⟨a23, e24, h⟩ := h
      obtain ⟨c25, h⟩ := h
      refine G_putR (f := 63) (a := a23) "" 48 dJ5_transferLinks_45 (Or.inl q138) (Or.inl rfl) rfl e24 (hp63 c25) (nk63 c25) (Or.inl rfl) (fun y => by cases y <;> rfl) (fun y => by cases y <;> rfl) rfl ?_
      generalize hs26 : sFR s15 63 a23 l2 = s26
      have x27 : ∀ a, ¬ kd s15 a = 0 → kd s26 a = kd s15 a := by subst hs26; exact fun a _ => congrFun kd_sFR a
      have h := h s26 hs26.symm
      refine G_goto 57 dJ5_transferLinks_48 (by decide) ?_
      exact G_ret dJ5_transferLinks_57 rfl ⟨rfl, h⟩
  · have h := h.2 u11
    refine G_aload_n 26 dJ5_transferLinks_25 rfl rfl ?_
    refine G_aload_n 27 dJ5_transferLinks_26 rfl rfl ?_
    obtain ⟨a28, e29, h⟩ := h
    obtain ⟨c30, h⟩ := h
    refine G_putR (f := 62) (a := a28) "" 30 dJ5_transferLinks_27 (Or.inl q135) (Or.inl rfl) rfl e29 (hp62 c30) (nk62 c30) (Or.inl rfl) (fun y => by cases y <;> rfl) (fun y => by cases y <;> rfl) rfl ?_
    generalize hs31 : sFR s9 62 a28 l2 = s31
    have x32 : ∀ a, ¬ kd s9 a = 0 → kd s31 a = kd s9 a := by subst hs31; exact fun a _ => congrFun kd_sFR a
    have h := h s31 hs31.symm
    refine G_goto 38 dJ5_transferLinks_30 (by decide) ?_
    refine G_aload 40 dJ5_transferLinks_38 rfl rfl ?_
    refine G_ifnonnull 51 43 dJ5_transferLinks_40 (by decide) rfl (fun u33 => ?_) (fun u33 => ?_)
    · have h := h.1 u33
      refine G_aload 53 dJ5_transferLinks_51 rfl rfl ?_
      refine G_aload_n 54 dJ5_transferLinks_53 rfl rfl ?_
      obtain ⟨a34, e35, h⟩ := h
      obtain ⟨c36, h⟩ := h
      refine G_putR (f := 88) (a := a34) "" 57 dJ5_transferLinks_54 (Or.inl q946) (Or.inl rfl) rfl e35 (hp88 c36) (nk88 c36) (Or.inl rfl) (fun y => by cases y <;> rfl) (fun y => by cases y <;> rfl) rfl ?_
      generalize hs37 : sFR s31 88 a34 l2 = s37
      have x38 : ∀ a, ¬ kd s31 a = 0 → kd s37 a = kd s31 a := by subst hs37; exact fun a _ => congrFun kd_sFR a
      have h := h s37 hs37.symm
      exact G_ret dJ5_transferLinks_57 rfl ⟨rfl, h⟩
    · have h := h.2 u33
      refine G_aload_n 44 dJ5_transferLinks_43 rfl rfl ?_
      refine G_aload_n 45 dJ5_transferLinks_44 rfl rfl ?_
      have c30 := kdE x32 c30 (by decide)
      refine G_putR (f := 63) (a := a28) "" 48 dJ5_transferLinks_45 (Or.inl q138) (Or.inl rfl) rfl e29 (hp63 c30) (nk63 c30) (Or.inl rfl) (fun y => by cases y <;> rfl) (fun y => by cases y <;> rfl) rfl ?_
      generalize hs39 : sFR s31 63 a28 l2 = s39
      have x40 : ∀ a, ¬ kd s31 a = 0 → kd s39 a = kd s31 a := by subst hs39; exact fun a _ => congrFun kd_sFR a
      have h := h s39 hs39.symm
      refine G_goto 57 dJ5_transferLinks_48 (by decide) ?_
      exact G_ret dJ5_transferLinks_57 rfl ⟨rfl, h⟩
theorem eJ5_transferLinks {w : Wt} {K : Sg → Prop} {σ : Sg} (l0 : Option Nat) (l1 : Option Nat) (l2 : Option Nat) (h : G w mJ5_transferLinks (KV K) 0 0 σ 0 [va_rf l0, va_rf l1, va_rf l2, U_, U_] []) : CalV w mJ5_transferLinks σ [va_rf l0, va_rf l1, va_rf l2] K :=
  Cal.start 2 mJ5_transferLinks_plain (catR (catR (catR cat0))) (Nat.le_of_ble_eq_true rfl) rfl h
set_option maxHeartbeats 4000000 in
theorem bJ5_newNode_0 {w : Wt} {K : Sg → Option Nat → Prop} {rc rs : Nat} {σ : Sg} (l0 : Option Nat) (l1 : Int32) (l2 : Option Nat) (l3 : Option Nat) (l4 : Option Nat) (h : ∀ n2, n2 = nx σ → kd σ n2 = 0 → ∀ s3, s3 = nO σ 31 → CalV w mJ29_init s3 [va_rf (some n2), .int l1, va_rf l2, va_rf l3, va_rf l4] (fun s6 => Ext s3 s6 → ∃ a9, l0 = some a9 ∧ kd s6 a9 = 21 ∧ CalV w mJ5_linkNodeAtEnd s6 [va_rf l0, va_rf (some n2)] (fun s11 => Ext s6 s11 → K s11 (some n2)))) : G w mJ5_newNode (KR K) (rc + 1) (rs + 6) σ 0 [va_rf l0, .int l1, va_rf l2, va_rf l3, va_rf l4, U_] [] := by
  refine G_new (cc := 21) (kn := 31) (q := (RJ29, TJ29, 6)) (rc) (rs) 3 dJ5_newNode_0 rfl q937 q938 q67 rfl rfl (Nat.le_refl _) (Nat.le_refl _) (fun z1 => ?_)
  generalize hn2 : nx σ = n2 at z1 ⊢
  generalize hs3 : nO σ 31 = s3
  have x4 : ∀ a, ¬ kd σ a = 0 → kd s3 a = kd σ a := by subst hs3 hn2; exact kdNx z1
  have c5 : kd s3 n2 = 31 := by subst hs3 hn2; exact kdO_self
  have h := h n2 hn2.symm z1 s3 hs3.symm
  refine G_dup 4 dJ5_newNode_3 (rf_cat _) rfl ?_
  refine G_iload_n 5 dJ5_newNode_4 rfl rfl ?_
  refine G_aload_n 6 dJ5_newNode_5 rfl rfl ?_
  refine G_aload_n 7 dJ5_newNode_6 rfl rfl ?_
  refine G_aload 9 dJ5_newNode_7 rfl rfl ?_
  refine G_invI (N := mJ29_init) (As := [.int l1, va_rf l2, va_rf l3, va_rf l4]) (st := [va_rf (some n2)]) (t := (some n2)) (b := n2) (rc) (rs) "" 12 dJ5_newNode_9 (Or.inl q939) q940 q67 q941 rfl rfl rfl mJ29_init_args ⟨Nat.le_of_ble_eq_true rfl, Nat.le_of_ble_eq_true rfl⟩ rfl rfl (Nat.le_trans (w_R w_0) (Nat.le_of_ble_eq_true rfl)) (le_b mJ29_init_c (Nat.le_refl _)) (le_b mJ29_init_s (Nat.le_refl _)) rfl (Cal.mono h ?_)
  rintro s6 v ⟨rfl, h⟩ hx7
  have h := h hx7
  have x8 := hx7.x
  show G w mJ5_newNode (KR K) (rc) (rs) s6 12 [va_rf l0, .int l1, va_rf l2, va_rf l3, va_rf l4, U_] [va_rf (some n2)]
  refine G_astore 14 [va_rf l0, .int l1, va_rf l2, va_rf l3, va_rf l4, va_rf (some n2)] dJ5_newNode_12 (Nat.le_of_ble_eq_true rfl) rfl rfl ?_
  refine G_aload_n 15 dJ5_newNode_14 rfl rfl ?_
  refine G_aload 17 dJ5_newNode_15 rfl rfl ?_
  obtain ⟨a9, e10, h⟩ := h
  obtain ⟨c12, h⟩ := h
  refine G_invV (N := mJ5_linkNodeAtEnd) (As := [va_rf (some n2)]) (st := []) (t := l0) (b := a9) (rc) (rs) 20 dJ5_newNode_17 q1245 q1247 qs5 q38 q1248 rfl rfl mJ5_linkNodeAtEnd_args ⟨Nat.le_of_ble_eq_true rfl, Nat.le_of_ble_eq_true rfl⟩ rfl (Nat.zero_le _) e10 (rk21 c12) (le_b mJ5_linkNodeAtEnd_c (Nat.le_refl _)) (le_b mJ5_linkNodeAtEnd_s (Nat.le_refl _)) rfl (Cal.mono h ?_)
  rintro s11 v ⟨rfl, h⟩ hx13
  have h := h hx13
  have x14 := hx13.x
  show G w mJ5_newNode (KR K) (rc) (rs) s11 20 [va_rf l0, .int l1, va_rf l2, va_rf l3, va_rf l4, va_rf (some n2)] []
  refine G_aload 22 dJ5_newNode_20 rfl rfl ?_
  exact G_aret dJ5_newNode_22 rfl (Or.inl ⟨_, rfl⟩) ⟨_, rfl, h⟩
theorem eJ5_newNode {w : Wt} {K : Sg → Option Nat → Prop} {σ : Sg} (l0 : Option Nat) (l1 : Int32) (l2 : Option Nat) (l3 : Option Nat) (l4 : Option Nat) (h : G w mJ5_newNode (KR K) 1 6 σ 0 [va_rf l0, .int l1, va_rf l2, va_rf l3, va_rf l4, U_] []) : CalR w mJ5_newNode σ [va_rf l0, .int l1, va_rf l2, va_rf l3, va_rf l4] K :=
  Cal.start 1 mJ5_newNode_plain (catR (catI (catR (catR (catR cat0))))) (Nat.le_of_ble_eq_true rfl) rfl h
set_option maxHeartbeats 4000000 in
theorem bJ5_linkNodeAtEnd_0 {w : Wt} {K : Sg → Prop} {rc rs : Nat} {σ : Sg} (l0 : Option Nat) (l1 : Option Nat) (h : ∃ a1, l0 = some a1 ∧ kd σ a1 = 21 ∧ ((¬ FI σ 65 a1 = 1 → ∀ s5, s5 = sFR σ 63 a1 l1 → ((¬ FR σ 63 a1 = none → ∃ a8, l1 = some a8 ∧ kd s5 a8 ∈ [31, 32] ∧ ∀ s11, s11 = sFR s5 88 a8 (FR σ 63 a1) → ∃ a13, FR σ 63 a1 = some a13 ∧ kd s11 a13 ∈ [31, 32] ∧ ∀ s16, s16 = sFR s11 89 a13 l1 → K s16) ∧ (FR σ 63 a1 = none → ∀ s18, s18 = sFR s5 62 a1 l1 → K s18))) ∧ (FI σ 65 a1 = 1 → ∀ s20, s20 = sFR σ 62 a1 l1 → ((¬ FR σ 62 a1 = none → ∃ a23, l1 = some a23 ∧ kd s20 a23 ∈ [31, 32] ∧ ∀ s26, s26 = sFR s20 89 a23 (FR σ 62 a1) → ∃ a28, FR σ 62 a1 = some a28 ∧ kd s26 a28 ∈ [31, 32] ∧ ∀ s31, s31 = sFR s26 88 a28 l1 → K s31) ∧ (FR σ 62 a1 = none → ∀ s33, s33 = sFR s20 63 a1 l1 → K s33))))) : G w mJ5_linkNodeAtEnd (KV K) (rc) (rs) σ 0 [va_rf l0, va_rf l1, U_] [] := by
  refine G_aload_n 1 dJ5_linkNodeAtEnd_0 rfl rfl ?_
  obtain ⟨a1, e2, h⟩ := h
  obtain ⟨c3, h⟩ := h
  refine G_getI (f := 65) (a := a1) "" 4 dJ5_linkNodeAtEnd_1 (Or.inl q140) (Or.inl rfl) rfl e2 (hf65 c3) rfl ?_
  refine G_iconst (v := 1) 5 dJ5_linkNodeAtEnd_4 (by decide) rfl ?_
  refine G_icmp_ne 43 8 dJ5_linkNodeAtEnd_5 (by decide) rfl (fun u4 => ?_) (fun u4 => ?_)
  · have h := h.1 u4
    refine G_aload_n 44 dJ5_linkNodeAtEnd_43 rfl rfl ?_
    refine G_getR (f := 63) (a := a1) "" 47 dJ5_linkNodeAtEnd_44 (Or.inl q138) (Or.inl rfl) rfl e2 (hf63 c3) rfl ?_
    refine G_astore_n 48 [va_rf l0, va_rf l1, va_rf (FR σ 63 a1)] dJ5_linkNodeAtEnd_47 (Nat.le_of_ble_eq_true rfl) rfl rfl ?_
    refine G_aload_n 49 dJ5_linkNodeAtEnd_48 rfl rfl ?_
    refine G_aload_n 50 dJ5_linkNodeAtEnd_49 rfl rfl ?_
    refine G_putR (f := 63) (a := a1) "" 53 dJ5_linkNodeAtEnd_50 (Or.inl q138) (Or.inl rfl) rfl e2 (hp63 c3) (nk63 c3) (Or.inl rfl) (fun y => by cases y <;> rfl) (fun y => by cases y <;> rfl) rfl ?_
    generalize hs5 : sFR σ 63 a1 l1 = s5
    have x6 : ∀ a, ¬ kd σ a = 0 → kd s5 a = kd σ a := by subst hs5; exact fun a _ => congrFun kd_sFR a
    have h := h s5 hs5.symm
    refine G_aload_n 54 dJ5_linkNodeAtEnd_53 rfl rfl ?_
    refine G_ifnonnull 65 57 dJ5_linkNodeAtEnd_54 (by decide) rfl (fun u7 => ?_) (fun u7 => ?_)
    · have h := h.1 u7
      refine G_aload_n 66 dJ5_linkNodeAtEnd_65 rfl rfl ?_
      refine G_aload_n 67 dJ5_linkNodeAtEnd_66 rfl rfl ?_
      obtain ⟨a8, e9, h⟩ := h
      obtain ⟨c10, h⟩ := h
      refine G_putR (f := 88) (a := a8) "" 70 dJ5_linkNodeAtEnd_67 (Or.inl q946) (Or.inl rfl) rfl e9 (hp88 c10) (nk88 c10) (Or.inl rfl) (fun y => by cases y <;> rfl) (fun y => by cases y <;> rfl) rfl ?_
      generalize hs11 : sFR s5 88 a8 (FR σ 63 a1) = s11
      have x12 : ∀ a, ¬ kd s5 a = 0 → kd s11 a = kd s5 a := by subst hs11; exact fun a _ => congrFun kd_sFR a
      have h := h s11 hs11.symm
      refine G_aload_n 71 dJ5_linkNodeAtEnd_70 rfl rfl ?_
      refine G_aload_n 72 dJ5_linkNodeAtEnd_71 rfl rfl ?_
      obtain ⟨a13, e14, h⟩ := h
      obtain ⟨c15, h⟩ := h
      refine G_putR (f := 89) (a := a13) "" 75 dJ5_linkNodeAtEnd_72 (Or.inl q948) (Or.inl rfl) rfl e14 (hp89 c15) (nk89 c15) (Or.inl rfl) (fun y => by cases y <;> rfl) (fun y => by cases y <;> rfl) rfl ?_
      generalize hs16 : sFR s11 89 a13 l1 = s16
      have x17 : ∀ a, ¬ kd s11 a = 0 → kd s16 a = kd s11 a := by subst hs16; exact fun a _ => congrFun kd_sFR a
      have h := h s16 hs16.symm
      exact G_ret dJ5_linkNodeAtEnd_75 rfl ⟨rfl, h⟩
    · have h := h.2 u7
      refine G_aload_n 58 dJ5_linkNodeAtEnd_57 rfl rfl ?_
      refine G_aload_n 59 dJ5_linkNodeAtEnd_58 rfl rfl ?_
      have c3 := kdE x6 c3 (by decide)
      refine G_putR (f := 62) (a := a1) "" 62 dJ5_linkNodeAtEnd_59 (Or.inl q135) (Or.inl rfl) rfl e2 (hp62 c3) (nk62 c3) (Or.inl rfl) (fun y => by cases y <;> rfl) (fun y => by cases y <;> rfl) rfl ?_
      generalize hs18 : sFR s5 62 a1 l1 = s18
      have x19 : ∀ a, ¬ kd s5 a = 0 → kd s18 a = kd s5 a := by subst hs18; exact fun a _ => congrFun kd_sFR a
      have h := h s18 hs18.symm
      refine G_goto 75 dJ5_linkNodeAtEnd_62 (by decide) ?_
      exact G_ret dJ5_linkNodeAtEnd_75 rfl ⟨rfl, h⟩
  · have h := h.2 u4
    refine G_aload_n 9 dJ5_linkNodeAtEnd_8 rfl rfl ?_
    refine G_getR (f := 62) (a := a1) "" 12 dJ5_linkNodeAtEnd_9 (Or.inl q135) (Or.inl rfl) rfl e2 (hf62 c3) rfl ?_
    refine G_astore_n 13 [va_rf l0, va_rf l1, va_rf (FR σ 62 a1)] dJ5_linkNodeAtEnd_12 (Nat.le_of_ble_eq_true rfl) rfl rfl ?_
    refine G_aload_n 14 dJ5_linkNodeAtEnd_13 rfl rfl ?_
    refine G_aload_n 15 dJ5_linkNodeAtEnd_14 rfl rfl ?_
    refine G_putR (f := 62) (a := a1) "" 18 dJ5_linkNodeAtEnd_15 (Or.inl q135) (Or.inl rfl) rfl e2 (hp62 c3) (nk62 c3) (Or.inl rfl) (fun y => by cases y <;> rfl) (fun y => by cases y <;> rfl) rfl ?_
    generalize hs20 : sFR σ 62 a1 l1 = s20
    have x21 : ∀ a, ¬ kd σ a = 0 → kd s20 a = kd σ a := by subst hs20; exact fun a _ => congrFun kd_sFR a
    have h := h s20 hs20.symm
    refine G_aload_n 19 dJ5_linkNodeAtEnd_18 rfl rfl ?_
    refine G_ifnonnull 30 22 dJ5_linkNodeAtEnd_19 (by decide) rfl (fun u22 => ?_) (fun u22 => ?_)
    · have h := h.1 u22
      refine G_aload_n 31 dJ5_linkNodeAtEnd_30 rfl rfl ?_
      refine G_aload_n 32 dJ5_linkNodeAtEnd_31 rfl rfl ?_
      obtain ⟨a23, e24, h⟩ := h
      obtain ⟨c25, h⟩ := h
      refine G_putR (f := 89) (a := a23) "" 35 dJ5_linkNodeAtEnd_32 (Or.inl q948) (Or.inl rfl) rfl e24 (hp89 c25) (nk89 c25) (Or.inl rfl) (fun y => by cases y <;> rfl) (fun y => by cases y <;> rfl) rfl ?_
      generalize hs26 : sFR s20 89 a23 (FR σ 62 a1) = s26
      have x27 : ∀ a, ¬ kd s20 a = 0 → kd s26 a = kd s20 a := by subst hs26; exact fun a _ => congrFun kd_sFR a
      have h := h s26 hs26.symm
      refine G_aload_n 36 dJ5_linkNodeAtEnd_35 rfl rfl ?_
      refine G_aload_n 37 dJ5_linkNodeAtEnd_36 rfl rfl ?_
      obtain ⟨a28, e29, h⟩ := h
      obtain ⟨c30, h⟩ := h
      refine G_putR (f := 88) (a := a28) "" 40 dJ5_linkNodeAtEnd_37 (Or.inl q946) (Or.inl rfl) rfl e29 (hp88 c30) (nk88 c30) (Or.inl rfl) (fun y => by cases y <;> rfl) (fun y => by cases y <;> rfl) rfl ?_
      generalize hs31 : sFR s26 88 a28 l1 = s31
      have x32 : ∀ a, ¬ kd s26 a = 0 → kd s31 a = kd s26 a := by subst hs31; exact fun a _ => congrFun kd_sFR a
      have h := h s31 hs31.symm
      refine G_goto 75 dJ5_linkNodeAtEnd_40 (by decide) ?_
      exact G_ret dJ5_linkNodeAtEnd_75 rfl ⟨rfl, h⟩
    · have h := h.2 u22
      refine G_aload_n 23 dJ5_linkNodeAtEnd_22 rfl rfl ?_
      refine G_aload_n 24 dJ5_linkNodeAtEnd_23 rfl rfl ?_
      have c3 := kdE x21 c3 (by decide)
      refine G_putR (f := 63) (a := a1) "" 27 dJ5_linkNodeAtEnd_24 (Or.inl q138) (Or.inl rfl) rfl e2 (hp63 c3) (nk63 c3) (Or.inl rfl) (fun y => by cases y <;> rfl) (fun y => by cases y <;> rfl) rfl ?_
      generalize hs33 : sFR s20 63 a1 l1 = s33
      have x34 : ∀ a, ¬ kd s20 a = 0 → kd s33 a = kd s20 a := by subst hs33; exact fun a _ => congrFun kd_sFR a
      have h := h s33 hs33.symm
      refine G_goto 40 dJ5_linkNodeAtEnd_27 (by decide) ?_
      refine G_goto 75 dJ5_linkNodeAtEnd_40 (by decide) ?_
      exact G_ret dJ5_linkNodeAtEnd_75 rfl ⟨rfl, h⟩
theorem eJ5_linkNodeAtEnd {w : Wt} {K : Sg → Prop} {σ : Sg} (l0 : Option Nat) (l1 : Option Nat) (h : G w mJ5_linkNodeAtEnd (KV K) 0 0 σ 0 [va_rf l0, va_rf l1, U_] []) : CalV w mJ5_linkNodeAtEnd σ [va_rf l0, va_rf l1] K :=
  Cal.start 1 mJ5_linkNodeAtEnd_plain (catR (catR cat0)) (Nat.le_of_ble_eq_true rfl) rfl h
set_option maxHeartbeats 4000000 in
theorem bJ5_newTreeNode_0 {w : Wt} {K : Sg → Option Nat → Prop} {rc rs : Nat} {σ : Sg} (l0 : Option Nat) (l1 : Int32) (l2 : Option Nat) (l3 : Option Nat) (l4 : Option Nat) (h : ∀ n2, n2 = nx σ → kd σ n2 = 0 → ∀ s3, s3 = nO σ 32 → CalV w mJ33_init s3 [va_rf (some n2), .int l1, va_rf l2, va_rf l3, va_rf l4] (fun s6 => Ext s3 s6 → ∃ a9, l0 = some a9 ∧ kd s6 a9 = 21 ∧ CalV w mJ5_linkNodeAtEnd s6 [va_rf l0, va_rf (some n2)] (fun s11 => Ext s6 s11 → K s11 (some n2)))) : G w mJ5_newTreeNode (KR K) (rc + 1) (rs + 11) σ 0 [va_rf l0, .int l1, va_rf l2, va_rf l3, va_rf l4, U_] [] := by
  refine G_new (cc := 22) (kn := 32) (q := (RJ33, TJ33, 11)) (rc) (rs) 3 dJ5_newTreeNode_0 rfl q1303 q1304 q72 rfl rfl (Nat.le_refl _) (Nat.le_refl _) (fun z1 => ?_)
  generalize hn2 : nx σ = n2 at z1 ⊢
  generalize hs3 : nO σ 32 = s3
  have x4 : ∀ a, ¬ kd σ a = 0 → kd s3 a = kd σ a := by subst hs3 hn2; exact kdNx z1
  have c5 : kd s3 n2 = 32 := by subst hs3 hn2; exact kdO_self
  have h := h n2 hn2.symm z1 s3 hs3.symm
  refine G_dup 4 dJ5_newTreeNode_3 (rf_cat _) rfl ?_
  refine G_iload_n 5 dJ5_newTreeNode_4 rfl rfl ?_
  refine G_aload_n 6 dJ5_newTreeNode_5 rfl rfl ?_
  refine G_aload_n 7 dJ5_newTreeNode_6 rfl rfl ?_
  refine G_aload 9 dJ5_newTreeNode_7 rfl rfl ?_
  refine G_invI (N := mJ33_init) (As := [.int l1, va_rf l2, va_rf l3, va_rf l4]) (st := [va_rf (some n2)]) (t := (some n2)) (b := n2) (rc) (rs) "" 12 dJ5_newTreeNode_9 (Or.inl q1305) q1306 q72 q1307 rfl rfl rfl mJ33_init_args ⟨Nat.le_of_ble_eq_true rfl, Nat.le_of_ble_eq_true rfl⟩ rfl rfl (Nat.le_trans (w_R w_0) (Nat.le_of_ble_eq_true rfl)) (le_b mJ33_init_c (Nat.le_refl _)) (le_b mJ33_init_s (Nat.le_refl _)) rfl (Cal.mono h ?_)
  rintro s6 v ⟨rfl, h⟩ hx7
  have h := h hx7
  have x8 := hx7.x
  show G w mJ5_newTreeNode (KR K) (rc) (rs) s6 12 [va_rf l0, .int l1, va_rf l2, va_rf l3, va_rf l4, U_] [va_rf (some n2)]
  refine G_astore 14 [va_rf l0, .int l1, va_rf l2, va_rf l3, va_rf l4, va_rf (some n2)] dJ5_newTreeNode_12 (Nat.le_of_ble_eq_true rfl) rfl rfl ?_
  refine G_aload_n 15 dJ5_newTreeNode_14 rfl rfl ?_
  refine G_aload 17 dJ5_newTreeNode_15 rfl rfl ?_
  obtain ⟨a9, e10, h⟩ := h
  obtain ⟨c12, h⟩ := h
  refine G_invV (N := mJ5_linkNodeAtEnd) (As := [va_rf (some n2)]) (st := []) (t := l0) (b := a9) (rc) (rs) 20 dJ5_newTreeNode_17 q1245 q1247 qs5 q38 q1248 rfl rfl mJ5_linkNodeAtEnd_args ⟨Nat.le_of_ble_eq_true rfl, Nat.le_of_ble_eq_true rfl⟩ rfl (Nat.zero_le _) e10 (rk21 c12) (le_b mJ5_linkNodeAtEnd_c (Nat.le_refl _)) (le_b mJ5_linkNodeAtEnd_s (Nat.le_refl _)) rfl (Cal.mono h ?_)
  rintro s11 v ⟨rfl, h⟩ hx13
  have h := h hx13
  have x14 := hx13.x
  show G w mJ5_newTreeNode (KR K) (rc) (rs) s11 20 [va_rf l0, .int l1, va_rf l2, va_rf l3, va_rf l4, va_rf (some n2)] []
  refine G_aload 22 dJ5_newTreeNode_20 rfl rfl ?_
  exact G_aret dJ5_newTreeNode_22 rfl (Or.inl ⟨_, rfl⟩) ⟨_, rfl, h⟩
theorem eJ5_newTreeNode {w : Wt} {K : Sg → Option Nat → Prop} {σ : Sg} (l0 : Option Nat) (l1 : Int32) (l2 : Option Nat) (l3 : Option Nat) (l4 : Option Nat) (h : G w mJ5_newTreeNode (KR K) 1 11 σ 0 [va_rf l0, .int l1, va_rf l2, va_rf l3, va_rf l4, U_] []) : CalR w mJ5_newTreeNode σ [va_rf l0, .int l1, va_rf l2, va_rf l3, va_rf l4] K :=
  Cal.start 1 mJ5_newTreeNode_plain (catR (catI (catR (catR (catR cat0))))) (Nat.le_of_ble_eq_true rfl) rfl h
set_option maxHeartbeats 4000000 in
theorem bJ5_replacementTreeNode_0 {w : Wt} {K : Sg → Option Nat → Prop} {rc rs : Nat} {σ : Sg} (l0 : Option Nat) (l1 : Option Nat) (l2 : Option Nat) (h : (l1 = none ∨ ∃ b, l1 = some b ∧ kd σ b ∈ [31, 32]) ∧ ∀ n3, n3 = nx σ → kd σ n3 = 0 → ∀ s4, s4 = nO σ 32 → ∃ a7, l1 = some a7 ∧ kd s4 a7 ∈ [30, 31, 32] ∧ CalV w mJ33_init s4 [va_rf (some n3), .int (FI s4 84 a7), va_rf (FR s4 85 a7), va_rf (FR s4 86 a7), va_rf l2] (fun s10 => Ext s4 s10 → ∃ a13, l0 = some a13 ∧ kd s10 a13 = 21 ∧ CalV w mJ5_transferLinks s10 [va_rf l0, va_rf l1, va_rf (some n3)] (fun s15 => Ext s10 s15 → K s15 (some n3)))) : G w mJ5_replacementTreeNode (KR K) (rc + 1) (rs + 11) σ 0 [va_rf l0, va_rf l1, va_rf l2, U_, U_] [] := by
  refine G_aload_n 1 dJ5_replacementTreeNode_0 rfl rfl ?_
  obtain ⟨c1, h⟩ := h
  refine G_cast 4 dJ5_replacementTreeNode_1 q937 rfl (c1.imp id (fun ⟨b, e, k⟩ => ⟨b, e, co2 k⟩)) ?_
  refine G_astore_n 5 [va_rf l0, va_rf l1, va_rf l2, va_rf l1, U_] dJ5_replacementTreeNode_4 (Nat.le_of_ble_eq_true rfl) rfl rfl ?_
  refine G_new (cc := 22) (kn := 32) (q := (RJ33, TJ33, 11)) (rc) (rs) 8 dJ5_replacementTreeNode_5 rfl q1303 q1304 q72 rfl rfl (Nat.le_refl _) (Nat.le_refl _) (fun z2 => ?_)
  generalize hn3 : nx σ = n3 at z2 ⊢
  generalize hs4 : nO σ 32 = s4
  have x5 : ∀ a, ¬ kd σ a = 0 → kd s4 a = kd σ a := by subst hs4 hn3; exact kdNx z2
  have c6 : kd s4 n3 = 32 := by subst hs4 hn3; exact kdO_self
  have h := h n3 hn3.symm z2 s4 hs4.symm
  refine G_dup 9 dJ5_replacementTreeNode_8 (rf_cat _) rfl ?_
  refine G_aload_n 10 dJ5_replacementTreeNode_9 rfl rfl ?_
  obtain ⟨a7, e8, h⟩ := h
  obtain ⟨c9, h⟩ := h
  refine G_getI (f := 84) (a := a7) "" 13 dJ5_replacementTreeNode_10 (Or.inl q953) (Or.inr q954) rfl e8 (hf84 c9) rfl ?_
  refine G_aload_n 14 dJ5_replacementTreeNode_13 rfl rfl ?_
  refine G_getR (f := 85) (a := a7) "" 17 dJ5_replacementTreeNode_14 (Or.inl q960) (Or.inr q961) rfl e8 (hf85 c9) rfl ?_
  refine G_aload_n 18 dJ5_replacementTreeNode_17 rfl rfl ?_
  refine G_getR (f := 86) (a := a7) "" 21 dJ5_replacementTreeNode_18 (Or.inl q964) (Or.inr q965) rfl e8 (hf86 c9) rfl ?_
  refine G_aload_n 22 dJ5_replacementTreeNode_21 rfl rfl ?_
  refine G_invI (N := mJ33_init) (As := [.int (FI s4 84 a7), va_rf (FR s4 85 a7), va_rf (FR s4 86 a7), va_rf l2]) (st := [va_rf (some n3)]) (t := (some n3)) (b := n3) (rc) (rs) "" 25 dJ5_replacementTreeNode_22 (Or.inl q1305) q1306 q72 q1307 rfl rfl rfl mJ33_init_args ⟨Nat.le_of_ble_eq_true rfl, Nat.le_of_ble_eq_true rfl⟩ rfl rfl (Nat.le_trans (w_R w_0) (Nat.le_of_ble_eq_true rfl)) (le_b mJ33_init_c (Nat.le_refl _)) (le_b mJ33_init_s (Nat.le_refl _)) rfl (Cal.mono h ?_)
  rintro s10 v ⟨rfl, h⟩ hx11
  have h := h hx11
  have x12 := hx11.x
  show G w mJ5_replacementTreeNode (KR K) (rc) (rs) s10 25 [va_rf l0, va_rf l1, va_rf l2, va_rf l1, U_] [va_rf (some n3)]
  refine G_astore 27 [va_rf l0, va_rf l1, va_rf l2, va_rf l1, va_rf (some n3)] dJ5_replacementTreeNode_25 (Nat.le_of_ble_eq_true rfl) rfl rfl ?_
  refine G_aload_n 28 dJ5_replacementTreeNode_27 rfl rfl ?_
  refine G_aload_n 29 dJ5_replacementTreeNode_28 rfl rfl ?_
  refine G_aload 31 dJ5_replacementTreeNode_29 rfl rfl ?_
  obtain ⟨a13, e14, h⟩ := h
  obtain ⟨c16, h⟩ := h
  refine G_invV (N := mJ5_transferLinks) (As := [va_rf l1, va_rf (some n3)]) (st := []) (t := l0) (b := a13) (rc) (rs) 34 dJ5_replacementTreeNode_31 q988 q990 qs4 q38 q991 rfl rfl mJ5_transferLinks_args ⟨Nat.le_of_ble_eq_true rfl, Nat.le_of_ble_eq_true rfl⟩ rfl (Nat.zero_le _) e14 (rk21 c16) (le_b mJ5_transferLinks_c (Nat.le_refl _)) (le_b mJ5_transferLinks_s (Nat.le_refl _)) rfl (Cal.mono h ?_)
  rintro s15 v ⟨rfl, h⟩ hx17
  have h := h hx17
  have x18 := hx17.x
  show G w mJ5_replacementTreeNode (KR K) (rc) (rs) s15 34 [va_rf l0, va_rf l1, va_rf l2, va_rf l1, va_rf (some n3)] []
  refine G_aload 36 dJ5_replacementTreeNode_34 rfl rfl ?_
  exact G_aret dJ5_replacementTreeNode_36 rfl (Or.inl ⟨_, rfl⟩) ⟨_, rfl, h⟩
theorem eJ5_replacementTreeNode {w : Wt} {K : Sg → Option Nat → Prop} {σ : Sg} (l0 : Option Nat) (l1 : Option Nat) (l2 : Option Nat) (h : G w mJ5_replacementTreeNode (KR K) 1 11 σ 0 [va_rf l0, va_rf l1, va_rf l2, U_, U_] []) : CalR w mJ5_replacementTreeNode σ [va_rf l0, va_rf l1, va_rf l2] K :=
  Cal.start 2 mJ5_replacementTreeNode_plain (catR (catR (catR cat0))) (Nat.le_of_ble_eq_true rfl) rfl h
set_option maxHeartbeats 4000000 in
theorem bJ5_afterNodeInsertion_0 {w : Wt} {K : Sg → Prop} {rc rs : Nat} {σ : Sg} (l0 : Option Nat) (l1 : Int32) (h : ((l1 = 0 → K σ) ∧ (¬ l1 = 0 → ∃ a2, l0 = some a2 ∧ kd σ a2 = 21 ∧ ((FR σ 62 a2 = none → K σ) ∧ (¬ FR σ 62 a2 = none → False))))) : G w mJ5_afterNodeInsertion (KV K) (rc) (rs) σ 0 [va_rf l0, .int l1, U_, U_] [] := by
  refine G_iload_n 1 dJ5_afterNodeInsertion_0 rfl rfl ?_
  refine G_if_eq 39 4 dJ5_afterNodeInsertion_1 (by decide) rfl (fun u1 => ?_) (fun u1 => ?_)
  · have h := h.1 u1
    exact G_ret dJ5_afterNodeInsertion_39 rfl ⟨rfl, h⟩
  · have h := h.2 u1
    refine G_aload_n 5 dJ5_afterNodeInsertion_4 rfl rfl ?_
    obtain ⟨a2, e3, h⟩ := h
    obtain ⟨c4, h⟩ := h
    refine G_getR (f := 62) (a := a2) "" 8 dJ5_afterNodeInsertion_5 (Or.inl q135) (Or.inl rfl) rfl e3 (hf62 c4) rfl ?_
    refine G_dup 9 dJ5_afterNodeInsertion_8 (rf_cat _) rfl ?_
    refine G_astore_n 10 [va_rf l0, .int l1, va_rf (FR σ 62 a2), U_] dJ5_afterNodeInsertion_9 (Nat.le_of_ble_eq_true rfl) rfl rfl ?_
    refine G_ifnull 39 13 dJ5_afterNodeInsertion_10 (by decide) rfl (fun u5 => ?_) (fun u5 => ?_)
    · have h := h.1 u5
      exact G_ret dJ5_afterNodeInsertion_39 rfl ⟨rfl, h⟩
    · have h := h.2 u5
      refine G_aload_n 14 dJ5_afterNodeInsertion_13 rfl rfl ?_
      refine G_aload_n 15 dJ5_afterNodeInsertion_14 rfl rfl ?_
      exact h.elim
theorem eJ5_afterNodeInsertion {w : Wt} {K : Sg → Prop} {σ : Sg} (l0 : Option Nat) (l1 : Int32) (h : G w mJ5_afterNodeInsertion (KV K) 0 0 σ 0 [va_rf l0, .int l1, U_, U_] []) : CalV w mJ5_afterNodeInsertion σ [va_rf l0, .int l1] K :=
  Cal.start 2 mJ5_afterNodeInsertion_plain (catR (catI cat0)) (Nat.le_of_ble_eq_true rfl) rfl h
set_option maxHeartbeats 4000000 in
theorem bJ5_get_0 {w : Wt} {K : Sg → Option Nat → Prop} {rc rs : Nat} {σ : Sg} (l0 : Option Nat) (l1 : Option Nat) (h : ∃ a1, l0 = some a1 ∧ kd σ a1 = 21 ∧ CalR w mJ4_getNode σ [va_rf l0, va_rf l1] (fun s3 x4 => Ext σ s3 → ((¬ x4 = none → ((FI s3 64 a1 = 0 → ∃ a10, x4 = some a10 ∧ kd s3 a10 ∈ [30, 31, 32] ∧ K s3 (FR s3 86 a10)) ∧ (¬ FI s3 64 a1 = 0 → False))) ∧ (x4 = none → K s3 none)))) : G w mJ5_get (KR K) (rc) (rs) σ 0 [va_rf l0, va_rf l1, U_] [] := by
  refine G_aload_n 1 dJ5_get_0 rfl rfl ?_
  refine G_aload_n 2 dJ5_get_1 rfl rfl ?_
  obtain ⟨a1, e2, h⟩ := h
  obtain ⟨c5, h⟩ := h
  refine G_invU (N := mJ4_getNode) (owner := "java/util/HashMap") (x := ⟨"java/util/LinkedHashMap", "getNode", "(Ljava/lang/Object;)Ljava/util/HashMap$Node;"⟩) (As := [va_rf l1]) (st := []) (t := l0) (b := a1) (rc) (rs) 5 dJ5_get_2 q1491 q1492 q1494 q1477 q37 q1481 (Or.inl rfl) rfl ax9 ⟨Nat.le_of_ble_eq_true rfl, Nat.le_of_ble_eq_true rfl⟩ rfl (Nat.zero_le _) e2 (rk21 c5) (le_b mJ4_getNode_c (Nat.le_refl _)) (le_b mJ4_getNode_s (Nat.le_refl _)) rfl (Cal.mono h ?_)
  rintro s3 v ⟨x4, rfl, h⟩ hx6
  have h := h hx6
  have x7 := hx6.x
  show G w mJ5_get (KR K) (rc) (rs) s3 5 [va_rf l0, va_rf l1, U_] [va_rf x4]
  refine G_dup 6 dJ5_get_5 (rf_cat _) rfl ?_
  refine G_astore_n 7 [va_rf l0, va_rf l1, va_rf x4] dJ5_get_6 (Nat.le_of_ble_eq_true rfl) rfl rfl ?_
  refine G_ifnonnull 12 10 dJ5_get_7 (by decide) rfl (fun u8 => ?_) (fun u8 => ?_)
  · have h := h.1 u8
    refine G_aload_n 13 dJ5_get_12 rfl rfl ?_
    have c5 := kdE x7 c5 (by decide)
    refine G_getI (f := 64) (a := a1) "" 16 dJ5_get_13 (Or.inl q139) (Or.inl rfl) rfl e2 (hf64 c5) rfl ?_
    refine G_if_eq 24 19 dJ5_get_16 (by decide) rfl (fun u9 => ?_) (fun u9 => ?_)
    · have h := h.1 u9
      refine G_aload_n 25 dJ5_get_24 rfl rfl ?_
      obtain ⟨a10, e11, h⟩ := h
      obtain ⟨c12, h⟩ := h
      refine G_getR (f := 86) (a := a10) "" 28 dJ5_get_25 (Or.inl q967) (Or.inl rfl) rfl e11 (hf86 c12) rfl ?_
      exact G_aret dJ5_get_28 rfl (Or.inl ⟨_, rfl⟩) ⟨_, rfl, h⟩
    · have h := h.2 u9
      refine G_aload_n 20 dJ5_get_19 rfl rfl ?_
      refine G_aload_n 21 dJ5_get_20 rfl rfl ?_
      exact h.elim
  · have h := h.2 u8
    refine G_null 11 dJ5_get_10 rfl ?_
    exact G_aret dJ5_get_11 rfl (Or.inl ⟨_, rfl⟩) ⟨_, rfl, h⟩
theorem eJ5_get {w : Wt} {K : Sg → Option Nat → Prop} {σ : Sg} (l0 : Option Nat) (l1 : Option Nat) (h : G w mJ5_get (KR K) 0 0 σ 0 [va_rf l0, va_rf l1, U_] []) : CalR w mJ5_get σ [va_rf l0, va_rf l1] K :=
  Cal.start 1 mJ5_get_plain (catR (catR cat0)) (Nat.le_of_ble_eq_true rfl) rfl h
set_option maxHeartbeats 4000000 in
theorem bJ5_afterNodeRemoval_0 {w : Wt} {K : Sg → Prop} {rc rs : Nat} {σ : Sg} (l0 : Option Nat) (l1 : Option Nat) (h : (l1 = none ∨ ∃ b, l1 = some b ∧ kd σ b ∈ [31, 32]) ∧ ∃ a2, l1 = some a2 ∧ kd σ a2 ∈ [31, 32] ∧ ∀ s5, s5 = sFR σ 89 a2 none → ∀ s7, s7 = sFR s5 88 a2 none → ((¬ FR σ 88 a2 = none → ∃ a10, FR σ 88 a2 = some a10 ∧ kd s7 a10 ∈ [31, 32] ∧ ∀ s13, s13 = sFR s7 89 a10 (FR σ 89 a2) → ((¬ FR σ 89 a2 = none → ∃ a16, FR σ 89 a2 = some a16 ∧ kd s13 a16 ∈ [31, 32] ∧ ∀ s19, s19 = sFR s13 88 a16 (FR σ 88 a2) → K s19) ∧ (FR σ 89 a2 = none → ∃ a21, l0 = some a21 ∧ kd s13 a21 = 21 ∧ ∀ s24, s24 = sFR s13 63 a21 (FR σ 88 a2) → K s24))) ∧ (FR σ 88 a2 = none → ∃ a26, l0 = some a26 ∧ kd s7 a26 = 21 ∧ ∀ s29, s29 = sFR s7 62 a26 (FR σ 89 a2) → ((¬ FR σ 89 a2 = none → ∃ a32, FR σ 89 a2 = some a32 ∧ kd s29 a32 ∈ [31, 32] ∧ ∀ s35, s35 = sFR s29 88 a32 (FR σ 88 a2) → K s35) ∧ (FR σ 89 a2 = none → ∀ s37, s37 = sFR s29 63 a26 (FR σ 88 a2) → K s37))))) : G w mJ5_afterNodeRemoval (KV K) (rc) (rs) σ 0 [va_rf l0, va_rf l1, U_, U_, U_] [] := by
  refine G_aload_n 1 dJ5_afterNodeRemoval_0 rfl rfl ?_
  obtain ⟨c1, h⟩ := h
  refine G_cast 4 dJ5_afterNodeRemoval_1 q937 rfl (c1.imp id (fun ⟨b, e, k⟩ => ⟨b, e, co2 k⟩)) ?_
  refine G_astore_n 5 [va_rf l0, va_rf l1, va_rf l1, U_, U_] dJ5_afterNodeRemoval_4 (Nat.le_of_ble_eq_true rfl) rfl rfl ?_
  refine G_aload_n 6 dJ5_afterNodeRemoval_5 rfl rfl ?_
  obtain ⟨a2, e3, h⟩ := h
  obtain ⟨c4, h⟩ := h
  refine G_getR (f := 88) (a := a2) "" 9 dJ5_afterNodeRemoval_6 (Or.inl q946) (Or.inl rfl) rfl e3 (hf88 c4) rfl ?_
  refine G_astore_n 10 [va_rf l0, va_rf l1, va_rf l1, va_rf (FR σ 88 a2), U_] dJ5_afterNodeRemoval_9 (Nat.le_of_ble_eq_true rfl) rfl rfl ?_
  refine G_aload_n 11 dJ5_afterNodeRemoval_10 rfl rfl ?_
  refine G_getR (f := 89) (a := a2) "" 14 dJ5_afterNodeRemoval_11 (Or.inl q948) (Or.inl rfl) rfl e3 (hf89 c4) rfl ?_
  refine G_astore 16 [va_rf l0, va_rf l1, va_rf l1, va_rf (FR σ 88 a2), va_rf (FR σ 89 a2)] dJ5_afterNodeRemoval_14 (Nat.le_of_ble_eq_true rfl) rfl rfl ?_
  refine G_aload_n 17 dJ5_afterNodeRemoval_16 rfl rfl ?_
  refine G_aload_n 18 dJ5_afterNodeRemoval_17 rfl rfl ?_
  refine G_null 19 dJ5_afterNodeRemoval_18 rfl ?_
  refine G_dup_x1 20 dJ5_afterNodeRemoval_19 (rf_cat _) (rf_cat _) rfl ?_
  refine G_putR (f := 89) (a := a2) "" 23 dJ5_afterNodeRemoval_20 (Or.inl q948) (Or.inl rfl) rfl e3 (hp89 c4) (nk89 c4) (Or.inl rfl) (fun y => by cases y <;> rfl) (fun y => by cases y <;> rfl) rfl ?_
  generalize hs5 : sFR σ 89 a2 none = s5
  have x6 : ∀ a, ¬ kd σ a = 0 → kd s5 a = kd σ a := by subst hs5; exact fun a _ => congrFun kd_sFR a
  have h := h s5 hs5.symm
  have c4 := kdM x6 c4 (by decide)
  refine G_putR (f := 88) (a := a2) "" 26 dJ5_afterNodeRemoval_23 (Or.inl q946) (Or.inl rfl) rfl e3 (hp88 c4) (nk88 c4) (Or.inl rfl) (fun y => by cases y <;> rfl) (fun y => by cases y <;> rfl) rfl ?_
  generalize hs7 : sFR s5 88 a2 none = s7
  have x8 : ∀ a, ¬ kd s5 a = 0 → kd s7 a = kd s5 a := by subst hs7; exact fun a _ => congrFun kd_sFR a
  have h := h s7 hs7.symm
  refine G_aload_n 27 dJ5_afterNodeRemoval_26 rfl rfl ?_
  refine G_ifnonnull 39 30 dJ5_afterNodeRemoval_27 (by decide) rfl (fun u9 => ?_) (fun u9 => ?_)
  · have h := h.1 u9
    refine G_aload_n 40 dJ5_afterNodeRemoval_39 rfl rfl ?_
    refine G_aload 42 dJ5_afterNodeRemoval_40 rfl rfl ?_
    obtain ⟨a10, e11, h⟩ := h
    obtain ⟨c12, h⟩ := h
    refine G_putR (f := 89) (a := a10) "" 45 dJ5_afterNodeRemoval_42 (Or.inl q948) (Or.inl rfl) rfl e11 (hp89 c12) (nk89 c12) (Or.inl rfl) (fun y => by cases y <;> rfl) (fun y => by cases y <;> rfl) rfl ?_
    generalize hs13 : sFR s7 89 a10 (FR σ 89 a2) = s13
    have x14 : ∀ a, ¬ kd s7 a = 0 → kd s13 a = kd s7 a := by subst hs13; exact fun a _ => congrFun kd_sFR a
    have h := h s13 hs13.symm
    refine G_aload 47 dJ5_afterNodeRemoval_45 rfl rfl ?_
    refine G_ifnonnull 58 50 dJ5_afterNodeRemoval_47 (by decide) rfl (fun u15 => ?_) (fun u15 => ?_)
    · have h := h.1 u15
      refine G_aload 60 dJ5_afterNodeRemoval_58 rfl rfl ?_
      refine G_aload_n 61 dJ5_afterNodeRemoval_60 rfl rfl ?_
      obtain ⟨a16, e17, h⟩ := h
      obtain ⟨c18, h⟩ := h
      refine G_putR (f := 88) (a := a16) "" 64 dJ5_afterNodeRemoval_61 (Or.inl q946) (Or.inl rfl) rfl e17 (hp88 c18) (nk88 c18) (Or.inl rfl) (fun y => by cases y <;> rfl) (fun y => by cases y <;> rfl) rfl ?_
      generalize hs19 : sFR s13 88 a16 (FR σ 88 a2) = s19
      have x20 : ∀ a, ¬ kd s13 a = 0 → kd s19 a = kd s13 a := by subst hs19; exact fun a _ => congrFun kd_sFR a
      have h := h s19 hs19.symm
      exact G_ret dJ5_afterNodeRemoval_64 rfl ⟨rfl, h⟩
    · have h := h.2 u15
      refine G_aload_n 51 dJ5_afterNodeRemoval_50 rfl rfl ?_
      refine G_aload_n 52 dJ5_afterNodeRemoval_51 rfl rfl ?_
      obtain ⟨a21, e22, h⟩ := h
      obtain ⟨c23, h⟩ := h
      refine G_putR (f := 63) (a := a21) "" 55 dJ5_afterNodeRemoval_52 (Or.inl q138) (Or.inl rfl) rfl e22 (hp63 c23) (nk63 c23) (Or.inl rfl) (fun y => by cases y <;> rfl) (fun y => by cases y <;> rfl) rfl ?_
      generalize hs24 : sFR s13 63 a21 (FR σ 88 a2) = s24
      have x25 : ∀ a, ¬ kd s13 a = 0 → kd s24 a = kd s13 a := by subst hs24; exact fun a _ => congrFun kd_sFR a
      have h := h s24 hs24.symm
      refine G_goto 64 dJ5_afterNodeRemoval_55 (by decide) ?_
      exact G_ret dJ5_afterNodeRemoval_64 rfl ⟨rfl, h⟩
  · have h := h.2 u9
    refine G_aload_n 31 dJ5_afterNodeRemoval_30 rfl rfl ?_
    refine G_aload 33 dJ5_afterNodeRemoval_31 rfl rfl ?_
    obtain ⟨a26, e27, h⟩ := h
    obtain ⟨c28, h⟩ := h
    refine G_putR (f := 62) (a := a26) "" 36 dJ5_afterNodeRemoval_33 (Or.inl q135) (Or.inl rfl) rfl e27 (hp62 c28) (nk62 c28) (Or.inl rfl) (fun y => by cases y <;> rfl) (fun y => by cases y <;> rfl) rfl ?_
    generalize hs29 : sFR s7 62 a26 (FR σ 89 a2) = s29
    have x30 : ∀ a, ¬ kd s7 a = 0 → kd s29 a = kd s7 a := by subst hs29; exact fun a _ => congrFun kd_sFR a
    have h := h s29 hs29.symm
    refine G_goto 45 dJ5_afterNodeRemoval_36 (by decide) ?_
    refine G_aload 47 dJ5_afterNodeRemoval_45 rfl rfl ?_
    refine G_ifnonnull 58 50 dJ5_afterNodeRemoval_47 (by decide) rfl (fun u31 => ?_) (fun u31 => ?_)
    · have h := h.1 u31
      refine G_aload 60 dJ5_afterNodeRemoval_58 rfl rfl ?_
      refine G_aload_n 61 dJ5_afterNodeRemoval_60 rfl rfl ?_
      obtain ⟨a32, e33, h⟩ := h
      obtain ⟨c34, h⟩ := h
      refine G_putR (f := 88) (a := a32) "" 64 dJ5_afterNodeRemoval_61 (Or.inl q946) (Or.inl rfl) rfl e33 (hp88 c34) (nk88 c34) (Or.inl rfl) (fun y => by cases y <;> rfl) (fun y => by cases y <;> rfl) rfl ?_
      generalize hs35 : sFR s29 88 a32 (FR σ 88 a2) = s35
      have x36 : ∀ a, ¬ kd s29 a = 0 → kd s35 a = kd s29 a := by subst hs35; exact fun a _ => congrFun kd_sFR a
      have h := h s35 hs35.symm
      exact G_ret dJ5_afterNodeRemoval_64 rfl ⟨rfl, h⟩
    · have h := h.2 u31
      refine G_aload_n 51 dJ5_afterNodeRemoval_50 rfl rfl ?_
      refine G_aload_n 52 dJ5_afterNodeRemoval_51 rfl rfl ?_
      have c28 := kdE x30 c28 (by decide)
      refine G_putR (f := 63) (a := a26) "" 55 dJ5_afterNodeRemoval_52 (Or.inl q138) (Or.inl rfl) rfl e27 (hp63 c28) (nk63 c28) (Or.inl rfl) (fun y => by cases y <;> rfl) (fun y => by cases y <;> rfl) rfl ?_
      generalize hs37 : sFR s29 63 a26 (FR σ 88 a2) = s37
      have x38 : ∀ a, ¬ kd s29 a = 0 → kd s37 a = kd s29 a := by subst hs37; exact fun a _ => congrFun kd_sFR a
      have h := h s37 hs37.symm
      refine G_goto 64 dJ5_afterNodeRemoval_55 (by decide) ?_
      exact G_ret dJ5_afterNodeRemoval_64 rfl ⟨rfl, h⟩
theorem eJ5_afterNodeRemoval {w : Wt} {K : Sg → Prop} {σ : Sg} (l0 : Option Nat) (l1 : Option Nat) (h : G w mJ5_afterNodeRemoval (KV K) 0 0 σ 0 [va_rf l0, va_rf l1, U_, U_, U_] []) : CalV w mJ5_afterNodeRemoval σ [va_rf l0, va_rf l1] K :=
  Cal.start 3 mJ5_afterNodeRemoval_plain (catR (catR cat0)) (Nat.le_of_ble_eq_true rfl) rfl h
set_option maxHeartbeats 4000000 in
theorem bJ14_init_0 {w : Wt} {K : Sg → Prop} {rc rs : Nat} {σ : Sg} (l0 : Option Nat) (h : ∃ a1, l0 = some a1 ∧ CalV w mJ0_init σ [va_rf l0] (fun s3 => Ext σ s3 → K s3)) : G w mJ14_init (KV K) (rc) (rs) σ 0 [va_rf l0] [] := by
  refine G_aload_n 1 dJ14_init_0 rfl rfl ?_
  obtain ⟨a1, e2, h⟩ := h
  refine G_invI (N := mJ0_init) (As := []) (st := []) (t := l0) (b := a1) (rc) (rs) "" 4 dJ14_init_1 (Or.inl q597) q102 q33 q103 rfl rfl rfl mJ0_init_args ⟨Nat.le_of_ble_eq_true rfl, Nat.le_of_ble_eq_true rfl⟩ e2 rfl (Nat.zero_le _) (le_b mJ0_init_c (Nat.le_refl _)) (le_b mJ0_init_s (Nat.le_refl _)) rfl (Cal.mono h ?_)
  rintro s3 v ⟨rfl, h⟩ hx4
  have h := h hx4
  have x5 := hx4.x
  show G w mJ14_init (KV K) (rc) (rs) s3 4 [va_rf l0] []
  exact G_ret dJ14_init_4 rfl ⟨rfl, h⟩
theorem eJ14_init {w : Wt} {K : Sg → Prop} {σ : Sg} (l0 : Option Nat) (h : G w mJ14_init (KV K) 0 0 σ 0 [va_rf l0] []) : CalV w mJ14_init σ [va_rf l0] K :=
  Cal.start 0 mJ14_init_plain (catR cat0) (Nat.le_of_ble_eq_true rfl) rfl h
set_option maxHeartbeats 4000000 in
theorem bJ16_init_0 {w : Wt} {K : Sg → Prop} {rc rs : Nat} {σ : Sg} (l0 : Option Nat) (l1 : Option Nat) (l2 : Int32) (h : ∃ a1, l0 = some a1 ∧ kd σ a1 = 25 ∧ ∀ s4, s4 = sFR σ 75 a1 l1 → CalV w mJ14_init s4 [va_rf l0] (fun s6 => Ext s4 s6 → (l2 = 0 ∨ l2 = 1) ∧ ∀ s10, s10 = sFI s6 74 a1 l2 → K s10)) : G w mJ16_init (KV K) (rc) (rs) σ 0 [va_rf l0, va_rf l1, .int l2] [] := by
  refine G_aload_n 1 dJ16_init_0 rfl rfl ?_
  refine G_aload_n 2 dJ16_init_1 rfl rfl ?_
  obtain ⟨a1, e2, h⟩ := h
  obtain ⟨c3, h⟩ := h
  refine G_putR (f := 75) (a := a1) "" 5 dJ16_init_2 (Or.inl q619) (Or.inl rfl) rfl e2 (hp75 c3) (nk75 c3) (Or.inr ⟨rfl, rfl, rfl⟩) (fun y => by cases y <;> rfl) (fun y => by cases y <;> rfl) rfl ?_
  generalize hs4 : sFR σ 75 a1 l1 = s4
  have x5 : ∀ a, ¬ kd σ a = 0 → kd s4 a = kd σ a := by subst hs4; exact fun a _ => congrFun kd_sFR a
  have h := h s4 hs4.symm
  refine G_aload_n 6 dJ16_init_5 rfl rfl ?_
  refine G_invI (N := mJ14_init) (As := []) (st := []) (t := l0) (b := a1) (rc) (rs) "" 9 dJ16_init_6 (Or.inl q617) q595 q52 q596 rfl rfl rfl mJ14_init_args ⟨Nat.le_of_ble_eq_true rfl, Nat.le_of_ble_eq_true rfl⟩ e2 rfl (Nat.zero_le _) (le_b mJ14_init_c (Nat.le_refl _)) (le_b mJ14_init_s (Nat.le_refl _)) rfl (Cal.mono h ?_)
  rintro s6 v ⟨rfl, h⟩ hx7
  have h := h hx7
  have x8 := hx7.x
  show G w mJ16_init (KV K) (rc) (rs) s6 9 [va_rf l0, va_rf l1, .int l2] []
  refine G_aload_n 10 dJ16_init_9 rfl rfl ?_
  refine G_iload_n 11 dJ16_init_10 rfl rfl ?_
  have c3 := kdE x5 c3 (by decide)
  have c3 := kdE x8 c3 (by decide)
  obtain ⟨c9, h⟩ := h
  refine G_putI (f := 74) (a := a1) "" 14 dJ16_init_11 (Or.inl q618) (Or.inl rfl) rfl e2 (hp74 c3) (nk74 c3) (Or.inr ⟨rfl, rfl, rfl⟩) (nar_bz c9).1 (nar_bz c9).2 rfl ?_
  generalize hs10 : sFI s6 74 a1 l2 = s10
  have x11 : ∀ a, ¬ kd s6 a = 0 → kd s10 a = kd s6 a := by subst hs10; exact fun a _ => congrFun kd_sFI a
  have h := h s10 hs10.symm
  exact G_ret dJ16_init_14 rfl ⟨rfl, h⟩
theorem eJ16_init {w : Wt} {K : Sg → Prop} {σ : Sg} (l0 : Option Nat) (l1 : Option Nat) (l2 : Int32) (h : G w mJ16_init (KV K) 0 0 σ 0 [va_rf l0, va_rf l1, .int l2] []) : CalV w mJ16_init σ [va_rf l0, va_rf l1, .int l2] K :=
  Cal.start 0 mJ16_init_plain (catR (catR (catI cat0))) (Nat.le_of_ble_eq_true rfl) rfl h
set_option maxHeartbeats 4000000 in
theorem bJ16_iterator_0 {w : Wt} {K : Sg → Option Nat → Prop} {rc rs : Nat} {σ : Sg} (l0 : Option Nat) (h : ∀ n2, n2 = nx σ → kd σ n2 = 0 → ∀ s3, s3 = nO σ 27 → ∃ a6, l0 = some a6 ∧ kd s3 a6 = 25 ∧ CalV w mJ23_init s3 [va_rf (some n2), va_rf (FR s3 75 a6), .int (FI s3 74 a6)] (fun s9 => Ext s3 s9 → K s9 (some n2))) : G w mJ16_iterator (KR K) (rc + 1) (rs + 5) σ 0 [va_rf l0] [] := by
  refine G_new (cc := 17) (kn := 27) (q := (RJ23, TJ23, 5)) (rc) (rs) 3 dJ16_iterator_0 rfl q728 q729 q61 rfl rfl (Nat.le_refl _) (Nat.le_refl _) (fun z1 => ?_)
  generalize hn2 : nx σ = n2 at z1 ⊢
  generalize hs3 : nO σ 27 = s3
  have x4 : ∀ a, ¬ kd σ a = 0 → kd s3 a = kd σ a := by subst hs3 hn2; exact kdNx z1
  have c5 : kd s3 n2 = 27 := by subst hs3 hn2; exact kdO_self
  have h := h n2 hn2.symm z1 s3 hs3.symm
  refine G_dup 4 dJ16_iterator_3 (rf_cat _) rfl ?_
  refine G_aload_n 5 dJ16_iterator_4 rfl rfl ?_
  obtain ⟨a6, e7, h⟩ := h
  obtain ⟨c8, h⟩ := h
  refine G_getR (f := 75) (a := a6) "" 8 dJ16_iterator_5 (Or.inl q619) (Or.inl rfl) rfl e7 (hf75 c8) rfl ?_
  refine G_aload_n 9 dJ16_iterator_8 rfl rfl ?_
  refine G_getI (f := 74) (a := a6) "" 12 dJ16_iterator_9 (Or.inl q618) (Or.inl rfl) rfl e7 (hf74 c8) rfl ?_
  refine G_invI (N := mJ23_init) (As := [va_rf (FR s3 75 a6), .int (FI s3 74 a6)]) (st := [va_rf (some n2)]) (t := (some n2)) (b := n2) (rc) (rs) "" 15 dJ16_iterator_12 (Or.inl q730) q731 q61 q732 rfl rfl rfl mJ23_init_args ⟨Nat.le_of_ble_eq_true rfl, Nat.le_of_ble_eq_true rfl⟩ rfl rfl (Nat.le_trans (w_R w_0) (Nat.le_of_ble_eq_true rfl)) (le_b mJ23_init_c (Nat.le_refl _)) (le_b mJ23_init_s (Nat.le_refl _)) rfl (Cal.mono h ?_)
  rintro s9 v ⟨rfl, h⟩ hx10
  have h := h hx10
  have x11 := hx10.x
  show G w mJ16_iterator (KR K) (rc) (rs) s9 15 [va_rf l0] [va_rf (some n2)]
  exact G_aret dJ16_iterator_15 rfl (Or.inl ⟨_, rfl⟩) ⟨_, rfl, h⟩
theorem eJ16_iterator {w : Wt} {K : Sg → Option Nat → Prop} {σ : Sg} (l0 : Option Nat) (h : G w mJ16_iterator (KR K) 1 5 σ 0 [va_rf l0] []) : CalR w mJ16_iterator σ [va_rf l0] K :=
  Cal.start 0 mJ16_iterator_plain (catR cat0) (Nat.le_of_ble_eq_true rfl) rfl h
set_option maxHeartbeats 4000000 in
theorem bJ21_init_0 {w : Wt} {K : Sg → Prop} {rc rs : Nat} {σ : Sg} (l0 : Option Nat) (l1 : Option Nat) (l2 : Int32) (h : ∃ a1, l0 = some a1 ∧ kd σ a1 = 26 ∧ ∀ s4, s4 = sFR σ 77 a1 l1 → CalV w mJ14_init s4 [va_rf l0] (fun s6 => Ext s4 s6 → (l2 = 0 ∨ l2 = 1) ∧ ∀ s10, s10 = sFI s6 76 a1 l2 → K s10)) : G w mJ21_init (KV K) (rc) (rs) σ 0 [va_rf l0, va_rf l1, .int l2] [] := by
  refine G_aload_n 1 dJ21_init_0 rfl rfl ?_
  refine G_aload_n 2 dJ21_init_1 rfl rfl ?_
  obtain ⟨a1, e2, h⟩ := h
  obtain ⟨c3, h⟩ := h
  refine G_putR (f := 77) (a := a1) "" 5 dJ21_init_2 (Or.inl q703) (Or.inl rfl) rfl e2 (hp77 c3) (nk77 c3) (Or.inr ⟨rfl, rfl, rfl⟩) (fun y => by cases y <;> rfl) (fun y => by cases y <;> rfl) rfl ?_
  generalize hs4 : sFR σ 77 a1 l1 = s4
  have x5 : ∀ a, ¬ kd σ a = 0 → kd s4 a = kd σ a := by subst hs4; exact fun a _ => congrFun kd_sFR a
  have h := h s4 hs4.symm
  refine G_aload_n 6 dJ21_init_5 rfl rfl ?_
  refine G_invI (N := mJ14_init) (As := []) (st := []) (t := l0) (b := a1) (rc) (rs) "" 9 dJ21_init_6 (Or.inl q701) q595 q52 q596 rfl rfl rfl mJ14_init_args ⟨Nat.le_of_ble_eq_true rfl, Nat.le_of_ble_eq_true rfl⟩ e2 rfl (Nat.zero_le _) (le_b mJ14_init_c (Nat.le_refl _)) (le_b mJ14_init_s (Nat.le_refl _)) rfl (Cal.mono h ?_)
  rintro s6 v ⟨rfl, h⟩ hx7
  have h := h hx7
  have x8 := hx7.x
  show G w mJ21_init (KV K) (rc) (rs) s6 9 [va_rf l0, va_rf l1, .int l2] []
  refine G_aload_n 10 dJ21_init_9 rfl rfl ?_
  refine G_iload_n 11 dJ21_init_10 rfl rfl ?_
  have c3 := kdE x5 c3 (by decide)
  have c3 := kdE x8 c3 (by decide)
  obtain ⟨c9, h⟩ := h
  refine G_putI (f := 76) (a := a1) "" 14 dJ21_init_11 (Or.inl q702) (Or.inl rfl) rfl e2 (hp76 c3) (nk76 c3) (Or.inr ⟨rfl, rfl, rfl⟩) (nar_bz c9).1 (nar_bz c9).2 rfl ?_
  generalize hs10 : sFI s6 76 a1 l2 = s10
  have x11 : ∀ a, ¬ kd s6 a = 0 → kd s10 a = kd s6 a := by subst hs10; exact fun a _ => congrFun kd_sFI a
  have h := h s10 hs10.symm
  exact G_ret dJ21_init_14 rfl ⟨rfl, h⟩
theorem eJ21_init {w : Wt} {K : Sg → Prop} {σ : Sg} (l0 : Option Nat) (l1 : Option Nat) (l2 : Int32) (h : G w mJ21_init (KV K) 0 0 σ 0 [va_rf l0, va_rf l1, .int l2] []) : CalV w mJ21_init σ [va_rf l0, va_rf l1, .int l2] K :=
  Cal.start 0 mJ21_init_plain (catR (catR (catI cat0))) (Nat.le_of_ble_eq_true rfl) rfl h
set_option maxHeartbeats 4000000 in
theorem bJ21_iterator_0 {w : Wt} {K : Sg → Option Nat → Prop} {rc rs : Nat} {σ : Sg} (l0 : Option Nat) (h : ∀ n2, n2 = nx σ → kd σ n2 = 0 → ∀ s3, s3 = nO σ 28 → ∃ a6, l0 = some a6 ∧ kd s3 a6 = 26 ∧ CalV w mJ24_init s3 [va_rf (some n2), va_rf (FR s3 77 a6), .int (FI s3 76 a6)] (fun s9 => Ext s3 s9 → K s9 (some n2))) : G w mJ21_iterator (KR K) (rc + 1) (rs + 5) σ 0 [va_rf l0] [] := by
  refine G_new (cc := 18) (kn := 28) (q := (RJ24, TJ24, 5)) (rc) (rs) 3 dJ21_iterator_0 rfl q759 q760 q62 rfl rfl (Nat.le_refl _) (Nat.le_refl _) (fun z1 => ?_)
  generalize hn2 : nx σ = n2 at z1 ⊢
  generalize hs3 : nO σ 28 = s3
  have x4 : ∀ a, ¬ kd σ a = 0 → kd s3 a = kd σ a := by subst hs3 hn2; exact kdNx z1
  have c5 : kd s3 n2 = 28 := by subst hs3 hn2; exact kdO_self
  have h := h n2 hn2.symm z1 s3 hs3.symm
  refine G_dup 4 dJ21_iterator_3 (rf_cat _) rfl ?_
  refine G_aload_n 5 dJ21_iterator_4 rfl rfl ?_
  obtain ⟨a6, e7, h⟩ := h
  obtain ⟨c8, h⟩ := h
  refine G_getR (f := 77) (a := a6) "" 8 dJ21_iterator_5 (Or.inl q703) (Or.inl rfl) rfl e7 (hf77 c8) rfl ?_
  refine G_aload_n 9 dJ21_iterator_8 rfl rfl ?_
  refine G_getI (f := 76) (a := a6) "" 12 dJ21_iterator_9 (Or.inl q702) (Or.inl rfl) rfl e7 (hf76 c8) rfl ?_
  refine G_invI (N := mJ24_init) (As := [va_rf (FR s3 77 a6), .int (FI s3 76 a6)]) (st := [va_rf (some n2)]) (t := (some n2)) (b := n2) (rc) (rs) "" 15 dJ21_iterator_12 (Or.inl q761) q762 q62 q763 rfl rfl rfl mJ24_init_args ⟨Nat.le_of_ble_eq_true rfl, Nat.le_of_ble_eq_true rfl⟩ rfl rfl (Nat.le_trans (w_R w_0) (Nat.le_of_ble_eq_true rfl)) (le_b mJ24_init_c (Nat.le_refl _)) (le_b mJ24_init_s (Nat.le_refl _)) rfl (Cal.mono h ?_)
  rintro s9 v ⟨rfl, h⟩ hx10
  have h := h hx10
  have x11 := hx10.x
  show G w mJ21_iterator (KR K) (rc) (rs) s9 15 [va_rf l0] [va_rf (some n2)]
  exact G_aret dJ21_iterator_15 rfl (Or.inl ⟨_, rfl⟩) ⟨_, rfl, h⟩
theorem eJ21_iterator {w : Wt} {K : Sg → Option Nat → Prop} {σ : Sg} (l0 : Option Nat) (h : G w mJ21_iterator (KR K) 1 5 σ 0 [va_rf l0] []) : CalR w mJ21_iterator σ [va_rf l0] K :=
  Cal.start 0 mJ21_iterator_plain (catR cat0) (Nat.le_of_ble_eq_true rfl) rfl h
set_option maxHeartbeats 4000000 in
theorem bJ22_hasNext_0 {w : Wt} {K : Sg → Int32 → Prop} {rc rs : Nat} {σ : Sg} (l0 : Option Nat) (h : ∃ a1, l0 = some a1 ∧ kd σ a1 ∈ [27, 28] ∧ ((FR σ 78 a1 = none → K σ 0) ∧ (¬ FR σ 78 a1 = none → K σ 1))) : G w mJ22_hasNext (KI K) (rc) (rs) σ 0 [va_rf l0] [] := by
  refine G_aload_n 1 dJ22_hasNext_0 rfl rfl ?_
  obtain ⟨a1, e2, h⟩ := h
  obtain ⟨c3, h⟩ := h
  refine G_getR (f := 78) (a := a1) "" 4 dJ22_hasNext_1 (Or.inl q737) (Or.inl rfl) rfl e2 (hf78 c3) rfl ?_
  refine G_ifnull 11 7 dJ22_hasNext_4 (by decide) rfl (fun u4 => ?_) (fun u4 => ?_)
  · have h := h.1 u4
    refine G_iconst (v := 0) 12 dJ22_hasNext_11 (by decide) rfl ?_
    exact G_zret dJ22_hasNext_12 rfl rfl ⟨_, rfl, h⟩
  · have h := h.2 u4
    refine G_iconst (v := 1) 8 dJ22_hasNext_7 (by decide) rfl ?_
    refine G_goto 12 dJ22_hasNext_8 (by decide) ?_
    exact G_zret dJ22_hasNext_12 rfl rfl ⟨_, rfl, h⟩
theorem eJ22_hasNext {w : Wt} {K : Sg → Int32 → Prop} {σ : Sg} (l0 : Option Nat) (h : G w mJ22_hasNext (KI K) 0 0 σ 0 [va_rf l0] []) : CalI w mJ22_hasNext σ [va_rf l0] K :=
  Cal.start 0 mJ22_hasNext_plain (catR cat0) (Nat.le_of_ble_eq_true rfl) rfl h
set_option maxHeartbeats 4000000 in
theorem bJ22_nextNode_0 {w : Wt} {K : Sg → Option Nat → Prop} {rc rs : Nat} {σ : Sg} (l0 : Option Nat) (h : ∃ a1, l0 = some a1 ∧ kd σ a1 ∈ [27, 28] ∧ ∃ a4, FR σ 82 a1 = some a4 ∧ kd σ a4 ∈ [21, 22] ∧ ((FI σ 59 a4 = FI σ 80 a1 → ((¬ FR σ 78 a1 = none → ∀ s9, s9 = sFR σ 79 a1 (FR σ 78 a1) → ((FI s9 81 a1 = 0 → ∃ a12, FR σ 78 a1 = some a12 ∧ kd s9 a12 ∈ [31, 32] ∧ ∀ s15, s15 = sFR s9 78 a1 (FR s9 89 a12) → K s15 (FR σ 78 a1)) ∧ (¬ FI s9 81 a1 = 0 → ∃ a17, FR σ 78 a1 = some a17 ∧ kd s9 a17 ∈ [31, 32] ∧ ∀ s20, s20 = sFR s9 78 a1 (FR s9 88 a17) → K s20 (FR σ 78 a1)))) ∧ (FR σ 78 a1 = none → False))) ∧ (¬ FI σ 59 a4 = FI σ 80 a1 → False))) : G w mJ22_nextNode (KR K) (rc) (rs) σ 0 [va_rf l0, U_] [] := by
  refine G_aload_n 1 dJ22_nextNode_0 rfl rfl ?_
  obtain ⟨a1, e2, h⟩ := h
  obtain ⟨c3, h⟩ := h
  refine G_getR (f := 78) (a := a1) "" 4 dJ22_nextNode_1 (Or.inl q737) (Or.inl rfl) rfl e2 (hf78 c3) rfl ?_
  refine G_astore_n 5 [va_rf l0, va_rf (FR σ 78 a1)] dJ22_nextNode_4 (Nat.le_of_ble_eq_true rfl) rfl rfl ?_
  refine G_aload_n 6 dJ22_nextNode_5 rfl rfl ?_
  refine G_getR (f := 82) (a := a1) "" 9 dJ22_nextNode_6 (Or.inl q741) (Or.inl rfl) rfl e2 (hf82 c3) rfl ?_
  obtain ⟨a4, e5, h⟩ := h
  obtain ⟨c6, h⟩ := h
  refine G_getI (f := 59) (a := a4) "" 12 dJ22_nextNode_9 (Or.inl q149) (Or.inr q150) rfl e5 (hf59 c6) rfl ?_
  refine G_aload_n 13 dJ22_nextNode_12 rfl rfl ?_
  refine G_getI (f := 80) (a := a1) "" 16 dJ22_nextNode_13 (Or.inl q739) (Or.inl rfl) rfl e2 (hf80 c3) rfl ?_
  refine G_icmp_eq 27 19 dJ22_nextNode_16 (by decide) rfl (fun u7 => ?_) (fun u7 => ?_)
  · have h := h.1 u7
    refine G_aload_n 28 dJ22_nextNode_27 rfl rfl ?_
    refine G_ifnonnull 39 31 dJ22_nextNode_28 (by decide) rfl (fun u8 => ?_) (fun u8 => ?_)
    · have h := h.1 u8
      refine G_aload_n 40 dJ22_nextNode_39 rfl rfl ?_
      refine G_aload_n 41 dJ22_nextNode_40 rfl rfl ?_
      refine G_putR (f := 79) (a := a1) "" 44 dJ22_nextNode_41 (Or.inl q738) (Or.inl rfl) rfl e2 (hp79 c3) (nk79 c3) (Or.inl rfl) (fun y => by cases y <;> rfl) (fun y => by cases y <;> rfl) rfl ?_
      generalize hs9 : sFR σ 79 a1 (FR σ 78 a1) = s9
      have x10 : ∀ a, ¬ kd σ a = 0 → kd s9 a = kd σ a := by subst hs9; exact fun a _ => congrFun kd_sFR a
      have h := h s9 hs9.symm
      refine G_aload_n 45 dJ22_nextNode_44 rfl rfl ?_
      refine G_aload_n 46 dJ22_nextNode_45 rfl rfl ?_
      have c3 := kdM x10 c3 (by decide)
      refine G_getI (f := 81) (a := a1) "" 49 dJ22_nextNode_46 (Or.inl q740) (Or.inl rfl) rfl e2 (hf81 c3) rfl ?_
      refine G_if_eq 59 52 dJ22_nextNode_49 (by decide) rfl (fun u11 => ?_) (fun u11 => ?_)
      · have h := h.1 u11
        refine G_aload_n 60 dJ22_nextNode_59 rfl rfl ?_
        obtain ⟨a12, e13, h⟩ := h
        obtain ⟨c14, h⟩ := h
        refine G_getR (f := 89) (a := a12) "" 63 dJ22_nextNode_60 (Or.inl q949) (Or.inl rfl) rfl e13 (hf89 c14) rfl ?_
        refine G_putR (f := 78) (a := a1) "" 66 dJ22_nextNode_63 (Or.inl q737) (Or.inl rfl) rfl e2 (hp78 c3) (nk78 c3) (Or.inl rfl) (fun y => by cases y <;> rfl) (fun y => by cases y <;> rfl) rfl ?_
        generalize hs15 : sFR s9 78 a1 (FR s9 89 a12) = s15
        have x16 : ∀ a, ¬ kd s9 a = 0 → kd s15 a = kd s9 a := by subst hs15; exact fun a _ => congrFun kd_sFR a
        have h := h s15 hs15.symm
        refine G_aload_n 67 dJ22_nextNode_66 rfl rfl ?_
        exact G_aret dJ22_nextNode_67 rfl (Or.inl ⟨_, rfl⟩) ⟨_, rfl, h⟩
      · have h := h.2 u11
        refine G_aload_n 53 dJ22_nextNode_52 rfl rfl ?_
        obtain ⟨a17, e18, h⟩ := h
        obtain ⟨c19, h⟩ := h
        refine G_getR (f := 88) (a := a17) "" 56 dJ22_nextNode_53 (Or.inl q947) (Or.inl rfl) rfl e18 (hf88 c19) rfl ?_
        refine G_goto 63 dJ22_nextNode_56 (by decide) ?_
        refine G_putR (f := 78) (a := a1) "" 66 dJ22_nextNode_63 (Or.inl q737) (Or.inl rfl) rfl e2 (hp78 c3) (nk78 c3) (Or.inl rfl) (fun y => by cases y <;> rfl) (fun y => by cases y <;> rfl) rfl ?_
        generalize hs20 : sFR s9 78 a1 (FR s9 88 a17) = s20
        have x21 : ∀ a, ¬ kd s9 a = 0 → kd s20 a = kd s9 a := by subst hs20; exact fun a _ => congrFun kd_sFR a
        have h := h s20 hs20.symm
        refine G_aload_n 67 dJ22_nextNode_66 rfl rfl ?_
        exact G_aret dJ22_nextNode_67 rfl (Or.inl ⟨_, rfl⟩) ⟨_, rfl, h⟩
    · have h := h.2 u8
      exact h.elim
  · have h := h.2 u7
    exact h.elim
theorem eJ22_nextNode {w : Wt} {K : Sg → Option Nat → Prop} {σ : Sg} (l0 : Option Nat) (h : G w mJ22_nextNode (KR K) 0 0 σ 0 [va_rf l0, U_] []) : CalR w mJ22_nextNode σ [va_rf l0] K :=
  Cal.start 1 mJ22_nextNode_plain (catR cat0) (Nat.le_of_ble_eq_true rfl) rfl h
set_option maxHeartbeats 4000000 in
theorem bJ22_init_0 {w : Wt} {K : Sg → Prop} {rc rs : Nat} {σ : Sg} (l0 : Option Nat) (l1 : Option Nat) (l2 : Int32) (h : ∃ a1, l0 = some a1 ∧ kd σ a1 ∈ [27, 28] ∧ ∀ s4, s4 = sFR σ 82 a1 l1 → (l2 = 0 ∨ l2 = 1) ∧ ∀ s7, s7 = sFI s4 81 a1 l2 → ((l2 = 0 → ∃ a10, l1 = some a10 ∧ kd s7 a10 = 21 ∧ ∀ s13, s13 = sFR s7 78 a1 (FR s7 62 a10) → ∀ s15, s15 = sFI s13 80 a1 (FI s13 59 a10) → ∀ s17, s17 = sFR s15 79 a1 none → K s17) ∧ (¬ l2 = 0 → ∃ a19, l1 = some a19 ∧ kd s7 a19 = 21 ∧ ∀ s22, s22 = sFR s7 78 a1 (FR s7 63 a19) → ∀ s24, s24 = sFI s22 80 a1 (FI s22 59 a19) → ∀ s26, s26 = sFR s24 79 a1 none → K s26))) : G w mJ22_init (KV K) (rc) (rs) σ 0 [va_rf l0, va_rf l1, .int l2] [] := by
  refine G_aload_n 1 dJ22_init_0 rfl rfl ?_
  refine G_aload_n 2 dJ22_init_1 rfl rfl ?_
  obtain ⟨a1, e2, h⟩ := h
  obtain ⟨c3, h⟩ := h
  refine G_putR (f := 82) (a := a1) "" 5 dJ22_init_2 (Or.inl q741) (Or.inl rfl) rfl e2 (hp82 c3) (nk82 c3) (Or.inr ⟨rfl, rfl, rfl⟩) (fun y => by cases y <;> rfl) (fun y => by cases y <;> rfl) rfl ?_
  generalize hs4 : sFR σ 82 a1 l1 = s4
  have x5 : ∀ a, ¬ kd σ a = 0 → kd s4 a = kd σ a := by subst hs4; exact fun a _ => congrFun kd_sFR a
  have h := h s4 hs4.symm
  refine G_aload_n 6 dJ22_init_5 rfl rfl ?_
  refine G_objInit (b := a1) 9 dJ22_init_6 q736 q85 q86 rfl e2 (Nat.zero_le _) (Nat.le_of_ble_eq_true rfl) (Nat.le_of_ble_eq_true rfl) ?_
  refine G_aload_n 10 dJ22_init_9 rfl rfl ?_
  refine G_iload_n 11 dJ22_init_10 rfl rfl ?_
  have c3 := kdM x5 c3 (by decide)
  obtain ⟨c6, h⟩ := h
  refine G_putI (f := 81) (a := a1) "" 14 dJ22_init_11 (Or.inl q740) (Or.inl rfl) rfl e2 (hp81 c3) (nk81 c3) (Or.inl rfl) (nar_bz c6).1 (nar_bz c6).2 rfl ?_
  generalize hs7 : sFI s4 81 a1 l2 = s7
  have x8 : ∀ a, ¬ kd s4 a = 0 → kd s7 a = kd s4 a := by subst hs7; exact fun a _ => congrFun kd_sFI a
  have h := h s7 hs7.symm
  refine G_aload_n 15 dJ22_init_14 rfl rfl ?_
  refine G_iload_n 16 dJ22_init_15 rfl rfl ?_
  refine G_if_eq 26 19 dJ22_init_16 (by decide) rfl (fun u9 => ?_) (fun u9 => ?_)
  · have h := h.1 u9
    refine G_aload_n 27 dJ22_init_26 rfl rfl ?_
    obtain ⟨a10, e11, h⟩ := h
    obtain ⟨c12, h⟩ := h
    refine G_getR (f := 62) (a := a10) "" 30 dJ22_init_27 (Or.inl q136) (Or.inl rfl) rfl e11 (hf62 c12) rfl ?_
    have c3 := kdM x8 c3 (by decide)
    refine G_putR (f := 78) (a := a1) "" 33 dJ22_init_30 (Or.inl q737) (Or.inl rfl) rfl e2 (hp78 c3) (nk78 c3) (Or.inl rfl) (fun y => by cases y <;> rfl) (fun y => by cases y <;> rfl) rfl ?_
    generalize hs13 : sFR s7 78 a1 (FR s7 62 a10) = s13
    have x14 : ∀ a, ¬ kd s7 a = 0 → kd s13 a = kd s7 a := by subst hs13; exact fun a _ => congrFun kd_sFR a
    have h := h s13 hs13.symm
    refine G_aload_n 34 dJ22_init_33 rfl rfl ?_
    refine G_aload_n 35 dJ22_init_34 rfl rfl ?_
    have c12 := kdE x14 c12 (by decide)
    refine G_getI (f := 59) (a := a10) "" 38 dJ22_init_35 (Or.inl q149) (Or.inr q150) rfl e11 (hf59 (memE c12 (by decide))) rfl ?_
    have c3 := kdM x14 c3 (by decide)
    refine G_putI (f := 80) (a := a1) "" 41 dJ22_init_38 (Or.inl q739) (Or.inl rfl) rfl e2 (hp80 c3) (nk80 c3) (Or.inl rfl) rfl rfl rfl ?_
    generalize hs15 : sFI s13 80 a1 (FI s13 59 a10) = s15
    have x16 : ∀ a, ¬ kd s13 a = 0 → kd s15 a = kd s13 a := by subst hs15; exact fun a _ => congrFun kd_sFI a
    have h := h s15 hs15.symm
    refine G_aload_n 42 dJ22_init_41 rfl rfl ?_
    refine G_null 43 dJ22_init_42 rfl ?_
    have c3 := kdM x16 c3 (by decide)
    refine G_putR (f := 79) (a := a1) "" 46 dJ22_init_43 (Or.inl q738) (Or.inl rfl) rfl e2 (hp79 c3) (nk79 c3) (Or.inl rfl) (fun y => by cases y <;> rfl) (fun y => by cases y <;> rfl) rfl ?_
    generalize hs17 : sFR s15 79 a1 none = s17
    have x18 : ∀ a, ¬ kd s15 a = 0 → kd s17 a = kd s15 a := by subst hs17; exact fun a _ => congrFun kd_sFR a
    have h := h s17 hs17.symm
    exact G_ret dJ22_init_46 rfl ⟨rfl, h⟩
  · have h := h.2 u9
    refine G_aload_n 20 dJ22_init_19 rfl rfl ?_
    obtain ⟨a19, e20, h⟩ := h
    obtain ⟨c21, h⟩ := h
    refine G_getR (f := 63) (a := a19) "" 23 dJ22_init_20 (Or.inl q137) (Or.inl rfl) rfl e20 (hf63 c21) rfl ?_
    refine G_goto 30 dJ22_init_23 (by decide) ?_
    have c3 := kdM x8 c3 (by decide)
    refine G_putR (f := 78) (a := a1) "" 33 dJ22_init_30 (Or.inl q737) (Or.inl rfl) rfl e2 (hp78 c3) (nk78 c3) (Or.inl rfl) (fun y => by cases y <;> rfl) (fun y => by cases y <;> rfl) rfl ?_
    generalize hs22 : sFR s7 78 a1 (FR s7 63 a19) = s22
    have x23 : ∀ a, ¬ kd s7 a = 0 → kd s22 a = kd s7 a := by subst hs22; exact fun a _ => congrFun kd_sFR a
    have h := h s22 hs22.symm
    refine G_aload_n 34 dJ22_init_33 rfl rfl ?_
    refine G_aload_n 35 dJ22_init_34 rfl rfl ?_
    have c21 := kdE x23 c21 (by decide)
    refine G_getI (f := 59) (a := a19) "" 38 dJ22_init_35 (Or.inl q149) (Or.inr q150) rfl e20 (hf59 (memE c21 (by decide))) rfl ?_
    have c3 := kdM x23 c3 (by decide)
    refine G_putI (f := 80) (a := a1) "" 41 dJ22_init_38 (Or.inl q739) (Or.inl rfl) rfl e2 (hp80 c3) (nk80 c3) (Or.inl rfl) rfl rfl rfl ?_
    generalize hs24 : sFI s22 80 a1 (FI s22 59 a19) = s24
    have x25 : ∀ a, ¬ kd s22 a = 0 → kd s24 a = kd s22 a := by subst hs24; exact fun a _ => congrFun kd_sFI a
    have h := h s24 hs24.symm
    refine G_aload_n 42 dJ22_init_41 rfl rfl ?_
    refine G_null 43 dJ22_init_42 rfl ?_
    have c3 := kdM x25 c3 (by decide)
    refine G_putR (f := 79) (a := a1) "" 46 dJ22_init_43 (Or.inl q738) (Or.inl rfl) rfl e2 (hp79 c3) (nk79 c3) (Or.inl rfl) (fun y => by cases y <;> rfl) (fun y => by cases y <;> rfl) rfl ?_
    generalize hs26 : sFR s24 79 a1 none = s26
    have x27 : ∀ a, ¬ kd s24 a = 0 → kd s26 a = kd s24 a := by subst hs26; exact fun a _ => congrFun kd_sFR a
    have h := h s26 hs26.symm
    exact G_ret dJ22_init_46 rfl ⟨rfl, h⟩
theorem eJ22_init {w : Wt} {K : Sg → Prop} {σ : Sg} (l0 : Option Nat) (l1 : Option Nat) (l2 : Int32) (h : G w mJ22_init (KV K) 0 0 σ 0 [va_rf l0, va_rf l1, .int l2] []) : CalV w mJ22_init σ [va_rf l0, va_rf l1, .int l2] K :=
  Cal.start 0 mJ22_init_plain (catR (catR (catI cat0))) (Nat.le_of_ble_eq_true rfl) rfl h
set_option maxHeartbeats 4000000 in
theorem bJ23_next_0 {w : Wt} {K : Sg → Option Nat → Prop} {rc rs : Nat} {σ : Sg} (l0 : Option Nat) (h : ∃ a1, l0 = some a1 ∧ kd σ a1 = 27 ∧ CalR w mJ23_next_2 σ [va_rf l0] (fun s3 x4 => Ext σ s3 → K s3 x4)) : G w mJ23_next (KR K) (rc) (rs) σ 0 [va_rf l0] [] := by
  refine G_aload_n 1 dJ23_next_0 rfl rfl ?_
  obtain ⟨a1, e2, h⟩ := h
  obtain ⟨c5, h⟩ := h
  refine G_invV (N := mJ23_next_2) (As := []) (st := []) (t := l0) (b := a1) (rc) (rs) 4 dJ23_next_1 q439 q440 q441 q61 q442 rfl rfl mJ23_next_2_args ⟨Nat.le_of_ble_eq_true rfl, Nat.le_of_ble_eq_true rfl⟩ rfl (Nat.zero_le _) e2 (rk27 c5) (le_b mJ23_next_2_c (Nat.le_refl _)) (le_b mJ23_next_2_s (Nat.le_refl _)) rfl (Cal.mono h ?_)
  rintro s3 v ⟨x4, rfl, h⟩ hx6
  have h := h hx6
  have x7 := hx6.x
  show G w mJ23_next (KR K) (rc) (rs) s3 4 [va_rf l0] [va_rf x4]
  exact G_aret dJ23_next_4 rfl (Or.inl ⟨_, rfl⟩) ⟨_, rfl, h⟩
theorem eJ23_next {w : Wt} {K : Sg → Option Nat → Prop} {σ : Sg} (l0 : Option Nat) (h : G w mJ23_next (KR K) 0 0 σ 0 [va_rf l0] []) : CalR w mJ23_next σ [va_rf l0] K :=
  Cal.start 0 mJ23_next_plain (catR cat0) (Nat.le_of_ble_eq_true rfl) rfl h
set_option maxHeartbeats 4000000 in
theorem bJ23_next_2_0 {w : Wt} {K : Sg → Option Nat → Prop} {rc rs : Nat} {σ : Sg} (l0 : Option Nat) (h : ∃ a1, l0 = some a1 ∧ kd σ a1 = 27 ∧ CalR w mJ22_nextNode σ [va_rf l0] (fun s3 x4 => Ext σ s3 → K s3 x4)) : G w mJ23_next_2 (KR K) (rc) (rs) σ 0 [va_rf l0] [] := by
  refine G_aload_n 1 dJ23_next_2_0 rfl rfl ?_
  obtain ⟨a1, e2, h⟩ := h
  obtain ⟨c5, h⟩ := h
  refine G_invU (N := mJ22_nextNode) (owner := "java/util/LinkedHashMap$LinkedHashIterator") (x := ⟨"java/util/LinkedHashMap$LinkedEntryIterator", "nextNode", "()Ljava/util/LinkedHashMap$Entry;"⟩) (As := []) (st := []) (t := l0) (b := a1) (rc) (rs) 4 dJ23_next_2_1 q443 q444 q446 q447 q60 q448 (Or.inl rfl) rfl ax16 ⟨Nat.le_of_ble_eq_true rfl, Nat.le_of_ble_eq_true rfl⟩ rfl (Nat.zero_le _) e2 (rk27 c5) (le_b mJ22_nextNode_c (Nat.le_refl _)) (le_b mJ22_nextNode_s (Nat.le_refl _)) rfl (Cal.mono h ?_)
  rintro s3 v ⟨x4, rfl, h⟩ hx6
  have h := h hx6
  have x7 := hx6.x
  show G w mJ23_next_2 (KR K) (rc) (rs) s3 4 [va_rf l0] [va_rf x4]
  exact G_aret dJ23_next_2_4 rfl (Or.inl ⟨_, rfl⟩) ⟨_, rfl, h⟩
theorem eJ23_next_2 {w : Wt} {K : Sg → Option Nat → Prop} {σ : Sg} (l0 : Option Nat) (h : G w mJ23_next_2 (KR K) 0 0 σ 0 [va_rf l0] []) : CalR w mJ23_next_2 σ [va_rf l0] K :=
  Cal.start 0 mJ23_next_2_plain (catR cat0) (Nat.le_of_ble_eq_true rfl) rfl h
set_option maxHeartbeats 4000000 in
theorem bJ23_init_0 {w : Wt} {K : Sg → Prop} {rc rs : Nat} {σ : Sg} (l0 : Option Nat) (l1 : Option Nat) (l2 : Int32) (h : ∃ a1, l0 = some a1 ∧ CalV w mJ22_init σ [va_rf l0, va_rf l1, .int l2] (fun s3 => Ext σ s3 → K s3)) : G w mJ23_init (KV K) (rc) (rs) σ 0 [va_rf l0, va_rf l1, .int l2] [] := by
  refine G_aload_n 1 dJ23_init_0 rfl rfl ?_
  refine G_aload_n 2 dJ23_init_1 rfl rfl ?_
  refine G_iload_n 3 dJ23_init_2 rfl rfl ?_
  obtain ⟨a1, e2, h⟩ := h
  refine G_invI (N := mJ22_init) (As := [va_rf l1, .int l2]) (st := []) (t := l0) (b := a1) (rc) (rs) "" 6 dJ23_init_3 (Or.inl q733) q734 q60 q735 rfl rfl rfl mJ22_init_args ⟨Nat.le_of_ble_eq_true rfl, Nat.le_of_ble_eq_true rfl⟩ e2 rfl (Nat.zero_le _) (le_b mJ22_init_c (Nat.le_refl _)) (le_b mJ22_init_s (Nat.le_refl _)) rfl (Cal.mono h ?_)
  rintro s3 v ⟨rfl, h⟩ hx4
  have h := h hx4
  have x5 := hx4.x
  show G w mJ23_init (KV K) (rc) (rs) s3 6 [va_rf l0, va_rf l1, .int l2] []
  exact G_ret dJ23_init_6 rfl ⟨rfl, h⟩
theorem eJ23_init {w : Wt} {K : Sg → Prop} {σ : Sg} (l0 : Option Nat) (l1 : Option Nat) (l2 : Int32) (h : G w mJ23_init (KV K) 0 0 σ 0 [va_rf l0, va_rf l1, .int l2] []) : CalV w mJ23_init σ [va_rf l0, va_rf l1, .int l2] K :=
  Cal.start 0 mJ23_init_plain (catR (catR (catI cat0))) (Nat.le_of_ble_eq_true rfl) rfl h
set_option maxHeartbeats 4000000 in
theorem bJ24_next_0 {w : Wt} {K : Sg → Option Nat → Prop} {rc rs : Nat} {σ : Sg} (l0 : Option Nat) (h : ∃ a1, l0 = some a1 ∧ kd σ a1 = 28 ∧ CalR w mJ22_nextNode σ [va_rf l0] (fun s3 x4 => Ext σ s3 → ∃ a8, x4 = some a8 ∧ kd s3 a8 ∈ [31, 32] ∧ CalR w mJ28_getKey s3 [va_rf x4] (fun s10 x11 => Ext s3 s10 → K s10 x11))) : G w mJ24_next (KR K) (rc) (rs) σ 0 [va_rf l0] [] := by
  refine G_aload_n 1 dJ24_next_0 rfl rfl ?_
  obtain ⟨a1, e2, h⟩ := h
  obtain ⟨c5, h⟩ := h
  refine G_invU (N := mJ22_nextNode) (owner := "java/util/LinkedHashMap$LinkedHashIterator") (x := ⟨"java/util/LinkedHashMap$LinkedKeyIterator", "nextNode", "()Ljava/util/LinkedHashMap$Entry;"⟩) (As := []) (st := []) (t := l0) (b := a1) (rc) (rs) 4 dJ24_next_1 q454 q455 q456 q447 q60 q448 (Or.inl rfl) rfl ax16 ⟨Nat.le_of_ble_eq_true rfl, Nat.le_of_ble_eq_true rfl⟩ rfl (Nat.zero_le _) e2 (rk28 c5) (le_b mJ22_nextNode_c (Nat.le_refl _)) (le_b mJ22_nextNode_s (Nat.le_refl _)) rfl (Cal.mono h ?_)
  rintro s3 v ⟨x4, rfl, h⟩ hx6
  have h := h hx6
  have x7 := hx6.x
  show G w mJ24_next (KR K) (rc) (rs) s3 4 [va_rf l0] [va_rf x4]
  obtain ⟨a8, e9, h⟩ := h
  obtain ⟨c12, h⟩ := h
  have fin : Cal w mJ28_getKey s3 [va_rf x4] (fun σ1 v => Ext s3 σ1 → G w mJ24_next (KR K) (rc) (rs) σ1 7 [va_rf l0] (v.toList ++ [])) := by
    refine Cal.mono h ?_
    rintro s10 v ⟨x11, rfl, h⟩ hx13
    have h := h hx13
    have x14 := hx13.x
    show G w mJ24_next (KR K) (rc) (rs) s10 7 [va_rf l0] [va_rf x11]
    exact G_aret dJ24_next_7 rfl (Or.inl ⟨_, rfl⟩) ⟨_, rfl, h⟩
  have k15 : kd s3 a8 ∈ [31, 32] := c12
  simp only [List.mem_cons, List.not_mem_nil, or_false] at k15
  rcases k15 with k15 | k15
  · exact G_invU (N := mJ28_getKey) (owner := "java/util/HashMap$Node") (x := ⟨"java/util/LinkedHashMap$Entry", "getKey", "()Ljava/lang/Object;"⟩) (As := []) (st := []) (t := x4) (b := a8) (rc) (rs) 7 dJ24_next_4 q457 q458 q461 q462 q66 q463 (Or.inl rfl) rfl ax17 ⟨Nat.le_of_ble_eq_true rfl, Nat.le_of_ble_eq_true rfl⟩ rfl (Nat.zero_le _) e9 (rk31 k15) (le_b mJ28_getKey_c (Nat.le_refl _)) (le_b mJ28_getKey_s (Nat.le_refl _)) rfl fin
  · exact G_invU (N := mJ28_getKey) (owner := "java/util/HashMap$Node") (x := ⟨"java/util/LinkedHashMap$Entry", "getKey", "()Ljava/lang/Object;"⟩) (As := []) (st := []) (t := x4) (b := a8) (rc) (rs) 7 dJ24_next_4 q457 q458 q460 q462 q66 q463 (Or.inl rfl) rfl ax17 ⟨Nat.le_of_ble_eq_true rfl, Nat.le_of_ble_eq_true rfl⟩ rfl (Nat.zero_le _) e9 (rk32 k15) (le_b mJ28_getKey_c (Nat.le_refl _)) (le_b mJ28_getKey_s (Nat.le_refl _)) rfl fin
theorem eJ24_next {w : Wt} {K : Sg → Option Nat → Prop} {σ : Sg} (l0 : Option Nat) (h : G w mJ24_next (KR K) 0 0 σ 0 [va_rf l0] []) : CalR w mJ24_next σ [va_rf l0] K :=
  Cal.start 0 mJ24_next_plain (catR cat0) (Nat.le_of_ble_eq_true rfl) rfl h
set_option maxHeartbeats 4000000 in
theorem bJ24_init_0 {w : Wt} {K : Sg → Prop} {rc rs : Nat} {σ : Sg} (l0 : Option Nat) (l1 : Option Nat) (l2 : Int32) (h : ∃ a1, l0 = some a1 ∧ CalV w mJ22_init σ [va_rf l0, va_rf l1, .int l2] (fun s3 => Ext σ s3 → K s3)) : G w mJ24_init (KV K) (rc) (rs) σ 0 [va_rf l0, va_rf l1, .int l2] [] := by
  refine G_aload_n 1 dJ24_init_0 rfl rfl ?_
  refine G_aload_n 2 dJ24_init_1 rfl rfl ?_
  refine G_iload_n 3 dJ24_init_2 rfl rfl ?_
  obtain ⟨a1, e2, h⟩ := h
  refine G_invI (N := mJ22_init) (As := [va_rf l1, .int l2]) (st := []) (t := l0) (b := a1) (rc) (rs) "" 6 dJ24_init_3 (Or.inl q764) q734 q60 q735 rfl rfl rfl mJ22_init_args ⟨Nat.le_of_ble_eq_true rfl, Nat.le_of_ble_eq_true rfl⟩ e2 rfl (Nat.zero_le _) (le_b mJ22_init_c (Nat.le_refl _)) (le_b mJ22_init_s (Nat.le_refl _)) rfl (Cal.mono h ?_)
  rintro s3 v ⟨rfl, h⟩ hx4
  have h := h hx4
  have x5 := hx4.x
  show G w mJ24_init (KV K) (rc) (rs) s3 6 [va_rf l0, va_rf l1, .int l2] []
  exact G_ret dJ24_init_6 rfl ⟨rfl, h⟩
theorem eJ24_init {w : Wt} {K : Sg → Prop} {σ : Sg} (l0 : Option Nat) (l1 : Option Nat) (l2 : Int32) (h : G w mJ24_init (KV K) 0 0 σ 0 [va_rf l0, va_rf l1, .int l2] []) : CalV w mJ24_init σ [va_rf l0, va_rf l1, .int l2] K :=
  Cal.start 0 mJ24_init_plain (catR (catR (catI cat0))) (Nat.le_of_ble_eq_true rfl) rfl h
set_option maxHeartbeats 4000000 in
theorem bJ28_getKey_0 {w : Wt} {K : Sg → Option Nat → Prop} {rc rs : Nat} {σ : Sg} (l0 : Option Nat) (h : ∃ a1, l0 = some a1 ∧ kd σ a1 ∈ [30, 31, 32] ∧ K σ (FR σ 85 a1)) : G w mJ28_getKey (KR K) (rc) (rs) σ 0 [va_rf l0] [] := by
  refine G_aload_n 1 dJ28_getKey_0 rfl rfl ?_
  obtain ⟨a1, e2, h⟩ := h
  obtain ⟨c3, h⟩ := h
  refine G_getR (f := 85) (a := a1) "" 4 dJ28_getKey_1 (Or.inl q956) (Or.inl rfl) rfl e2 (hf85 c3) rfl ?_
  exact G_aret dJ28_getKey_4 rfl (Or.inl ⟨_, rfl⟩) ⟨_, rfl, h⟩
theorem eJ28_getKey {w : Wt} {K : Sg → Option Nat → Prop} {σ : Sg} (l0 : Option Nat) (h : G w mJ28_getKey (KR K) 0 0 σ 0 [va_rf l0] []) : CalR w mJ28_getKey σ [va_rf l0] K :=
  Cal.start 0 mJ28_getKey_plain (catR cat0) (Nat.le_of_ble_eq_true rfl) rfl h
set_option maxHeartbeats 4000000 in
theorem bJ28_getValue_0 {w : Wt} {K : Sg → Option Nat → Prop} {rc rs : Nat} {σ : Sg} (l0 : Option Nat) (h : ∃ a1, l0 = some a1 ∧ kd σ a1 ∈ [30, 31, 32] ∧ K σ (FR σ 86 a1)) : G w mJ28_getValue (KR K) (rc) (rs) σ 0 [va_rf l0] [] := by
  refine G_aload_n 1 dJ28_getValue_0 rfl rfl ?_
  obtain ⟨a1, e2, h⟩ := h
  obtain ⟨c3, h⟩ := h
  refine G_getR (f := 86) (a := a1) "" 4 dJ28_getValue_1 (Or.inl q963) (Or.inl rfl) rfl e2 (hf86 c3) rfl ?_
  exact G_aret dJ28_getValue_4 rfl (Or.inl ⟨_, rfl⟩) ⟨_, rfl, h⟩
theorem eJ28_getValue {w : Wt} {K : Sg → Option Nat → Prop} {σ : Sg} (l0 : Option Nat) (h : G w mJ28_getValue (KR K) 0 0 σ 0 [va_rf l0] []) : CalR w mJ28_getValue σ [va_rf l0] K :=
  Cal.start 0 mJ28_getValue_plain (catR cat0) (Nat.le_of_ble_eq_true rfl) rfl h
set_option maxHeartbeats 4000000 in
theorem bJ28_init_0 {w : Wt} {K : Sg → Prop} {rc rs : Nat} {σ : Sg} (l0 : Option Nat) (l1 : Int32) (l2 : Option Nat) (l3 : Option Nat) (l4 : Option Nat) (h : ∃ a1, l0 = some a1 ∧ kd σ a1 ∈ [30, 31, 32] ∧ ∀ s4, s4 = sFI σ 84 a1 l1 → ∀ s6, s6 = sFR s4 85 a1 l2 → ∀ s8, s8 = sFR s6 86 a1 l3 → ∀ s10, s10 = sFR s8 87 a1 l4 → K s10) : G w mJ28_init (KV K) (rc) (rs) σ 0 [va_rf l0, .int l1, va_rf l2, va_rf l3, va_rf l4] [] := by
  refine G_aload_n 1 dJ28_init_0 rfl rfl ?_
  obtain ⟨a1, e2, h⟩ := h
  refine G_objInit (b := a1) 4 dJ28_init_1 q945 q85 q86 rfl e2 (Nat.zero_le _) (Nat.le_of_ble_eq_true rfl) (Nat.le_of_ble_eq_true rfl) ?_
  refine G_aload_n 5 dJ28_init_4 rfl rfl ?_
  refine G_iload_n 6 dJ28_init_5 rfl rfl ?_
  obtain ⟨c3, h⟩ := h
  refine G_putI (f := 84) (a := a1) "" 9 dJ28_init_6 (Or.inl q950) (Or.inl rfl) rfl e2 (hp84 c3) (nk84 c3) (Or.inr ⟨rfl, rfl, rfl⟩) rfl rfl rfl ?_
  generalize hs4 : sFI σ 84 a1 l1 = s4
  have x5 : ∀ a, ¬ kd σ a = 0 → kd s4 a = kd σ a := by subst hs4; exact fun a _ => congrFun kd_sFI a
  have h := h s4 hs4.symm
  refine G_aload_n 10 dJ28_init_9 rfl rfl ?_
  refine G_aload_n 11 dJ28_init_10 rfl rfl ?_
  have c3 := kdM x5 c3 (by decide)
  refine G_putR (f := 85) (a := a1) "" 14 dJ28_init_11 (Or.inl q956) (Or.inl rfl) rfl e2 (hp85 c3) (nk85 c3) (Or.inr ⟨rfl, rfl, rfl⟩) (fun y => by cases y <;> rfl) (fun y => by cases y <;> rfl) rfl ?_
  generalize hs6 : sFR s4 85 a1 l2 = s6
  have x7 : ∀ a, ¬ kd s4 a = 0 → kd s6 a = kd s4 a := by subst hs6; exact fun a _ => congrFun kd_sFR a
  have h := h s6 hs6.symm
  refine G_aload_n 15 dJ28_init_14 rfl rfl ?_
  refine G_aload_n 16 dJ28_init_15 rfl rfl ?_
  have c3 := kdM x7 c3 (by decide)
  refine G_putR (f := 86) (a := a1) "" 19 dJ28_init_16 (Or.inl q963) (Or.inl rfl) rfl e2 (hp86 c3) (nk86 c3) (Or.inl rfl) (fun y => by cases y <;> rfl) (fun y => by cases y <;> rfl) rfl ?_
  generalize hs8 : sFR s6 86 a1 l3 = s8
  have x9 : ∀ a, ¬ kd s6 a = 0 → kd s8 a = kd s6 a := by subst hs8; exact fun a _ => congrFun kd_sFR a
  have h := h s8 hs8.symm
  refine G_aload_n 20 dJ28_init_19 rfl rfl ?_
  refine G_aload 22 dJ28_init_20 rfl rfl ?_
  have c3 := kdM x9 c3 (by decide)
  refine G_putR (f := 87) (a := a1) "" 25 dJ28_init_22 (Or.inl q968) (Or.inl rfl) rfl e2 (hp87 c3) (nk87 c3) (Or.inl rfl) (fun y => by cases y <;> rfl) (fun y => by cases y <;> rfl) rfl ?_
  generalize hs10 : sFR s8 87 a1 l4 = s10
  have x11 : ∀ a, ¬ kd s8 a = 0 → kd s10 a = kd s8 a := by subst hs10; exact fun a _ => congrFun kd_sFR a
  have h := h s10 hs10.symm
  exact G_ret dJ28_init_25 rfl ⟨rfl, h⟩
theorem eJ28_init {w : Wt} {K : Sg → Prop} {σ : Sg} (l0 : Option Nat) (l1 : Int32) (l2 : Option Nat) (l3 : Option Nat) (l4 : Option Nat) (h : G w mJ28_init (KV K) 0 0 σ 0 [va_rf l0, .int l1, va_rf l2, va_rf l3, va_rf l4] []) : CalV w mJ28_init σ [va_rf l0, .int l1, va_rf l2, va_rf l3, va_rf l4] K :=
  Cal.start 0 mJ28_init_plain (catR (catI (catR (catR (catR cat0))))) (Nat.le_of_ble_eq_true rfl) rfl h
set_option maxHeartbeats 4000000 in
theorem bJ29_init_0 {w : Wt} {K : Sg → Prop} {rc rs : Nat} {σ : Sg} (l0 : Option Nat) (l1 : Int32) (l2 : Option Nat) (l3 : Option Nat) (l4 : Option Nat) (h : ∃ a1, l0 = some a1 ∧ CalV w mJ28_init σ [va_rf l0, .int l1, va_rf l2, va_rf l3, va_rf l4] (fun s3 => Ext σ s3 → K s3)) : G w mJ29_init (KV K) (rc) (rs) σ 0 [va_rf l0, .int l1, va_rf l2, va_rf l3, va_rf l4] [] := by
  refine G_aload_n 1 dJ29_init_0 rfl rfl ?_
  refine G_iload_n 2 dJ29_init_1 rfl rfl ?_
  refine G_aload_n 3 dJ29_init_2 rfl rfl ?_
  refine G_aload_n 4 dJ29_init_3 rfl rfl ?_
  refine G_aload 6 dJ29_init_4 rfl rfl ?_
  obtain ⟨a1, e2, h⟩ := h
  refine G_invI (N := mJ28_init) (As := [.int l1, va_rf l2, va_rf l3, va_rf l4]) (st := []) (t := l0) (b := a1) (rc) (rs) "" 9 dJ29_init_6 (Or.inl q942) q943 q66 q944 rfl rfl rfl mJ28_init_args ⟨Nat.le_of_ble_eq_true rfl, Nat.le_of_ble_eq_true rfl⟩ e2 rfl (Nat.zero_le _) (le_b mJ28_init_c (Nat.le_refl _)) (le_b mJ28_init_s (Nat.le_refl _)) rfl (Cal.mono h ?_)
  rintro s3 v ⟨rfl, h⟩ hx4
  have h := h hx4
  have x5 := hx4.x
  show G w mJ29_init (KV K) (rc) (rs) s3 9 [va_rf l0, .int l1, va_rf l2, va_rf l3, va_rf l4] []
  exact G_ret dJ29_init_9 rfl ⟨rfl, h⟩
theorem eJ29_init {w : Wt} {K : Sg → Prop} {σ : Sg} (l0 : Option Nat) (l1 : Int32) (l2 : Option Nat) (l3 : Option Nat) (l4 : Option Nat) (h : G w mJ29_init (KV K) 0 0 σ 0 [va_rf l0, .int l1, va_rf l2, va_rf l3, va_rf l4] []) : CalV w mJ29_init σ [va_rf l0, .int l1, va_rf l2, va_rf l3, va_rf l4] K :=
  Cal.start 0 mJ29_init_plain (catR (catI (catR (catR (catR cat0))))) (Nat.le_of_ble_eq_true rfl) rfl h
set_option maxHeartbeats 4000000 in
theorem bJ35_init_0 {w : Wt} {K : Sg → Prop} {rc rs : Nat} {σ : Sg} (l0 : Option Nat) (h : ∃ a1, l0 = some a1 ∧ CalV w mJ14_init σ [va_rf l0] (fun s3 => Ext σ s3 → ∀ n7, n7 = nx s3 → kd s3 n7 = 0 → ∀ s8, s8 = nO s3 22 → CalV w mJ4_init s8 [va_rf (some n7)] (fun s11 => Ext s8 s11 → kd s11 a1 = 33 ∧ ∀ s15, s15 = sFR s11 95 a1 (some n7) → K s15))) : G w mJ35_init (KV K) (rc + 1) (rs + 8) σ 0 [va_rf l0] [] := by
  refine G_aload_n 1 dJ35_init_0 rfl rfl ?_
  obtain ⟨a1, e2, h⟩ := h
  refine G_invI (N := mJ14_init) (As := []) (st := []) (t := l0) (b := a1) (rc + 1) (rs + 8) "" 4 dJ35_init_1 (Or.inl q1651) q595 q52 q596 rfl rfl rfl mJ14_init_args ⟨Nat.le_of_ble_eq_true rfl, Nat.le_of_ble_eq_true rfl⟩ e2 rfl (Nat.zero_le _) (le_b mJ14_init_c (Nat.le_refl _)) (le_b mJ14_init_s (Nat.le_refl _)) rfl (Cal.mono h ?_)
  rintro s3 v ⟨rfl, h⟩ hx4
  have h := h hx4
  have x5 := hx4.x
  show G w mJ35_init (KV K) (rc + 1) (rs + 8) s3 4 [va_rf l0] []
  refine G_aload_n 5 dJ35_init_4 rfl rfl ?_
  refine G_new (cc := 12) (kn := 22) (q := (RJ4, TJ4, 8)) (rc) (rs) 8 dJ35_init_5 rfl q1652 q1653 q37 rfl rfl (Nat.le_refl _) (Nat.le_refl _) (fun z6 => ?_)
  generalize hn7 : nx s3 = n7 at z6 ⊢
  generalize hs8 : nO s3 22 = s8
  have x9 : ∀ a, ¬ kd s3 a = 0 → kd s8 a = kd s3 a := by subst hs8 hn7; exact kdNx z6
  have c10 : kd s8 n7 = 22 := by subst hs8 hn7; exact kdO_self
  have h := h n7 hn7.symm z6 s8 hs8.symm
  refine G_dup 9 dJ35_init_8 (rf_cat _) rfl ?_
  refine G_invI (N := mJ4_init) (As := []) (st := [va_rf (some n7), va_rf l0]) (t := (some n7)) (b := n7) (rc) (rs) "" 12 dJ35_init_9 (Or.inl q1654) q128 q37 q129 rfl rfl rfl mJ4_init_args ⟨Nat.le_of_ble_eq_true rfl, Nat.le_of_ble_eq_true rfl⟩ rfl rfl (Nat.le_trans (w_R (w_R w_0)) (Nat.le_of_ble_eq_true rfl)) (le_b mJ4_init_c (Nat.le_refl _)) (le_b mJ4_init_s (Nat.le_refl _)) rfl (Cal.mono h ?_)
  rintro s11 v ⟨rfl, h⟩ hx12
  have h := h hx12
  have x13 := hx12.x
  show G w mJ35_init (KV K) (rc) (rs) s11 12 [va_rf l0] [va_rf (some n7), va_rf l0]
  obtain ⟨c14, h⟩ := h
  refine G_putR (f := 95) (a := a1) "" 15 dJ35_init_12 (Or.inl q1664) (Or.inl rfl) rfl e2 (hp95 c14) (nk95 c14) (Or.inl rfl) (fun y => by cases y <;> rfl) (fun y => by cases y <;> rfl) rfl ?_
  generalize hs15 : sFR s11 95 a1 (some n7) = s15
  have x16 : ∀ a, ¬ kd s11 a = 0 → kd s15 a = kd s11 a := by subst hs15; exact fun a _ => congrFun kd_sFR a
  have h := h s15 hs15.symm
  exact G_ret dJ35_init_15 rfl ⟨rfl, h⟩
theorem eJ35_init {w : Wt} {K : Sg → Prop} {σ : Sg} (l0 : Option Nat) (h : G w mJ35_init (KV K) 1 8 σ 0 [va_rf l0] []) : CalV w mJ35_init σ [va_rf l0] K :=
  Cal.start 0 mJ35_init_plain (catR cat0) (Nat.le_of_ble_eq_true rfl) rfl h
set_option maxHeartbeats 4000000 in
theorem bJ35_add_0 {w : Wt} {K : Sg → Int32 → Prop} {rc rs : Nat} {σ : Sg} (l0 : Option Nat) (l1 : Option Nat) (h : ∃ a1, l0 = some a1 ∧ kd σ a1 = 33 ∧ ∃ a4, FR σ 95 a1 = some a4 ∧ kd σ a4 ∈ [21, 22] ∧ CalR w mJ4_put σ [va_rf (FR σ 95 a1), va_rf l1, va_rf (some (wa w 2))] (fun s6 x7 => Ext σ s6 → ((¬ x7 = none → K s6 0) ∧ (x7 = none → K s6 1)))) : G w mJ35_add (KI K) (rc + 25) (rs + 450) σ 0 [va_rf l0, va_rf l1] [] := by
  refine G_aload_n 1 dJ35_add_0 rfl rfl ?_
  obtain ⟨a1, e2, h⟩ := h
  obtain ⟨c3, h⟩ := h
  refine G_getR (f := 95) (a := a1) "" 4 dJ35_add_1 (Or.inl q1664) (Or.inl rfl) rfl e2 (hf95 c3) rfl ?_
  refine G_aload_n 5 dJ35_add_4 rfl rfl ?_
  refine G_getS (host := "") (C := "java/util/HashSet") (v := va_rf (some (wa w 2))) 8 dJ35_add_5 (Or.inl q1672) (Or.inl rfl) rfl (List.mem_of_getElem? (i := 2) rfl) ?_
  obtain ⟨a4, e5, h⟩ := h
  obtain ⟨c8, h⟩ := h
  have fin : Cal w mJ4_put σ [va_rf (FR σ 95 a1), va_rf l1, va_rf (some (wa w 2))] (fun σ1 v => Ext σ σ1 → G w mJ35_add (KI K) (rc) (rs) σ1 11 [va_rf l0, va_rf l1] (v.toList ++ [])) := by
    refine Cal.mono h ?_
    rintro s6 v ⟨x7, rfl, h⟩ hx9
    have h := h hx9
    have x10 := hx9.x
    show G w mJ35_add (KI K) (rc) (rs) s6 11 [va_rf l0, va_rf l1] [va_rf x7]
    refine G_ifnonnull 18 14 dJ35_add_11 (by decide) rfl (fun u11 => ?_) (fun u11 => ?_)
    · have h := h.1 u11
      refine G_iconst (v := 0) 19 dJ35_add_18 (by decide) rfl ?_
      exact G_zret dJ35_add_19 rfl rfl ⟨_, rfl, h⟩
    · have h := h.2 u11
      refine G_iconst (v := 1) 15 dJ35_add_14 (by decide) rfl ?_
      refine G_goto 19 dJ35_add_15 (by decide) ?_
      exact G_zret dJ35_add_19 rfl rfl ⟨_, rfl, h⟩
  have k12 : kd σ a4 ∈ [21, 22] := c8
  simp only [List.mem_cons, List.not_mem_nil, or_false] at k12
  rcases k12 with k12 | k12
  · exact G_invU (N := mJ4_put) (owner := "java/util/HashMap") (x := ⟨"java/util/HashMap", "put", "(Ljava/lang/Object;Ljava/lang/Object;)Ljava/lang/Object;"⟩) (As := [va_rf l1, va_rf (some (wa w 2))]) (st := []) (t := (FR σ 95 a1)) (b := a4) (rc) (rs) 11 dJ35_add_8 q1674 q2398 q2400 q807 q37 q809 (Or.inl rfl) rfl ax18 ⟨Nat.le_of_ble_eq_true rfl, Nat.le_of_ble_eq_true rfl⟩ rfl (Nat.zero_le _) e5 (rk21 k12) (le_b mJ4_put_c (Nat.le_refl _)) (le_b mJ4_put_s (Nat.le_refl _)) rfl fin
  · exact G_invV (N := mJ4_put) (As := [va_rf l1, va_rf (some (wa w 2))]) (st := []) (t := (FR σ 95 a1)) (b := a4) (rc) (rs) 11 dJ35_add_8 q1674 q807 q2399 q37 q809 rfl rfl mJ4_put_args ⟨Nat.le_of_ble_eq_true rfl, Nat.le_of_ble_eq_true rfl⟩ rfl (Nat.zero_le _) e5 (rk22 k12) (le_b mJ4_put_c (Nat.le_refl _)) (le_b mJ4_put_s (Nat.le_refl _)) rfl fin
theorem eJ35_add {w : Wt} {K : Sg → Int32 → Prop} {σ : Sg} (l0 : Option Nat) (l1 : Option Nat) (h : G w mJ35_add (KI K) 25 450 σ 0 [va_rf l0, va_rf l1] []) : CalI w mJ35_add σ [va_rf l0, va_rf l1] K :=
  Cal.start 0 mJ35_add_plain (catR (catR cat0)) (Nat.le_of_ble_eq_true rfl) rfl h
set_option maxHeartbeats 4000000 in
theorem bJ35_contains_0 {w : Wt} {K : Sg → Int32 → Prop} {rc rs : Nat} {σ : Sg} (l0 : Option Nat) (l1 : Option Nat) (h : ∃ a1, l0 = some a1 ∧ kd σ a1 = 33 ∧ ∃ a4, FR σ 95 a1 = some a4 ∧ kd σ a4 ∈ [21, 22] ∧ CalI w mJ4_containsKey σ [va_rf (FR σ 95 a1), va_rf l1] (fun s6 x7 => Ext σ s6 → ((x7 = 0 ∨ x7 = 1) ∧ K s6 x7))) : G w mJ35_contains (KI K) (rc) (rs) σ 0 [va_rf l0, va_rf l1] [] := by
  refine G_aload_n 1 dJ35_contains_0 rfl rfl ?_
  obtain ⟨a1, e2, h⟩ := h
  obtain ⟨c3, h⟩ := h
  refine G_getR (f := 95) (a := a1) "" 4 dJ35_contains_1 (Or.inl q1664) (Or.inl rfl) rfl e2 (hf95 c3) rfl ?_
  refine G_aload_n 5 dJ35_contains_4 rfl rfl ?_
  obtain ⟨a4, e5, h⟩ := h
  obtain ⟨c8, h⟩ := h
  have fin : Cal w mJ4_containsKey σ [va_rf (FR σ 95 a1), va_rf l1] (fun σ1 v => Ext σ σ1 → G w mJ35_contains (KI K) (rc) (rs) σ1 8 [va_rf l0, va_rf l1] (v.toList ++ [])) := by
    refine Cal.mono h ?_
    rintro s6 v ⟨x7, rfl, h⟩ hx9
    have h := h hx9
    have x10 := hx9.x
    show G w mJ35_contains (KI K) (rc) (rs) s6 8 [va_rf l0, va_rf l1] [.int x7]
    exact G_zret dJ35_contains_8 rfl (nar_bz h.1).1 ⟨_, rfl, h.2⟩
  have k11 : kd σ a4 ∈ [21, 22] := c8
  simp only [List.mem_cons, List.not_mem_nil, or_false] at k11
  rcases k11 with k11 | k11
  · exact G_invU (N := mJ4_containsKey) (owner := "java/util/HashMap") (x := ⟨"java/util/HashMap", "containsKey", "(Ljava/lang/Object;)Z"⟩) (As := [va_rf l1]) (st := []) (t := (FR σ 95 a1)) (b := a4) (rc) (rs) 8 dJ35_contains_5 q1679 q1682 q1683 q1680 q37 q1684 (Or.inl rfl) rfl ax19 ⟨Nat.le_of_ble_eq_true rfl, Nat.le_of_ble_eq_true rfl⟩ rfl (Nat.zero_le _) e5 (rk21 k11) (le_b mJ4_containsKey_c (Nat.le_refl _)) (le_b mJ4_containsKey_s (Nat.le_refl _)) rfl fin
  · exact G_invV (N := mJ4_containsKey) (As := [va_rf l1]) (st := []) (t := (FR σ 95 a1)) (b := a4) (rc) (rs) 8 dJ35_contains_5 q1679 q1680 q1681 q37 q1684 rfl rfl mJ4_containsKey_args ⟨Nat.le_of_ble_eq_true rfl, Nat.le_of_ble_eq_true rfl⟩ rfl (Nat.zero_le _) e5 (rk22 k11) (le_b mJ4_containsKey_c (Nat.le_refl _)) (le_b mJ4_containsKey_s (Nat.le_refl _)) rfl fin
theorem eJ35_contains {w : Wt} {K : Sg → Int32 → Prop} {σ : Sg} (l0 : Option Nat) (l1 : Option Nat) (h : G w mJ35_contains (KI K) 0 0 σ 0 [va_rf l0, va_rf l1] []) : CalI w mJ35_contains σ [va_rf l0, va_rf l1] K :=
  Cal.start 0 mJ35_contains_plain (catR (catR cat0)) (Nat.le_of_ble_eq_true rfl) rfl h
