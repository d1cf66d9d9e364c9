/-! printed by tools/drive.py -/
set_option maxRecDepth 100000
set_option maxHeartbeats 4000000 in
theorem bJ33_untreeify_0 {w : Wt} {K : Sg → Option Nat → Prop} {rc rs : Nat} {σ : Sg} (l0 : Option Nat) (l1 : Option Nat) (h : G w mJ33_untreeify (KR K) (rc) (rs) σ 7 [va_rf l0, va_rf l1, va_rf none, va_rf none, va_rf l0, U_] []) : G w mJ33_untreeify (KR K) (rc) (rs) σ 0 [va_rf l0, va_rf l1, U_, U_, U_, U_] [] := by
  refine G_null 1 dJ33_untreeify_0 rfl ?_
  refine G_astore_n 2 [va_rf l0, va_rf l1, va_rf none, U_, U_, U_] dJ33_untreeify_1 (Nat.le_of_ble_eq_true rfl) rfl rfl ?_
  refine G_null 3 dJ33_untreeify_2 rfl ?_
  refine G_astore_n 4 [va_rf l0, va_rf l1, va_rf none, va_rf none, U_, U_] dJ33_untreeify_3 (Nat.le_of_ble_eq_true rfl) rfl rfl ?_
  refine G_aload_n 5 dJ33_untreeify_4 rfl rfl ?_
  refine G_astore 7 [va_rf l0, va_rf l1, va_rf none, va_rf none, va_rf l0, U_] dJ33_untreeify_5 (Nat.le_of_ble_eq_true rfl) rfl rfl ?_
  exact h
set_option maxHeartbeats 4000000 in
theorem bJ33_untreeify_7 {w : Wt} {K : Sg → Option Nat → Prop} {rc rs : Nat} {σ : Sg} (l0 : Option Nat) (l1 : Option Nat) (l2 : Option Nat) (l3 : Option Nat) (l4 : Option Nat) (v5 : Value) (h : ((l4 = none → K σ l2) ∧ (¬ l4 = none → ∃ a2, l1 = some a2 ∧ kd σ a2 = 21 ∧ CalR w mJ5_replacementNode σ [va_rf l1, va_rf l4, va_rf none] (fun s4 x5 => Ext σ s4 → ((¬ l3 = none → ∃ a10, l3 = some a10 ∧ kd s4 a10 ∈ [30, 31, 32] ∧ ∀ s13, s13 = sFR s4 87 a10 x5 → ∃ a15, l4 = some a15 ∧ kd s13 a15 ∈ [30, 31, 32] ∧ G w mJ33_untreeify (KR K) (rc) (rs) s13 7 [va_rf l0, va_rf l1, va_rf l2, va_rf x5, va_rf (FR s13 87 a15), va_rf x5] []) ∧ (l3 = none → ∃ a18, l4 = some a18 ∧ kd s4 a18 ∈ [30, 31, 32] ∧ G w mJ33_untreeify (KR K) (rc) (rs) s4 7 [va_rf l0, va_rf l1, va_rf x5, va_rf x5, va_rf (FR s4 87 a18), va_rf x5] [])))))) : G w mJ33_untreeify (KR K) (rc + 1) (rs + 6) σ 7 [va_rf l0, va_rf l1, va_rf l2, va_rf l3, va_rf l4, v5] [] := by
  refine G_aload 9 dJ33_untreeify_7 rfl rfl ?_
  refine G_ifnull 50 12 dJ33_untreeify_9 (by decide) rfl (fun u1 => ?_) (fun u1 => ?_)
  · have h := h.1 u1
    refine G_aload_n 51 dJ33_untreeify_50 rfl rfl ?_
    exact G_aret dJ33_untreeify_51 rfl (Or.inl ⟨_, rfl⟩) ⟨_, rfl, h⟩
  · have h := h.2 u1
    refine G_aload_n 13 dJ33_untreeify_12 rfl rfl ?_
    refine G_aload 15 dJ33_untreeify_13 rfl rfl ?_
    refine G_null 16 dJ33_untreeify_15 rfl ?_
    obtain ⟨a2, e3, h⟩ := h
    obtain ⟨c6, h⟩ := h
    refine G_invU (N := mJ5_replacementNode) (owner := "java/util/HashMap") (x := ⟨"java/util/HashMap", "replacementNode", "(Ljava/util/HashMap$Node;Ljava/util/HashMap$Node;)Ljava/util/HashMap$Node;"⟩) (As := [va_rf l4, va_rf none]) (st := []) (t := l1) (b := a2) (rc) (rs) 19 dJ33_untreeify_16 q930 q933 q934 q935 q38 q936 (Or.inr (Or.inl ⟨q931, _, _, _, q992⟩)) rfl ax12 ⟨Nat.le_of_ble_eq_true rfl, Nat.le_of_ble_eq_true rfl⟩ rfl (Nat.zero_le _) e3 (rk21 c6) (le_b mJ5_replacementNode_c (Nat.le_refl _)) (le_b mJ5_replacementNode_s (Nat.le_refl _)) rfl (Cal.mono h ?_)
    rintro s4 v ⟨x5, rfl, h⟩ hx7
    have h := h hx7
    have x8 := hx7.x
    show G w mJ33_untreeify (KR K) (rc) (rs) s4 19 [va_rf l0, va_rf l1, va_rf l2, va_rf l3, va_rf l4, v5] [va_rf x5]
    refine G_astore 21 [va_rf l0, va_rf l1, va_rf l2, va_rf l3, va_rf l4, va_rf x5] dJ33_untreeify_19 (Nat.le_of_ble_eq_true rfl) rfl rfl ?_
    refine G_aload_n 22 dJ33_untreeify_21 rfl rfl ?_
    refine G_ifnonnull 31 25 dJ33_untreeify_22 (by decide) rfl (fun u9 => ?_) (fun u9 => ?_)
    · have h := h.1 u9
      refine G_aload_n 32 dJ33_untreeify_31 rfl rfl ?_
      refine G_aload 34 dJ33_untreeify_32 rfl rfl ?_
      obtain ⟨a10, e11, h⟩ := h
      obtain ⟨c12, h⟩ := h
      refine G_putR (f := 87) (a := a10) "" 37 dJ33_untreeify_34 (Or.inl q972) (Or.inl rfl) rfl e11 (hp87 c12) (nk87 c12) (Or.inl rfl) (fun y => by cases y <;> rfl) (fun y => by cases y <;> rfl) rfl ?_
      generalize hs13 : sFR s4 87 a10 x5 = s13
      have x14 : ∀ a, ¬ kd s4 a = 0 → kd s13 a = kd s4 a := by subst hs13; exact fun a _ => congrFun kd_sFR a
      have h := h s13 hs13.symm
      refine G_aload 39 dJ33_untreeify_37 rfl rfl ?_
      refine G_astore_n 40 [va_rf l0, va_rf l1, va_rf l2, va_rf x5, va_rf l4, va_rf x5] dJ33_untreeify_39 (Nat.le_of_ble_eq_true rfl) rfl rfl ?_
      refine G_aload 42 dJ33_untreeify_40 rfl rfl ?_
      obtain ⟨a15, e16, h⟩ := h
      obtain ⟨c17, h⟩ := h
      refine G_getR (f := 87) (a := a15) "" 45 dJ33_untreeify_42 (Or.inl q972) (Or.inl rfl) rfl e16 (hf87 c17) rfl ?_
      refine G_astore 47 [va_rf l0, va_rf l1, va_rf l2, va_rf x5, va_rf (FR s13 87 a15), va_rf x5] dJ33_untreeify_45 (Nat.le_of_ble_eq_true rfl) rfl rfl ?_
      refine G_goto 7 dJ33_untreeify_47 (by decide) ?_
      exact h
    · have h := h.2 u9
      refine G_aload 27 dJ33_untreeify_25 rfl rfl ?_
      refine G_astore_n 28 [va_rf l0, va_rf l1, va_rf x5, va_rf l3, va_rf l4, va_rf x5] dJ33_untreeify_27 (Nat.le_of_ble_eq_true rfl) rfl rfl ?_
      refine G_goto 37 dJ33_untreeify_28 (by decide) ?_
      refine G_aload 39 dJ33_untreeify_37 rfl rfl ?_
      refine G_astore_n 40 [va_rf l0, va_rf l1, va_rf x5, va_rf x5, va_rf l4, va_rf x5] dJ33_untreeify_39 (Nat.le_of_ble_eq_true rfl) rfl rfl ?_
      refine G_aload 42 dJ33_untreeify_40 rfl rfl ?_
      obtain ⟨a18, e19, h⟩ := h
      obtain ⟨c20, h⟩ := h
      refine G_getR (f := 87) (a := a18) "" 45 dJ33_untreeify_42 (Or.inl q972) (Or.inl rfl) rfl e19 (hf87 c20) rfl ?_
      refine G_astore 47 [va_rf l0, va_rf l1, va_rf x5, va_rf x5, va_rf (FR s4 87 a18), va_rf x5] dJ33_untreeify_45 (Nat.le_of_ble_eq_true rfl) rfl rfl ?_
      refine G_goto 7 dJ33_untreeify_47 (by decide) ?_
      exact h
theorem eJ33_untreeify {w : Wt} {K : Sg → Option Nat → Prop} {σ : Sg} (l0 : Option Nat) (l1 : Option Nat) (h : G w mJ33_untreeify (KR K) 19 114 σ 0 [va_rf l0, va_rf l1, U_, U_, U_, U_] []) : CalR w mJ33_untreeify σ [va_rf l0, va_rf l1] K :=
  Cal.start 4 mJ33_untreeify_plain (catR (catR cat0)) (Nat.le_of_ble_eq_true rfl) rfl h
set_option maxHeartbeats 4000000 in
theorem bJ33_treeify_0 {w : Wt} {K : Sg → Prop} {rc rs : Nat} {σ : Sg} (l0 : Option Nat) (l1 : Option Nat) (h : G w mJ33_treeify (KV K) (rc) (rs) σ 4 [va_rf l0, va_rf l1, va_rf none, va_rf l0, U_, U_, U_, U_, U_, U_, U_, U_, U_] []) : G w mJ33_treeify (KV K) (rc) (rs) σ 0 [va_rf l0, va_rf l1, U_, U_, U_, U_, U_, U_, U_, U_, U_, U_, U_] [] := by
  refine G_null 1 dJ33_treeify_0 rfl ?_
  refine G_astore_n 2 [va_rf l0, va_rf l1, va_rf none, U_, U_, U_, U_, U_, U_, U_, U_, U_, U_] dJ33_treeify_1 (Nat.le_of_ble_eq_true rfl) rfl rfl ?_
  refine G_aload_n 3 dJ33_treeify_2 rfl rfl ?_
  refine G_astore_n 4 [va_rf l0, va_rf l1, va_rf none, va_rf l0, U_, U_, U_, U_, U_, U_, U_, U_, U_] dJ33_treeify_3 (Nat.le_of_ble_eq_true rfl) rfl rfl ?_
  exact h
set_option maxHeartbeats 4000000 in
theorem bJ33_treeify_4 {w : Wt} {K : Sg → Prop} {rc rs : Nat} {σ : Sg} (l0 : Option Nat) (l1 : Option Nat) (l2 : Option Nat) (l3 : Option Nat) (v4 : Value) (v5 : Value) (v6 : Value) (v7 : Value) (v8 : Value) (v9 : Value) (v10 : Value) (v11 : Value) (v12 : Value) (h : ((l3 = none → CalV w mJ33_moveRootToFront σ [va_rf l1, va_rf l2] (fun s2 => Ext σ s2 → K s2)) ∧ (¬ l3 = none → ∃ a5, l3 = some a5 ∧ kd σ a5 ∈ [30, 31, 32] ∧ (FR σ 87 a5 = none ∨ ∃ b, FR σ 87 a5 = some b ∧ kd σ b = 32) ∧ kd σ a5 = 32 ∧ ∀ s10, s10 = sFR σ 92 a5 none → ∀ s12, s12 = sFR s10 91 a5 none → ((¬ l2 = none → G w mJ33_treeify (KV K) (rc) (rs) s12 64 [va_rf l0, va_rf l1, va_rf l2, va_rf l3, va_rf (FR σ 87 a5), va_rf (FR s12 85 a5), .int (FI s12 84 a5), va_rf none, va_rf l2, v9, v10, v11, v12] []) ∧ (l2 = none → ∀ s15, s15 = sFR s12 90 a5 none → ∀ s17, s17 = sFI s15 94 a5 0 → G w mJ33_treeify (KV K) (rc) (rs) s17 4 [va_rf l0, va_rf l1, va_rf l3, va_rf (FR σ 87 a5), va_rf (FR σ 87 a5), v5, v6, v7, v8, v9, v10, v11, v12] []))))) : G w mJ33_treeify (KV K) (rc) (rs) σ 4 [va_rf l0, va_rf l1, va_rf l2, va_rf l3, v4, v5, v6, v7, v8, v9, v10, v11, v12] [] := by
  refine G_aload_n 5 dJ33_treeify_4 rfl rfl ?_
  refine G_ifnull 215 8 dJ33_treeify_5 (by decide) rfl (fun u1 => ?_) (fun u1 => ?_)
  · have h := h.1 u1
    refine G_aload_n 216 dJ33_treeify_215 rfl rfl ?_
    refine G_aload_n 217 dJ33_treeify_216 rfl rfl ?_
    refine G_invS (N := mJ33_moveRootToFront) (As := [va_rf l1, va_rf l2]) (st := []) (rc) (rs) "" 220 dJ33_treeify_217 (Or.inl q1233) q1234 q72 q1235 rfl mJ33_moveRootToFront_args ⟨Nat.le_of_ble_eq_true rfl, Nat.le_of_ble_eq_true rfl⟩ rfl (Nat.zero_le _) (le_b mJ33_moveRootToFront_c (Nat.le_refl _)) (le_b mJ33_moveRootToFront_s (Nat.le_refl _)) rfl (Cal.mono h ?_)
    rintro s2 v ⟨rfl, h⟩ hx3
    have h := h hx3
    have x4 := hx3.x
    show G w mJ33_treeify (KV K) (rc) (rs) s2 220 [va_rf l0, va_rf l1, va_rf l2, va_rf l3, v4, v5, v6, v7, v8, v9, v10, v11, v12] []
    exact G_ret dJ33_treeify_220 rfl ⟨rfl, h⟩
  · have h := h.2 u1
    refine G_aload_n 9 dJ33_treeify_8 rfl rfl ?_
    obtain ⟨a5, e6, h⟩ := h
    obtain ⟨c7, h⟩ := h
    refine G_getR (f := 87) (a := a5) "" 12 dJ33_treeify_9 (Or.inl q970) (Or.inr q971) rfl e6 (hf87 c7) rfl ?_
    obtain ⟨c8, h⟩ := h
    refine G_cast 15 dJ33_treeify_12 q925 rfl (c8.imp id (fun ⟨b, e, k⟩ => ⟨b, e, co1 k⟩)) ?_
    refine G_astore 17 [va_rf l0, va_rf l1, va_rf l2, va_rf l3, va_rf (FR σ 87 a5), v5, v6, v7, v8, v9, v10, v11, v12] dJ33_treeify_15 (Nat.le_of_ble_eq_true rfl) rfl rfl ?_
    refine G_aload_n 18 dJ33_treeify_17 rfl rfl ?_
    refine G_aload_n 19 dJ33_treeify_18 rfl rfl ?_
    refine G_null 20 dJ33_treeify_19 rfl ?_
    refine G_dup_x1 21 dJ33_treeify_20 (rf_cat _) (rf_cat _) rfl ?_
    obtain ⟨c9, h⟩ := h
    refine G_putR (f := 92) (a := a5) "" 24 dJ33_treeify_21 (Or.inl q1311) (Or.inl rfl) rfl e6 (hp92 c9) (nk92 c9) (Or.inl rfl) (fun y => by cases y <;> rfl) (fun y => by cases y <;> rfl) rfl ?_
    generalize hs10 : sFR σ 92 a5 none = s10
    have x11 : ∀ a, ¬ kd σ a = 0 → kd s10 a = kd σ a := by subst hs10; exact fun a _ => congrFun kd_sFR a
    have h := h s10 hs10.symm
    have c9 := kdE x11 c9 (by decide)
    refine G_putR (f := 91) (a := a5) "" 27 dJ33_treeify_24 (Or.inl q1310) (Or.inl rfl) rfl e6 (hp91 c9) (nk91 c9) (Or.inl rfl) (fun y => by cases y <;> rfl) (fun y => by cases y <;> rfl) rfl ?_
    generalize hs12 : sFR s10 91 a5 none = s12
    have x13 : ∀ a, ¬ kd s10 a = 0 → kd s12 a = kd s10 a := by subst hs12; exact fun a _ => congrFun kd_sFR a
    have h := h s12 hs12.symm
    refine G_aload_n 28 dJ33_treeify_27 rfl rfl ?_
    refine G_ifnonnull 46 31 dJ33_treeify_28 (by decide) rfl (fun u14 => ?_) (fun u14 => ?_)
    · have h := h.1 u14
      refine G_aload_n 47 dJ33_treeify_46 rfl rfl ?_
      have c9 := kdE x13 c9 (by decide)
      refine G_getR (f := 85) (a := a5) "" 50 dJ33_treeify_47 (Or.inl q958) (Or.inr q959) rfl e6 (hf85 (memE c9 (by decide))) rfl ?_
      refine G_astore 52 [va_rf l0, va_rf l1, va_rf l2, va_rf l3, va_rf (FR σ 87 a5), va_rf (FR s12 85 a5), v6, v7, v8, v9, v10, v11, v12] dJ33_treeify_50 (Nat.le_of_ble_eq_true rfl) rfl rfl ?_
      refine G_aload_n 53 dJ33_treeify_52 rfl rfl ?_
      refine G_getI (f := 84) (a := a5) "" 56 dJ33_treeify_53 (Or.inl q951) (Or.inr q952) rfl e6 (hf84 (memE c9 (by decide))) rfl ?_
      refine G_istore 58 [va_rf l0, va_rf l1, va_rf l2, va_rf l3, va_rf (FR σ 87 a5), va_rf (FR s12 85 a5), .int (FI s12 84 a5), v7, v8, v9, v10, v11, v12] dJ33_treeify_56 (Nat.le_of_ble_eq_true rfl) rfl rfl ?_
      refine G_null 59 dJ33_treeify_58 rfl ?_
      refine G_astore 61 [va_rf l0, va_rf l1, va_rf l2, va_rf l3, va_rf (FR σ 87 a5), va_rf (FR s12 85 a5), .int (FI s12 84 a5), va_rf none, v8, v9, v10, v11, v12] dJ33_treeify_59 (Nat.le_of_ble_eq_true rfl) rfl rfl ?_
      refine G_aload_n 62 dJ33_treeify_61 rfl rfl ?_
      refine G_astore 64 [va_rf l0, va_rf l1, va_rf l2, va_rf l3, va_rf (FR σ 87 a5), va_rf (FR s12 85 a5), .int (FI s12 84 a5), va_rf none, va_rf l2, v9, v10, v11, v12] dJ33_treeify_62 (Nat.le_of_ble_eq_true rfl) rfl rfl ?_
      exact h
    · have h := h.2 u14
      refine G_aload_n 32 dJ33_treeify_31 rfl rfl ?_
      refine G_null 33 dJ33_treeify_32 rfl ?_
      have c9 := kdE x13 c9 (by decide)
      refine G_putR (f := 90) (a := a5) "" 36 dJ33_treeify_33 (Or.inl q1309) (Or.inl rfl) rfl e6 (hp90 c9) (nk90 c9) (Or.inl rfl) (fun y => by cases y <;> rfl) (fun y => by cases y <;> rfl) rfl ?_
      generalize hs15 : sFR s12 90 a5 none = s15
      have x16 : ∀ a, ¬ kd s12 a = 0 → kd s15 a = kd s12 a := by subst hs15; exact fun a _ => congrFun kd_sFR a
      have h := h s15 hs15.symm
      refine G_aload_n 37 dJ33_treeify_36 rfl rfl ?_
      refine G_iconst (v := 0) 38 dJ33_treeify_37 (by decide) rfl ?_
      have c9 := kdE x16 c9 (by decide)
      refine G_putI (f := 94) (a := a5) "" 41 dJ33_treeify_38 (Or.inl q1314) (Or.inl rfl) rfl e6 (hp94 c9) (nk94 c9) (Or.inl rfl) rfl rfl rfl ?_
      generalize hs17 : sFI s15 94 a5 0 = s17
      have x18 : ∀ a, ¬ kd s15 a = 0 → kd s17 a = kd s15 a := by subst hs17; exact fun a _ => congrFun kd_sFI a
      have h := h s17 hs17.symm
      refine G_aload_n 42 dJ33_treeify_41 rfl rfl ?_
      refine G_astore_n 43 [va_rf l0, va_rf l1, va_rf l3, va_rf l3, va_rf (FR σ 87 a5), v5, v6, v7, v8, v9, v10, v11, v12] dJ33_treeify_42 (Nat.le_of_ble_eq_true rfl) rfl rfl ?_
      refine G_goto 209 dJ33_treeify_43 (by decide) ?_
      refine G_aload 211 dJ33_treeify_209 rfl rfl ?_
      refine G_astore_n 212 [va_rf l0, va_rf l1, va_rf l3, va_rf (FR σ 87 a5), va_rf (FR σ 87 a5), v5, v6, v7, v8, v9, v10, v11, v12] dJ33_treeify_211 (Nat.le_of_ble_eq_true rfl) rfl rfl ?_
      refine G_goto 4 dJ33_treeify_212 (by decide) ?_
      exact h
set_option maxHeartbeats 4000000 in
theorem bJ33_treeify_64 {w : Wt} {K : Sg → Prop} {rc rs : Nat} {σ : Sg} (l0 : Option Nat) (l1 : Option Nat) (l2 : Option Nat) (l3 : Option Nat) (l4 : Option Nat) (l5 : Option Nat) (l6 : Int32) (l7 : Option Nat) (l8 : Option Nat) (v9 : Value) (v10 : Value) (v11 : Value) (v12 : Value) (h : ∃ a1, l8 = some a1 ∧ kd σ a1 ∈ [30, 31, 32] ∧ ((FI σ 84 a1 ≤ l6 → ((l6 ≤ FI σ 84 a1 → ((¬ l7 = none → False) ∧ (l7 = none → False))) ∧ (¬ l6 ≤ FI σ 84 a1 → kd σ a1 = 32 ∧ ((¬ FR σ 92 a1 = none → G w mJ33_treeify (KV K) (rc) (rs) σ 64 [va_rf l0, va_rf l1, va_rf l2, va_rf l3, va_rf l4, va_rf l5, .int l6, va_rf l7, va_rf (FR σ 92 a1), .int 1, .int (FI σ 84 a1), va_rf (FR σ 85 a1), va_rf l8] []) ∧ (FR σ 92 a1 = none → ∃ a9, l3 = some a9 ∧ kd σ a9 = 32 ∧ ∀ s12, s12 = sFR σ 90 a9 l8 → ∀ s14, s14 = sFR s12 92 a1 l3 → CalR w mJ33_balanceInsertion s14 [va_rf l2, va_rf l3] (fun s16 x17 => Ext s14 s16 → G w mJ33_treeify (KV K) (rc) (rs) s16 4 [va_rf l0, va_rf l1, va_rf x17, va_rf l4, va_rf l4, va_rf l5, .int l6, va_rf l7, va_rf (FR σ 92 a1), .int 1, .int (FI σ 84 a1), va_rf (FR σ 85 a1), va_rf l8] [])))))) ∧ (¬ FI σ 84 a1 ≤ l6 → kd σ a1 = 32 ∧ ((¬ FR σ 91 a1 = none → G w mJ33_treeify (KV K) (rc) (rs) σ 64 [va_rf l0, va_rf l1, va_rf l2, va_rf l3, va_rf l4, va_rf l5, .int l6, va_rf l7, va_rf (FR σ 91 a1), .int (-1), .int (FI σ 84 a1), va_rf (FR σ 85 a1), va_rf l8] []) ∧ (FR σ 91 a1 = none → ∃ a22, l3 = some a22 ∧ kd σ a22 = 32 ∧ ∀ s25, s25 = sFR σ 90 a22 l8 → ∀ s27, s27 = sFR s25 91 a1 l3 → CalR w mJ33_balanceInsertion s27 [va_rf l2, va_rf l3] (fun s29 x30 => Ext s27 s29 → G w mJ33_treeify (KV K) (rc) (rs) s29 4 [va_rf l0, va_rf l1, va_rf x30, va_rf l4, va_rf l4, va_rf l5, .int l6, va_rf l7, va_rf (FR σ 91 a1), .int (-1), .int (FI σ 84 a1), va_rf (FR σ 85 a1), va_rf l8] [])))))) : G w mJ33_treeify (KV K) (rc) (rs) σ 64 [va_rf l0, va_rf l1, va_rf l2, va_rf l3, va_rf l4, va_rf l5, .int l6, va_rf l7, va_rf l8, v9, v10, v11, v12] [] := by
  refine G_aload 66 dJ33_treeify_64 rfl rfl ?_
  obtain ⟨a1, e2, h⟩ := h
  obtain ⟨c3, h⟩ := h
  refine G_getR (f := 85) (a := a1) "" 69 dJ33_treeify_66 (Or.inl q958) (Or.inr q959) rfl e2 (hf85 c3) rfl ?_
  refine G_astore 71 [va_rf l0, va_rf l1, va_rf l2, va_rf l3, va_rf l4, va_rf l5, .int l6, va_rf l7, va_rf l8, v9, v10, va_rf (FR σ 85 a1), v12] dJ33_treeify_69 (Nat.le_of_ble_eq_true rfl) rfl rfl ?_
  refine G_aload 73 dJ33_treeify_71 rfl rfl ?_
  refine G_getI (f := 84) (a := a1) "" 76 dJ33_treeify_73 (Or.inl q951) (Or.inr q952) rfl e2 (hf84 c3) rfl ?_
  refine G_dup 77 dJ33_treeify_76 (rfl) rfl ?_
  refine G_istore 79 [va_rf l0, va_rf l1, va_rf l2, va_rf l3, va_rf l4, va_rf l5, .int l6, va_rf l7, va_rf l8, v9, .int (FI σ 84 a1), va_rf (FR σ 85 a1), v12] dJ33_treeify_77 (Nat.le_of_ble_eq_true rfl) rfl rfl ?_
  refine G_iload 81 dJ33_treeify_79 rfl rfl ?_
  refine G_icmp_le 90 84 dJ33_treeify_81 (by decide) rfl (fun u4 => ?_) (fun u4 => ?_)
  · have h := h.1 u4
    refine G_iload 92 dJ33_treeify_90 rfl rfl ?_
    refine G_iload 94 dJ33_treeify_92 rfl rfl ?_
    refine G_icmp_ge 103 97 dJ33_treeify_94 (by decide) rfl (fun u5 => ?_) (fun u5 => ?_)
    · have h := h.1 u5
      refine G_aload 105 dJ33_treeify_103 rfl rfl ?_
      refine G_ifnonnull 119 108 dJ33_treeify_105 (by decide) rfl (fun u6 => ?_) (fun u6 => ?_)
      · have h := h.1 u6
        refine G_aload 121 dJ33_treeify_119 rfl rfl ?_
        refine G_aload 123 dJ33_treeify_121 rfl rfl ?_
        refine G_aload 125 dJ33_treeify_123 rfl rfl ?_
        exact h.elim
      · have h := h.2 u6
        refine G_aload 110 dJ33_treeify_108 rfl rfl ?_
        exact h.elim
    · have h := h.2 u5
      refine G_iconst (v := 1) 98 dJ33_treeify_97 (by decide) rfl ?_
      refine G_istore 100 [va_rf l0, va_rf l1, va_rf l2, va_rf l3, va_rf l4, va_rf l5, .int l6, va_rf l7, va_rf l8, .int 1, .int (FI σ 84 a1), va_rf (FR σ 85 a1), v12] dJ33_treeify_98 (Nat.le_of_ble_eq_true rfl) rfl rfl ?_
      refine G_goto 143 dJ33_treeify_100 (by decide) ?_
      refine G_aload 145 dJ33_treeify_143 rfl rfl ?_
      refine G_astore 147 [va_rf l0, va_rf l1, va_rf l2, va_rf l3, va_rf l4, va_rf l5, .int l6, va_rf l7, va_rf l8, .int 1, .int (FI σ 84 a1), va_rf (FR σ 85 a1), va_rf l8] dJ33_treeify_145 (Nat.le_of_ble_eq_true rfl) rfl rfl ?_
      refine G_iload 149 dJ33_treeify_147 rfl rfl ?_
      refine G_if_gt 160 152 dJ33_treeify_149 (by decide) rfl (fun _ => ?_) (fun q => absurd q (by decide))
      refine G_aload 162 dJ33_treeify_160 rfl rfl ?_
      obtain ⟨c7, h⟩ := h
      refine G_getR (f := 92) (a := a1) "" 165 dJ33_treeify_162 (Or.inl q1311) (Or.inl rfl) rfl e2 (hf92 c7) rfl ?_
      refine G_dup 166 dJ33_treeify_165 (rf_cat _) rfl ?_
      refine G_astore 168 [va_rf l0, va_rf l1, va_rf l2, va_rf l3, va_rf l4, va_rf l5, .int l6, va_rf l7, va_rf (FR σ 92 a1), .int 1, .int (FI σ 84 a1), va_rf (FR σ 85 a1), va_rf l8] dJ33_treeify_166 (Nat.le_of_ble_eq_true rfl) rfl rfl ?_
      refine G_ifnonnull 206 171 dJ33_treeify_168 (by decide) rfl (fun u8 => ?_) (fun u8 => ?_)
      · have h := h.1 u8
        refine G_goto 64 dJ33_treeify_206 (by decide) ?_
        exact h
      · have h := h.2 u8
        refine G_aload_n 172 dJ33_treeify_171 rfl rfl ?_
        refine G_aload 174 dJ33_treeify_172 rfl rfl ?_
        obtain ⟨a9, e10, h⟩ := h
        obtain ⟨c11, h⟩ := h
        refine G_putR (f := 90) (a := a9) "" 177 dJ33_treeify_174 (Or.inl q1309) (Or.inl rfl) rfl e10 (hp90 c11) (nk90 c11) (Or.inl rfl) (fun y => by cases y <;> rfl) (fun y => by cases y <;> rfl) rfl ?_
        generalize hs12 : sFR σ 90 a9 l8 = s12
        have x13 : ∀ a, ¬ kd σ a = 0 → kd s12 a = kd σ a := by subst hs12; exact fun a _ => congrFun kd_sFR a
        have h := h s12 hs12.symm
        refine G_iload 179 dJ33_treeify_177 rfl rfl ?_
        refine G_if_gt 191 182 dJ33_treeify_179 (by decide) rfl (fun _ => ?_) (fun q => absurd q (by decide))
        refine G_aload 193 dJ33_treeify_191 rfl rfl ?_
        refine G_aload_n 194 dJ33_treeify_193 rfl rfl ?_
        have c7 := kdE x13 c7 (by decide)
        refine G_putR (f := 92) (a := a1) "" 197 dJ33_treeify_194 (Or.inl q1311) (Or.inl rfl) rfl e2 (hp92 c7) (nk92 c7) (Or.inl rfl) (fun y => by cases y <;> rfl) (fun y => by cases y <;> rfl) rfl ?_
        generalize hs14 : sFR s12 92 a1 l3 = s14
        have x15 : ∀ a, ¬ kd s12 a = 0 → kd s14 a = kd s12 a := by subst hs14; exact fun a _ => congrFun kd_sFR a
        have h := h s14 hs14.symm
        refine G_aload_n 198 dJ33_treeify_197 rfl rfl ?_
        refine G_aload_n 199 dJ33_treeify_198 rfl rfl ?_
        refine G_invS (N := mJ33_balanceInsertion) (As := [va_rf l2, va_rf l3]) (st := []) (rc) (rs) "" 202 dJ33_treeify_199 (Or.inl q1224) q1225 q72 q1226 rfl mJ33_balanceInsertion_args ⟨Nat.le_of_ble_eq_true rfl, Nat.le_of_ble_eq_true rfl⟩ rfl (Nat.zero_le _) (le_b mJ33_balanceInsertion_c (Nat.le_refl _)) (le_b mJ33_balanceInsertion_s (Nat.le_refl _)) rfl (Cal.mono h ?_)
        rintro s16 v ⟨x17, rfl, h⟩ hx18
        have h := h hx18
        have x19 := hx18.x
        show G w mJ33_treeify (KV K) (rc) (rs) s16 202 [va_rf l0, va_rf l1, va_rf l2, va_rf l3, va_rf l4, va_rf l5, .int l6, va_rf l7, va_rf (FR σ 92 a1), .int 1, .int (FI σ 84 a1), va_rf (FR σ 85 a1), va_rf l8] [va_rf x17]
        refine G_astore_n 203 [va_rf l0, va_rf l1, va_rf x17, va_rf l3, va_rf l4, va_rf l5, .int l6, va_rf l7, va_rf (FR σ 92 a1), .int 1, .int (FI σ 84 a1), va_rf (FR σ 85 a1), va_rf l8] dJ33_treeify_202 (Nat.le_of_ble_eq_true rfl) rfl rfl ?_
        refine G_goto 209 dJ33_treeify_203 (by decide) ?_
        refine G_aload 211 dJ33_treeify_209 rfl rfl ?_
        refine G_astore_n 212 [va_rf l0, va_rf l1, va_rf x17, va_rf l4, va_rf l4, va_rf l5, .int l6, va_rf l7, va_rf (FR σ 92 a1), .int 1, .int (FI σ 84 a1), va_rf (FR σ 85 a1), va_rf l8] dJ33_treeify_211 (Nat.le_of_ble_eq_true rfl) rfl rfl ?_
        refine G_goto 4 dJ33_treeify_212 (by decide) ?_
        exact h
  · have h := h.2 u4
    refine G_iconst (v := (-1)) 85 dJ33_treeify_84 (by decide) rfl ?_
    refine G_istore 87 [va_rf l0, va_rf l1, va_rf l2, va_rf l3, va_rf l4, va_rf l5, .int l6, va_rf l7, va_rf l8, .int (-1), .int (FI σ 84 a1), va_rf (FR σ 85 a1), v12] dJ33_treeify_85 (Nat.le_of_ble_eq_true rfl) rfl rfl ?_
    refine G_goto 143 dJ33_treeify_87 (by decide) ?_
    refine G_aload 145 dJ33_treeify_143 rfl rfl ?_
    refine G_astore 147 [va_rf l0, va_rf l1, va_rf l2, va_rf l3, va_rf l4, va_rf l5, .int l6, va_rf l7, va_rf l8, .int (-1), .int (FI σ 84 a1), va_rf (FR σ 85 a1), va_rf l8] dJ33_treeify_145 (Nat.le_of_ble_eq_true rfl) rfl rfl ?_
    refine G_iload 149 dJ33_treeify_147 rfl rfl ?_
    refine G_if_gt 160 152 dJ33_treeify_149 (by decide) rfl (fun q => absurd q (by decide)) (fun _ => ?_)
    refine G_aload 154 dJ33_treeify_152 rfl rfl ?_
    obtain ⟨c20, h⟩ := h
    refine G_getR (f := 91) (a := a1) "" 157 dJ33_treeify_154 (Or.inl q1310) (Or.inl rfl) rfl e2 (hf91 c20) rfl ?_
    refine G_goto 165 dJ33_treeify_157 (by decide) ?_
    refine G_dup 166 dJ33_treeify_165 (rf_cat _) rfl ?_
    refine G_astore 168 [va_rf l0, va_rf l1, va_rf l2, va_rf l3, va_rf l4, va_rf l5, .int l6, va_rf l7, va_rf (FR σ 91 a1), .int (-1), .int (FI σ 84 a1), va_rf (FR σ 85 a1), va_rf l8] dJ33_treeify_166 (Nat.le_of_ble_eq_true rfl) rfl rfl ?_
    refine G_ifnonnull 206 171 dJ33_treeify_168 (by decide) rfl (fun u21 => ?_) (fun u21 => ?_)
    · have h := h.1 u21
      refine G_goto 64 dJ33_treeify_206 (by decide) ?_
      exact h
    · have h := h.2 u21
      refine G_aload_n 172 dJ33_treeify_171 rfl rfl ?_
      refine G_aload 174 dJ33_treeify_172 rfl rfl ?_
      obtain ⟨a22, e23, h⟩ := h
      obtain ⟨c24, h⟩ := h
      refine G_putR (f := 90) (a := a22) "" 177 dJ33_treeify_174 (Or.inl q1309) (Or.inl rfl) rfl e23 (hp90 c24) (nk90 c24) (Or.inl rfl) (fun y => by cases y <;> rfl) (fun y => by cases y <;> rfl) rfl ?_
      generalize hs25 : sFR σ 90 a22 l8 = s25
      have x26 : ∀ a, ¬ kd σ a = 0 → kd s25 a = kd σ a := by subst hs25; exact fun a _ => congrFun kd_sFR a
      have h := h s25 hs25.symm
      refine G_iload 179 dJ33_treeify_177 rfl rfl ?_
      refine G_if_gt 191 182 dJ33_treeify_179 (by decide) rfl (fun q => absurd q (by decide)) (fun _ => ?_)
      refine G_aload 184 dJ33_treeify_182 rfl rfl ?_
      refine G_aload_n 185 dJ33_treeify_184 rfl rfl ?_
      have c20 := kdE x26 c20 (by decide)
      refine G_putR (f := 91) (a := a1) "" 188 dJ33_treeify_185 (Or.inl q1310) (Or.inl rfl) rfl e2 (hp91 c20) (nk91 c20) (Or.inl rfl) (fun y => by cases y <;> rfl) (fun y => by cases y <;> rfl) rfl ?_
      generalize hs27 : sFR s25 91 a1 l3 = s27
      have x28 : ∀ a, ¬ kd s25 a = 0 → kd s27 a = kd s25 a := by subst hs27; exact fun a _ => congrFun kd_sFR a
      have h := h s27 hs27.symm
      refine G_goto 197 dJ33_treeify_188 (by decide) ?_
      refine G_aload_n 198 dJ33_treeify_197 rfl rfl ?_
      refine G_aload_n 199 dJ33_treeify_198 rfl rfl ?_
      refine G_invS (N := mJ33_balanceInsertion) (As := [va_rf l2, va_rf l3]) (st := []) (rc) (rs) "" 202 dJ33_treeify_199 (Or.inl q1224) q1225 q72 q1226 rfl mJ33_balanceInsertion_args ⟨Nat.le_of_ble_eq_true rfl, Nat.le_of_ble_eq_true rfl⟩ rfl (Nat.zero_le _) (le_b mJ33_balanceInsertion_c (Nat.le_refl _)) (le_b mJ33_balanceInsertion_s (Nat.le_refl _)) rfl (Cal.mono h ?_)
      rintro s29 v ⟨x30, rfl, h⟩ hx31
      have h := h hx31
      have x32 := hx31.x
      show G w mJ33_treeify (KV K) (rc) (rs) s29 202 [va_rf l0, va_rf l1, va_rf l2, va_rf l3, va_rf l4, va_rf l5, .int l6, va_rf l7, va_rf (FR σ 91 a1), .int (-1), .int (FI σ 84 a1), va_rf (FR σ 85 a1), va_rf l8] [va_rf x30]
      refine G_astore_n 203 [va_rf l0, va_rf l1, va_rf x30, va_rf l3, va_rf l4, va_rf l5, .int l6, va_rf l7, va_rf (FR σ 91 a1), .int (-1), .int (FI σ 84 a1), va_rf (FR σ 85 a1), va_rf l8] dJ33_treeify_202 (Nat.le_of_ble_eq_true rfl) rfl rfl ?_
      refine G_goto 209 dJ33_treeify_203 (by decide) ?_
      refine G_aload 211 dJ33_treeify_209 rfl rfl ?_
      refine G_astore_n 212 [va_rf l0, va_rf l1, va_rf x30, va_rf l4, va_rf l4, va_rf l5, .int l6, va_rf l7, va_rf (FR σ 91 a1), .int (-1), .int (FI σ 84 a1), va_rf (FR σ 85 a1), va_rf l8] dJ33_treeify_211 (Nat.le_of_ble_eq_true rfl) rfl rfl ?_
      refine G_goto 4 dJ33_treeify_212 (by decide) ?_
      exact h
theorem eJ33_treeify {w : Wt} {K : Sg → Prop} {σ : Sg} (l0 : Option Nat) (l1 : Option Nat) (h : G w mJ33_treeify (KV K) 0 0 σ 0 [va_rf l0, va_rf l1, U_, U_, U_, U_, U_, U_, U_, U_, U_, U_, U_] []) : CalV w mJ33_treeify σ [va_rf l0, va_rf l1] K :=
  Cal.start 11 mJ33_treeify_plain (catR (catR cat0)) (Nat.le_of_ble_eq_true rfl) rfl h
set_option maxHeartbeats 4000000 in
theorem bJ33_balanceInsertion_0 {w : Wt} {K : Sg → Option Nat → Prop} {rc rs : Nat} {σ : Sg} (l0 : Option Nat) (l1 : Option Nat) (h : ∃ a1, l1 = some a1 ∧ kd σ a1 = 32 ∧ ∀ s4, s4 = sFI σ 94 a1 1 → G w mJ33_balanceInsertion (KR K) (rc) (rs) s4 5 [va_rf l0, va_rf l1, U_, U_, U_, U_] []) : G w mJ33_balanceInsertion (KR K) (rc) (rs) σ 0 [va_rf l0, va_rf l1, U_, U_, U_, U_] [] := by
  refine G_aload_n 1 dJ33_balanceInsertion_0 rfl rfl ?_
  refine G_iconst (v := 1) 2 dJ33_balanceInsertion_1 (by decide) rfl ?_
  obtain ⟨a1, e2, h⟩ := h
  obtain ⟨c3, h⟩ := h
  refine G_putI (f := 94) (a := a1) "" 5 dJ33_balanceInsertion_2 (Or.inl q1314) (Or.inl rfl) rfl e2 (hp94 c3) (nk94 c3) (Or.inl rfl) rfl rfl rfl ?_
  generalize hs4 : sFI σ 94 a1 1 = s4
  have x5 : ∀ a, ¬ kd σ a = 0 → kd s4 a = kd σ a := by subst hs4; exact fun a _ => congrFun kd_sFI a
  have h := h s4 hs4.symm
  exact h
set_option maxHeartbeats 4000000 in
theorem bJ33_balanceInsertion_5 {w : Wt} {K : Sg → Option Nat → Prop} {rc rs : Nat} {σ : Sg} (l0 : Option Nat) (l1 : Option Nat) (v2 : Value) (v3 : Value) (v4 : Value) (v5 : Value) (h : ∃ a1, l1 = some a1 ∧ kd σ a1 = 32 ∧ ((¬ FR σ 90 a1 = none → ∃ a5, FR σ 90 a1 = some a5 ∧ kd σ a5 = 32 ∧ ((FI σ 94 a5 = 0 → G w mJ33_balanceInsertion (KR K) (rc) (rs) σ 37 [va_rf l0, va_rf l1, va_rf (FR σ 90 a1), v3, v4, v5] []) ∧ (¬ FI σ 94 a5 = 0 → ((¬ FR σ 90 a5 = none → ∃ a10, FR σ 90 a5 = some a10 ∧ kd σ a10 = 32 ∧ ((¬ FR σ 90 a1 = FR σ 91 a10 → ((FR σ 91 a10 = none → G w mJ33_balanceInsertion (KR K) (rc) (rs) σ 184 [va_rf l0, va_rf l1, va_rf (FR σ 90 a1), va_rf (FR σ 90 a5), va_rf (FR σ 91 a10), v5] []) ∧ (¬ FR σ 91 a10 = none → ∃ a15, FR σ 91 a10 = some a15 ∧ kd σ a15 = 32 ∧ ((FI σ 94 a15 = 0 → G w mJ33_balanceInsertion (KR K) (rc) (rs) σ 184 [va_rf l0, va_rf l1, va_rf (FR σ 90 a1), va_rf (FR σ 90 a5), va_rf (FR σ 91 a10), v5] []) ∧ (¬ FI σ 94 a15 = 0 → ∀ s19, s19 = sFI σ 94 a15 0 → ∀ s21, s21 = sFI s19 94 a5 0 → ∀ s23, s23 = sFI s21 94 a10 1 → G w mJ33_balanceInsertion (KR K) (rc) (rs) s23 5 [va_rf l0, va_rf (FR σ 90 a5), va_rf (FR σ 90 a1), va_rf (FR σ 90 a5), va_rf (FR σ 91 a10), v5] []))))) ∧ (FR σ 90 a1 = FR σ 91 a10 → ((FR σ 92 a10 = none → G w mJ33_balanceInsertion (KR K) (rc) (rs) σ 89 [va_rf l0, va_rf l1, va_rf (FR σ 90 a1), va_rf (FR σ 90 a5), va_rf (FR σ 91 a10), va_rf (FR σ 92 a10)] []) ∧ (¬ FR σ 92 a10 = none → ∃ a26, FR σ 92 a10 = some a26 ∧ kd σ a26 = 32 ∧ ((FI σ 94 a26 = 0 → G w mJ33_balanceInsertion (KR K) (rc) (rs) σ 89 [va_rf l0, va_rf l1, va_rf (FR σ 90 a1), va_rf (FR σ 90 a5), va_rf (FR σ 91 a10), va_rf (FR σ 92 a10)] []) ∧ (¬ FI σ 94 a26 = 0 → ∀ s30, s30 = sFI σ 94 a26 0 → ∀ s32, s32 = sFI s30 94 a5 0 → ∀ s34, s34 = sFI s32 94 a10 1 → G w mJ33_balanceInsertion (KR K) (rc) (rs) s34 5 [va_rf l0, va_rf (FR σ 90 a5), va_rf (FR σ 90 a1), va_rf (FR σ 90 a5), va_rf (FR σ 91 a10), va_rf (FR σ 92 a10)] []))))))) ∧ (FR σ 90 a5 = none → G w mJ33_balanceInsertion (KR K) (rc) (rs) σ 37 [va_rf l0, va_rf l1, va_rf (FR σ 90 a1), va_rf (FR σ 90 a5), v4, v5] []))))) ∧ (FR σ 90 a1 = none → ∀ s36, s36 = sFI σ 94 a1 0 → K s36 l1))) : G w mJ33_balanceInsertion (KR K) (rc) (rs) σ 5 [va_rf l0, va_rf l1, v2, v3, v4, v5] [] := by
  refine G_aload_n 6 dJ33_balanceInsertion_5 rfl rfl ?_
  obtain ⟨a1, e2, h⟩ := h
  obtain ⟨c3, h⟩ := h
  refine G_getR (f := 90) (a := a1) "" 9 dJ33_balanceInsertion_6 (Or.inl q1309) (Or.inl rfl) rfl e2 (hf90 c3) rfl ?_
  refine G_dup 10 dJ33_balanceInsertion_9 (rf_cat _) rfl ?_
  refine G_astore_n 11 [va_rf l0, va_rf l1, va_rf (FR σ 90 a1), v3, v4, v5] dJ33_balanceInsertion_10 (Nat.le_of_ble_eq_true rfl) rfl rfl ?_
  refine G_ifnonnull 21 14 dJ33_balanceInsertion_11 (by decide) rfl (fun u4 => ?_) (fun u4 => ?_)
  · have h := h.1 u4
    refine G_aload_n 22 dJ33_balanceInsertion_21 rfl rfl ?_
    obtain ⟨a5, e6, h⟩ := h
    obtain ⟨c7, h⟩ := h
    refine G_getI (f := 94) (a := a5) "" 25 dJ33_balanceInsertion_22 (Or.inl q1314) (Or.inl rfl) rfl e6 (hf94 c7) rfl ?_
    refine G_if_eq 37 28 dJ33_balanceInsertion_25 (by decide) rfl (fun u8 => ?_) (fun u8 => ?_)
    · have h := h.1 u8
      exact h
    · have h := h.2 u8
      refine G_aload_n 29 dJ33_balanceInsertion_28 rfl rfl ?_
      refine G_getR (f := 90) (a := a5) "" 32 dJ33_balanceInsertion_29 (Or.inl q1309) (Or.inl rfl) rfl e6 (hf90 c7) rfl ?_
      refine G_dup 33 dJ33_balanceInsertion_32 (rf_cat _) rfl ?_
      refine G_astore_n 34 [va_rf l0, va_rf l1, va_rf (FR σ 90 a1), va_rf (FR σ 90 a5), v4, v5] dJ33_balanceInsertion_33 (Nat.le_of_ble_eq_true rfl) rfl rfl ?_
      refine G_ifnonnull 39 37 dJ33_balanceInsertion_34 (by decide) rfl (fun u9 => ?_) (fun u9 => ?_)
      · have h := h.1 u9
        refine G_aload_n 40 dJ33_balanceInsertion_39 rfl rfl ?_
        refine G_aload_n 41 dJ33_balanceInsertion_40 rfl rfl ?_
        obtain ⟨a10, e11, h⟩ := h
        obtain ⟨c12, h⟩ := h
        refine G_getR (f := 91) (a := a10) "" 44 dJ33_balanceInsertion_41 (Or.inl q1310) (Or.inl rfl) rfl e11 (hf91 c12) rfl ?_
        refine G_dup 45 dJ33_balanceInsertion_44 (rf_cat _) rfl ?_
        refine G_astore 47 [va_rf l0, va_rf l1, va_rf (FR σ 90 a1), va_rf (FR σ 90 a5), va_rf (FR σ 91 a10), v5] dJ33_balanceInsertion_45 (Nat.le_of_ble_eq_true rfl) rfl rfl ?_
        refine G_acmp_ne 150 50 dJ33_balanceInsertion_47 (by decide) rfl (fun u13 => ?_) (fun u13 => ?_)
        · have h := h.1 u13
          refine G_aload 152 dJ33_balanceInsertion_150 rfl rfl ?_
          refine G_ifnull 184 155 dJ33_balanceInsertion_152 (by decide) rfl (fun u14 => ?_) (fun u14 => ?_)
          · have h := h.1 u14
            exact h
          · have h := h.2 u14
            refine G_aload 157 dJ33_balanceInsertion_155 rfl rfl ?_
            obtain ⟨a15, e16, h⟩ := h
            obtain ⟨c17, h⟩ := h
            refine G_getI (f := 94) (a := a15) "" 160 dJ33_balanceInsertion_157 (Or.inl q1314) (Or.inl rfl) rfl e16 (hf94 c17) rfl ?_
            refine G_if_eq 184 163 dJ33_balanceInsertion_160 (by decide) rfl (fun u18 => ?_) (fun u18 => ?_)
            · have h := h.1 u18
              exact h
            · have h := h.2 u18
              refine G_aload 165 dJ33_balanceInsertion_163 rfl rfl ?_
              refine G_iconst (v := 0) 166 dJ33_balanceInsertion_165 (by decide) rfl ?_
              refine G_putI (f := 94) (a := a15) "" 169 dJ33_balanceInsertion_166 (Or.inl q1314) (Or.inl rfl) rfl e16 (hp94 c17) (nk94 c17) (Or.inl rfl) rfl rfl rfl ?_
              generalize hs19 : sFI σ 94 a15 0 = s19
              have x20 : ∀ a, ¬ kd σ a = 0 → kd s19 a = kd σ a := by subst hs19; exact fun a _ => congrFun kd_sFI a
              have h := h s19 hs19.symm
              refine G_aload_n 170 dJ33_balanceInsertion_169 rfl rfl ?_
              refine G_iconst (v := 0) 171 dJ33_balanceInsertion_170 (by decide) rfl ?_
              have c7 := kdE x20 c7 (by decide)
              refine G_putI (f := 94) (a := a5) "" 174 dJ33_balanceInsertion_171 (Or.inl q1314) (Or.inl rfl) rfl e6 (hp94 c7) (nk94 c7) (Or.inl rfl) rfl rfl rfl ?_
              generalize hs21 : sFI s19 94 a5 0 = s21
              have x22 : ∀ a, ¬ kd s19 a = 0 → kd s21 a = kd s19 a := by subst hs21; exact fun a _ => congrFun kd_sFI a
              have h := h s21 hs21.symm
              refine G_aload_n 175 dJ33_balanceInsertion_174 rfl rfl ?_
              refine G_iconst (v := 1) 176 dJ33_balanceInsertion_175 (by decide) rfl ?_
              have c12 := kdE x20 c12 (by decide)
              have c12 := kdE x22 c12 (by decide)
              refine G_putI (f := 94) (a := a10) "" 179 dJ33_balanceInsertion_176 (Or.inl q1314) (Or.inl rfl) rfl e11 (hp94 c12) (nk94 c12) (Or.inl rfl) rfl rfl rfl ?_
              generalize hs23 : sFI s21 94 a10 1 = s23
              have x24 : ∀ a, ¬ kd s21 a = 0 → kd s23 a = kd s21 a := by subst hs23; exact fun a _ => congrFun kd_sFI a
              have h := h s23 hs23.symm
              refine G_aload_n 180 dJ33_balanceInsertion_179 rfl rfl ?_
              refine G_astore_n 181 [va_rf l0, va_rf (FR σ 90 a5), va_rf (FR σ 90 a1), va_rf (FR σ 90 a5), va_rf (FR σ 91 a10), v5] dJ33_balanceInsertion_180 (Nat.le_of_ble_eq_true rfl) rfl rfl ?_
              refine G_goto 5 dJ33_balanceInsertion_181 (by decide) ?_
              exact h
        · have h := h.2 u13
          refine G_aload_n 51 dJ33_balanceInsertion_50 rfl rfl ?_
          refine G_getR (f := 92) (a := a10) "" 54 dJ33_balanceInsertion_51 (Or.inl q1311) (Or.inl rfl) rfl e11 (hf92 c12) rfl ?_
          refine G_dup 55 dJ33_balanceInsertion_54 (rf_cat _) rfl ?_
          refine G_astore 57 [va_rf l0, va_rf l1, va_rf (FR σ 90 a1), va_rf (FR σ 90 a5), va_rf (FR σ 91 a10), va_rf (FR σ 92 a10)] dJ33_balanceInsertion_55 (Nat.le_of_ble_eq_true rfl) rfl rfl ?_
          refine G_ifnull 89 60 dJ33_balanceInsertion_57 (by decide) rfl (fun u25 => ?_) (fun u25 => ?_)
          · have h := h.1 u25
            exact h
          · have h := h.2 u25
            refine G_aload 62 dJ33_balanceInsertion_60 rfl rfl ?_
            obtain ⟨a26, e27, h⟩ := h
            obtain ⟨c28, h⟩ := h
            refine G_getI (f := 94) (a := a26) "" 65 dJ33_balanceInsertion_62 (Or.inl q1314) (Or.inl rfl) rfl e27 (hf94 c28) rfl ?_
            refine G_if_eq 89 68 dJ33_balanceInsertion_65 (by decide) rfl (fun u29 => ?_) (fun u29 => ?_)
            · have h := h.1 u29
              exact h
            · have h := h.2 u29
              refine G_aload 70 dJ33_balanceInsertion_68 rfl rfl ?_
              refine G_iconst (v := 0) 71 dJ33_balanceInsertion_70 (by decide) rfl ?_
              refine G_putI (f := 94) (a := a26) "" 74 dJ33_balanceInsertion_71 (Or.inl q1314) (Or.inl rfl) rfl e27 (hp94 c28) (nk94 c28) (Or.inl rfl) rfl rfl rfl ?_
              generalize hs30 : sFI σ 94 a26 0 = s30
              have x31 : ∀ a, ¬ kd σ a = 0 → kd s30 a = kd σ a := by subst hs30; exact fun a _ => congrFun kd_sFI a
              have h := h s30 hs30.symm
              refine G_aload_n 75 dJ33_balanceInsertion_74 rfl rfl ?_
              refine G_iconst (v := 0) 76 dJ33_balanceInsertion_75 (by decide) rfl ?_
              have c7 := kdE x31 c7 (by decide)
              refine G_putI (f := 94) (a := a5) "" 79 dJ33_balanceInsertion_76 (Or.inl q1314) (Or.inl rfl) rfl e6 (hp94 c7) (nk94 c7) (Or.inl rfl) rfl rfl rfl ?_
              generalize hs32 : sFI s30 94 a5 0 = s32
              have x33 : ∀ a, ¬ kd s30 a = 0 → kd s32 a = kd s30 a := by subst hs32; exact fun a _ => congrFun kd_sFI a
              have h := h s32 hs32.symm
              refine G_aload_n 80 dJ33_balanceInsertion_79 rfl rfl ?_
              refine G_iconst (v := 1) 81 dJ33_balanceInsertion_80 (by decide) rfl ?_
              have c12 := kdE x31 c12 (by decide)
              have c12 := kdE x33 c12 (by decide)
              refine G_putI (f := 94) (a := a10) "" 84 dJ33_balanceInsertion_81 (Or.inl q1314) (Or.inl rfl) rfl e11 (hp94 c12) (nk94 c12) (Or.inl rfl) rfl rfl rfl ?_
              generalize hs34 : sFI s32 94 a10 1 = s34
              have x35 : ∀ a, ¬ kd s32 a = 0 → kd s34 a = kd s32 a := by subst hs34; exact fun a _ => congrFun kd_sFI a
              have h := h s34 hs34.symm
              refine G_aload_n 85 dJ33_balanceInsertion_84 rfl rfl ?_
              refine G_astore_n 86 [va_rf l0, va_rf (FR σ 90 a5), va_rf (FR σ 90 a1), va_rf (FR σ 90 a5), va_rf (FR σ 91 a10), va_rf (FR σ 92 a10)] dJ33_balanceInsertion_85 (Nat.le_of_ble_eq_true rfl) rfl rfl ?_
              refine G_goto 5 dJ33_balanceInsertion_86 (by decide) ?_
              exact h
      · have h := h.2 u9
        exact h
  · have h := h.2 u4
    refine G_aload_n 15 dJ33_balanceInsertion_14 rfl rfl ?_
    refine G_iconst (v := 0) 16 dJ33_balanceInsertion_15 (by decide) rfl ?_
    refine G_putI (f := 94) (a := a1) "" 19 dJ33_balanceInsertion_16 (Or.inl q1314) (Or.inl rfl) rfl e2 (hp94 c3) (nk94 c3) (Or.inl rfl) rfl rfl rfl ?_
    generalize hs36 : sFI σ 94 a1 0 = s36
    have x37 : ∀ a, ¬ kd σ a = 0 → kd s36 a = kd σ a := by subst hs36; exact fun a _ => congrFun kd_sFI a
    have h := h s36 hs36.symm
    refine G_aload_n 20 dJ33_balanceInsertion_19 rfl rfl ?_
    exact G_aret dJ33_balanceInsertion_20 rfl (Or.inl ⟨_, rfl⟩) ⟨_, rfl, h⟩
set_option maxHeartbeats 4000000 in
theorem bJ33_balanceInsertion_37 {w : Wt} {K : Sg → Option Nat → Prop} {rc rs : Nat} {σ : Sg} (l0 : Option Nat) (l1 : Option Nat) (l2 : Option Nat) (v3 : Value) (v4 : Value) (v5 : Value) (h : K σ l0) : G w mJ33_balanceInsertion (KR K) (rc) (rs) σ 37 [va_rf l0, va_rf l1, va_rf l2, v3, v4, v5] [] := by
  refine G_aload_n 38 dJ33_balanceInsertion_37 rfl rfl ?_
  exact G_aret dJ33_balanceInsertion_38 rfl (Or.inl ⟨_, rfl⟩) ⟨_, rfl, h⟩
set_option maxHeartbeats 4000000 in
theorem bJ33_balanceInsertion_89 {w : Wt} {K : Sg → Option Nat → Prop} {rc rs : Nat} {σ : Sg} (l0 : Option Nat) (l1 : Option Nat) (l2 : Option Nat) (l3 : Option Nat) (l4 : Option Nat) (l5 : Option Nat) (h : ∃ a1, l2 = some a1 ∧ kd σ a1 = 32 ∧ ((¬ l1 = FR σ 92 a1 → G w mJ33_balanceInsertion (KR K) (rc) (rs) σ 123 [va_rf l0, va_rf l1, va_rf l2, va_rf l3, va_rf l4, va_rf l5] []) ∧ (l1 = FR σ 92 a1 → CalR w mJ33_rotateLeft σ [va_rf l0, va_rf l2] (fun s5 x6 => Ext σ s5 → ((¬ FR s5 90 a1 = none → ∃ a10, FR s5 90 a1 = some a10 ∧ kd s5 a10 = 32 ∧ G w mJ33_balanceInsertion (KR K) (rc) (rs) s5 123 [va_rf x6, va_rf l2, va_rf (FR s5 90 a1), va_rf (FR s5 90 a10), va_rf l4, va_rf l5] []) ∧ (FR s5 90 a1 = none → G w mJ33_balanceInsertion (KR K) (rc) (rs) s5 123 [va_rf x6, va_rf l2, va_rf (FR s5 90 a1), va_rf none, va_rf l4, va_rf l5] [])))))) : G w mJ33_balanceInsertion (KR K) (rc) (rs) σ 89 [va_rf l0, va_rf l1, va_rf l2, va_rf l3, va_rf l4, va_rf l5] [] := by
  refine G_aload_n 90 dJ33_balanceInsertion_89 rfl rfl ?_
  refine G_aload_n 91 dJ33_balanceInsertion_90 rfl rfl ?_
  obtain ⟨a1, e2, h⟩ := h
  obtain ⟨c3, h⟩ := h
  refine G_getR (f := 92) (a := a1) "" 94 dJ33_balanceInsertion_91 (Or.inl q1311) (Or.inl rfl) rfl e2 (hf92 c3) rfl ?_
  refine G_acmp_ne 123 97 dJ33_balanceInsertion_94 (by decide) rfl (fun u4 => ?_) (fun u4 => ?_)
  · have h := h.1 u4
    exact h
  · have h := h.2 u4
    refine G_aload_n 98 dJ33_balanceInsertion_97 rfl rfl ?_
    refine G_aload_n 99 dJ33_balanceInsertion_98 rfl rfl ?_
    refine G_dup 100 dJ33_balanceInsertion_99 (rf_cat _) rfl ?_
    refine G_astore_n 101 [va_rf l0, va_rf l2, va_rf l2, va_rf l3, va_rf l4, va_rf l5] dJ33_balanceInsertion_100 (Nat.le_of_ble_eq_true rfl) rfl rfl ?_
    refine G_invS (N := mJ33_rotateLeft) (As := [va_rf l0, va_rf l2]) (st := []) (rc) (rs) "" 104 dJ33_balanceInsertion_101 (Or.inl q1227) q1228 q72 q1229 rfl mJ33_rotateLeft_args ⟨Nat.le_of_ble_eq_true rfl, Nat.le_of_ble_eq_true rfl⟩ rfl (Nat.zero_le _) (le_b mJ33_rotateLeft_c (Nat.le_refl _)) (le_b mJ33_rotateLeft_s (Nat.le_refl _)) rfl (Cal.mono h ?_)
    rintro s5 v ⟨x6, rfl, h⟩ hx7
    have h := h hx7
    have x8 := hx7.x
    show G w mJ33_balanceInsertion (KR K) (rc) (rs) s5 104 [va_rf l0, va_rf l2, va_rf l2, va_rf l3, va_rf l4, va_rf l5] [va_rf x6]
    refine G_astore_n 105 [va_rf x6, va_rf l2, va_rf l2, va_rf l3, va_rf l4, va_rf l5] dJ33_balanceInsertion_104 (Nat.le_of_ble_eq_true rfl) rfl rfl ?_
    refine G_aload_n 106 dJ33_balanceInsertion_105 rfl rfl ?_
    have c3 := kdE x8 c3 (by decide)
    refine G_getR (f := 90) (a := a1) "" 109 dJ33_balanceInsertion_106 (Or.inl q1309) (Or.inl rfl) rfl e2 (hf90 c3) rfl ?_
    refine G_dup 110 dJ33_balanceInsertion_109 (rf_cat _) rfl ?_
    refine G_astore_n 111 [va_rf x6, va_rf l2, va_rf (FR s5 90 a1), va_rf l3, va_rf l4, va_rf l5] dJ33_balanceInsertion_110 (Nat.le_of_ble_eq_true rfl) rfl rfl ?_
    refine G_ifnonnull 118 114 dJ33_balanceInsertion_111 (by decide) rfl (fun u9 => ?_) (fun u9 => ?_)
    · have h := h.1 u9
      refine G_aload_n 119 dJ33_balanceInsertion_118 rfl rfl ?_
      obtain ⟨a10, e11, h⟩ := h
      obtain ⟨c12, h⟩ := h
      refine G_getR (f := 90) (a := a10) "" 122 dJ33_balanceInsertion_119 (Or.inl q1309) (Or.inl rfl) rfl e11 (hf90 c12) rfl ?_
      refine G_astore_n 123 [va_rf x6, va_rf l2, va_rf (FR s5 90 a1), va_rf (FR s5 90 a10), va_rf l4, va_rf l5] dJ33_balanceInsertion_122 (Nat.le_of_ble_eq_true rfl) rfl rfl ?_
      exact h
    · have h := h.2 u9
      refine G_null 115 dJ33_balanceInsertion_114 rfl ?_
      refine G_goto 122 dJ33_balanceInsertion_115 (by decide) ?_
      refine G_astore_n 123 [va_rf x6, va_rf l2, va_rf (FR s5 90 a1), va_rf none, va_rf l4, va_rf l5] dJ33_balanceInsertion_122 (Nat.le_of_ble_eq_true rfl) rfl rfl ?_
      exact h
set_option maxHeartbeats 4000000 in
theorem bJ33_balanceInsertion_123 {w : Wt} {K : Sg → Option Nat → Prop} {rc rs : Nat} {σ : Sg} (l0 : Option Nat) (l1 : Option Nat) (l2 : Option Nat) (l3 : Option Nat) (l4 : Option Nat) (l5 : Option Nat) (h : ((l2 = none → G w mJ33_balanceInsertion (KR K) (rc) (rs) σ 5 [va_rf l0, va_rf l1, va_rf l2, va_rf l3, va_rf l4, va_rf l5] []) ∧ (¬ l2 = none → ∃ a2, l2 = some a2 ∧ kd σ a2 = 32 ∧ ∀ s5, s5 = sFI σ 94 a2 0 → ((l3 = none → G w mJ33_balanceInsertion (KR K) (rc) (rs) s5 5 [va_rf l0, va_rf l1, va_rf l2, va_rf l3, va_rf l4, va_rf l5] []) ∧ (¬ l3 = none → ∃ a8, l3 = some a8 ∧ kd s5 a8 = 32 ∧ ∀ s11, s11 = sFI s5 94 a8 1 → CalR w mJ33_rotateRight s11 [va_rf l0, va_rf l3] (fun s13 x14 => Ext s11 s13 → G w mJ33_balanceInsertion (KR K) (rc) (rs) s13 5 [va_rf x14, va_rf l1, va_rf l2, va_rf l3, va_rf l4, va_rf l5] [])))))) : G w mJ33_balanceInsertion (KR K) (rc) (rs) σ 123 [va_rf l0, va_rf l1, va_rf l2, va_rf l3, va_rf l4, va_rf l5] [] := by
  refine G_aload_n 124 dJ33_balanceInsertion_123 rfl rfl ?_
  refine G_ifnull 5 127 dJ33_balanceInsertion_124 (by decide) rfl (fun u1 => ?_) (fun u1 => ?_)
  · have h := h.1 u1
    exact h
  · have h := h.2 u1
    refine G_aload_n 128 dJ33_balanceInsertion_127 rfl rfl ?_
    refine G_iconst (v := 0) 129 dJ33_balanceInsertion_128 (by decide) rfl ?_
    obtain ⟨a2, e3, h⟩ := h
    obtain ⟨c4, h⟩ := h
    refine G_putI (f := 94) (a := a2) "" 132 dJ33_balanceInsertion_129 (Or.inl q1314) (Or.inl rfl) rfl e3 (hp94 c4) (nk94 c4) (Or.inl rfl) rfl rfl rfl ?_
    generalize hs5 : sFI σ 94 a2 0 = s5
    have x6 : ∀ a, ¬ kd σ a = 0 → kd s5 a = kd σ a := by subst hs5; exact fun a _ => congrFun kd_sFI a
    have h := h s5 hs5.symm
    refine G_aload_n 133 dJ33_balanceInsertion_132 rfl rfl ?_
    refine G_ifnull 5 136 dJ33_balanceInsertion_133 (by decide) rfl (fun u7 => ?_) (fun u7 => ?_)
    · have h := h.1 u7
      exact h
    · have h := h.2 u7
      refine G_aload_n 137 dJ33_balanceInsertion_136 rfl rfl ?_
      refine G_iconst (v := 1) 138 dJ33_balanceInsertion_137 (by decide) rfl ?_
      obtain ⟨a8, e9, h⟩ := h
      obtain ⟨c10, h⟩ := h
      refine G_putI (f := 94) (a := a8) "" 141 dJ33_balanceInsertion_138 (Or.inl q1314) (Or.inl rfl) rfl e9 (hp94 c10) (nk94 c10) (Or.inl rfl) rfl rfl rfl ?_
      generalize hs11 : sFI s5 94 a8 1 = s11
      have x12 : ∀ a, ¬ kd s5 a = 0 → kd s11 a = kd s5 a := by subst hs11; exact fun a _ => congrFun kd_sFI a
      have h := h s11 hs11.symm
      refine G_aload_n 142 dJ33_balanceInsertion_141 rfl rfl ?_
      refine G_aload_n 143 dJ33_balanceInsertion_142 rfl rfl ?_
      refine G_invS (N := mJ33_rotateRight) (As := [va_rf l0, va_rf l3]) (st := []) (rc) (rs) "" 146 dJ33_balanceInsertion_143 (Or.inl q1230) q1231 q72 q1232 rfl mJ33_rotateRight_args ⟨Nat.le_of_ble_eq_true rfl, Nat.le_of_ble_eq_true rfl⟩ rfl (Nat.zero_le _) (le_b mJ33_rotateRight_c (Nat.le_refl _)) (le_b mJ33_rotateRight_s (Nat.le_refl _)) rfl (Cal.mono h ?_)
      rintro s13 v ⟨x14, rfl, h⟩ hx15
      have h := h hx15
      have x16 := hx15.x
      show G w mJ33_balanceInsertion (KR K) (rc) (rs) s13 146 [va_rf l0, va_rf l1, va_rf l2, va_rf l3, va_rf l4, va_rf l5] [va_rf x14]
      refine G_astore_n 147 [va_rf x14, va_rf l1, va_rf l2, va_rf l3, va_rf l4, va_rf l5] dJ33_balanceInsertion_146 (Nat.le_of_ble_eq_true rfl) rfl rfl ?_
      refine G_goto 5 dJ33_balanceInsertion_147 (by decide) ?_
      exact h
set_option maxHeartbeats 4000000 in
theorem bJ33_balanceInsertion_184 {w : Wt} {K : Sg → Option Nat → Prop} {rc rs : Nat} {σ : Sg} (l0 : Option Nat) (l1 : Option Nat) (l2 : Option Nat) (l3 : Option Nat) (l4 : Option Nat) (v5 : Value) (h : ∃ a1, l2 = some a1 ∧ kd σ a1 = 32 ∧ ((¬ l1 = FR σ 91 a1 → G w mJ33_balanceInsertion (KR K) (rc) (rs) σ 218 [va_rf l0, va_rf l1, va_rf l2, va_rf l3, va_rf l4, v5] []) ∧ (l1 = FR σ 91 a1 → CalR w mJ33_rotateRight σ [va_rf l0, va_rf l2] (fun s5 x6 => Ext σ s5 → ((¬ FR s5 90 a1 = none → ∃ a10, FR s5 90 a1 = some a10 ∧ kd s5 a10 = 32 ∧ G w mJ33_balanceInsertion (KR K) (rc) (rs) s5 218 [va_rf x6, va_rf l2, va_rf (FR s5 90 a1), va_rf (FR s5 90 a10), va_rf l4, v5] []) ∧ (FR s5 90 a1 = none → G w mJ33_balanceInsertion (KR K) (rc) (rs) s5 218 [va_rf x6, va_rf l2, va_rf (FR s5 90 a1), va_rf none, va_rf l4, v5] [])))))) : G w mJ33_balanceInsertion (KR K) (rc) (rs) σ 184 [va_rf l0, va_rf l1, va_rf l2, va_rf l3, va_rf l4, v5] [] := by
  refine G_aload_n 185 dJ33_balanceInsertion_184 rfl rfl ?_
  refine G_aload_n 186 dJ33_balanceInsertion_185 rfl rfl ?_
  obtain ⟨a1, e2, h⟩ := h
  obtain ⟨c3, h⟩ := h
  refine G_getR (f := 91) (a := a1) "" 189 dJ33_balanceInsertion_186 (Or.inl q1310) (Or.inl rfl) rfl e2 (hf91 c3) rfl ?_
  refine G_acmp_ne 218 192 dJ33_balanceInsertion_189 (by decide) rfl (fun u4 => ?_) (fun u4 => ?_)
  · have h := h.1 u4
    exact h
  · have h := h.2 u4
    refine G_aload_n 193 dJ33_balanceInsertion_192 rfl rfl ?_
    refine G_aload_n 194 dJ33_balanceInsertion_193 rfl rfl ?_
    refine G_dup 195 dJ33_balanceInsertion_194 (rf_cat _) rfl ?_
    refine G_astore_n 196 [va_rf l0, va_rf l2, va_rf l2, va_rf l3, va_rf l4, v5] dJ33_balanceInsertion_195 (Nat.le_of_ble_eq_true rfl) rfl rfl ?_
    refine G_invS (N := mJ33_rotateRight) (As := [va_rf l0, va_rf l2]) (st := []) (rc) (rs) "" 199 dJ33_balanceInsertion_196 (Or.inl q1230) q1231 q72 q1232 rfl mJ33_rotateRight_args ⟨Nat.le_of_ble_eq_true rfl, Nat.le_of_ble_eq_true rfl⟩ rfl (Nat.zero_le _) (le_b mJ33_rotateRight_c (Nat.le_refl _)) (le_b mJ33_rotateRight_s (Nat.le_refl _)) rfl (Cal.mono h ?_)
    rintro s5 v ⟨x6, rfl, h⟩ hx7
    have h := h hx7
    have x8 := hx7.x
    show G w mJ33_balanceInsertion (KR K) (rc) (rs) s5 199 [va_rf l0, va_rf l2, va_rf l2, va_rf l3, va_rf l4, v5] [va_rf x6]
    refine G_astore_n 200 [va_rf x6, va_rf l2, va_rf l2, va_rf l3, va_rf l4, v5] dJ33_balanceInsertion_199 (Nat.le_of_ble_eq_true rfl) rfl rfl ?_
    refine G_aload_n 201 dJ33_balanceInsertion_200 rfl rfl ?_
    have c3 := kdE x8 c3 (by decide)
    refine G_getR (f := 90) (a := a1) "" 204 dJ33_balanceInsertion_201 (Or.inl q1309) (Or.inl rfl) rfl e2 (hf90 c3) rfl ?_
    refine G_dup 205 dJ33_balanceInsertion_204 (rf_cat _) rfl ?_
    refine G_astore_n 206 [va_rf x6, va_rf l2, va_rf (FR s5 90 a1), va_rf l3, va_rf l4, v5] dJ33_balanceInsertion_205 (Nat.le_of_ble_eq_true rfl) rfl rfl ?_
    refine G_ifnonnull 213 209 dJ33_balanceInsertion_206 (by decide) rfl (fun u9 => ?_) (fun u9 => ?_)
    · have h := h.1 u9
      refine G_aload_n 214 dJ33_balanceInsertion_213 rfl rfl ?_
      obtain ⟨a10, e11, h⟩ := h
      obtain ⟨c12, h⟩ := h
      refine G_getR (f := 90) (a := a10) "" 217 dJ33_balanceInsertion_214 (Or.inl q1309) (Or.inl rfl) rfl e11 (hf90 c12) rfl ?_
      refine G_astore_n 218 [va_rf x6, va_rf l2, va_rf (FR s5 90 a1), va_rf (FR s5 90 a10), va_rf l4, v5] dJ33_balanceInsertion_217 (Nat.le_of_ble_eq_true rfl) rfl rfl ?_
      exact h
    · have h := h.2 u9
      refine G_null 210 dJ33_balanceInsertion_209 rfl ?_
      refine G_goto 217 dJ33_balanceInsertion_210 (by decide) ?_
      refine G_astore_n 218 [va_rf x6, va_rf l2, va_rf (FR s5 90 a1), va_rf none, va_rf l4, v5] dJ33_balanceInsertion_217 (Nat.le_of_ble_eq_true rfl) rfl rfl ?_
      exact h
set_option maxHeartbeats 4000000 in
theorem bJ33_balanceInsertion_218 {w : Wt} {K : Sg → Option Nat → Prop} {rc rs : Nat} {σ : Sg} (l0 : Option Nat) (l1 : Option Nat) (l2 : Option Nat) (l3 : Option Nat) (l4 : Option Nat) (v5 : Value) (h : ((l2 = none → G w mJ33_balanceInsertion (KR K) (rc) (rs) σ 5 [va_rf l0, va_rf l1, va_rf l2, va_rf l3, va_rf l4, v5] []) ∧ (¬ l2 = none → ∃ a2, l2 = some a2 ∧ kd σ a2 = 32 ∧ ∀ s5, s5 = sFI σ 94 a2 0 → ((l3 = none → G w mJ33_balanceInsertion (KR K) (rc) (rs) s5 5 [va_rf l0, va_rf l1, va_rf l2, va_rf l3, va_rf l4, v5] []) ∧ (¬ l3 = none → ∃ a8, l3 = some a8 ∧ kd s5 a8 = 32 ∧ ∀ s11, s11 = sFI s5 94 a8 1 → CalR w mJ33_rotateLeft s11 [va_rf l0, va_rf l3] (fun s13 x14 => Ext s11 s13 → G w mJ33_balanceInsertion (KR K) (rc) (rs) s13 5 [va_rf x14, va_rf l1, va_rf l2, va_rf l3, va_rf l4, v5] [])))))) : G w mJ33_balanceInsertion (KR K) (rc) (rs) σ 218 [va_rf l0, va_rf l1, va_rf l2, va_rf l3, va_rf l4, v5] [] := by
  refine G_aload_n 219 dJ33_balanceInsertion_218 rfl rfl ?_
  refine G_ifnull 5 222 dJ33_balanceInsertion_219 (by decide) rfl (fun u1 => ?_) (fun u1 => ?_)
  · have h := h.1 u1
    exact h
  · have h := h.2 u1
    refine G_aload_n 223 dJ33_balanceInsertion_222 rfl rfl ?_
    refine G_iconst (v := 0) 224 dJ33_balanceInsertion_223 (by decide) rfl ?_
    obtain ⟨a2, e3, h⟩ := h
    obtain ⟨c4, h⟩ := h
    refine G_putI (f := 94) (a := a2) "" 227 dJ33_balanceInsertion_224 (Or.inl q1314) (Or.inl rfl) rfl e3 (hp94 c4) (nk94 c4) (Or.inl rfl) rfl rfl rfl ?_
    generalize hs5 : sFI σ 94 a2 0 = s5
    have x6 : ∀ a, ¬ kd σ a = 0 → kd s5 a = kd σ a := by subst hs5; exact fun a _ => congrFun kd_sFI a
    have h := h s5 hs5.symm
    refine G_aload_n 228 dJ33_balanceInsertion_227 rfl rfl ?_
    refine G_ifnull 5 231 dJ33_balanceInsertion_228 (by decide) rfl (fun u7 => ?_) (fun u7 => ?_)
    · have h := h.1 u7
      exact h
    · have h := h.2 u7
      refine G_aload_n 232 dJ33_balanceInsertion_231 rfl rfl ?_
      refine G_iconst (v := 1) 233 dJ33_balanceInsertion_232 (by decide) rfl ?_
      obtain ⟨a8, e9, h⟩ := h
      obtain ⟨c10, h⟩ := h
      refine G_putI (f := 94) (a := a8) "" 236 dJ33_balanceInsertion_233 (Or.inl q1314) (Or.inl rfl) rfl e9 (hp94 c10) (nk94 c10) (Or.inl rfl) rfl rfl rfl ?_
      generalize hs11 : sFI s5 94 a8 1 = s11
      have x12 : ∀ a, ¬ kd s5 a = 0 → kd s11 a = kd s5 a := by subst hs11; exact fun a _ => congrFun kd_sFI a
      have h := h s11 hs11.symm
      refine G_aload_n 237 dJ33_balanceInsertion_236 rfl rfl ?_
      refine G_aload_n 238 dJ33_balanceInsertion_237 rfl rfl ?_
      refine G_invS (N := mJ33_rotateLeft) (As := [va_rf l0, va_rf l3]) (st := []) (rc) (rs) "" 241 dJ33_balanceInsertion_238 (Or.inl q1227) q1228 q72 q1229 rfl mJ33_rotateLeft_args ⟨Nat.le_of_ble_eq_true rfl, Nat.le_of_ble_eq_true rfl⟩ rfl (Nat.zero_le _) (le_b mJ33_rotateLeft_c (Nat.le_refl _)) (le_b mJ33_rotateLeft_s (Nat.le_refl _)) rfl (Cal.mono h ?_)
      rintro s13 v ⟨x14, rfl, h⟩ hx15
      have h := h hx15
      have x16 := hx15.x
      show G w mJ33_balanceInsertion (KR K) (rc) (rs) s13 241 [va_rf l0, va_rf l1, va_rf l2, va_rf l3, va_rf l4, v5] [va_rf x14]
      refine G_astore_n 242 [va_rf x14, va_rf l1, va_rf l2, va_rf l3, va_rf l4, v5] dJ33_balanceInsertion_241 (Nat.le_of_ble_eq_true rfl) rfl rfl ?_
      refine G_goto 5 dJ33_balanceInsertion_242 (by decide) ?_
      exact h
theorem eJ33_balanceInsertion {w : Wt} {K : Sg → Option Nat → Prop} {σ : Sg} (l0 : Option Nat) (l1 : Option Nat) (h : G w mJ33_balanceInsertion (KR K) 0 0 σ 0 [va_rf l0, va_rf l1, U_, U_, U_, U_] []) : CalR w mJ33_balanceInsertion σ [va_rf l0, va_rf l1] K :=
  Cal.start 4 mJ33_balanceInsertion_plain (catR (catR cat0)) (Nat.le_of_ble_eq_true rfl) rfl h
set_option maxHeartbeats 4000000 in
theorem bJ33_rotateLeft_0 {w : Wt} {K : Sg → Option Nat → Prop} {rc rs : Nat} {σ : Sg} (l0 : Option Nat) (l1 : Option Nat) (h : ((l1 = none → K σ l0) ∧ (¬ l1 = none → ∃ a2, l1 = some a2 ∧ kd σ a2 = 32 ∧ ((FR σ 92 a2 = none → K σ l0) ∧ (¬ FR σ 92 a2 = none → ∃ a6, FR σ 92 a2 = some a6 ∧ kd σ a6 = 32 ∧ ∀ s9, s9 = sFR σ 92 a2 (FR σ 91 a6) → ((FR σ 91 a6 = none → ∀ s12, s12 = sFR s9 90 a6 (FR s9 90 a2) → ((¬ FR s9 90 a2 = none → ∃ a15, FR s9 90 a2 = some a15 ∧ kd s12 a15 = 32 ∧ ((¬ FR s12 91 a15 = l1 → ∀ s19, s19 = sFR s12 92 a15 (FR σ 92 a2) → ∀ s21, s21 = sFR s19 91 a6 l1 → ∀ s23, s23 = sFR s21 90 a2 (FR σ 92 a2) → K s23 l0) ∧ (FR s12 91 a15 = l1 → ∀ s25, s25 = sFR s12 91 a15 (FR σ 92 a2) → ∀ s27, s27 = sFR s25 91 a6 l1 → ∀ s29, s29 = sFR s27 90 a2 (FR σ 92 a2) → K s29 l0))) ∧ (FR s9 90 a2 = none → ∀ s31, s31 = sFI s12 94 a6 0 → ∀ s33, s33 = sFR s31 91 a6 l1 → ∀ s35, s35 = sFR s33 90 a2 (FR σ 92 a2) → K s35 (FR σ 92 a2)))) ∧ (¬ FR σ 91 a6 = none → ∃ a37, FR σ 91 a6 = some a37 ∧ kd s9 a37 = 32 ∧ ∀ s40, s40 = sFR s9 90 a37 l1 → ∀ s42, s42 = sFR s40 90 a6 (FR s40 90 a2) → ((¬ FR s40 90 a2 = none → ∃ a45, FR s40 90 a2 = some a45 ∧ kd s42 a45 = 32 ∧ ((¬ FR s42 91 a45 = l1 → ∀ s49, s49 = sFR s42 92 a45 (FR σ 92 a2) → ∀ s51, s51 = sFR s49 91 a6 l1 → ∀ s53, s53 = sFR s51 90 a2 (FR σ 92 a2) → K s53 l0) ∧ (FR s42 91 a45 = l1 → ∀ s55, s55 = sFR s42 91 a45 (FR σ 92 a2) → ∀ s57, s57 = sFR s55 91 a6 l1 → ∀ s59, s59 = sFR s57 90 a2 (FR σ 92 a2) → K s59 l0))) ∧ (FR s40 90 a2 = none → ∀ s61, s61 = sFI s42 94 a6 0 → ∀ s63, s63 = sFR s61 91 a6 l1 → ∀ s65, s65 = sFR s63 90 a2 (FR σ 92 a2) → K s65 (FR σ 92 a2)))))))))) : G w mJ33_rotateLeft (KR K) (rc) (rs) σ 0 [va_rf l0, va_rf l1, U_, U_, U_] [] := by
  refine G_aload_n 1 dJ33_rotateLeft_0 rfl rfl ?_
  refine G_ifnull 89 4 dJ33_rotateLeft_1 (by decide) rfl (fun u1 => ?_) (fun u1 => ?_)
  · have h := h.1 u1
    refine G_aload_n 90 dJ33_rotateLeft_89 rfl rfl ?_
    exact G_aret dJ33_rotateLeft_90 rfl (Or.inl ⟨_, rfl⟩) ⟨_, rfl, h⟩
  · have h := h.2 u1
    refine G_aload_n 5 dJ33_rotateLeft_4 rfl rfl ?_
    obtain ⟨a2, e3, h⟩ := h
    obtain ⟨c4, h⟩ := h
    refine G_getR (f := 92) (a := a2) "" 8 dJ33_rotateLeft_5 (Or.inl q1311) (Or.inl rfl) rfl e3 (hf92 c4) rfl ?_
    refine G_dup 9 dJ33_rotateLeft_8 (rf_cat _) rfl ?_
    refine G_astore_n 10 [va_rf l0, va_rf l1, va_rf (FR σ 92 a2), U_, U_] dJ33_rotateLeft_9 (Nat.le_of_ble_eq_true rfl) rfl rfl ?_
    refine G_ifnull 89 13 dJ33_rotateLeft_10 (by decide) rfl (fun u5 => ?_) (fun u5 => ?_)
    · have h := h.1 u5
      refine G_aload_n 90 dJ33_rotateLeft_89 rfl rfl ?_
      exact G_aret dJ33_rotateLeft_90 rfl (Or.inl ⟨_, rfl⟩) ⟨_, rfl, h⟩
    · have h := h.2 u5
      refine G_aload_n 14 dJ33_rotateLeft_13 rfl rfl ?_
      refine G_aload_n 15 dJ33_rotateLeft_14 rfl rfl ?_
      obtain ⟨a6, e7, h⟩ := h
      obtain ⟨c8, h⟩ := h
      refine G_getR (f := 91) (a := a6) "" 18 dJ33_rotateLeft_15 (Or.inl q1310) (Or.inl rfl) rfl e7 (hf91 c8) rfl ?_
      refine G_dup_x1 19 dJ33_rotateLeft_18 (rf_cat _) (rf_cat _) rfl ?_
      refine G_putR (f := 92) (a := a2) "" 22 dJ33_rotateLeft_19 (Or.inl q1311) (Or.inl rfl) rfl e3 (hp92 c4) (nk92 c4) (Or.inl rfl) (fun y => by cases y <;> rfl) (fun y => by cases y <;> rfl) rfl ?_
      generalize hs9 : sFR σ 92 a2 (FR σ 91 a6) = s9
      have x10 : ∀ a, ¬ kd σ a = 0 → kd s9 a = kd σ a := by subst hs9; exact fun a _ => congrFun kd_sFR a
      have h := h s9 hs9.symm
      refine G_dup 23 dJ33_rotateLeft_22 (rf_cat _) rfl ?_
      refine G_astore 25 [va_rf l0, va_rf l1, va_rf (FR σ 92 a2), U_, va_rf (FR σ 91 a6)] dJ33_rotateLeft_23 (Nat.le_of_ble_eq_true rfl) rfl rfl ?_
      refine G_ifnull 34 28 dJ33_rotateLeft_25 (by decide) rfl (fun u11 => ?_) (fun u11 => ?_)
      · have h := h.1 u11
        refine G_aload_n 35 dJ33_rotateLeft_34 rfl rfl ?_
        refine G_aload_n 36 dJ33_rotateLeft_35 rfl rfl ?_
        have c4 := kdE x10 c4 (by decide)
        refine G_getR (f := 90) (a := a2) "" 39 dJ33_rotateLeft_36 (Or.inl q1309) (Or.inl rfl) rfl e3 (hf90 c4) rfl ?_
        refine G_dup_x1 40 dJ33_rotateLeft_39 (rf_cat _) (rf_cat _) rfl ?_
        have c8 := kdE x10 c8 (by decide)
        refine G_putR (f := 90) (a := a6) "" 43 dJ33_rotateLeft_40 (Or.inl q1309) (Or.inl rfl) rfl e7 (hp90 c8) (nk90 c8) (Or.inl rfl) (fun y => by cases y <;> rfl) (fun y => by cases y <;> rfl) rfl ?_
        generalize hs12 : sFR s9 90 a6 (FR s9 90 a2) = s12
        have x13 : ∀ a, ¬ kd s9 a = 0 → kd s12 a = kd s9 a := by subst hs12; exact fun a _ => congrFun kd_sFR a
        have h := h s12 hs12.symm
        refine G_dup 44 dJ33_rotateLeft_43 (rf_cat _) rfl ?_
        refine G_astore_n 45 [va_rf l0, va_rf l1, va_rf (FR σ 92 a2), va_rf (FR s9 90 a2), va_rf (FR σ 91 a6)] dJ33_rotateLeft_44 (Nat.le_of_ble_eq_true rfl) rfl rfl ?_
        refine G_ifnonnull 58 48 dJ33_rotateLeft_45 (by decide) rfl (fun u14 => ?_) (fun u14 => ?_)
        · have h := h.1 u14
          refine G_aload_n 59 dJ33_rotateLeft_58 rfl rfl ?_
          obtain ⟨a15, e16, h⟩ := h
          obtain ⟨c17, h⟩ := h
          refine G_getR (f := 91) (a := a15) "" 62 dJ33_rotateLeft_59 (Or.inl q1310) (Or.inl rfl) rfl e16 (hf91 c17) rfl ?_
          refine G_aload_n 63 dJ33_rotateLeft_62 rfl rfl ?_
          refine G_acmp_ne 74 66 dJ33_rotateLeft_63 (by decide) rfl (fun u18 => ?_) (fun u18 => ?_)
          · have h := h.1 u18
            refine G_aload_n 75 dJ33_rotateLeft_74 rfl rfl ?_
            refine G_aload_n 76 dJ33_rotateLeft_75 rfl rfl ?_
            refine G_putR (f := 92) (a := a15) "" 79 dJ33_rotateLeft_76 (Or.inl q1311) (Or.inl rfl) rfl e16 (hp92 c17) (nk92 c17) (Or.inl rfl) (fun y => by cases y <;> rfl) (fun y => by cases y <;> rfl) rfl ?_
            generalize hs19 : sFR s12 92 a15 (FR σ 92 a2) = s19
            have x20 : ∀ a, ¬ kd s12 a = 0 → kd s19 a = kd s12 a := by subst hs19; exact fun a _ => congrFun kd_sFR a
            have h := h s19 hs19.symm
            refine G_aload_n 80 dJ33_rotateLeft_79 rfl rfl ?_
            refine G_aload_n 81 dJ33_rotateLeft_80 rfl rfl ?_
            have c8 := kdE x13 c8 (by decide)
            have c8 := kdE x20 c8 (by decide)
            refine G_putR (f := 91) (a := a6) "" 84 dJ33_rotateLeft_81 (Or.inl q1310) (Or.inl rfl) rfl e7 (hp91 c8) (nk91 c8) (Or.inl rfl) (fun y => by cases y <;> rfl) (fun y => by cases y <;> rfl) rfl ?_
            generalize hs21 : sFR s19 91 a6 l1 = s21
            have x22 : ∀ a, ¬ kd s19 a = 0 → kd s21 a = kd s19 a := by subst hs21; exact fun a _ => congrFun kd_sFR a
            have h := h s21 hs21.symm
            refine G_aload_n 85 dJ33_rotateLeft_84 rfl rfl ?_
            refine G_aload_n 86 dJ33_rotateLeft_85 rfl rfl ?_
            have c4 := kdE x13 c4 (by decide)
            have c4 := kdE x20 c4 (by decide)
            have c4 := kdE x22 c4 (by decide)
            refine G_putR (f := 90) (a := a2) "" 89 dJ33_rotateLeft_86 (Or.inl q1309) (Or.inl rfl) rfl e3 (hp90 c4) (nk90 c4) (Or.inl rfl) (fun y => by cases y <;> rfl) (fun y => by cases y <;> rfl) rfl ?_
            generalize hs23 : sFR s21 90 a2 (FR σ 92 a2) = s23
            have x24 : ∀ a, ¬ kd s21 a = 0 → kd s23 a = kd s21 a := by subst hs23; exact fun a _ => congrFun kd_sFR a
            have h := h s23 hs23.symm
            refine G_aload_n 90 dJ33_rotateLeft_89 rfl rfl ?_
            exact G_aret dJ33_rotateLeft_90 rfl (Or.inl ⟨_, rfl⟩) ⟨_, rfl, h⟩
          · have h := h.2 u18
            refine G_aload_n 67 dJ33_rotateLeft_66 rfl rfl ?_
            refine G_aload_n 68 dJ33_rotateLeft_67 rfl rfl ?_
            refine G_putR (f := 91) (a := a15) "" 71 dJ33_rotateLeft_68 (Or.inl q1310) (Or.inl rfl) rfl e16 (hp91 c17) (nk91 c17) (Or.inl rfl) (fun y => by cases y <;> rfl) (fun y => by cases y <;> rfl) rfl ?_
            generalize hs25 : sFR s12 91 a15 (FR σ 92 a2) = s25
            have x26 : ∀ a, ¬ kd s12 a = 0 → kd s25 a = kd s12 a := by subst hs25; exact fun a _ => congrFun kd_sFR a
            have h := h s25 hs25.symm
            refine G_goto 79 dJ33_rotateLeft_71 (by decide) ?_
            refine G_aload_n 80 dJ33_rotateLeft_79 rfl rfl ?_
            refine G_aload_n 81 dJ33_rotateLeft_80 rfl rfl ?_
            have c8 := kdE x13 c8 (by decide)
            have c8 := kdE x26 c8 (by decide)
            refine G_putR (f := 91) (a := a6) "" 84 dJ33_rotateLeft_81 (Or.inl q1310) (Or.inl rfl) rfl e7 (hp91 c8) (nk91 c8) (Or.inl rfl) (fun y => by cases y <;> rfl) (fun y => by cases y <;> rfl) rfl ?_
            generalize hs27 : sFR s25 91 a6 l1 = s27
            have x28 : ∀ a, ¬ kd s25 a = 0 → kd s27 a = kd s25 a := by subst hs27; exact fun a _ => congrFun kd_sFR a
            have h := h s27 hs27.symm
            refine G_aload_n 85 dJ33_rotateLeft_84 rfl rfl ?_
            refine G_aload_n 86 dJ33_rotateLeft_85 rfl rfl ?_
            have c4 := kdE x13 c4 (by decide)
            have c4 := kdE x26 c4 (by decide)
            have c4 := kdE x28 c4 (by decide)
            refine G_putR (f := 90) (a := a2) "" 89 dJ33_rotateLeft_86 (Or.inl q1309) (Or.inl rfl) rfl e3 (hp90 c4) (nk90 c4) (Or.inl rfl) (fun y => by cases y <;> rfl) (fun y => by cases y <;> rfl) rfl ?_
            generalize hs29 : sFR s27 90 a2 (FR σ 92 a2) = s29
            have x30 : ∀ a, ¬ kd s27 a = 0 → kd s29 a = kd s27 a := by subst hs29; exact fun a _ => congrFun kd_sFR a
            have h := h s29 hs29.symm
            refine G_aload_n 90 dJ33_rotateLeft_89 rfl rfl ?_
            exact G_aret dJ33_rotateLeft_90 rfl (Or.inl ⟨_, rfl⟩) ⟨_, rfl, h⟩
        · have h := h.2 u14
          refine G_aload_n 49 dJ33_rotateLeft_48 rfl rfl ?_
          refine G_dup 50 dJ33_rotateLeft_49 (rf_cat _) rfl ?_
          refine G_astore_n 51 [va_rf (FR σ 92 a2), va_rf l1, va_rf (FR σ 92 a2), va_rf (FR s9 90 a2), va_rf (FR σ 91 a6)] dJ33_rotateLeft_50 (Nat.le_of_ble_eq_true rfl) rfl rfl ?_
          refine G_iconst (v := 0) 52 dJ33_rotateLeft_51 (by decide) rfl ?_
          have c8 := kdE x13 c8 (by decide)
          refine G_putI (f := 94) (a := a6) "" 55 dJ33_rotateLeft_52 (Or.inl q1314) (Or.inl rfl) rfl e7 (hp94 c8) (nk94 c8) (Or.inl rfl) rfl rfl rfl ?_
          generalize hs31 : sFI s12 94 a6 0 = s31
          have x32 : ∀ a, ¬ kd s12 a = 0 → kd s31 a = kd s12 a := by subst hs31; exact fun a _ => congrFun kd_sFI a
          have h := h s31 hs31.symm
          refine G_goto 79 dJ33_rotateLeft_55 (by decide) ?_
          refine G_aload_n 80 dJ33_rotateLeft_79 rfl rfl ?_
          refine G_aload_n 81 dJ33_rotateLeft_80 rfl rfl ?_
          have c8 := kdE x32 c8 (by decide)
          refine G_putR (f := 91) (a := a6) "" 84 dJ33_rotateLeft_81 (Or.inl q1310) (Or.inl rfl) rfl e7 (hp91 c8) (nk91 c8) (Or.inl rfl) (fun y => by cases y <;> rfl) (fun y => by cases y <;> rfl) rfl ?_
          generalize hs33 : sFR s31 91 a6 l1 = s33
          have x34 : ∀ a, ¬ kd s31 a = 0 → kd s33 a = kd s31 a := by subst hs33; exact fun a _ => congrFun kd_sFR a
          have h := h s33 hs33.symm
          refine G_aload_n 85 dJ33_rotateLeft_84 rfl rfl ?_
          refine G_aload_n 86 dJ33_rotateLeft_85 rfl rfl ?_
          have c4 := kdE x13 c4 (by decide)
          have c4 := kdE x32 c4 (by decide)
          have c4 := kdE x34 c4 (by decide)
          refine G_putR (f := 90) (a := a2) "" 89 dJ33_rotateLeft_86 (Or.inl q1309) (Or.inl rfl) rfl e3 (hp90 c4) (nk90 c4) (Or.inl rfl) (fun y => by cases y <;> rfl) (fun y => by cases y <;> rfl) rfl ?_
          generalize hs35 : sFR s33 90 a2 (FR σ 92 a2) = s35
          have x36 : ∀ a, ¬ kd s33 a = 0 → kd s35 a = kd s33 a := by subst hs35; exact fun a _ => congrFun kd_sFR a
          have h := h s35 hs35.symm
          refine G_aload_n 90 dJ33_rotateLeft_89 rfl rfl ?_
          exact G_aret dJ33_rotateLeft_90 rfl (Or.inl ⟨_, rfl⟩) ⟨_, rfl, h⟩
      · have h := h.2 u11
        refine G_aload 30 dJ33_rotateLeft_28 rfl rfl ?_
        refine G_aload_n 31 dJ33_rotateLeft_30 rfl rfl ?_
        obtain ⟨a37, e38, h⟩ := h
        obtain ⟨c39, h⟩ := h
        refine G_putR (f := 90) (a := a37) "" 34 dJ33_rotateLeft_31 (Or.inl q1309) (Or.inl rfl) rfl e38 (hp90 c39) (nk90 c39) (Or.inl rfl) (fun y => by cases y <;> rfl) (fun y => by cases y <;> rfl) rfl ?_
        generalize hs40 : sFR s9 90 a37 l1 = s40
        have x41 : ∀ a, ¬ kd s9 a = 0 → kd s40 a = kd s9 a := by subst hs40; exact fun a _ => congrFun kd_sFR a
        have h := h s40 hs40.symm
        refine G_aload_n 35 dJ33_rotateLeft_34 rfl rfl ?_
        refine G_aload_n 36 dJ33_rotateLeft_35 rfl rfl ?_
        have c4 := kdE x10 c4 (by decide)
        have c4 := kdE x41 c4 (by decide)
        refine G_getR (f := 90) (a := a2) "" 39 dJ33_rotateLeft_36 (Or.inl q1309) (Or.inl rfl) rfl e3 (hf90 c4) rfl ?_
        refine G_dup_x1 40 dJ33_rotateLeft_39 (rf_cat _) (rf_cat _) rfl ?_
        have c8 := kdE x10 c8 (by decide)
        have c8 := kdE x41 c8 (by decide)
        refine G_putR (f := 90) (a := a6) "" 43 dJ33_rotateLeft_40 (Or.inl q1309) (Or.inl rfl) rfl e7 (hp90 c8) (nk90 c8) (Or.inl rfl) (fun y => by cases y <;> rfl) (fun y => by cases y <;> rfl) rfl ?_
        generalize hs42 : sFR s40 90 a6 (FR s40 90 a2) = s42
        have x43 : ∀ a, ¬ kd s40 a = 0 → kd s42 a = kd s40 a := by subst hs42; exact fun a _ => congrFun kd_sFR a
        have h := h s42 hs42.symm
        refine G_dup 44 dJ33_rotateLeft_43 (rf_cat _) rfl ?_
        refine G_astore_n 45 [va_rf l0, va_rf l1, va_rf (FR σ 92 a2), va_rf (FR s40 90 a2), va_rf (FR σ 91 a6)] dJ33_rotateLeft_44 (Nat.le_of_ble_eq_true rfl) rfl rfl ?_
        refine G_ifnonnull 58 48 dJ33_rotateLeft_45 (by decide) rfl (fun u44 => ?_) (fun u44 => ?_)
        · have h := h.1 u44
          refine G_aload_n 59 dJ33_rotateLeft_58 rfl rfl ?_
          obtain ⟨a45, e46, h⟩ := h
          obtain ⟨c47, h⟩ := h
          refine G_getR (f := 91) (a := a45) "" 62 dJ33_rotateLeft_59 (Or.inl q1310) (Or.inl rfl) rfl e46 (hf91 c47) rfl ?_
          refine G_aload_n 63 dJ33_rotateLeft_62 rfl rfl ?_
          refine G_acmp_ne 74 66 dJ33_rotateLeft_63 (by decide) rfl (fun u48 => ?_) (fun u48 => ?_)
          · have h := h.1 u48
            refine G_aload_n 75 dJ33_rotateLeft_74 rfl rfl ?_
            refine G_aload_n 76 dJ33_rotateLeft_75 rfl rfl ?_
            refine G_putR (f := 92) (a := a45) "" 79 dJ33_rotateLeft_76 (Or.inl q1311) (Or.inl rfl) rfl e46 (hp92 c47) (nk92 c47) (Or.inl rfl) (fun y => by cases y <;> rfl) (fun y => by cases y <;> rfl) rfl ?_
            generalize hs49 : sFR s42 92 a45 (FR σ 92 a2) = s49
            have x50 : ∀ a, ¬ kd s42 a = 0 → kd s49 a = kd s42 a := by subst hs49; exact fun a _ => congrFun kd_sFR a
            have h := h s49 hs49.symm
            refine G_aload_n 80 dJ33_rotateLeft_79 rfl rfl ?_
            refine G_aload_n 81 dJ33_rotateLeft_80 rfl rfl ?_
            have c8 := kdE x43 c8 (by decide)
            have c8 := kdE x50 c8 (by decide)
            refine G_putR (f := 91) (a := a6) "" 84 dJ33_rotateLeft_81 (Or.inl q1310) (Or.inl rfl) rfl e7 (hp91 c8) (nk91 c8) (Or.inl rfl) (fun y => by cases y <;> rfl) (fun y => by cases y <;> rfl) rfl ?_
            generalize hs51 : sFR s49 91 a6 l1 = s51
            have x52 : ∀ a, ¬ kd s49 a = 0 → kd s51 a = kd s49 a := by subst hs51; exact fun a _ => congrFun kd_sFR a
            have h := h s51 hs51.symm
            refine G_aload_n 85 dJ33_rotateLeft_84 rfl rfl ?_
            refine G_aload_n 86 dJ33_rotateLeft_85 rfl rfl ?_
            have c4 := kdE x43 c4 (by decide)
            have c4 := kdE x50 c4 (by decide)
            have c4 := kdE x52 c4 (by decide)
            refine G_putR (f := 90) (a := a2) "" 89 dJ33_rotateLeft_86 (Or.inl q1309) (Or.inl rfl) rfl e3 (hp90 c4) (nk90 c4) (Or.inl rfl) (fun y => by cases y <;> rfl) (fun y => by cases y <;> rfl) rfl ?_
            generalize hs53 : sFR s51 90 a2 (FR σ 92 a2) = s53
            have x54 : ∀ a, ¬ kd s51 a = 0 → kd s53 a = kd s51 a := by subst hs53; exact fun a _ => congrFun kd_sFR a
            have h := h s53 hs53.symm
            refine G_aload_n 90 dJ33_rotateLeft_89 rfl rfl ?_
            exact G_aret dJ33_rotateLeft_90 rfl (Or.inl ⟨_, rfl⟩) ⟨_, rfl, h⟩
          · have h := h.2 u48
            refine G_aload_n 67 dJ33_rotateLeft_66 rfl rfl ?_
            refine G_aload_n 68 dJ33_rotateLeft_67 rfl rfl ?_
            refine G_putR (f := 91) (a := a45) "" 71 dJ33_rotateLeft_68 (Or.inl q1310) (Or.inl rfl) rfl e46 (hp91 c47) (nk91 c47) (Or.inl rfl) (fun y => by cases y <;> rfl) (fun y => by cases y <;> rfl) rfl ?_
            generalize hs55 : sFR s42 91 a45 (FR σ 92 a2) = s55
            have x56 : ∀ a, ¬ kd s42 a = 0 → kd s55 a = kd s42 a := by subst hs55; exact fun a _ => congrFun kd_sFR a
            have h := h s55 hs55.symm
            refine G_goto 79 dJ33_rotateLeft_71 (by decide) ?_
            refine G_aload_n 80 dJ33_rotateLeft_79 rfl rfl ?_
            refine G_aload_n 81 dJ33_rotateLeft_80 rfl rfl ?_
            have c8 := kdE x43 c8 (by decide)
            have c8 := kdE x56 c8 (by decide)
            refine G_putR (f := 91) (a := a6) "" 84 dJ33_rotateLeft_81 (Or.inl q1310) (Or.inl rfl) rfl e7 (hp91 c8) (nk91 c8) (Or.inl rfl) (fun y => by cases y <;> rfl) (fun y => by cases y <;> rfl) rfl ?_
            generalize hs57 : sFR s55 91 a6 l1 = s57
            have x58 : ∀ a, ¬ kd s55 a = 0 → kd s57 a = kd s55 a := by subst hs57; exact fun a _ => congrFun kd_sFR a
            have h := h s57 hs57.symm
            refine G_aload_n 85 dJ33_rotateLeft_84 rfl rfl ?_
            refine G_aload_n 86 dJ33_rotateLeft_85 rfl rfl ?_
            have c4 := kdE x43 c4 (by decide)
            have c4 := kdE x56 c4 (by decide)
            have c4 := kdE x58 c4 (by decide)
            refine G_putR (f := 90) (a := a2) "" 89 dJ33_rotateLeft_86 (Or.inl q1309) (Or.inl rfl) rfl e3 (hp90 c4) (nk90 c4) (Or.inl rfl) (fun y => by cases y <;> rfl) (fun y => by cases y <;> rfl) rfl ?_
            generalize hs59 : sFR s57 90 a2 (FR σ 92 a2) = s59
            have x60 : ∀ a, ¬ kd s57 a = 0 → kd s59 a = kd s57 a := by subst hs59; exact fun a _ => congrFun kd_sFR a
            have h := h s59 hs59.symm
            refine G_aload_n 90 dJ33_rotateLeft_89 rfl rfl ?_
            exact G_aret dJ33_rotateLeft_90 rfl (Or.inl ⟨_, rfl⟩) ⟨_, rfl, h⟩
        · have h := h.2 u44
          refine G_aload_n 49 dJ33_rotateLeft_48 rfl rfl ?_
          refine G_dup 50 dJ33_rotateLeft_49 (rf_cat _) rfl ?_
          refine G_astore_n 51 [va_rf (FR σ 92 a2), va_rf l1, va_rf (FR σ 92 a2), va_rf (FR s40 90 a2), va_rf (FR σ 91 a6)] dJ33_rotateLeft_50 (Nat.le_of_ble_eq_true rfl) rfl rfl ?_
          refine G_iconst (v := 0) 52 dJ33_rotateLeft_51 (by decide) rfl ?_
          have c8 := kdE x43 c8 (by decide)
          refine G_putI (f := 94) (a := a6) "" 55 dJ33_rotateLeft_52 (Or.inl q1314) (Or.inl rfl) rfl e7 (hp94 c8) (nk94 c8) (Or.inl rfl) rfl rfl rfl ?_
          generalize hs61 : sFI s42 94 a6 0 = s61
          have x62 : ∀ a, ¬ kd s42 a = 0 → kd s61 a = kd s42 a := by subst hs61; exact fun a _ => congrFun kd_sFI a
          have h := h s61 hs61.symm
          refine G_goto 79 dJ33_rotateLeft_55 (by decide) ?_
          refine G_aload_n 80 dJ33_rotateLeft_79 rfl rfl ?_
          refine G_aload_n 81 dJ33_rotateLeft_80 rfl rfl ?_
          have c8 := kdE x62 c8 (by decide)
          refine G_putR (f := 91) (a := a6) "" 84 dJ33_rotateLeft_81 (Or.inl q1310) (Or.inl rfl) rfl e7 (hp91 c8) (nk91 c8) (Or.inl rfl) (fun y => by cases y <;> rfl) (fun y => by cases y <;> rfl) rfl ?_
          generalize hs63 : sFR s61 91 a6 l1 = s63
          have x64 : ∀ a, ¬ kd s61 a = 0 → kd s63 a = kd s61 a := by subst hs63; exact fun a _ => congrFun kd_sFR a
          have h := h s63 hs63.symm
          refine G_aload_n 85 dJ33_rotateLeft_84 rfl rfl ?_
          refine G_aload_n 86 dJ33_rotateLeft_85 rfl rfl ?_
          have c4 := kdE x43 c4 (by decide)
          have c4 := kdE x62 c4 (by decide)
          have c4 := kdE x64 c4 (by decide)
          refine G_putR (f := 90) (a := a2) "" 89 dJ33_rotateLeft_86 (Or.inl q1309) (Or.inl rfl) rfl e3 (hp90 c4) (nk90 c4) (Or.inl rfl) (fun y => by cases y <;> rfl) (fun y => by cases y <;> rfl) rfl ?_
          generalize hs65 : sFR s63 90 a2 (FR σ 92 a2) = s65
          have x66 : ∀ a, ¬ kd s63 a = 0 → kd s65 a = kd s63 a := by subst hs65; exact fun a _ => congrFun kd_sFR a
          have h := h s65 hs65.symm
          refine G_aload_n 90 dJ33_rotateLeft_89 rfl rfl ?_
          exact G_aret dJ33_rotateLeft_90 rfl (Or.inl ⟨_, rfl⟩) ⟨_, rfl, h⟩
theorem eJ33_rotateLeft {w : Wt} {K : Sg → Option Nat → Prop} {σ : Sg} (l0 : Option Nat) (l1 : Option Nat) (h : G w mJ33_rotateLeft (KR K) 0 0 σ 0 [va_rf l0, va_rf l1, U_, U_, U_] []) : CalR w mJ33_rotateLeft σ [va_rf l0, va_rf l1] K :=
  Cal.start 3 mJ33_rotateLeft_plain (catR (catR cat0)) (Nat.le_of_ble_eq_true rfl) rfl h
set_option maxHeartbeats 4000000 in
theorem bJ33_rotateRight_0 {w : Wt} {K : Sg → Option Nat → Prop} {rc rs : Nat} {σ : Sg} (l0 : Option Nat) (l1 : Option Nat) (h : ((l1 = none → K σ l0) ∧ (¬ l1 = none → ∃ a2, l1 = some a2 ∧ kd σ a2 = 32 ∧ ((FR σ 91 a2 = none → K σ l0) ∧ (¬ FR σ 91 a2 = none → ∃ a6, FR σ 91 a2 = some a6 ∧ kd σ a6 = 32 ∧ ∀ s9, s9 = sFR σ 91 a2 (FR σ 92 a6) → ((FR σ 92 a6 = none → ∀ s12, s12 = sFR s9 90 a6 (FR s9 90 a2) → ((¬ FR s9 90 a2 = none → ∃ a15, FR s9 90 a2 = some a15 ∧ kd s12 a15 = 32 ∧ ((¬ FR s12 92 a15 = l1 → ∀ s19, s19 = sFR s12 91 a15 (FR σ 91 a2) → ∀ s21, s21 = sFR s19 92 a6 l1 → ∀ s23, s23 = sFR s21 90 a2 (FR σ 91 a2) → K s23 l0) ∧ (FR s12 92 a15 = l1 → ∀ s25, s25 = sFR s12 92 a15 (FR σ 91 a2) → ∀ s27, s27 = sFR s25 92 a6 l1 → ∀ s29, s29 = sFR s27 90 a2 (FR σ 91 a2) → K s29 l0))) ∧ (FR s9 90 a2 = none → ∀ s31, s31 = sFI s12 94 a6 0 → ∀ s33, s33 = sFR s31 92 a6 l1 → ∀ s35, s35 = sFR s33 90 a2 (FR σ 91 a2) → K s35 (FR σ 91 a2)))) ∧ (¬ FR σ 92 a6 = none → ∃ a37, FR σ 92 a6 = some a37 ∧ kd s9 a37 = 32 ∧ ∀ s40, s40 = sFR s9 90 a37 l1 → ∀ s42, s42 = sFR s40 90 a6 (FR s40 90 a2) → ((¬ FR s40 90 a2 = none → ∃ a45, FR s40 90 a2 = some a45 ∧ kd s42 a45 = 32 ∧ ((¬ FR s42 92 a45 = l1 → ∀ s49, s49 = sFR s42 91 a45 (FR σ 91 a2) → ∀ s51, s51 = sFR s49 92 a6 l1 → ∀ s53, s53 = sFR s51 90 a2 (FR σ 91 a2) → K s53 l0) ∧ (FR s42 92 a45 = l1 → ∀ s55, s55 = sFR s42 92 a45 (FR σ 91 a2) → ∀ s57, s57 = sFR s55 92 a6 l1 → ∀ s59, s59 = sFR s57 90 a2 (FR σ 91 a2) → K s59 l0))) ∧ (FR s40 90 a2 = none → ∀ s61, s61 = sFI s42 94 a6 0 → ∀ s63, s63 = sFR s61 92 a6 l1 → ∀ s65, s65 = sFR s63 90 a2 (FR σ 91 a2) → K s65 (FR σ 91 a2)))))))))) : G w mJ33_rotateRight (KR K) (rc) (rs) σ 0 [va_rf l0, va_rf l1, U_, U_, U_] [] := by
  refine G_aload_n 1 dJ33_rotateRight_0 rfl rfl ?_
  refine G_ifnull 89 4 dJ33_rotateRight_1 (by decide) rfl (fun u1 => ?_) (fun u1 => ?_)
  · have h := h.1 u1
    refine G_aload_n 90 dJ33_rotateRight_89 rfl rfl ?_
    exact G_aret dJ33_rotateRight_90 rfl (Or.inl ⟨_, rfl⟩) ⟨_, rfl, h⟩
  · have h := h.2 u1
    refine G_aload_n 5 dJ33_rotateRight_4 rfl rfl ?_
    obtain ⟨a2, e3, h⟩ := h
    obtain ⟨c4, h⟩ := h
    refine G_getR (f := 91) (a := a2) "" 8 dJ33_rotateRight_5 (Or.inl q1310) (Or.inl rfl) rfl e3 (hf91 c4) rfl ?_
    refine G_dup 9 dJ33_rotateRight_8 (rf_cat _) rfl ?_
    refine G_astore_n 10 [va_rf l0, va_rf l1, va_rf (FR σ 91 a2), U_, U_] dJ33_rotateRight_9 (Nat.le_of_ble_eq_true rfl) rfl rfl ?_
    refine G_ifnull 89 13 dJ33_rotateRight_10 (by decide) rfl (fun u5 => ?_) (fun u5 => ?_)
    · have h := h.1 u5
      refine G_aload_n 90 dJ33_rotateRight_89 rfl rfl ?_
      exact G_aret dJ33_rotateRight_90 rfl (Or.inl ⟨_, rfl⟩) ⟨_, rfl, h⟩
    · have h := h.2 u5
      refine G_aload_n 14 dJ33_rotateRight_13 rfl rfl ?_
      refine G_aload_n 15 dJ33_rotateRight_14 rfl rfl ?_
      obtain ⟨a6, e7, h⟩ := h
      obtain ⟨c8, h⟩ := h
      refine G_getR (f := 92) (a := a6) "" 18 dJ33_rotateRight_15 (Or.inl q1311) (Or.inl rfl) rfl e7 (hf92 c8) rfl ?_
      refine G_dup_x1 19 dJ33_rotateRight_18 (rf_cat _) (rf_cat _) rfl ?_
      refine G_putR (f := 91) (a := a2) "" 22 dJ33_rotateRight_19 (Or.inl q1310) (Or.inl rfl) rfl e3 (hp91 c4) (nk91 c4) (Or.inl rfl) (fun y => by cases y <;> rfl) (fun y => by cases y <;> rfl) rfl ?_
      generalize hs9 : sFR σ 91 a2 (FR σ 92 a6) = s9
      have x10 : ∀ a, ¬ kd σ a = 0 → kd s9 a = kd σ a := by subst hs9; exact fun a _ => congrFun kd_sFR a
      have h := h s9 hs9.symm
      refine G_dup 23 dJ33_rotateRight_22 (rf_cat _) rfl ?_
      refine G_astore 25 [va_rf l0, va_rf l1, va_rf (FR σ 91 a2), U_, va_rf (FR σ 92 a6)] dJ33_rotateRight_23 (Nat.le_of_ble_eq_true rfl) rfl rfl ?_
      refine G_ifnull 34 28 dJ33_rotateRight_25 (by decide) rfl (fun u11 => ?_) (fun u11 => ?_)
      · have h := h.1 u11
        refine G_aload_n 35 dJ33_rotateRight_34 rfl rfl ?_
        refine G_aload_n 36 dJ33_rotateRight_35 rfl rfl ?_
        have c4 := kdE x10 c4 (by decide)
        refine G_getR (f := 90) (a := a2) "" 39 dJ33_rotateRight_36 (Or.inl q1309) (Or.inl rfl) rfl e3 (hf90 c4) rfl ?_
        refine G_dup_x1 40 dJ33_rotateRight_39 (rf_cat _) (rf_cat _) rfl ?_
        have c8 := kdE x10 c8 (by decide)
        refine G_putR (f := 90) (a := a6) "" 43 dJ33_rotateRight_40 (Or.inl q1309) (Or.inl rfl) rfl e7 (hp90 c8) (nk90 c8) (Or.inl rfl) (fun y => by cases y <;> rfl) (fun y => by cases y <;> rfl) rfl ?_
        generalize hs12 : sFR s9 90 a6 (FR s9 90 a2) = s12
        have x13 : ∀ a, ¬ kd s9 a = 0 → kd s12 a = kd s9 a := by subst hs12; exact fun a _ => congrFun kd_sFR a
        have h := h s12 hs12.symm
        refine G_dup 44 dJ33_rotateRight_43 (rf_cat _) rfl ?_
        refine G_astore_n 45 [va_rf l0, va_rf l1, va_rf (FR σ 91 a2), va_rf (FR s9 90 a2), va_rf (FR σ 92 a6)] dJ33_rotateRight_44 (Nat.le_of_ble_eq_true rfl) rfl rfl ?_
        refine G_ifnonnull 58 48 dJ33_rotateRight_45 (by decide) rfl (fun u14 => ?_) (fun u14 => ?_)
        · have h := h.1 u14
          refine G_aload_n 59 dJ33_rotateRight_58 rfl rfl ?_
          obtain ⟨a15, e16, h⟩ := h
          obtain ⟨c17, h⟩ := h
          refine G_getR (f := 92) (a := a15) "" 62 dJ33_rotateRight_59 (Or.inl q1311) (Or.inl rfl) rfl e16 (hf92 c17) rfl ?_
          refine G_aload_n 63 dJ33_rotateRight_62 rfl rfl ?_
          refine G_acmp_ne 74 66 dJ33_rotateRight_63 (by decide) rfl (fun u18 => ?_) (fun u18 => ?_)
          · have h := h.1 u18
            refine G_aload_n 75 dJ33_rotateRight_74 rfl rfl ?_
            refine G_aload_n 76 dJ33_rotateRight_75 rfl rfl ?_
            refine G_putR (f := 91) (a := a15) "" 79 dJ33_rotateRight_76 (Or.inl q1310) (Or.inl rfl) rfl e16 (hp91 c17) (nk91 c17) (Or.inl rfl) (fun y => by cases y <;> rfl) (fun y => by cases y <;> rfl) rfl ?_
            generalize hs19 : sFR s12 91 a15 (FR σ 91 a2) = s19
            have x20 : ∀ a, ¬ kd s12 a = 0 → kd s19 a = kd s12 a := by subst hs19; exact fun a _ => congrFun kd_sFR a
            have h := h s19 hs19.symm
            refine G_aload_n 80 dJ33_rotateRight_79 rfl rfl ?_
            refine G_aload_n 81 dJ33_rotateRight_80 rfl rfl ?_
            have c8 := kdE x13 c8 (by decide)
            have c8 := kdE x20 c8 (by decide)
            refine G_putR (f := 92) (a := a6) "" 84 dJ33_rotateRight_81 (Or.inl q1311) (Or.inl rfl) rfl e7 (hp92 c8) (nk92 c8) (Or.inl rfl) (fun y => by cases y <;> rfl) (fun y => by cases y <;> rfl) rfl ?_
            generalize hs21 : sFR s19 92 a6 l1 = s21
            have x22 : ∀ a, ¬ kd s19 a = 0 → kd s21 a = kd s19 a := by subst hs21; exact fun a _ => congrFun kd_sFR a
            have h := h s21 hs21.symm
            refine G_aload_n 85 dJ33_rotateRight_84 rfl rfl ?_
            refine G_aload_n 86 dJ33_rotateRight_85 rfl rfl ?_
            have c4 := kdE x13 c4 (by decide)
            have c4 := kdE x20 c4 (by decide)
            have c4 := kdE x22 c4 (by decide)
            refine G_putR (f := 90) (a := a2) "" 89 dJ33_rotateRight_86 (Or.inl q1309) (Or.inl rfl) rfl e3 (hp90 c4) (nk90 c4) (Or.inl rfl) (fun y => by cases y <;> rfl) (fun y => by cases y <;> rfl) rfl ?_
            generalize hs23 : sFR s21 90 a2 (FR σ 91 a2) = s23
            have x24 : ∀ a, ¬ kd s21 a = 0 → kd s23 a = kd s21 a := by subst hs23; exact fun a _ => congrFun kd_sFR a
            have h := h s23 hs23.symm
            refine G_aload_n 90 dJ33_rotateRight_89 rfl rfl ?_
            exact G_aret dJ33_rotateRight_90 rfl (Or.inl ⟨_, rfl⟩) ⟨_, rfl, h⟩
          · have h := h.2 u18
            refine G_aload_n 67 dJ33_rotateRight_66 rfl rfl ?_
            refine G_aload_n 68 dJ33_rotateRight_67 rfl rfl ?_
            refine G_putR (f := 92) (a := a15) "" 71 dJ33_rotateRight_68 (Or.inl q1311) (Or.inl rfl) rfl e16 (hp92 c17) (nk92 c17) (Or.inl rfl) (fun y => by cases y <;> rfl) (fun y => by cases y <;> rfl) rfl ?_
            generalize hs25 : sFR s12 92 a15 (FR σ 91 a2) = s25
            have x26 : ∀ a, ¬ kd s12 a = 0 → kd s25 a = kd s12 a := by subst hs25; exact fun a _ => congrFun kd_sFR a
            have h := h s25 hs25.symm
            refine G_goto 79 dJ33_rotateRight_71 (by decide) ?_
            refine G_aload_n 80 dJ33_rotateRight_79 rfl rfl ?_
            refine G_aload_n 81 dJ33_rotateRight_80 rfl rfl ?_
            have c8 := kdE x13 c8 (by decide)
            have c8 := kdE x26 c8 (by decide)
            refine G_putR (f := 92) (a := a6) "" 84 dJ33_rotateRight_81 (Or.inl q1311) (Or.inl rfl) rfl e7 (hp92 c8) (nk92 c8) (Or.inl rfl) (fun y => by cases y <;> rfl) (fun y => by cases y <;> rfl) rfl ?_
            generalize hs27 : sFR s25 92 a6 l1 = s27
            have x28 : ∀ a, ¬ kd s25 a = 0 → kd s27 a = kd s25 a := by subst hs27; exact fun a _ => congrFun kd_sFR a
            have h := h s27 hs27.symm
            refine G_aload_n 85 dJ33_rotateRight_84 rfl rfl ?_
            refine G_aload_n 86 dJ33_rotateRight_85 rfl rfl ?_
            have c4 := kdE x13 c4 (by decide)
            have c4 := kdE x26 c4 (by decide)
            have c4 := kdE x28 c4 (by decide)
            refine G_putR (f := 90) (a := a2) "" 89 dJ33_rotateRight_86 (Or.inl q1309) (Or.inl rfl) rfl e3 (hp90 c4) (nk90 c4) (Or.inl rfl) (fun y => by cases y <;> rfl) (fun y => by cases y <;> rfl) rfl ?_
            generalize hs29 : sFR s27 90 a2 (FR σ 91 a2) = s29
            have x30 : ∀ a, ¬ kd s27 a = 0 → kd s29 a = kd s27 a := by subst hs29; exact fun a _ => congrFun kd_sFR a
            have h := h s29 hs29.symm
            refine G_aload_n 90 dJ33_rotateRight_89 rfl rfl ?_
            exact G_aret dJ33_rotateRight_90 rfl (Or.inl ⟨_, rfl⟩) ⟨_, rfl, h⟩
        · have h := h.2 u14
          refine G_aload_n 49 dJ33_rotateRight_48 rfl rfl ?_
          refine G_dup 50 dJ33_rotateRight_49 (rf_cat _) rfl ?_
          refine G_astore_n 51 [va_rf (FR σ 91 a2), va_rf l1, va_rf (FR σ 91 a2), va_rf (FR s9 90 a2), va_rf (FR σ 92 a6)] dJ33_rotateRight_50 (Nat.le_of_ble_eq_true rfl) rfl rfl ?_
          refine G_iconst (v := 0) 52 dJ33_rotateRight_51 (by decide) rfl ?_
          have c8 := kdE x13 c8 (by decide)
          refine G_putI (f := 94) (a := a6) "" 55 dJ33_rotateRight_52 (Or.inl q1314) (Or.inl rfl) rfl e7 (hp94 c8) (nk94 c8) (Or.inl rfl) rfl rfl rfl ?_
          generalize hs31 : sFI s12 94 a6 0 = s31
          have x32 : ∀ a, ¬ kd s12 a = 0 → kd s31 a = kd s12 a := by subst hs31; exact fun a _ => congrFun kd_sFI a
          have h := h s31 hs31.symm
          refine G_goto 79 dJ33_rotateRight_55 (by decide) ?_
          refine G_aload_n 80 dJ33_rotateRight_79 rfl rfl ?_
          refine G_aload_n 81 dJ33_rotateRight_80 rfl rfl ?_
          have c8 := kdE x32 c8 (by decide)
          refine G_putR (f := 92) (a := a6) "" 84 dJ33_rotateRight_81 (Or.inl q1311) (Or.inl rfl) rfl e7 (hp92 c8) (nk92 c8) (Or.inl rfl) (fun y => by cases y <;> rfl) (fun y => by cases y <;> rfl) rfl ?_
          generalize hs33 : sFR s31 92 a6 l1 = s33
          have x34 : ∀ a, ¬ kd s31 a = 0 → kd s33 a = kd s31 a := by subst hs33; exact fun a _ => congrFun kd_sFR a
          have h := h s33 hs33.symm
          refine G_aload_n 85 dJ33_rotateRight_84 rfl rfl ?_
          refine G_aload_n 86 dJ33_rotateRight_85 rfl rfl ?_
          have c4 := kdE x13 c4 (by decide)
          have c4 := kdE x32 c4 (by decide)
          have c4 := kdE x34 c4 (by decide)
          refine G_putR (f := 90) (a := a2) "" 89 dJ33_rotateRight_86 (Or.inl q1309) (Or.inl rfl) rfl e3 (hp90 c4) (nk90 c4) (Or.inl rfl) (fun y => by cases y <;> rfl) (fun y => by cases y <;> rfl) rfl ?_
          generalize hs35 : sFR s33 90 a2 (FR σ 91 a2) = s35
          have x36 : ∀ a, ¬ kd s33 a = 0 → kd s35 a = kd s33 a := by subst hs35; exact fun a _ => congrFun kd_sFR a
          have h := h s35 hs35.symm
          refine G_aload_n 90 dJ33_rotateRight_89 rfl rfl ?_
          exact G_aret dJ33_rotateRight_90 rfl (Or.inl ⟨_, rfl⟩) ⟨_, rfl, h⟩
      · have h := h.2 u11
        refine G_aload 30 dJ33_rotateRight_28 rfl rfl ?_
        refine G_aload_n 31 dJ33_rotateRight_30 rfl rfl ?_
        obtain ⟨a37, e38, h⟩ := h
        obtain ⟨c39, h⟩ := h
        refine G_putR (f := 90) (a := a37) "" 34 dJ33_rotateRight_31 (Or.inl q1309) (Or.inl rfl) rfl e38 (hp90 c39) (nk90 c39) (Or.inl rfl) (fun y => by cases y <;> rfl) (fun y => by cases y <;> rfl) rfl ?_
        generalize hs40 : sFR s9 90 a37 l1 = s40
        have x41 : ∀ a, ¬ kd s9 a = 0 → kd s40 a = kd s9 a := by subst hs40; exact fun a _ => congrFun kd_sFR a
        have h := h s40 hs40.symm
        refine G_aload_n 35 dJ33_rotateRight_34 rfl rfl ?_
        refine G_aload_n 36 dJ33_rotateRight_35 rfl rfl ?_
        have c4 := kdE x10 c4 (by decide)
        have c4 := kdE x41 c4 (by decide)
        refine G_getR (f := 90) (a := a2) "" 39 dJ33_rotateRight_36 (Or.inl q1309) (Or.inl rfl) rfl e3 (hf90 c4) rfl ?_
        refine G_dup_x1 40 dJ33_rotateRight_39 (rf_cat _) (rf_cat _) rfl ?_
        have c8 := kdE x10 c8 (by decide)
        have c8 := kdE x41 c8 (by decide)
        refine G_putR (f := 90) (a := a6) "" 43 dJ33_rotateRight_40 (Or.inl q1309) (Or.inl rfl) rfl e7 (hp90 c8) (nk90 c8) (Or.inl rfl) (fun y => by cases y <;> rfl) (fun y => by cases y <;> rfl) rfl ?_
        generalize hs42 : sFR s40 90 a6 (FR s40 90 a2) = s42
        have x43 : ∀ a, ¬ kd s40 a = 0 → kd s42 a = kd s40 a := by subst hs42; exact fun a _ => congrFun kd_sFR a
        have h := h s42 hs42.symm
        refine G_dup 44 dJ33_rotateRight_43 (rf_cat _) rfl ?_
        refine G_astore_n 45 [va_rf l0, va_rf l1, va_rf (FR σ 91 a2), va_rf (FR s40 90 a2), va_rf (FR σ 92 a6)] dJ33_rotateRight_44 (Nat.le_of_ble_eq_true rfl) rfl rfl ?_
        refine G_ifnonnull 58 48 dJ33_rotateRight_45 (by decide) rfl (fun u44 => ?_) (fun u44 => ?_)
        · have h := h.1 u44
          refine G_aload_n 59 dJ33_rotateRight_58 rfl rfl ?_
          obtain ⟨a45, e46, h⟩ := h
          obtain ⟨c47, h⟩ := h
          refine G_getR (f := 92) (a := a45) "" 62 dJ33_rotateRight_59 (Or.inl q1311) (Or.inl rfl) rfl e46 (hf92 c47) rfl ?_
          refine G_aload_n 63 dJ33_rotateRight_62 rfl rfl ?_
          refine G_acmp_ne 74 66 dJ33_rotateRight_63 (by decide) rfl (fun u48 => ?_) (fun u48 => ?_)
          · have h := h.1 u48
            refine G_aload_n 75 dJ33_rotateRight_74 rfl rfl ?_
            refine G_aload_n 76 dJ33_rotateRight_75 rfl rfl ?_
            refine G_putR (f := 91) (a := a45) "" 79 dJ33_rotateRight_76 (Or.inl q1310) (Or.inl rfl) rfl e46 (hp91 c47) (nk91 c47) (Or.inl rfl) (fun y => by cases y <;> rfl) (fun y => by cases y <;> rfl) rfl ?_
            generalize hs49 : sFR s42 91 a45 (FR σ 91 a2) = s49
            have x50 : ∀ a, ¬ kd s42 a = 0 → kd s49 a = kd s42 a := by subst hs49; exact fun a _ => congrFun kd_sFR a
            have h := h s49 hs49.symm
            refine G_aload_n 80 dJ33_rotateRight_79 rfl rfl ?_
            refine G_aload_n 81 dJ33_rotateRight_80 rfl rfl ?_
            have c8 := kdE x43 c8 (by decide)
            have c8 := kdE x50 c8 (by decide)
            refine G_putR (f := 92) (a := a6) "" 84 dJ33_rotateRight_81 (Or.inl q1311) (Or.inl rfl) rfl e7 (hp92 c8) (nk92 c8) (Or.inl rfl) (fun y => by cases y <;> rfl) (fun y => by cases y <;> rfl) rfl ?_
            generalize hs51 : sFR s49 92 a6 l1 = s51
            have x52 : ∀ a, ¬ kd s49 a = 0 → kd s51 a = kd s49 a := by subst hs51; exact fun a _ => congrFun kd_sFR a
            have h := h s51 hs51.symm
            refine G_aload_n 85 dJ33_rotateRight_84 rfl rfl ?_
            refine G_aload_n 86 dJ33_rotateRight_85 rfl rfl ?_
            have c4 := kdE x43 c4 (by decide)
            have c4 := kdE x50 c4 (by decide)
            have c4 := kdE x52 c4 (by decide)
            refine G_putR (f := 90) (a := a2) "" 89 dJ33_rotateRight_86 (Or.inl q1309) (Or.inl rfl) rfl e3 (hp90 c4) (nk90 c4) (Or.inl rfl) (fun y => by cases y <;> rfl) (fun y => by cases y <;> rfl) rfl ?_
            generalize hs53 : sFR s51 90 a2 (FR σ 91 a2) = s53
            have x54 : ∀ a, ¬ kd s51 a = 0 → kd s53 a = kd s51 a := by subst hs53; exact fun a _ => congrFun kd_sFR a
            have h := h s53 hs53.symm
            refine G_aload_n 90 dJ33_rotateRight_89 rfl rfl ?_
            exact G_aret dJ33_rotateRight_90 rfl (Or.inl ⟨_, rfl⟩) ⟨_, rfl, h⟩
          · have h := h.2 u48
            refine G_aload_n 67 dJ33_rotateRight_66 rfl rfl ?_
            refine G_aload_n 68 dJ33_rotateRight_67 rfl rfl ?_
            refine G_putR (f := 92) (a := a45) "" 71 dJ33_rotateRight_68 (Or.inl q1311) (Or.inl rfl) rfl e46 (hp92 c47) (nk92 c47) (Or.inl rfl) (fun y => by cases y <;> rfl) (fun y => by cases y <;> rfl) rfl ?_
            generalize hs55 : sFR s42 92 a45 (FR σ 91 a2) = s55
            have x56 : ∀ a, ¬ kd s42 a = 0 → kd s55 a = kd s42 a := by subst hs55; exact fun a _ => congrFun kd_sFR a
            have h := h s55 hs55.symm
            refine G_goto 79 dJ33_rotateRight_71 (by decide) ?_
            refine G_aload_n 80 dJ33_rotateRight_79 rfl rfl ?_
            refine G_aload_n 81 dJ33_rotateRight_80 rfl rfl ?_
            have c8 := kdE x43 c8 (by decide)
            have c8 := kdE x56 c8 (by decide)
            refine G_putR (f := 92) (a := a6) "" 84 dJ33_rotateRight_81 (Or.inl q1311) (Or.inl rfl) rfl e7 (hp92 c8) (nk92 c8) (Or.inl rfl) (fun y => by cases y <;> rfl) (fun y => by cases y <;> rfl) rfl ?_
            generalize hs57 : sFR s55 92 a6 l1 = s57
            have x58 : ∀ a, ¬ kd s55 a = 0 → kd s57 a = kd s55 a := by subst hs57; exact fun a _ => congrFun kd_sFR a
            have h := h s57 hs57.symm
            refine G_aload_n 85 dJ33_rotateRight_84 rfl rfl ?_
            refine G_aload_n 86 dJ33_rotateRight_85 rfl rfl ?_
            have c4 := kdE x43 c4 (by decide)
            have c4 := kdE x56 c4 (by decide)
            have c4 := kdE x58 c4 (by decide)
            refine G_putR (f := 90) (a := a2) "" 89 dJ33_rotateRight_86 (Or.inl q1309) (Or.inl rfl) rfl e3 (hp90 c4) (nk90 c4) (Or.inl rfl) (fun y => by cases y <;> rfl) (fun y => by cases y <;> rfl) rfl ?_
            generalize hs59 : sFR s57 90 a2 (FR σ 91 a2) = s59
            have x60 : ∀ a, ¬ kd s57 a = 0 → kd s59 a = kd s57 a := by subst hs59; exact fun a _ => congrFun kd_sFR a
            have h := h s59 hs59.symm
            refine G_aload_n 90 dJ33_rotateRight_89 rfl rfl ?_
            exact G_aret dJ33_rotateRight_90 rfl (Or.inl ⟨_, rfl⟩) ⟨_, rfl, h⟩
        · have h := h.2 u44
          refine G_aload_n 49 dJ33_rotateRight_48 rfl rfl ?_
          refine G_dup 50 dJ33_rotateRight_49 (rf_cat _) rfl ?_
          refine G_astore_n 51 [va_rf (FR σ 91 a2), va_rf l1, va_rf (FR σ 91 a2), va_rf (FR s40 90 a2), va_rf (FR σ 92 a6)] dJ33_rotateRight_50 (Nat.le_of_ble_eq_true rfl) rfl rfl ?_
          refine G_iconst (v := 0) 52 dJ33_rotateRight_51 (by decide) rfl ?_
          have c8 := kdE x43 c8 (by decide)
          refine G_putI (f := 94) (a := a6) "" 55 dJ33_rotateRight_52 (Or.inl q1314) (Or.inl rfl) rfl e7 (hp94 c8) (nk94 c8) (Or.inl rfl) rfl rfl rfl ?_
          generalize hs61 : sFI s42 94 a6 0 = s61
          have x62 : ∀ a, ¬ kd s42 a = 0 → kd s61 a = kd s42 a := by subst hs61; exact fun a _ => congrFun kd_sFI a
          have h := h s61 hs61.symm
          refine G_goto 79 dJ33_rotateRight_55 (by decide) ?_
          refine G_aload_n 80 dJ33_rotateRight_79 rfl rfl ?_
          refine G_aload_n 81 dJ33_rotateRight_80 rfl rfl ?_
          have c8 := kdE x62 c8 (by decide)
          refine G_putR (f := 92) (a := a6) "" 84 dJ33_rotateRight_81 (Or.inl q1311) (Or.inl rfl) rfl e7 (hp92 c8) (nk92 c8) (Or.inl rfl) (fun y => by cases y <;> rfl) (fun y => by cases y <;> rfl) rfl ?_
          generalize hs63 : sFR s61 92 a6 l1 = s63
          have x64 : ∀ a, ¬ kd s61 a = 0 → kd s63 a = kd s61 a := by subst hs63; exact fun a _ => congrFun kd_sFR a
          have h := h s63 hs63.symm
          refine G_aload_n 85 dJ33_rotateRight_84 rfl rfl ?_
          refine G_aload_n 86 dJ33_rotateRight_85 rfl rfl ?_
          have c4 := kdE x43 c4 (by decide)
          have c4 := kdE x62 c4 (by decide)
          have c4 := kdE x64 c4 (by decide)
          refine G_putR (f := 90) (a := a2) "" 89 dJ33_rotateRight_86 (Or.inl q1309) (Or.inl rfl) rfl e3 (hp90 c4) (nk90 c4) (Or.inl rfl) (fun y => by cases y <;> rfl) (fun y => by cases y <;> rfl) rfl ?_
          generalize hs65 : sFR s63 90 a2 (FR σ 91 a2) = s65
          have x66 : ∀ a, ¬ kd s63 a = 0 → kd s65 a = kd s63 a := by subst hs65; exact fun a _ => congrFun kd_sFR a
          have h := h s65 hs65.symm
          refine G_aload_n 90 dJ33_rotateRight_89 rfl rfl ?_
          exact G_aret dJ33_rotateRight_90 rfl (Or.inl ⟨_, rfl⟩) ⟨_, rfl, h⟩
theorem eJ33_rotateRight {w : Wt} {K : Sg → Option Nat → Prop} {σ : Sg} (l0 : Option Nat) (l1 : Option Nat) (h : G w mJ33_rotateRight (KR K) 0 0 σ 0 [va_rf l0, va_rf l1, U_, U_, U_] []) : CalR w mJ33_rotateRight σ [va_rf l0, va_rf l1] K :=
  Cal.start 3 mJ33_rotateRight_plain (catR (catR cat0)) (Nat.le_of_ble_eq_true rfl) rfl h
set_option maxHeartbeats 4000000 in
theorem bJ33_moveRootToFront_0 {w : Wt} {K : Sg → Prop} {rc rs : Nat} {σ : Sg} (l0 : Option Nat) (l1 : Option Nat) (h : ((l1 = none → K σ) ∧ (¬ l1 = none → ((l0 = none → K σ) ∧ (¬ l0 = none → ∃ a3, l0 = some a3 ∧ kd σ a3 ∈ [1, 2, 3, 4, 5, 7, 8] ∧ ((nI (ln σ a3) ≤ 0 → K σ) ∧ (¬ nI (ln σ a3) ≤ 0 → ∃ a7, l1 = some a7 ∧ kd σ a7 ∈ [30, 31, 32] ∧ kd σ a3 ∈ [3, 4, 7, 8] ∧ vp_in (((nI (ln σ a3)) - 1) &&& (FI σ 84 a7)) (ln σ a3) ∧ (AR σ a3 (((nI (ln σ a3)) - 1) &&& (FI σ 84 a7)).toNatClampNeg = none ∨ ∃ b, AR σ a3 (((nI (ln σ a3)) - 1) &&& (FI σ 84 a7)).toNatClampNeg = some b ∧ kd σ b = 32) ∧ ((l1 = AR σ a3 (((nI (ln σ a3)) - 1) &&& (FI σ 84 a7)).toNatClampNeg → K σ) ∧ (¬ l1 = AR σ a3 (((nI (ln σ a3)) - 1) &&& (FI σ 84 a7)).toNatClampNeg → kd σ a3 = 4 ∧ ∀ s15, s15 = sAR σ a3 (((nI (ln σ a3)) - 1) &&& (FI σ 84 a7)).toNatClampNeg l1 → kd s15 a7 = 32 ∧ ((FR s15 87 a7 = none → ((FR s15 93 a7 = none → ((AR σ a3 (((nI (ln σ a3)) - 1) &&& (FI σ 84 a7)).toNatClampNeg = none → ∀ s21, s21 = sFR s15 87 a7 (AR σ a3 (((nI (ln σ a3)) - 1) &&& (FI σ 84 a7)).toNatClampNeg) → ∀ s23, s23 = sFR s21 93 a7 none → K s23) ∧ (¬ AR σ a3 (((nI (ln σ a3)) - 1) &&& (FI σ 84 a7)).toNatClampNeg = none → ∃ a25, AR σ a3 (((nI (ln σ a3)) - 1) &&& (FI σ 84 a7)).toNatClampNeg = some a25 ∧ kd s15 a25 = 32 ∧ ∀ s28, s28 = sFR s15 93 a25 l1 → ∀ s30, s30 = sFR s28 87 a7 (AR σ a3 (((nI (ln σ a3)) - 1) &&& (FI σ 84 a7)).toNatClampNeg) → ∀ s32, s32 = sFR s30 93 a7 none → K s32))) ∧ (¬ FR s15 93 a7 = none → ∃ a34, FR s15 93 a7 = some a34 ∧ kd s15 a34 ∈ [30, 31, 32] ∧ ∀ s37, s37 = sFR s15 87 a34 (FR s15 87 a7) → ((AR σ a3 (((nI (ln σ a3)) - 1) &&& (FI σ 84 a7)).toNatClampNeg = none → ∀ s40, s40 = sFR s37 87 a7 (AR σ a3 (((nI (ln σ a3)) - 1) &&& (FI σ 84 a7)).toNatClampNeg) → ∀ s42, s42 = sFR s40 93 a7 none → K s42) ∧ (¬ AR σ a3 (((nI (ln σ a3)) - 1) &&& (FI σ 84 a7)).toNatClampNeg = none → ∃ a44, AR σ a3 (((nI (ln σ a3)) - 1) &&& (FI σ 84 a7)).toNatClampNeg = some a44 ∧ kd s37 a44 = 32 ∧ ∀ s47, s47 = sFR s37 93 a44 l1 → ∀ s49, s49 = sFR s47 87 a7 (AR σ a3 (((nI (ln σ a3)) - 1) &&& (FI σ 84 a7)).toNatClampNeg) → ∀ s51, s51 = sFR s49 93 a7 none → K s51))))) ∧ (¬ FR s15 87 a7 = none → (FR s15 87 a7 = none ∨ ∃ b, FR s15 87 a7 = some b ∧ kd s15 b = 32) ∧ ∃ a54, FR s15 87 a7 = some a54 ∧ kd s15 a54 = 32 ∧ ∀ s57, s57 = sFR s15 93 a54 (FR s15 93 a7) → ((FR s15 93 a7 = none → ((AR σ a3 (((nI (ln σ a3)) - 1) &&& (FI σ 84 a7)).toNatClampNeg = none → ∀ s61, s61 = sFR s57 87 a7 (AR σ a3 (((nI (ln σ a3)) - 1) &&& (FI σ 84 a7)).toNatClampNeg) → ∀ s63, s63 = sFR s61 93 a7 none → K s63) ∧ (¬ AR σ a3 (((nI (ln σ a3)) - 1) &&& (FI σ 84 a7)).toNatClampNeg = none → ∃ a65, AR σ a3 (((nI (ln σ a3)) - 1) &&& (FI σ 84 a7)).toNatClampNeg = some a65 ∧ kd s57 a65 = 32 ∧ ∀ s68, s68 = sFR s57 93 a65 l1 → ∀ s70, s70 = sFR s68 87 a7 (AR σ a3 (((nI (ln σ a3)) - 1) &&& (FI σ 84 a7)).toNatClampNeg) → ∀ s72, s72 = sFR s70 93 a7 none → K s72))) ∧ (¬ FR s15 93 a7 = none → ∃ a74, FR s15 93 a7 = some a74 ∧ kd s57 a74 ∈ [30, 31, 32] ∧ ∀ s77, s77 = sFR s57 87 a74 (FR s15 87 a7) → ((AR σ a3 (((nI (ln σ a3)) - 1) &&& (FI σ 84 a7)).toNatClampNeg = none → ∀ s80, s80 = sFR s77 87 a7 (AR σ a3 (((nI (ln σ a3)) - 1) &&& (FI σ 84 a7)).toNatClampNeg) → ∀ s82, s82 = sFR s80 93 a7 none → K s82) ∧ (¬ AR σ a3 (((nI (ln σ a3)) - 1) &&& (FI σ 84 a7)).toNatClampNeg = none → ∃ a84, AR σ a3 (((nI (ln σ a3)) - 1) &&& (FI σ 84 a7)).toNatClampNeg = some a84 ∧ kd s77 a84 = 32 ∧ ∀ s87, s87 = sFR s77 93 a84 l1 → ∀ s89, s89 = sFR s87 87 a7 (AR σ a3 (((nI (ln σ a3)) - 1) &&& (FI σ 84 a7)).toNatClampNeg) → ∀ s91, s91 = sFR s89 93 a7 none → K s91))))))))))))))) : G w mJ33_moveRootToFront (KV K) (rc) (rs) σ 0 [va_rf l0, va_rf l1, U_, U_, U_, U_, U_] [] := by
  refine G_aload_n 1 dJ33_moveRootToFront_0 rfl rfl ?_
  refine G_ifnull 123 4 dJ33_moveRootToFront_1 (by decide) rfl (fun u1 => ?_) (fun u1 => ?_)
  · have h := h.1 u1
    exact G_ret dJ33_moveRootToFront_123 rfl ⟨rfl, h⟩
  · have h := h.2 u1
    refine G_aload_n 5 dJ33_moveRootToFront_4 rfl rfl ?_
    refine G_ifnull 123 8 dJ33_moveRootToFront_5 (by decide) rfl (fun u2 => ?_) (fun u2 => ?_)
    · have h := h.1 u2
      exact G_ret dJ33_moveRootToFront_123 rfl ⟨rfl, h⟩
    · have h := h.2 u2
      refine G_aload_n 9 dJ33_moveRootToFront_8 rfl rfl ?_
      obtain ⟨a3, e4, h⟩ := h
      obtain ⟨c5, h⟩ := h
      refine G_alen (a := a3) 10 dJ33_moveRootToFront_9 rfl e4 c5 ?_
      refine G_dup 11 dJ33_moveRootToFront_10 (rfl) rfl ?_
      refine G_istore_n 12 [va_rf l0, va_rf l1, .int (nI (ln σ a3)), U_, U_, U_, U_] dJ33_moveRootToFront_11 (Nat.le_of_ble_eq_true rfl) rfl rfl ?_
      refine G_if_le 123 15 dJ33_moveRootToFront_12 (by decide) rfl (fun u6 => ?_) (fun u6 => ?_)
      · have h := h.1 u6
        exact G_ret dJ33_moveRootToFront_123 rfl ⟨rfl, h⟩
      · have h := h.2 u6
        refine G_iload_n 16 dJ33_moveRootToFront_15 rfl rfl ?_
        refine G_iconst (v := 1) 17 dJ33_moveRootToFront_16 (by decide) rfl ?_
        refine G_isub 18 dJ33_moveRootToFront_17 rfl ?_
        refine G_aload_n 19 dJ33_moveRootToFront_18 rfl rfl ?_
        obtain ⟨a7, e8, h⟩ := h
        obtain ⟨c9, h⟩ := h
        refine G_getI (f := 84) (a := a7) "" 22 dJ33_moveRootToFront_19 (Or.inl q951) (Or.inr q952) rfl e8 (hf84 c9) rfl ?_
        refine G_iand 23 dJ33_moveRootToFront_22 rfl ?_
        refine G_istore_n 24 [va_rf l0, va_rf l1, .int (nI (ln σ a3)), .int (((nI (ln σ a3)) - 1) &&& (FI σ 84 a7)), U_, U_, U_] dJ33_moveRootToFront_23 (Nat.le_of_ble_eq_true rfl) rfl rfl ?_
        refine G_aload_n 25 dJ33_moveRootToFront_24 rfl rfl ?_
        refine G_iload_n 26 dJ33_moveRootToFront_25 rfl rfl ?_
        obtain ⟨c10, h⟩ := h
        obtain ⟨c11, h⟩ := h
        refine G_aald (a := a3) 27 dJ33_moveRootToFront_26 rfl e4 c10 c11 ?_
        obtain ⟨c12, h⟩ := h
        refine G_cast 30 dJ33_moveRootToFront_27 q925 rfl (c12.imp id (fun ⟨b, e, k⟩ => ⟨b, e, co1 k⟩)) ?_
        refine G_astore 32 [va_rf l0, va_rf l1, .int (nI (ln σ a3)), .int (((nI (ln σ a3)) - 1) &&& (FI σ 84 a7)), va_rf (AR σ a3 (((nI (ln σ a3)) - 1) &&& (FI σ 84 a7)).toNatClampNeg), U_, U_] dJ33_moveRootToFront_30 (Nat.le_of_ble_eq_true rfl) rfl rfl ?_
        refine G_aload_n 33 dJ33_moveRootToFront_32 rfl rfl ?_
        refine G_aload 35 dJ33_moveRootToFront_33 rfl rfl ?_
        refine G_acmp_eq 102 38 dJ33_moveRootToFront_35 (by decide) rfl (fun u13 => ?_) (fun u13 => ?_)
        · have h := h.1 u13
          refine G_getS (host := "") (C := "java/util/HashMap$TreeNode") (v := .int 1) 105 dJ33_moveRootToFront_102 (Or.inl q1236) (Or.inl rfl) rfl (List.mem_of_getElem? (i := 6) rfl) ?_
          refine G_if_ne 123 108 dJ33_moveRootToFront_105 (by decide) rfl (fun _ => ?_) (fun q => absurd q (by decide))
          exact G_ret dJ33_moveRootToFront_123 rfl ⟨rfl, h⟩
        · have h := h.2 u13
          refine G_aload_n 39 dJ33_moveRootToFront_38 rfl rfl ?_
          refine G_iload_n 40 dJ33_moveRootToFront_39 rfl rfl ?_
          refine G_aload_n 41 dJ33_moveRootToFront_40 rfl rfl ?_
          obtain ⟨c14, h⟩ := h
          refine G_aast (a := a3) (kn := 4) 42 dJ33_moveRootToFront_41 rfl e4 c14 (Or.inr rfl) c11 (Or.inr ⟨a7, e8, eo4 c9⟩) ?_
          generalize hs15 : sAR σ a3 (((nI (ln σ a3)) - 1) &&& (FI σ 84 a7)).toNatClampNeg l1 = s15
          have x16 : ∀ a, ¬ kd σ a = 0 → kd s15 a = kd σ a := by subst hs15; exact fun a _ => congrFun kd_sAR a
          have h := h s15 hs15.symm
          refine G_aload_n 43 dJ33_moveRootToFront_42 rfl rfl ?_
          obtain ⟨c17, h⟩ := h
          refine G_getR (f := 93) (a := a7) "" 46 dJ33_moveRootToFront_43 (Or.inl q1312) (Or.inl rfl) rfl e8 (hf93 c17) rfl ?_
          refine G_astore 48 [va_rf l0, va_rf l1, .int (nI (ln σ a3)), .int (((nI (ln σ a3)) - 1) &&& (FI σ 84 a7)), va_rf (AR σ a3 (((nI (ln σ a3)) - 1) &&& (FI σ 84 a7)).toNatClampNeg), U_, va_rf (FR s15 93 a7)] dJ33_moveRootToFront_46 (Nat.le_of_ble_eq_true rfl) rfl rfl ?_
          refine G_aload_n 49 dJ33_moveRootToFront_48 rfl rfl ?_
          refine G_getR (f := 87) (a := a7) "" 52 dJ33_moveRootToFront_49 (Or.inl q970) (Or.inr q971) rfl e8 (hf87 (memE c17 (by decide))) rfl ?_
          refine G_dup 53 dJ33_moveRootToFront_52 (rf_cat _) rfl ?_
          refine G_astore 55 [va_rf l0, va_rf l1, .int (nI (ln σ a3)), .int (((nI (ln σ a3)) - 1) &&& (FI σ 84 a7)), va_rf (AR σ a3 (((nI (ln σ a3)) - 1) &&& (FI σ 84 a7)).toNatClampNeg), va_rf (FR s15 87 a7), va_rf (FR s15 93 a7)] dJ33_moveRootToFront_53 (Nat.le_of_ble_eq_true rfl) rfl rfl ?_
          refine G_ifnull 68 58 dJ33_moveRootToFront_55 (by decide) rfl (fun u18 => ?_) (fun u18 => ?_)
          · have h := h.1 u18
            refine G_aload 70 dJ33_moveRootToFront_68 rfl rfl ?_
            refine G_ifnull 80 73 dJ33_moveRootToFront_70 (by decide) rfl (fun u19 => ?_) (fun u19 => ?_)
            · have h := h.1 u19
              refine G_aload 82 dJ33_moveRootToFront_80 rfl rfl ?_
              refine G_ifnull 91 85 dJ33_moveRootToFront_82 (by decide) rfl (fun u20 => ?_) (fun u20 => ?_)
              · have h := h.1 u20
                refine G_aload_n 92 dJ33_moveRootToFront_91 rfl rfl ?_
                refine G_aload 94 dJ33_moveRootToFront_92 rfl rfl ?_
                refine G_putR (f := 87) (a := a7) "" 97 dJ33_moveRootToFront_94 (Or.inl q970) (Or.inr q971) rfl e8 (hp87 (memE c17 (by decide))) (nk87 (memE c17 (by decide))) (Or.inl rfl) (fun y => by cases y <;> rfl) (fun y => by cases y <;> rfl) rfl ?_
                generalize hs21 : sFR s15 87 a7 (AR σ a3 (((nI (ln σ a3)) - 1) &&& (FI σ 84 a7)).toNatClampNeg) = s21
                have x22 : ∀ a, ¬ kd s15 a = 0 → kd s21 a = kd s15 a := by subst hs21; exact fun a _ => congrFun kd_sFR a
                have h := h s21 hs21.symm
                refine G_aload_n 98 dJ33_moveRootToFront_97 rfl rfl ?_
                refine G_null 99 dJ33_moveRootToFront_98 rfl ?_
                have c17 := kdE x22 c17 (by decide)
                refine G_putR (f := 93) (a := a7) "" 102 dJ33_moveRootToFront_99 (Or.inl q1312) (Or.inl rfl) rfl e8 (hp93 c17) (nk93 c17) (Or.inl rfl) (fun y => by cases y <;> rfl) (fun y => by cases y <;> rfl) rfl ?_
                generalize hs23 : sFR s21 93 a7 none = s23
                have x24 : ∀ a, ¬ kd s21 a = 0 → kd s23 a = kd s21 a := by subst hs23; exact fun a _ => congrFun kd_sFR a
                have h := h s23 hs23.symm
                refine G_getS (host := "") (C := "java/util/HashMap$TreeNode") (v := .int 1) 105 dJ33_moveRootToFront_102 (Or.inl q1236) (Or.inl rfl) rfl (List.mem_of_getElem? (i := 6) rfl) ?_
                refine G_if_ne 123 108 dJ33_moveRootToFront_105 (by decide) rfl (fun _ => ?_) (fun q => absurd q (by decide))
                exact G_ret dJ33_moveRootToFront_123 rfl ⟨rfl, h⟩
              · have h := h.2 u20
                refine G_aload 87 dJ33_moveRootToFront_85 rfl rfl ?_
                refine G_aload_n 88 dJ33_moveRootToFront_87 rfl rfl ?_
                obtain ⟨a25, e26, h⟩ := h
                obtain ⟨c27, h⟩ := h
                refine G_putR (f := 93) (a := a25) "" 91 dJ33_moveRootToFront_88 (Or.inl q1312) (Or.inl rfl) rfl e26 (hp93 c27) (nk93 c27) (Or.inl rfl) (fun y => by cases y <;> rfl) (fun y => by cases y <;> rfl) rfl ?_
                generalize hs28 : sFR s15 93 a25 l1 = s28
                have x29 : ∀ a, ¬ kd s15 a = 0 → kd s28 a = kd s15 a := by subst hs28; exact fun a _ => congrFun kd_sFR a
                have h := h s28 hs28.symm
                refine G_aload_n 92 dJ33_moveRootToFront_91 rfl rfl ?_
                refine G_aload 94 dJ33_moveRootToFront_92 rfl rfl ?_
                have c17 := kdE x29 c17 (by decide)
                refine G_putR (f := 87) (a := a7) "" 97 dJ33_moveRootToFront_94 (Or.inl q970) (Or.inr q971) rfl e8 (hp87 (memE c17 (by decide))) (nk87 (memE c17 (by decide))) (Or.inl rfl) (fun y => by cases y <;> rfl) (fun y => by cases y <;> rfl) rfl ?_
                generalize hs30 : sFR s28 87 a7 (AR σ a3 (((nI (ln σ a3)) - 1) &&& (FI σ 84 a7)).toNatClampNeg) = s30
                have x31 : ∀ a, ¬ kd s28 a = 0 → kd s30 a = kd s28 a := by subst hs30; exact fun a _ => congrFun kd_sFR a
                have h := h s30 hs30.symm
                refine G_aload_n 98 dJ33_moveRootToFront_97 rfl rfl ?_
                refine G_null 99 dJ33_moveRootToFront_98 rfl ?_
                have c17 := kdE x31 c17 (by decide)
                refine G_putR (f := 93) (a := a7) "" 102 dJ33_moveRootToFront_99 (Or.inl q1312) (Or.inl rfl) rfl e8 (hp93 c17) (nk93 c17) (Or.inl rfl) (fun y => by cases y <;> rfl) (fun y => by cases y <;> rfl) rfl ?_
                generalize hs32 : sFR s30 93 a7 none = s32
                have x33 : ∀ a, ¬ kd s30 a = 0 → kd s32 a = kd s30 a := by subst hs32; exact fun a _ => congrFun kd_sFR a
                have h := h s32 hs32.symm
                refine G_getS (host := "") (C := "java/util/HashMap$TreeNode") (v := .int 1) 105 dJ33_moveRootToFront_102 (Or.inl q1236) (Or.inl rfl) rfl (List.mem_of_getElem? (i := 6) rfl) ?_
                refine G_if_ne 123 108 dJ33_moveRootToFront_105 (by decide) rfl (fun _ => ?_) (fun q => absurd q (by decide))
                exact G_ret dJ33_moveRootToFront_123 rfl ⟨rfl, h⟩
            · have h := h.2 u19
              refine G_aload 75 dJ33_moveRootToFront_73 rfl rfl ?_
              refine G_aload 77 dJ33_moveRootToFront_75 rfl rfl ?_
              obtain ⟨a34, e35, h⟩ := h
              obtain ⟨c36, h⟩ := h
              refine G_putR (f := 87) (a := a34) "" 80 dJ33_moveRootToFront_77 (Or.inl q970) (Or.inr q971) rfl e35 (hp87 c36) (nk87 c36) (Or.inl rfl) (fun y => by cases y <;> rfl) (fun y => by cases y <;> rfl) rfl ?_
              generalize hs37 : sFR s15 87 a34 (FR s15 87 a7) = s37
              have x38 : ∀ a, ¬ kd s15 a = 0 → kd s37 a = kd s15 a := by subst hs37; exact fun a _ => congrFun kd_sFR a
              have h := h s37 hs37.symm
              refine G_aload 82 dJ33_moveRootToFront_80 rfl rfl ?_
              refine G_ifnull 91 85 dJ33_moveRootToFront_82 (by decide) rfl (fun u39 => ?_) (fun u39 => ?_)
              · have h := h.1 u39
                refine G_aload_n 92 dJ33_moveRootToFront_91 rfl rfl ?_
                refine G_aload 94 dJ33_moveRootToFront_92 rfl rfl ?_
                have c17 := kdE x38 c17 (by decide)
                refine G_putR (f := 87) (a := a7) "" 97 dJ33_moveRootToFront_94 (Or.inl q970) (Or.inr q971) rfl e8 (hp87 (memE c17 (by decide))) (nk87 (memE c17 (by decide))) (Or.inl rfl) (fun y => by cases y <;> rfl) (fun y => by cases y <;> rfl) rfl ?_
                generalize hs40 : sFR s37 87 a7 (AR σ a3 (((nI (ln σ a3)) - 1) &&& (FI σ 84 a7)).toNatClampNeg) = s40
                have x41 : ∀ a, ¬ kd s37 a = 0 → kd s40 a = kd s37 a := by subst hs40; exact fun a _ => congrFun kd_sFR a
                have h := h s40 hs40.symm
                refine G_aload_n 98 dJ33_moveRootToFront_97 rfl rfl ?_
                refine G_null 99 dJ33_moveRootToFront_98 rfl ?_
                have c17 := kdE x41 c17 (by decide)
                refine G_putR (f := 93) (a := a7) "" 102 dJ33_moveRootToFront_99 (Or.inl q1312) (Or.inl rfl) rfl e8 (hp93 c17) (nk93 c17) (Or.inl rfl) (fun y => by cases y <;> rfl) (fun y => by cases y <;> rfl) rfl ?_
                generalize hs42 : sFR s40 93 a7 none = s42
                have x43 : ∀ a, ¬ kd s40 a = 0 → kd s42 a = kd s40 a := by subst hs42; exact fun a _ => congrFun kd_sFR a
                have h := h s42 hs42.symm
                refine G_getS (host := "") (C := "java/util/HashMap$TreeNode") (v := .int 1) 105 dJ33_moveRootToFront_102 (Or.inl q1236) (Or.inl rfl) rfl (List.mem_of_getElem? (i := 6) rfl) ?_
                refine G_if_ne 123 108 dJ33_moveRootToFront_105 (by decide) rfl (fun _ => ?_) (fun q => absurd q (by decide))
                exact G_ret dJ33_moveRootToFront_123 rfl ⟨rfl, h⟩
              · have h := h.2 u39
                refine G_aload 87 dJ33_moveRootToFront_85 rfl rfl ?_
                refine G_aload_n 88 dJ33_moveRootToFront_87 rfl rfl ?_
                obtain ⟨a44, e45, h⟩ := h
                obtain ⟨c46, h⟩ := h
                refine G_putR (f := 93) (a := a44) "" 91 dJ33_moveRootToFront_88 (Or.inl q1312) (Or.inl rfl) rfl e45 (hp93 c46) (nk93 c46) (Or.inl rfl) (fun y => by cases y <;> rfl) (fun y => by cases y <;> rfl) rfl ?_
                generalize hs47 : sFR s37 93 a44 l1 = s47
                have x48 : ∀ a, ¬ kd s37 a = 0 → kd s47 a = kd s37 a := by subst hs47; exact fun a _ => congrFun kd_sFR a
                have h := h s47 hs47.symm
                refine G_aload_n 92 dJ33_moveRootToFront_91 rfl rfl ?_
                refine G_aload 94 dJ33_moveRootToFront_92 rfl rfl ?_
                have c17 := kdE x38 c17 (by decide)
                have c17 := kdE x48 c17 (by decide)
                refine G_putR (f := 87) (a := a7) "" 97 dJ33_moveRootToFront_94 (Or.inl q970) (Or.inr q971) rfl e8 (hp87 (memE c17 (by decide))) (nk87 (memE c17 (by decide))) (Or.inl rfl) (fun y => by cases y <;> rfl) (fun y => by cases y <;> rfl) rfl ?_
                generalize hs49 : sFR s47 87 a7 (AR σ a3 (((nI (ln σ a3)) - 1) &&& (FI σ 84 a7)).toNatClampNeg) = s49
                have x50 : ∀ a, ¬ kd s47 a = 0 → kd s49 a = kd s47 a := by subst hs49; exact fun a _ => congrFun kd_sFR a
                have h := h s49 hs49.symm
                refine G_aload_n 98 dJ33_moveRootToFront_97 rfl rfl ?_
                refine G_null 99 dJ33_moveRootToFront_98 rfl ?_
                have c17 := kdE x50 c17 (by decide)
                refine G_putR (f := 93) (a := a7) "" 102 dJ33_moveRootToFront_99 (Or.inl q1312) (Or.inl rfl) rfl e8 (hp93 c17) (nk93 c17) (Or.inl rfl) (fun y => by cases y <;> rfl) (fun y => by cases y <;> rfl) rfl ?_
                generalize hs51 : sFR s49 93 a7 none = s51
                have x52 : ∀ a, ¬ kd s49 a = 0 → kd s51 a = kd s49 a := by subst hs51; exact fun a _ => congrFun kd_sFR a
                have h := h s51 hs51.symm
                refine G_getS (host := "") (C := "java/util/HashMap$TreeNode") (v := .int 1) 105 dJ33_moveRootToFront_102 (Or.inl q1236) (Or.inl rfl) rfl (List.mem_of_getElem? (i := 6) rfl) ?_
                refine G_if_ne 123 108 dJ33_moveRootToFront_105 (by decide) rfl (fun _ => ?_) (fun q => absurd q (by decide))
                exact G_ret dJ33_moveRootToFront_123 rfl ⟨rfl, h⟩
          · have h := h.2 u18
            refine G_aload 60 dJ33_moveRootToFront_58 rfl rfl ?_
            obtain ⟨c53, h⟩ := h
            refine G_cast 63 dJ33_moveRootToFront_60 q925 rfl (c53.imp id (fun ⟨b, e, k⟩ => ⟨b, e, co1 k⟩)) ?_
            refine G_aload 65 dJ33_moveRootToFront_63 rfl rfl ?_
            obtain ⟨a54, e55, h⟩ := h
            obtain ⟨c56, h⟩ := h
            refine G_putR (f := 93) (a := a54) "" 68 dJ33_moveRootToFront_65 (Or.inl q1312) (Or.inl rfl) rfl e55 (hp93 c56) (nk93 c56) (Or.inl rfl) (fun y => by cases y <;> rfl) (fun y => by cases y <;> rfl) rfl ?_
            generalize hs57 : sFR s15 93 a54 (FR s15 93 a7) = s57
            have x58 : ∀ a, ¬ kd s15 a = 0 → kd s57 a = kd s15 a := by subst hs57; exact fun a _ => congrFun kd_sFR a
            have h := h s57 hs57.symm
            refine G_aload 70 dJ33_moveRootToFront_68 rfl rfl ?_
            refine G_ifnull 80 73 dJ33_moveRootToFront_70 (by decide) rfl (fun u59 => ?_) (fun u59 => ?_)
            · have h := h.1 u59
              refine G_aload 82 dJ33_moveRootToFront_80 rfl rfl ?_
              refine G_ifnull 91 85 dJ33_moveRootToFront_82 (by decide) rfl (fun u60 => ?_) (fun u60 => ?_)
              · have h := h.1 u60
                refine G_aload_n 92 dJ33_moveRootToFront_91 rfl rfl ?_
                refine G_aload 94 dJ33_moveRootToFront_92 rfl rfl ?_
                have c17 := kdE x58 c17 (by decide)
                refine G_putR (f := 87) (a := a7) "" 97 dJ33_moveRootToFront_94 (Or.inl q970) (Or.inr q971) rfl e8 (hp87 (memE c17 (by decide))) (nk87 (memE c17 (by decide))) (Or.inl rfl) (fun y => by cases y <;> rfl) (fun y => by cases y <;> rfl) rfl ?_
                generalize hs61 : sFR s57 87 a7 (AR σ a3 (((nI (ln σ a3)) - 1) &&& (FI σ 84 a7)).toNatClampNeg) = s61
                have x62 : ∀ a, ¬ kd s57 a = 0 → kd s61 a = kd s57 a := by subst hs61; exact fun a _ => congrFun kd_sFR a
                have h := h s61 hs61.symm
                refine G_aload_n 98 dJ33_moveRootToFront_97 rfl rfl ?_
                refine G_null 99 dJ33_moveRootToFront_98 rfl ?_
                have c17 := kdE x62 c17 (by decide)
                refine G_putR (f := 93) (a := a7) "" 102 dJ33_moveRootToFront_99 (Or.inl q1312) (Or.inl rfl) rfl e8 (hp93 c17) (nk93 c17) (Or.inl rfl) (fun y => by cases y <;> rfl) (fun y => by cases y <;> rfl) rfl ?_
                generalize hs63 : sFR s61 93 a7 none = s63
                have x64 : ∀ a, ¬ kd s61 a = 0 → kd s63 a = kd s61 a := by subst hs63; exact fun a _ => congrFun kd_sFR a
                have h := h s63 hs63.symm
                refine G_getS (host := "") (C := "java/util/HashMap$TreeNode") (v := .int 1) 105 dJ33_moveRootToFront_102 (Or.inl q1236) (Or.inl rfl) rfl (List.mem_of_getElem? (i := 6) rfl) ?_
                refine G_if_ne 123 108 dJ33_moveRootToFront_105 (by decide) rfl (fun _ => ?_) (fun q => absurd q (by decide))
                exact G_ret dJ33_moveRootToFront_123 rfl ⟨rfl, h⟩
              · have h := h.2 u60
                refine G_aload 87 dJ33_moveRootToFront_85 rfl rfl ?_
                refine G_aload_n 88 dJ33_moveRootToFront_87 rfl rfl ?_
                obtain ⟨a65, e66, h⟩ := h
                obtain ⟨c67, h⟩ := h
                refine G_putR (f := 93) (a := a65) "" 91 dJ33_moveRootToFront_88 (Or.inl q1312) (Or.inl rfl) rfl e66 (hp93 c67) (nk93 c67) (Or.inl rfl) (fun y => by cases y <;> rfl) (fun y => by cases y <;> rfl) rfl ?_
                generalize hs68 : sFR s57 93 a65 l1 = s68
                have x69 : ∀ a, ¬ kd s57 a = 0 → kd s68 a = kd s57 a := by subst hs68; exact fun a _ => congrFun kd_sFR a
                have h := h s68 hs68.symm
                refine G_aload_n 92 dJ33_moveRootToFront_91 rfl rfl ?_
                refine G_aload 94 dJ33_moveRootToFront_92 rfl rfl ?_
                have c17 := kdE x58 c17 (by decide)
                have c17 := kdE x69 c17 (by decide)
                refine G_putR (f := 87) (a := a7) "" 97 dJ33_moveRootToFront_94 (Or.inl q970) (Or.inr q971) rfl e8 (hp87 (memE c17 (by decide))) (nk87 (memE c17 (by decide))) (Or.inl rfl) (fun y => by cases y <;> rfl) (fun y => by cases y <;> rfl) rfl ?_
                generalize hs70 : sFR s68 87 a7 (AR σ a3 (((nI (ln σ a3)) - 1) &&& (FI σ 84 a7)).toNatClampNeg) = s70
                have x71 : ∀ a, ¬ kd s68 a = 0 → kd s70 a = kd s68 a := by subst hs70; exact fun a _ => congrFun kd_sFR a
                have h := h s70 hs70.symm
                refine G_aload_n 98 dJ33_moveRootToFront_97 rfl rfl ?_
                refine G_null 99 dJ33_moveRootToFront_98 rfl ?_
                have c17 := kdE x71 c17 (by decide)
                refine G_putR (f := 93) (a := a7) "" 102 dJ33_moveRootToFront_99 (Or.inl q1312) (Or.inl rfl) rfl e8 (hp93 c17) (nk93 c17) (Or.inl rfl) (fun y => by cases y <;> rfl) (fun y => by cases y <;> rfl) rfl ?_
                generalize hs72 : sFR s70 93 a7 none = s72
                have x73 : ∀ a, ¬ kd s70 a = 0 → kd s72 a = kd s70 a := by subst hs72; exact fun a _ => congrFun kd_sFR a
                have h := h s72 hs72.symm
                refine G_getS (host := "") (C := "java/util/HashMap$TreeNode") (v := .int 1) 105 dJ33_moveRootToFront_102 (Or.inl q1236) (Or.inl rfl) rfl (List.mem_of_getElem? (i := 6) rfl) ?_
                refine G_if_ne 123 108 dJ33_moveRootToFront_105 (by decide) rfl (fun _ => ?_) (fun q => absurd q (by decide))
                exact G_ret dJ33_moveRootToFront_123 rfl ⟨rfl, h⟩
            · have h := h.2 u59
              refine G_aload 75 dJ33_moveRootToFront_73 rfl rfl ?_
              refine G_aload 77 dJ33_moveRootToFront_75 rfl rfl ?_
              obtain ⟨a74, e75, h⟩ := h
              obtain ⟨c76, h⟩ := h
              refine G_putR (f := 87) (a := a74) "" 80 dJ33_moveRootToFront_77 (Or.inl q970) (Or.inr q971) rfl e75 (hp87 c76) (nk87 c76) (Or.inl rfl) (fun y => by cases y <;> rfl) (fun y => by cases y <;> rfl) rfl ?_
              generalize hs77 : sFR s57 87 a74 (FR s15 87 a7) = s77
              have x78 : ∀ a, ¬ kd s57 a = 0 → kd s77 a = kd s57 a := by subst hs77; exact fun a _ => congrFun kd_sFR a
              have h := h s77 hs77.symm
              refine G_aload 82 dJ33_moveRootToFront_80 rfl rfl ?_
              refine G_ifnull 91 85 dJ33_moveRootToFront_82 (by decide) rfl (fun u79 => ?_) (fun u79 => ?_)
              · have h := h.1 u79
                refine G_aload_n 92 dJ33_moveRootToFront_91 rfl rfl ?_
                refine G_aload 94 dJ33_moveRootToFront_92 rfl rfl ?_
                have c17 := kdE x58 c17 (by decide)
                have c17 := kdE x78 c17 (by decide)
                refine G_putR (f := 87) (a := a7) "" 97 dJ33_moveRootToFront_94 (Or.inl q970) (Or.inr q971) rfl e8 (hp87 (memE c17 (by decide))) (nk87 (memE c17 (by decide))) (Or.inl rfl) (fun y => by cases y <;> rfl) (fun y => by cases y <;> rfl) rfl ?_
                generalize hs80 : sFR s77 87 a7 (AR σ a3 (((nI (ln σ a3)) - 1) &&& (FI σ 84 a7)).toNatClampNeg) = s80
                have x81 : ∀ a, ¬ kd s77 a = 0 → kd s80 a = kd s77 a := by subst hs80; exact fun a _ => congrFun kd_sFR a
                have h := h s80 hs80.symm
                refine G_aload_n 98 dJ33_moveRootToFront_97 rfl rfl ?_
                refine G_null 99 dJ33_moveRootToFront_98 rfl ?_
                have c17 := kdE x81 c17 (by decide)
                refine G_putR (f := 93) (a := a7) "" 102 dJ33_moveRootToFront_99 (Or.inl q1312) (Or.inl rfl) rfl e8 (hp93 c17) (nk93 c17) (Or.inl rfl) (fun y => by cases y <;> rfl) (fun y => by cases y <;> rfl) rfl ?_
                generalize hs82 : sFR s80 93 a7 none = s82
                have x83 : ∀ a, ¬ kd s80 a = 0 → kd s82 a = kd s80 a := by subst hs82; exact fun a _ => congrFun kd_sFR a
                have h := h s82 hs82.symm
                refine G_getS (host := "") (C := "java/util/HashMap$TreeNode") (v := .int 1) 105 dJ33_moveRootToFront_102 (Or.inl q1236) (Or.inl rfl) rfl (List.mem_of_getElem? (i := 6) rfl) ?_
                refine G_if_ne 123 108 dJ33_moveRootToFront_105 (by decide) rfl (fun _ => ?_) (fun q => absurd q (by decide))
                exact G_ret dJ33_moveRootToFront_123 rfl ⟨rfl, h⟩
              · have h := h.2 u79
                refine G_aload 87 dJ33_moveRootToFront_85 rfl rfl ?_
                refine G_aload_n 88 dJ33_moveRootToFront_87 rfl rfl ?_
                obtain ⟨a84, e85, h⟩ := h
                obtain ⟨c86, h⟩ := h
                refine G_putR (f := 93) (a := a84) "" 91 dJ33_moveRootToFront_88 (Or.inl q1312) (Or.inl rfl) rfl e85 (hp93 c86) (nk93 c86) (Or.inl rfl) (fun y => by cases y <;> rfl) (fun y => by cases y <;> rfl) rfl ?_
                generalize hs87 : sFR s77 93 a84 l1 = s87
                have x88 : ∀ a, ¬ kd s77 a = 0 → kd s87 a = kd s77 a := by subst hs87; exact fun a _ => congrFun kd_sFR a
                have h := h s87 hs87.symm
                refine G_aload_n 92 dJ33_moveRootToFront_91 rfl rfl ?_
                refine G_aload 94 dJ33_moveRootToFront_92 rfl rfl ?_
                have c17 := kdE x58 c17 (by decide)
                have c17 := kdE x78 c17 (by decide)
                have c17 := kdE x88 c17 (by decide)
                refine G_putR (f := 87) (a := a7) "" 97 dJ33_moveRootToFront_94 (Or.inl q970) (Or.inr q971) rfl e8 (hp87 (memE c17 (by decide))) (nk87 (memE c17 (by decide))) (Or.inl rfl) (fun y => by cases y <;> rfl) (fun y => by cases y <;> rfl) rfl ?_
                generalize hs89 : sFR s87 87 a7 (AR σ a3 (((nI (ln σ a3)) - 1) &&& (FI σ 84 a7)).toNatClampNeg) = s89
                have x90 : ∀ a, ¬ kd s87 a = 0 → kd s89 a = kd s87 a := by subst hs89; exact fun a _ => congrFun kd_sFR a
                have h := h s89 hs89.symm
                refine G_aload_n 98 dJ33_moveRootToFront_97 rfl rfl ?_
                refine G_null 99 dJ33_moveRootToFront_98 rfl ?_
                have c17 := kdE x90 c17 (by decide)
                refine G_putR (f := 93) (a := a7) "" 102 dJ33_moveRootToFront_99 (Or.inl q1312) (Or.inl rfl) rfl e8 (hp93 c17) (nk93 c17) (Or.inl rfl) (fun y => by cases y <;> rfl) (fun y => by cases y <;> rfl) rfl ?_
                generalize hs91 : sFR s89 93 a7 none = s91
                have x92 : ∀ a, ¬ kd s89 a = 0 → kd s91 a = kd s89 a := by subst hs91; exact fun a _ => congrFun kd_sFR a
                have h := h s91 hs91.symm
                refine G_getS (host := "") (C := "java/util/HashMap$TreeNode") (v := .int 1) 105 dJ33_moveRootToFront_102 (Or.inl q1236) (Or.inl rfl) rfl (List.mem_of_getElem? (i := 6) rfl) ?_
                refine G_if_ne 123 108 dJ33_moveRootToFront_105 (by decide) rfl (fun _ => ?_) (fun q => absurd q (by decide))
                exact G_ret dJ33_moveRootToFront_123 rfl ⟨rfl, h⟩
theorem eJ33_moveRootToFront {w : Wt} {K : Sg → Prop} {σ : Sg} (l0 : Option Nat) (l1 : Option Nat) (h : G w mJ33_moveRootToFront (KV K) 0 0 σ 0 [va_rf l0, va_rf l1, U_, U_, U_, U_, U_] []) : CalV w mJ33_moveRootToFront σ [va_rf l0, va_rf l1] K :=
  Cal.start 5 mJ33_moveRootToFront_plain (catR (catR cat0)) (Nat.le_of_ble_eq_true rfl) rfl h
set_option maxHeartbeats 4000000 in
theorem bJ33_putTreeVal_0 {w : Wt} {K : Sg → Option Nat → Prop} {rc rs : Nat} {σ : Sg} (l0 : Option Nat) (l1 : Option Nat) (l2 : Option Nat) (l3 : Int32) (l4 : Option Nat) (l5 : Option Nat) (h : ∃ a1, l0 = some a1 ∧ kd σ a1 = 32 ∧ ((FR σ 90 a1 = none → G w mJ33_putTreeVal (KR K) (rc) (rs) σ 27 [va_rf l0, va_rf l1, va_rf l2, .int l3, va_rf l4, va_rf l5, va_rf none, .int 0, va_rf l0, va_rf l0, U_, U_, U_, U_, U_, U_] []) ∧ (¬ FR σ 90 a1 = none → CalR w mJ33_root σ [va_rf l0] (fun s5 x6 => Ext σ s5 → G w mJ33_putTreeVal (KR K) (rc) (rs) s5 27 [va_rf l0, va_rf l1, va_rf l2, .int l3, va_rf l4, va_rf l5, va_rf none, .int 0, va_rf x6, va_rf x6, U_, U_, U_, U_, U_, U_] [])))) : G w mJ33_putTreeVal (KR K) (rc) (rs) σ 0 [va_rf l0, va_rf l1, va_rf l2, .int l3, va_rf l4, va_rf l5, U_, U_, U_, U_, U_, U_, U_, U_, U_, U_] [] := by
  refine G_null 1 dJ33_putTreeVal_0 rfl ?_
  refine G_astore 3 [va_rf l0, va_rf l1, va_rf l2, .int l3, va_rf l4, va_rf l5, va_rf none, U_, U_, U_, U_, U_, U_, U_, U_, U_] dJ33_putTreeVal_1 (Nat.le_of_ble_eq_true rfl) rfl rfl ?_
  refine G_iconst (v := 0) 4 dJ33_putTreeVal_3 (by decide) rfl ?_
  refine G_istore 6 [va_rf l0, va_rf l1, va_rf l2, .int l3, va_rf l4, va_rf l5, va_rf none, .int 0, U_, U_, U_, U_, U_, U_, U_, U_] dJ33_putTreeVal_4 (Nat.le_of_ble_eq_true rfl) rfl rfl ?_
  refine G_aload_n 7 dJ33_putTreeVal_6 rfl rfl ?_
  obtain ⟨a1, e2, h⟩ := h
  obtain ⟨c3, h⟩ := h
  refine G_getR (f := 90) (a := a1) "" 10 dJ33_putTreeVal_7 (Or.inl q1309) (Or.inl rfl) rfl e2 (hf90 c3) rfl ?_
  refine G_ifnull 20 13 dJ33_putTreeVal_10 (by decide) rfl (fun u4 => ?_) (fun u4 => ?_)
  · have h := h.1 u4
    refine G_aload_n 21 dJ33_putTreeVal_20 rfl rfl ?_
    refine G_astore 23 [va_rf l0, va_rf l1, va_rf l2, .int l3, va_rf l4, va_rf l5, va_rf none, .int 0, va_rf l0, U_, U_, U_, U_, U_, U_, U_] dJ33_putTreeVal_21 (Nat.le_of_ble_eq_true rfl) rfl rfl ?_
    refine G_aload 25 dJ33_putTreeVal_23 rfl rfl ?_
    refine G_astore 27 [va_rf l0, va_rf l1, va_rf l2, .int l3, va_rf l4, va_rf l5, va_rf none, .int 0, va_rf l0, va_rf l0, U_, U_, U_, U_, U_, U_] dJ33_putTreeVal_25 (Nat.le_of_ble_eq_true rfl) rfl rfl ?_
    exact h
  · have h := h.2 u4
    refine G_aload_n 14 dJ33_putTreeVal_13 rfl rfl ?_
    refine G_invV (N := mJ33_root) (As := []) (st := []) (t := l0) (b := a1) (rc) (rs) 17 dJ33_putTreeVal_14 q1287 q1288 q1289 q72 q1290 rfl rfl mJ33_root_args ⟨Nat.le_of_ble_eq_true rfl, Nat.le_of_ble_eq_true rfl⟩ rfl (Nat.zero_le _) e2 (rk32 c3) (le_b mJ33_root_c (Nat.le_refl _)) (le_b mJ33_root_s (Nat.le_refl _)) rfl (Cal.mono h ?_)
    rintro s5 v ⟨x6, rfl, h⟩ hx7
    have h := h hx7
    have x8 := hx7.x
    show G w mJ33_putTreeVal (KR K) (rc) (rs) s5 17 [va_rf l0, va_rf l1, va_rf l2, .int l3, va_rf l4, va_rf l5, va_rf none, .int 0, U_, U_, U_, U_, U_, U_, U_, U_] [va_rf x6]
    refine G_goto 21 dJ33_putTreeVal_17 (by decide) ?_
    refine G_astore 23 [va_rf l0, va_rf l1, va_rf l2, .int l3, va_rf l4, va_rf l5, va_rf none, .int 0, va_rf x6, U_, U_, U_, U_, U_, U_, U_] dJ33_putTreeVal_21 (Nat.le_of_ble_eq_true rfl) rfl rfl ?_
    refine G_aload 25 dJ33_putTreeVal_23 rfl rfl ?_
    refine G_astore 27 [va_rf l0, va_rf l1, va_rf l2, .int l3, va_rf l4, va_rf l5, va_rf none, .int 0, va_rf x6, va_rf x6, U_, U_, U_, U_, U_, U_] dJ33_putTreeVal_25 (Nat.le_of_ble_eq_true rfl) rfl rfl ?_
    exact h
set_option maxHeartbeats 4000000 in
theorem bJ33_putTreeVal_27 {w : Wt} {K : Sg → Option Nat → Prop} {rc rs : Nat} {σ : Sg} (l0 : Option Nat) (l1 : Option Nat) (l2 : Option Nat) (l3 : Int32) (l4 : Option Nat) (l5 : Option Nat) (l6 : Option Nat) (l7 : Int32) (l8 : Option Nat) (l9 : Option Nat) (v10 : Value) (v11 : Value) (v12 : Value) (v13 : Value) (v14 : Value) (v15 : Value) (h : ∃ a1, l9 = some a1 ∧ kd σ a1 ∈ [30, 31, 32] ∧ ((FI σ 84 a1 ≤ l3 → ((l3 ≤ FI σ 84 a1 → ((FR σ 85 a1 = l4 → K σ l9) ∧ (¬ FR σ 85 a1 = l4 → ((l4 = none → ((¬ l6 = none → False) ∧ (l6 = none → False))) ∧ (¬ l4 = none → ∃ a9, l4 = some a9 ∧ ((kd σ a9 = 16 ∧ CalI w mX6_equals σ [va_rf l4, va_rf (FR σ 85 a1)] (fun s11 x12 => Ext σ s11 → ((x12 = 0 → ((¬ l6 = none → False) ∧ (l6 = none → False))) ∧ (¬ x12 = 0 → K s11 l9)))) ∨ (kd σ a9 = 17 ∧ CalI w mJ36_equals σ [va_rf l4, va_rf (FR σ 85 a1)] (fun s18 x19 => Ext σ s18 → ((x19 = 0 → ((¬ l6 = none → False) ∧ (l6 = none → False))) ∧ (¬ x19 = 0 → K s18 l9)))))))))) ∧ (¬ l3 ≤ FI σ 84 a1 → kd σ a1 = 32 ∧ ((¬ FR σ 92 a1 = none → G w mJ33_putTreeVal (KR K) (rc + 1) (rs + 11) σ 27 [va_rf l0, va_rf l1, va_rf l2, .int l3, va_rf l4, va_rf l5, va_rf l6, .int l7, va_rf l8, va_rf (FR σ 92 a1), .int 1, .int (FI σ 84 a1), v12, va_rf l9, v14, v15] []) ∧ (FR σ 92 a1 = none → ∃ a27, l1 = some a27 ∧ kd σ a27 = 21 ∧ CalR w mJ5_newTreeNode σ [va_rf l1, .int l3, va_rf l4, va_rf l5, va_rf (FR σ 87 a1)] (fun s29 x30 => Ext σ s29 → ∀ s34, s34 = sFR s29 92 a1 x30 → ∀ s36, s36 = sFR s34 87 a1 x30 → ∃ a38, x30 = some a38 ∧ kd s36 a38 = 32 ∧ ∀ s41, s41 = sFR s36 93 a38 l9 → ∀ s43, s43 = sFR s41 90 a38 l9 → ((FR σ 87 a1 = none → CalR w mJ33_balanceInsertion s43 [va_rf l8, va_rf x30] (fun s46 x47 => Ext s43 s46 → CalV w mJ33_moveRootToFront s46 [va_rf l2, va_rf x47] (fun s50 => Ext s46 s50 → K s50 none))) ∧ (¬ FR σ 87 a1 = none → (FR σ 87 a1 = none ∨ ∃ b, FR σ 87 a1 = some b ∧ kd s43 b = 32) ∧ ∃ a54, FR σ 87 a1 = some a54 ∧ kd s43 a54 = 32 ∧ ∀ s57, s57 = sFR s43 93 a54 x30 → CalR w mJ33_balanceInsertion s57 [va_rf l8, va_rf x30] (fun s59 x60 => Ext s57 s59 → CalV w mJ33_moveRootToFront s59 [va_rf l2, va_rf x60] (fun s63 => Ext s59 s63 → K s63 none)))))))))) ∧ (¬ FI σ 84 a1 ≤ l3 → kd σ a1 = 32 ∧ ((¬ FR σ 91 a1 = none → G w mJ33_putTreeVal (KR K) (rc + 1) (rs + 11) σ 27 [va_rf l0, va_rf l1, va_rf l2, .int l3, va_rf l4, va_rf l5, va_rf l6, .int l7, va_rf l8, va_rf (FR σ 91 a1), .int (-1), .int (FI σ 84 a1), v12, va_rf l9, v14, v15] []) ∧ (FR σ 91 a1 = none → ∃ a68, l1 = some a68 ∧ kd σ a68 = 21 ∧ CalR w mJ5_newTreeNode σ [va_rf l1, .int l3, va_rf l4, va_rf l5, va_rf (FR σ 87 a1)] (fun s70 x71 => Ext σ s70 → ∀ s75, s75 = sFR s70 91 a1 x71 → ∀ s77, s77 = sFR s75 87 a1 x71 → ∃ a79, x71 = some a79 ∧ kd s77 a79 = 32 ∧ ∀ s82, s82 = sFR s77 93 a79 l9 → ∀ s84, s84 = sFR s82 90 a79 l9 → ((FR σ 87 a1 = none → CalR w mJ33_balanceInsertion s84 [va_rf l8, va_rf x71] (fun s87 x88 => Ext s84 s87 → CalV w mJ33_moveRootToFront s87 [va_rf l2, va_rf x88] (fun s91 => Ext s87 s91 → K s91 none))) ∧ (¬ FR σ 87 a1 = none → (FR σ 87 a1 = none ∨ ∃ b, FR σ 87 a1 = some b ∧ kd s84 b = 32) ∧ ∃ a95, FR σ 87 a1 = some a95 ∧ kd s84 a95 = 32 ∧ ∀ s98, s98 = sFR s84 93 a95 x71 → CalR w mJ33_balanceInsertion s98 [va_rf l8, va_rf x71] (fun s100 x101 => Ext s98 s100 → CalV w mJ33_moveRootToFront s100 [va_rf l2, va_rf x101] (fun s104 => Ext s100 s104 → K s104 none)))))))))) : G w mJ33_putTreeVal (KR K) (rc + 1) (rs + 11) σ 27 [va_rf l0, va_rf l1, va_rf l2, .int l3, va_rf l4, va_rf l5, va_rf l6, .int l7, va_rf l8, va_rf l9, v10, v11, v12, v13, v14, v15] [] := by
  refine G_aload 29 dJ33_putTreeVal_27 rfl rfl ?_
  obtain ⟨a1, e2, h⟩ := h
  obtain ⟨c3, h⟩ := h
  refine G_getI (f := 84) (a := a1) "" 32 dJ33_putTreeVal_29 (Or.inl q951) (Or.inr q952) rfl e2 (hf84 c3) rfl ?_
  refine G_dup 33 dJ33_putTreeVal_32 (rfl) rfl ?_
  refine G_istore 35 [va_rf l0, va_rf l1, va_rf l2, .int l3, va_rf l4, va_rf l5, va_rf l6, .int l7, va_rf l8, va_rf l9, v10, .int (FI σ 84 a1), v12, v13, v14, v15] dJ33_putTreeVal_33 (Nat.le_of_ble_eq_true rfl) rfl rfl ?_
  refine G_iload_n 36 dJ33_putTreeVal_35 rfl rfl ?_
  refine G_icmp_le 45 39 dJ33_putTreeVal_36 (by decide) rfl (fun u4 => ?_) (fun u4 => ?_)
  · have h := h.1 u4
    refine G_iload 47 dJ33_putTreeVal_45 rfl rfl ?_
    refine G_iload_n 48 dJ33_putTreeVal_47 rfl rfl ?_
    refine G_icmp_ge 57 51 dJ33_putTreeVal_48 (by decide) rfl (fun u5 => ?_) (fun u5 => ?_)
    · have h := h.1 u5
      refine G_aload 59 dJ33_putTreeVal_57 rfl rfl ?_
      refine G_getR (f := 85) (a := a1) "" 62 dJ33_putTreeVal_59 (Or.inl q958) (Or.inr q959) rfl e2 (hf85 c3) rfl ?_
      refine G_dup 63 dJ33_putTreeVal_62 (rf_cat _) rfl ?_
      refine G_astore 65 [va_rf l0, va_rf l1, va_rf l2, .int l3, va_rf l4, va_rf l5, va_rf l6, .int l7, va_rf l8, va_rf l9, v10, .int (FI σ 84 a1), va_rf (FR σ 85 a1), v13, v14, v15] dJ33_putTreeVal_63 (Nat.le_of_ble_eq_true rfl) rfl rfl ?_
      refine G_aload 67 dJ33_putTreeVal_65 rfl rfl ?_
      refine G_acmp_eq 85 70 dJ33_putTreeVal_67 (by decide) rfl (fun u6 => ?_) (fun u6 => ?_)
      · have h := h.1 u6
        refine G_aload 87 dJ33_putTreeVal_85 rfl rfl ?_
        exact G_aret dJ33_putTreeVal_87 rfl (Or.inl ⟨_, rfl⟩) ⟨_, rfl, h⟩
      · have h := h.2 u6
        refine G_aload 72 dJ33_putTreeVal_70 rfl rfl ?_
        refine G_ifnull 88 75 dJ33_putTreeVal_72 (by decide) rfl (fun u7 => ?_) (fun u7 => ?_)
        · have h := h.1 u7
          refine G_aload 90 dJ33_putTreeVal_88 rfl rfl ?_
          refine G_ifnonnull 104 93 dJ33_putTreeVal_90 (by decide) rfl (fun u8 => ?_) (fun u8 => ?_)
          · have h := h.1 u8
            refine G_aload 106 dJ33_putTreeVal_104 rfl rfl ?_
            refine G_aload 108 dJ33_putTreeVal_106 rfl rfl ?_
            refine G_aload 110 dJ33_putTreeVal_108 rfl rfl ?_
            exact h.elim
          · have h := h.2 u8
            refine G_aload 95 dJ33_putTreeVal_93 rfl rfl ?_
            exact h.elim
        · have h := h.2 u7
          refine G_aload 77 dJ33_putTreeVal_75 rfl rfl ?_
          refine G_aload 79 dJ33_putTreeVal_77 rfl rfl ?_
          obtain ⟨a9, e10, h⟩ := h
          rcases h with ⟨c13, h⟩ | ⟨c20, h⟩
          · refine G_invU (N := mX6_equals) (owner := "java/lang/Object") (x := ⟨"java/lang/Object", "equals", "(Ljava/lang/Object;)Z"⟩) (As := [va_rf (FR σ 85 a1)]) (st := []) (t := l4) (b := a9) (rc + 1) (rs + 11) 82 dJ33_putTreeVal_79 q1291 q1253 q1257 q1258 q74 q1259 (Or.inr (Or.inl ⟨q1252, _, _, _, q1282⟩)) rfl ax0 ⟨Nat.le_of_ble_eq_true rfl, Nat.le_of_ble_eq_true rfl⟩ rfl (Nat.zero_le _) e10 (rk16 c13) (le_b mX6_equals_c (Nat.le_refl _)) (le_b mX6_equals_s (Nat.le_refl _)) rfl (Cal.mono h ?_)
            rintro s11 v ⟨x12, rfl, h⟩ hx14
            have h := h hx14
            have x15 := hx14.x
            show G w mJ33_putTreeVal (KR K) (rc + 1) (rs + 11) s11 82 [va_rf l0, va_rf l1, va_rf l2, .int l3, va_rf l4, va_rf l5, va_rf l6, .int l7, va_rf l8, va_rf l9, v10, .int (FI σ 84 a1), va_rf (FR σ 85 a1), v13, v14, v15] [.int x12]
            refine G_if_eq 88 85 dJ33_putTreeVal_82 (by decide) rfl (fun u16 => ?_) (fun u16 => ?_)
            · have h := h.1 u16
              refine G_aload 90 dJ33_putTreeVal_88 rfl rfl ?_
              refine G_ifnonnull 104 93 dJ33_putTreeVal_90 (by decide) rfl (fun u17 => ?_) (fun u17 => ?_)
              · have h := h.1 u17
                refine G_aload 106 dJ33_putTreeVal_104 rfl rfl ?_
                refine G_aload 108 dJ33_putTreeVal_106 rfl rfl ?_
                refine G_aload 110 dJ33_putTreeVal_108 rfl rfl ?_
                exact h.elim
              · have h := h.2 u17
                refine G_aload 95 dJ33_putTreeVal_93 rfl rfl ?_
                exact h.elim
            · have h := h.2 u16
              refine G_aload 87 dJ33_putTreeVal_85 rfl rfl ?_
              exact G_aret dJ33_putTreeVal_87 rfl (Or.inl ⟨_, rfl⟩) ⟨_, rfl, h⟩
          · refine G_invU (N := mJ36_equals) (owner := "java/lang/Object") (x := ⟨"java/lang/Object", "equals", "(Ljava/lang/Object;)Z"⟩) (As := [va_rf (FR σ 85 a1)]) (st := []) (t := l4) (b := a9) (rc + 1) (rs + 11) 82 dJ33_putTreeVal_79 q1291 q1253 q1256 q1252 q2405 q1282 (Or.inl rfl) rfl ax0 ⟨Nat.le_of_ble_eq_true rfl, Nat.le_of_ble_eq_true rfl⟩ rfl (Nat.zero_le _) e10 (rk17 c20) (le_b mJ36_equals_c (Nat.le_refl _)) (le_b mJ36_equals_s (Nat.le_refl _)) rfl (Cal.mono h ?_)
            rintro s18 v ⟨x19, rfl, h⟩ hx21
            have h := h hx21
            have x22 := hx21.x
            show G w mJ33_putTreeVal (KR K) (rc + 1) (rs + 11) s18 82 [va_rf l0, va_rf l1, va_rf l2, .int l3, va_rf l4, va_rf l5, va_rf l6, .int l7, va_rf l8, va_rf l9, v10, .int (FI σ 84 a1), va_rf (FR σ 85 a1), v13, v14, v15] [.int x19]
            refine G_if_eq 88 85 dJ33_putTreeVal_82 (by decide) rfl (fun u23 => ?_) (fun u23 => ?_)
            · have h := h.1 u23
              refine G_aload 90 dJ33_putTreeVal_88 rfl rfl ?_
              refine G_ifnonnull 104 93 dJ33_putTreeVal_90 (by decide) rfl (fun u24 => ?_) (fun u24 => ?_)
              · have h := h.1 u24
                refine G_aload 106 dJ33_putTreeVal_104 rfl rfl ?_
                refine G_aload 108 dJ33_putTreeVal_106 rfl rfl ?_
                refine G_aload 110 dJ33_putTreeVal_108 rfl rfl ?_
                exact h.elim
              · have h := h.2 u24
                refine G_aload 95 dJ33_putTreeVal_93 rfl rfl ?_
                exact h.elim
            · have h := h.2 u23
              refine G_aload 87 dJ33_putTreeVal_85 rfl rfl ?_
              exact G_aret dJ33_putTreeVal_87 rfl (Or.inl ⟨_, rfl⟩) ⟨_, rfl, h⟩
    · have h := h.2 u5
      refine G_iconst (v := 1) 52 dJ33_putTreeVal_51 (by decide) rfl ?_
      refine G_istore 54 [va_rf l0, va_rf l1, va_rf l2, .int l3, va_rf l4, va_rf l5, va_rf l6, .int l7, va_rf l8, va_rf l9, .int 1, .int (FI σ 84 a1), v12, v13, v14, v15] dJ33_putTreeVal_52 (Nat.le_of_ble_eq_true rfl) rfl rfl ?_
      refine G_goto 193 dJ33_putTreeVal_54 (by decide) ?_
      refine G_aload 195 dJ33_putTreeVal_193 rfl rfl ?_
      refine G_astore 197 [va_rf l0, va_rf l1, va_rf l2, .int l3, va_rf l4, va_rf l5, va_rf l6, .int l7, va_rf l8, va_rf l9, .int 1, .int (FI σ 84 a1), v12, va_rf l9, v14, v15] dJ33_putTreeVal_195 (Nat.le_of_ble_eq_true rfl) rfl rfl ?_
      refine G_iload 199 dJ33_putTreeVal_197 rfl rfl ?_
      refine G_if_gt 210 202 dJ33_putTreeVal_199 (by decide) rfl (fun _ => ?_) (fun q => absurd q (by decide))
      refine G_aload 212 dJ33_putTreeVal_210 rfl rfl ?_
      obtain ⟨c25, h⟩ := h
      refine G_getR (f := 92) (a := a1) "" 215 dJ33_putTreeVal_212 (Or.inl q1311) (Or.inl rfl) rfl e2 (hf92 c25) rfl ?_
      refine G_dup 216 dJ33_putTreeVal_215 (rf_cat _) rfl ?_
      refine G_astore 218 [va_rf l0, va_rf l1, va_rf l2, .int l3, va_rf l4, va_rf l5, va_rf l6, .int l7, va_rf l8, va_rf (FR σ 92 a1), .int 1, .int (FI σ 84 a1), v12, va_rf l9, v14, v15] dJ33_putTreeVal_216 (Nat.le_of_ble_eq_true rfl) rfl rfl ?_
      refine G_ifnonnull 311 221 dJ33_putTreeVal_218 (by decide) rfl (fun u26 => ?_) (fun u26 => ?_)
      · have h := h.1 u26
        refine G_goto 27 dJ33_putTreeVal_311 (by decide) ?_
        exact h
      · have h := h.2 u26
        refine G_aload 223 dJ33_putTreeVal_221 rfl rfl ?_
        refine G_getR (f := 87) (a := a1) "" 226 dJ33_putTreeVal_223 (Or.inl q970) (Or.inr q971) rfl e2 (hf87 (memE c25 (by decide))) rfl ?_
        refine G_astore 228 [va_rf l0, va_rf l1, va_rf l2, .int l3, va_rf l4, va_rf l5, va_rf l6, .int l7, va_rf l8, va_rf (FR σ 92 a1), .int 1, .int (FI σ 84 a1), v12, va_rf l9, va_rf (FR σ 87 a1), v15] dJ33_putTreeVal_226 (Nat.le_of_ble_eq_true rfl) rfl rfl ?_
        refine G_aload_n 229 dJ33_putTreeVal_228 rfl rfl ?_
        refine G_iload_n 230 dJ33_putTreeVal_229 rfl rfl ?_
        refine G_aload 232 dJ33_putTreeVal_230 rfl rfl ?_
        refine G_aload 234 dJ33_putTreeVal_232 rfl rfl ?_
        refine G_aload 236 dJ33_putTreeVal_234 rfl rfl ?_
        obtain ⟨a27, e28, h⟩ := h
        obtain ⟨c31, h⟩ := h
        refine G_invU (N := mJ5_newTreeNode) (owner := "java/util/HashMap") (x := ⟨"java/util/HashMap", "newTreeNode", "(ILjava/lang/Object;Ljava/lang/Object;Ljava/util/HashMap$Node;)Ljava/util/HashMap$TreeNode;"⟩) (As := [.int l3, va_rf l4, va_rf l5, va_rf (FR σ 87 a1)]) (st := []) (t := l1) (b := a27) (rc) (rs) 239 dJ33_putTreeVal_236 q1296 q1299 q1300 q1301 q38 q1302 (Or.inr (Or.inl ⟨q1297, _, _, _, q1332⟩)) rfl ax7 ⟨Nat.le_of_ble_eq_true rfl, Nat.le_of_ble_eq_true rfl⟩ rfl (Nat.zero_le _) e28 (rk21 c31) (le_b mJ5_newTreeNode_c (Nat.le_refl _)) (le_b mJ5_newTreeNode_s (Nat.le_refl _)) rfl (Cal.mono h ?_)
        rintro s29 v ⟨x30, rfl, h⟩ hx32
        have h := h hx32
        have x33 := hx32.x
        show G w mJ33_putTreeVal (KR K) (rc) (rs) s29 239 [va_rf l0, va_rf l1, va_rf l2, .int l3, va_rf l4, va_rf l5, va_rf l6, .int l7, va_rf l8, va_rf (FR σ 92 a1), .int 1, .int (FI σ 84 a1), v12, va_rf l9, va_rf (FR σ 87 a1), v15] [va_rf x30]
        refine G_astore 241 [va_rf l0, va_rf l1, va_rf l2, .int l3, va_rf l4, va_rf l5, va_rf l6, .int l7, va_rf l8, va_rf (FR σ 92 a1), .int 1, .int (FI σ 84 a1), v12, va_rf l9, va_rf (FR σ 87 a1), va_rf x30] dJ33_putTreeVal_239 (Nat.le_of_ble_eq_true rfl) rfl rfl ?_
        refine G_iload 243 dJ33_putTreeVal_241 rfl rfl ?_
        refine G_if_gt 256 246 dJ33_putTreeVal_243 (by decide) rfl (fun _ => ?_) (fun q => absurd q (by decide))
        refine G_aload 258 dJ33_putTreeVal_256 rfl rfl ?_
        refine G_aload 260 dJ33_putTreeVal_258 rfl rfl ?_
        have c25 := kdE x33 c25 (by decide)
        refine G_putR (f := 92) (a := a1) "" 263 dJ33_putTreeVal_260 (Or.inl q1311) (Or.inl rfl) rfl e2 (hp92 c25) (nk92 c25) (Or.inl rfl) (fun y => by cases y <;> rfl) (fun y => by cases y <;> rfl) rfl ?_
        generalize hs34 : sFR s29 92 a1 x30 = s34
        have x35 : ∀ a, ¬ kd s29 a = 0 → kd s34 a = kd s29 a := by subst hs34; exact fun a _ => congrFun kd_sFR a
        have h := h s34 hs34.symm
        refine G_aload 265 dJ33_putTreeVal_263 rfl rfl ?_
        refine G_aload 267 dJ33_putTreeVal_265 rfl rfl ?_
        have c25 := kdE x35 c25 (by decide)
        refine G_putR (f := 87) (a := a1) "" 270 dJ33_putTreeVal_267 (Or.inl q970) (Or.inr q971) rfl e2 (hp87 (memE c25 (by decide))) (nk87 (memE c25 (by decide))) (Or.inl rfl) (fun y => by cases y <;> rfl) (fun y => by cases y <;> rfl) rfl ?_
        generalize hs36 : sFR s34 87 a1 x30 = s36
        have x37 : ∀ a, ¬ kd s34 a = 0 → kd s36 a = kd s34 a := by subst hs36; exact fun a _ => congrFun kd_sFR a
        have h := h s36 hs36.symm
        refine G_aload 272 dJ33_putTreeVal_270 rfl rfl ?_
        refine G_aload 274 dJ33_putTreeVal_272 rfl rfl ?_
        refine G_aload 276 dJ33_putTreeVal_274 rfl rfl ?_
        refine G_dup_x1 277 dJ33_putTreeVal_276 (rf_cat _) (rf_cat _) rfl ?_
        obtain ⟨a38, e39, h⟩ := h
        obtain ⟨c40, h⟩ := h
        refine G_putR (f := 93) (a := a38) "" 280 dJ33_putTreeVal_277 (Or.inl q1312) (Or.inl rfl) rfl e39 (hp93 c40) (nk93 c40) (Or.inl rfl) (fun y => by cases y <;> rfl) (fun y => by cases y <;> rfl) rfl ?_
        generalize hs41 : sFR s36 93 a38 l9 = s41
        have x42 : ∀ a, ¬ kd s36 a = 0 → kd s41 a = kd s36 a := by subst hs41; exact fun a _ => congrFun kd_sFR a
        have h := h s41 hs41.symm
        have c40 := kdE x42 c40 (by decide)
        refine G_putR (f := 90) (a := a38) "" 283 dJ33_putTreeVal_280 (Or.inl q1309) (Or.inl rfl) rfl e39 (hp90 c40) (nk90 c40) (Or.inl rfl) (fun y => by cases y <;> rfl) (fun y => by cases y <;> rfl) rfl ?_
        generalize hs43 : sFR s41 90 a38 l9 = s43
        have x44 : ∀ a, ¬ kd s41 a = 0 → kd s43 a = kd s41 a := by subst hs43; exact fun a _ => congrFun kd_sFR a
        have h := h s43 hs43.symm
        refine G_aload 285 dJ33_putTreeVal_283 rfl rfl ?_
        refine G_ifnull 298 288 dJ33_putTreeVal_285 (by decide) rfl (fun u45 => ?_) (fun u45 => ?_)
        · have h := h.1 u45
          refine G_aload_n 299 dJ33_putTreeVal_298 rfl rfl ?_
          refine G_aload 301 dJ33_putTreeVal_299 rfl rfl ?_
          refine G_aload 303 dJ33_putTreeVal_301 rfl rfl ?_
          refine G_invS (N := mJ33_balanceInsertion) (As := [va_rf l8, va_rf x30]) (st := [va_rf l2]) (rc) (rs) "" 306 dJ33_putTreeVal_303 (Or.inl q1224) q1225 q72 q1226 rfl mJ33_balanceInsertion_args ⟨Nat.le_of_ble_eq_true rfl, Nat.le_of_ble_eq_true rfl⟩ rfl (Nat.le_trans (w_R w_0) (Nat.le_of_ble_eq_true rfl)) (le_b mJ33_balanceInsertion_c (Nat.le_refl _)) (le_b mJ33_balanceInsertion_s (Nat.le_refl _)) rfl (Cal.mono h ?_)
          rintro s46 v ⟨x47, rfl, h⟩ hx48
          have h := h hx48
          have x49 := hx48.x
          show G w mJ33_putTreeVal (KR K) (rc) (rs) s46 306 [va_rf l0, va_rf l1, va_rf l2, .int l3, va_rf l4, va_rf l5, va_rf l6, .int l7, va_rf l8, va_rf (FR σ 92 a1), .int 1, .int (FI σ 84 a1), v12, va_rf l9, va_rf (FR σ 87 a1), va_rf x30] [va_rf x47, va_rf l2]
          refine G_invS (N := mJ33_moveRootToFront) (As := [va_rf l2, va_rf x47]) (st := []) (rc) (rs) "" 309 dJ33_putTreeVal_306 (Or.inl q1233) q1234 q72 q1235 rfl mJ33_moveRootToFront_args ⟨Nat.le_of_ble_eq_true rfl, Nat.le_of_ble_eq_true rfl⟩ rfl (Nat.zero_le _) (le_b mJ33_moveRootToFront_c (Nat.le_refl _)) (le_b mJ33_moveRootToFront_s (Nat.le_refl _)) rfl (Cal.mono h ?_)
          rintro s50 v ⟨rfl, h⟩ hx51
          have h := h hx51
          have x52 := hx51.x
          show G w mJ33_putTreeVal (KR K) (rc) (rs) s50 309 [va_rf l0, va_rf l1, va_rf l2, .int l3, va_rf l4, va_rf l5, va_rf l6, .int l7, va_rf l8, va_rf (FR σ 92 a1), .int 1, .int (FI σ 84 a1), v12, va_rf l9, va_rf (FR σ 87 a1), va_rf x30] []
          refine G_null 310 dJ33_putTreeVal_309 rfl ?_
          exact G_aret dJ33_putTreeVal_310 rfl (Or.inl ⟨_, rfl⟩) ⟨_, rfl, h⟩
        · have h := h.2 u45
          refine G_aload 290 dJ33_putTreeVal_288 rfl rfl ?_
          obtain ⟨c53, h⟩ := h
          refine G_cast 293 dJ33_putTreeVal_290 q925 rfl (c53.imp id (fun ⟨b, e, k⟩ => ⟨b, e, co1 k⟩)) ?_
          refine G_aload 295 dJ33_putTreeVal_293 rfl rfl ?_
          obtain ⟨a54, e55, h⟩ := h
          obtain ⟨c56, h⟩ := h
          refine G_putR (f := 93) (a := a54) "" 298 dJ33_putTreeVal_295 (Or.inl q1312) (Or.inl rfl) rfl e55 (hp93 c56) (nk93 c56) (Or.inl rfl) (fun y => by cases y <;> rfl) (fun y => by cases y <;> rfl) rfl ?_
          generalize hs57 : sFR s43 93 a54 x30 = s57
          have x58 : ∀ a, ¬ kd s43 a = 0 → kd s57 a = kd s43 a := by subst hs57; exact fun a _ => congrFun kd_sFR a
          have h := h s57 hs57.symm
          refine G_aload_n 299 dJ33_putTreeVal_298 rfl rfl ?_
          refine G_aload 301 dJ33_putTreeVal_299 rfl rfl ?_
          refine G_aload 303 dJ33_putTreeVal_301 rfl rfl ?_
          refine G_invS (N := mJ33_balanceInsertion) (As := [va_rf l8, va_rf x30]) (st := [va_rf l2]) (rc) (rs) "" 306 dJ33_putTreeVal_303 (Or.inl q1224) q1225 q72 q1226 rfl mJ33_balanceInsertion_args ⟨Nat.le_of_ble_eq_true rfl, Nat.le_of_ble_eq_true rfl⟩ rfl (Nat.le_trans (w_R w_0) (Nat.le_of_ble_eq_true rfl)) (le_b mJ33_balanceInsertion_c (Nat.le_refl _)) (le_b mJ33_balanceInsertion_s (Nat.le_refl _)) rfl (Cal.mono h ?_)
          rintro s59 v ⟨x60, rfl, h⟩ hx61
          have h := h hx61
          have x62 := hx61.x
          show G w mJ33_putTreeVal (KR K) (rc) (rs) s59 306 [va_rf l0, va_rf l1, va_rf l2, .int l3, va_rf l4, va_rf l5, va_rf l6, .int l7, va_rf l8, va_rf (FR σ 92 a1), .int 1, .int (FI σ 84 a1), v12, va_rf l9, va_rf (FR σ 87 a1), va_rf x30] [va_rf x60, va_rf l2]
          refine G_invS (N := mJ33_moveRootToFront) (As := [va_rf l2, va_rf x60]) (st := []) (rc) (rs) "" 309 dJ33_putTreeVal_306 (Or.inl q1233) q1234 q72 q1235 rfl mJ33_moveRootToFront_args ⟨Nat.le_of_ble_eq_true rfl, Nat.le_of_ble_eq_true rfl⟩ rfl (Nat.zero_le _) (le_b mJ33_moveRootToFront_c (Nat.le_refl _)) (le_b mJ33_moveRootToFront_s (Nat.le_refl _)) rfl (Cal.mono h ?_)
          rintro s63 v ⟨rfl, h⟩ hx64
          have h := h hx64
          have x65 := hx64.x
          show G w mJ33_putTreeVal (KR K) (rc) (rs) s63 309 [va_rf l0, va_rf l1, va_rf l2, .int l3, va_rf l4, va_rf l5, va_rf l6, .int l7, va_rf l8, va_rf (FR σ 92 a1), .int 1, .int (FI σ 84 a1), v12, va_rf l9, va_rf (FR σ 87 a1), va_rf x30] []
          refine G_null 310 dJ33_putTreeVal_309 rfl ?_
          exact G_aret dJ33_putTreeVal_310 rfl (Or.inl ⟨_, rfl⟩) ⟨_, rfl, h⟩
  · have h := h.2 u4
    refine G_iconst (v := (-1)) 40 dJ33_putTreeVal_39 (by decide) rfl ?_
    refine G_istore 42 [va_rf l0, va_rf l1, va_rf l2, .int l3, va_rf l4, va_rf l5, va_rf l6, .int l7, va_rf l8, va_rf l9, .int (-1), .int (FI σ 84 a1), v12, v13, v14, v15] dJ33_putTreeVal_40 (Nat.le_of_ble_eq_true rfl) rfl rfl ?_
    refine G_goto 193 dJ33_putTreeVal_42 (by decide) ?_
    refine G_aload 195 dJ33_putTreeVal_193 rfl rfl ?_
    refine G_astore 197 [va_rf l0, va_rf l1, va_rf l2, .int l3, va_rf l4, va_rf l5, va_rf l6, .int l7, va_rf l8, va_rf l9, .int (-1), .int (FI σ 84 a1), v12, va_rf l9, v14, v15] dJ33_putTreeVal_195 (Nat.le_of_ble_eq_true rfl) rfl rfl ?_
    refine G_iload 199 dJ33_putTreeVal_197 rfl rfl ?_
    refine G_if_gt 210 202 dJ33_putTreeVal_199 (by decide) rfl (fun q => absurd q (by decide)) (fun _ => ?_)
    refine G_aload 204 dJ33_putTreeVal_202 rfl rfl ?_
    obtain ⟨c66, h⟩ := h
    refine G_getR (f := 91) (a := a1) "" 207 dJ33_putTreeVal_204 (Or.inl q1310) (Or.inl rfl) rfl e2 (hf91 c66) rfl ?_
    refine G_goto 215 dJ33_putTreeVal_207 (by decide) ?_
    refine G_dup 216 dJ33_putTreeVal_215 (rf_cat _) rfl ?_
    refine G_astore 218 [va_rf l0, va_rf l1, va_rf l2, .int l3, va_rf l4, va_rf l5, va_rf l6, .int l7, va_rf l8, va_rf (FR σ 91 a1), .int (-1), .int (FI σ 84 a1), v12, va_rf l9, v14, v15] dJ33_putTreeVal_216 (Nat.le_of_ble_eq_true rfl) rfl rfl ?_
    refine G_ifnonnull 311 221 dJ33_putTreeVal_218 (by decide) rfl (fun u67 => ?_) (fun u67 => ?_)
    · have h := h.1 u67
      refine G_goto 27 dJ33_putTreeVal_311 (by decide) ?_
      exact h
    · have h := h.2 u67
      refine G_aload 223 dJ33_putTreeVal_221 rfl rfl ?_
      refine G_getR (f := 87) (a := a1) "" 226 dJ33_putTreeVal_223 (Or.inl q970) (Or.inr q971) rfl e2 (hf87 (memE c66 (by decide))) rfl ?_
      refine G_astore 228 [va_rf l0, va_rf l1, va_rf l2, .int l3, va_rf l4, va_rf l5, va_rf l6, .int l7, va_rf l8, va_rf (FR σ 91 a1), .int (-1), .int (FI σ 84 a1), v12, va_rf l9, va_rf (FR σ 87 a1), v15] dJ33_putTreeVal_226 (Nat.le_of_ble_eq_true rfl) rfl rfl ?_
      refine G_aload_n 229 dJ33_putTreeVal_228 rfl rfl ?_
      refine G_iload_n 230 dJ33_putTreeVal_229 rfl rfl ?_
      refine G_aload 232 dJ33_putTreeVal_230 rfl rfl ?_
      refine G_aload 234 dJ33_putTreeVal_232 rfl rfl ?_
      refine G_aload 236 dJ33_putTreeVal_234 rfl rfl ?_
      obtain ⟨a68, e69, h⟩ := h
      obtain ⟨c72, h⟩ := h
      refine G_invU (N := mJ5_newTreeNode) (owner := "java/util/HashMap") (x := ⟨"java/util/HashMap", "newTreeNode", "(ILjava/lang/Object;Ljava/lang/Object;Ljava/util/HashMap$Node;)Ljava/util/HashMap$TreeNode;"⟩) (As := [.int l3, va_rf l4, va_rf l5, va_rf (FR σ 87 a1)]) (st := []) (t := l1) (b := a68) (rc) (rs) 239 dJ33_putTreeVal_236 q1296 q1299 q1300 q1301 q38 q1302 (Or.inr (Or.inl ⟨q1297, _, _, _, q1332⟩)) rfl ax7 ⟨Nat.le_of_ble_eq_true rfl, Nat.le_of_ble_eq_true rfl⟩ rfl (Nat.zero_le _) e69 (rk21 c72) (le_b mJ5_newTreeNode_c (Nat.le_refl _)) (le_b mJ5_newTreeNode_s (Nat.le_refl _)) rfl (Cal.mono h ?_)
      rintro s70 v ⟨x71, rfl, h⟩ hx73
      have h := h hx73
      have x74 := hx73.x
      show G w mJ33_putTreeVal (KR K) (rc) (rs) s70 239 [va_rf l0, va_rf l1, va_rf l2, .int l3, va_rf l4, va_rf l5, va_rf l6, .int l7, va_rf l8, va_rf (FR σ 91 a1), .int (-1), .int (FI σ 84 a1), v12, va_rf l9, va_rf (FR σ 87 a1), v15] [va_rf x71]
      refine G_astore 241 [va_rf l0, va_rf l1, va_rf l2, .int l3, va_rf l4, va_rf l5, va_rf l6, .int l7, va_rf l8, va_rf (FR σ 91 a1), .int (-1), .int (FI σ 84 a1), v12, va_rf l9, va_rf (FR σ 87 a1), va_rf x71] dJ33_putTreeVal_239 (Nat.le_of_ble_eq_true rfl) rfl rfl ?_
      refine G_iload 243 dJ33_putTreeVal_241 rfl rfl ?_
      refine G_if_gt 256 246 dJ33_putTreeVal_243 (by decide) rfl (fun q => absurd q (by decide)) (fun _ => ?_)
      refine G_aload 248 dJ33_putTreeVal_246 rfl rfl ?_
      refine G_aload 250 dJ33_putTreeVal_248 rfl rfl ?_
      have c66 := kdE x74 c66 (by decide)
      refine G_putR (f := 91) (a := a1) "" 253 dJ33_putTreeVal_250 (Or.inl q1310) (Or.inl rfl) rfl e2 (hp91 c66) (nk91 c66) (Or.inl rfl) (fun y => by cases y <;> rfl) (fun y => by cases y <;> rfl) rfl ?_
      generalize hs75 : sFR s70 91 a1 x71 = s75
      have x76 : ∀ a, ¬ kd s70 a = 0 → kd s75 a = kd s70 a := by subst hs75; exact fun a _ => congrFun kd_sFR a
      have h := h s75 hs75.symm
      refine G_goto 263 dJ33_putTreeVal_253 (by decide) ?_
      refine G_aload 265 dJ33_putTreeVal_263 rfl rfl ?_
      refine G_aload 267 dJ33_putTreeVal_265 rfl rfl ?_
      have c66 := kdE x76 c66 (by decide)
      refine G_putR (f := 87) (a := a1) "" 270 dJ33_putTreeVal_267 (Or.inl q970) (Or.inr q971) rfl e2 (hp87 (memE c66 (by decide))) (nk87 (memE c66 (by decide))) (Or.inl rfl) (fun y => by cases y <;> rfl) (fun y => by cases y <;> rfl) rfl ?_
      generalize hs77 : sFR s75 87 a1 x71 = s77
      have x78 : ∀ a, ¬ kd s75 a = 0 → kd s77 a = kd s75 a := by subst hs77; exact fun a _ => congrFun kd_sFR a
      have h := h s77 hs77.symm
      refine G_aload 272 dJ33_putTreeVal_270 rfl rfl ?_
      refine G_aload 274 dJ33_putTreeVal_272 rfl rfl ?_
      refine G_aload 276 dJ33_putTreeVal_274 rfl rfl ?_
      refine G_dup_x1 277 dJ33_putTreeVal_276 (rf_cat _) (rf_cat _) rfl ?_
      obtain ⟨a79, e80, h⟩ := h
      obtain ⟨c81, h⟩ := h
      refine G_putR (f := 93) (a := a79) "" 280 dJ33_putTreeVal_277 (Or.inl q1312) (Or.inl rfl) rfl e80 (hp93 c81) (nk93 c81) (Or.inl rfl) (fun y => by cases y <;> rfl) (fun y => by cases y <;> rfl) rfl ?_
      generalize hs82 : sFR s77 93 a79 l9 = s82
      have x83 : ∀ a, ¬ kd s77 a = 0 → kd s82 a = kd s77 a := by subst hs82; exact fun a _ => congrFun kd_sFR a
      have h := h s82 hs82.symm
      have c81 := kdE x83 c81 (by decide)
      refine G_putR (f := 90) (a := a79) "" 283 dJ33_putTreeVal_280 (Or.inl q1309) (Or.inl rfl) rfl e80 (hp90 c81) (nk90 c81) (Or.inl rfl) (fun y => by cases y <;> rfl) (fun y => by cases y <;> rfl) rfl ?_
      generalize hs84 : sFR s82 90 a79 l9 = s84
      have x85 : ∀ a, ¬ kd s82 a = 0 → kd s84 a = kd s82 a := by subst hs84; exact fun a _ => congrFun kd_sFR a
      have h := h s84 hs84.symm
      refine G_aload 285 dJ33_putTreeVal_283 rfl rfl ?_
      refine G_ifnull 298 288 dJ33_putTreeVal_285 (by decide) rfl (fun u86 => ?_) (fun u86 => ?_)
      · have h := h.1 u86
        refine G_aload_n 299 dJ33_putTreeVal_298 rfl rfl ?_
        refine G_aload 301 dJ33_putTreeVal_299 rfl rfl ?_
        refine G_aload 303 dJ33_putTreeVal_301 rfl rfl ?_
        refine G_invS (N := mJ33_balanceInsertion) (As := [va_rf l8, va_rf x71]) (st := [va_rf l2]) (rc) (rs) "" 306 dJ33_putTreeVal_303 (Or.inl q1224) q1225 q72 q1226 rfl mJ33_balanceInsertion_args ⟨Nat.le_of_ble_eq_true rfl, Nat.le_of_ble_eq_true rfl⟩ rfl (Nat.le_trans (w_R w_0) (Nat.le_of_ble_eq_true rfl)) (le_b mJ33_balanceInsertion_c (Nat.le_refl _)) (le_b mJ33_balanceInsertion_s (Nat.le_refl _)) rfl (Cal.mono h ?_)
        rintro s87 v ⟨x88, rfl, h⟩ hx89
        have h := h hx89
        have x90 := hx89.x
        show G w mJ33_putTreeVal (KR K) (rc) (rs) s87 306 [va_rf l0, va_rf l1, va_rf l2, .int l3, va_rf l4, va_rf l5, va_rf l6, .int l7, va_rf l8, va_rf (FR σ 91 a1), .int (-1), .int (FI σ 84 a1), v12, va_rf l9, va_rf (FR σ 87 a1), va_rf x71] [va_rf x88, va_rf l2]
        refine G_invS (N := mJ33_moveRootToFront) (As := [va_rf l2, va_rf x88]) (st := []) (rc) (rs) "" 309 dJ33_putTreeVal_306 (Or.inl q1233) q1234 q72 q1235 rfl mJ33_moveRootToFront_args ⟨Nat.le_of_ble_eq_true rfl, Nat.le_of_ble_eq_true rfl⟩ rfl (Nat.zero_le _) (le_b mJ33_moveRootToFront_c (Nat.le_refl _)) (le_b mJ33_moveRootToFront_s (Nat.le_refl _)) rfl (Cal.mono h ?_)
        rintro s91 v ⟨rfl, h⟩ hx92
        have h := h hx92
        have x93 := hx92.x
        show G w mJ33_putTreeVal (KR K) (rc) (rs) s91 309 [va_rf l0, va_rf l1, va_rf l2, .int l3, va_rf l4, va_rf l5, va_rf l6, .int l7, va_rf l8, va_rf (FR σ 91 a1), .int (-1), .int (FI σ 84 a1), v12, va_rf l9, va_rf (FR σ 87 a1), va_rf x71] []
        refine G_null 310 dJ33_putTreeVal_309 rfl ?_
        exact G_aret dJ33_putTreeVal_310 rfl (Or.inl ⟨_, rfl⟩) ⟨_, rfl, h⟩
      · have h := h.2 u86
        refine G_aload 290 dJ33_putTreeVal_288 rfl rfl ?_
        obtain ⟨c94, h⟩ := h
        refine G_cast 293 dJ33_putTreeVal_290 q925 rfl (c94.imp id (fun ⟨b, e, k⟩ => ⟨b, e, co1 k⟩)) ?_
        refine G_aload 295 dJ33_putTreeVal_293 rfl rfl ?_
        obtain ⟨a95, e96, h⟩ := h
        obtain ⟨c97, h⟩ := h
        refine G_putR (f := 93) (a := a95) "" 298 dJ33_putTreeVal_295 (Or.inl q1312) (Or.inl rfl) rfl e96 (hp93 c97) (nk93 c97) (Or.inl rfl) (fun y => by cases y <;> rfl) (fun y => by cases y <;> rfl) rfl ?_
        generalize hs98 : sFR s84 93 a95 x71 = s98
        have x99 : ∀ a, ¬ kd s84 a = 0 → kd s98 a = kd s84 a := by subst hs98; exact fun a _ => congrFun kd_sFR a
        have h := h s98 hs98.symm
        refine G_aload_n 299 dJ33_putTreeVal_298 rfl rfl ?_
        refine G_aload 301 dJ33_putTreeVal_299 rfl rfl ?_
        refine G_aload 303 dJ33_putTreeVal_301 rfl rfl ?_
        refine G_invS (N := mJ33_balanceInsertion) (As := [va_rf l8, va_rf x71]) (st := [va_rf l2]) (rc) (rs) "" 306 dJ33_putTreeVal_303 (Or.inl q1224) q1225 q72 q1226 rfl mJ33_balanceInsertion_args ⟨Nat.le_of_ble_eq_true rfl, Nat.le_of_ble_eq_true rfl⟩ rfl (Nat.le_trans (w_R w_0) (Nat.le_of_ble_eq_true rfl)) (le_b mJ33_balanceInsertion_c (Nat.le_refl _)) (le_b mJ33_balanceInsertion_s (Nat.le_refl _)) rfl (Cal.mono h ?_)
        rintro s100 v ⟨x101, rfl, h⟩ hx102
        have h := h hx102
        have x103 := hx102.x
        show G w mJ33_putTreeVal (KR K) (rc) (rs) s100 306 [va_rf l0, va_rf l1, va_rf l2, .int l3, va_rf l4, va_rf l5, va_rf l6, .int l7, va_rf l8, va_rf (FR σ 91 a1), .int (-1), .int (FI σ 84 a1), v12, va_rf l9, va_rf (FR σ 87 a1), va_rf x71] [va_rf x101, va_rf l2]
        refine G_invS (N := mJ33_moveRootToFront) (As := [va_rf l2, va_rf x101]) (st := []) (rc) (rs) "" 309 dJ33_putTreeVal_306 (Or.inl q1233) q1234 q72 q1235 rfl mJ33_moveRootToFront_args ⟨Nat.le_of_ble_eq_true rfl, Nat.le_of_ble_eq_true rfl⟩ rfl (Nat.zero_le _) (le_b mJ33_moveRootToFront_c (Nat.le_refl _)) (le_b mJ33_moveRootToFront_s (Nat.le_refl _)) rfl (Cal.mono h ?_)
        rintro s104 v ⟨rfl, h⟩ hx105
        have h := h hx105
        have x106 := hx105.x
        show G w mJ33_putTreeVal (KR K) (rc) (rs) s104 309 [va_rf l0, va_rf l1, va_rf l2, .int l3, va_rf l4, va_rf l5, va_rf l6, .int l7, va_rf l8, va_rf (FR σ 91 a1), .int (-1), .int (FI σ 84 a1), v12, va_rf l9, va_rf (FR σ 87 a1), va_rf x71] []
        refine G_null 310 dJ33_putTreeVal_309 rfl ?_
        exact G_aret dJ33_putTreeVal_310 rfl (Or.inl ⟨_, rfl⟩) ⟨_, rfl, h⟩
theorem eJ33_putTreeVal {w : Wt} {K : Sg → Option Nat → Prop} {σ : Sg} (l0 : Option Nat) (l1 : Option Nat) (l2 : Option Nat) (l3 : Int32) (l4 : Option Nat) (l5 : Option Nat) (h : G w mJ33_putTreeVal (KR K) 1 11 σ 0 [va_rf l0, va_rf l1, va_rf l2, .int l3, va_rf l4, va_rf l5, U_, U_, U_, U_, U_, U_, U_, U_, U_, U_] []) : CalR w mJ33_putTreeVal σ [va_rf l0, va_rf l1, va_rf l2, .int l3, va_rf l4, va_rf l5] K :=
  Cal.start 10 mJ33_putTreeVal_plain (catR (catR (catR (catI (catR (catR cat0)))))) (Nat.le_of_ble_eq_true rfl) rfl h
set_option maxHeartbeats 4000000 in
theorem bJ33_root_0 {w : Wt} {K : Sg → Option Nat → Prop} {rc rs : Nat} {σ : Sg} (l0 : Option Nat) (h : G w mJ33_root (KR K) (rc) (rs) σ 2 [va_rf l0, va_rf l0, U_] []) : G w mJ33_root (KR K) (rc) (rs) σ 0 [va_rf l0, U_, U_] [] := by
  refine G_aload_n 1 dJ33_root_0 rfl rfl ?_
  refine G_astore_n 2 [va_rf l0, va_rf l0, U_] dJ33_root_1 (Nat.le_of_ble_eq_true rfl) rfl rfl ?_
  exact h
set_option maxHeartbeats 4000000 in
theorem bJ33_root_2 {w : Wt} {K : Sg → Option Nat → Prop} {rc rs : Nat} {σ : Sg} (l0 : Option Nat) (l1 : Option Nat) (v2 : Value) (h : ∃ a1, l1 = some a1 ∧ kd σ a1 = 32 ∧ ((¬ FR σ 90 a1 = none → G w mJ33_root (KR K) (rc) (rs) σ 2 [va_rf l0, va_rf (FR σ 90 a1), va_rf (FR σ 90 a1)] []) ∧ (FR σ 90 a1 = none → K σ l1))) : G w mJ33_root (KR K) (rc) (rs) σ 2 [va_rf l0, va_rf l1, v2] [] := by
  refine G_aload_n 3 dJ33_root_2 rfl rfl ?_
  obtain ⟨a1, e2, h⟩ := h
  obtain ⟨c3, h⟩ := h
  refine G_getR (f := 90) (a := a1) "" 6 dJ33_root_3 (Or.inl q1309) (Or.inl rfl) rfl e2 (hf90 c3) rfl ?_
  refine G_dup 7 dJ33_root_6 (rf_cat _) rfl ?_
  refine G_astore_n 8 [va_rf l0, va_rf l1, va_rf (FR σ 90 a1)] dJ33_root_7 (Nat.le_of_ble_eq_true rfl) rfl rfl ?_
  refine G_ifnonnull 13 11 dJ33_root_8 (by decide) rfl (fun u4 => ?_) (fun u4 => ?_)
  · have h := h.1 u4
    refine G_aload_n 14 dJ33_root_13 rfl rfl ?_
    refine G_astore_n 15 [va_rf l0, va_rf (FR σ 90 a1), va_rf (FR σ 90 a1)] dJ33_root_14 (Nat.le_of_ble_eq_true rfl) rfl rfl ?_
    refine G_goto 2 dJ33_root_15 (by decide) ?_
    exact h
  · have h := h.2 u4
    refine G_aload_n 12 dJ33_root_11 rfl rfl ?_
    exact G_aret dJ33_root_12 rfl (Or.inl ⟨_, rfl⟩) ⟨_, rfl, h⟩
theorem eJ33_root {w : Wt} {K : Sg → Option Nat → Prop} {σ : Sg} (l0 : Option Nat) (h : G w mJ33_root (KR K) 0 0 σ 0 [va_rf l0, U_, U_] []) : CalR w mJ33_root σ [va_rf l0] K :=
  Cal.start 2 mJ33_root_plain (catR cat0) (Nat.le_of_ble_eq_true rfl) rfl h
set_option maxHeartbeats 4000000 in
theorem bJ33_find_0 {w : Wt} {K : Sg → Option Nat → Prop} {rc rs : Nat} {σ : Sg} (l0 : Option Nat) (l1 : Int32) (l2 : Option Nat) (l3 : Option Nat) (h : G w mJ33_find (KR K) (rc) (rs) σ 3 [va_rf l0, .int l1, va_rf l2, va_rf l3, va_rf l0, U_, U_, U_, U_, U_, U_] []) : G w mJ33_find (KR K) (rc) (rs) σ 0 [va_rf l0, .int l1, va_rf l2, va_rf l3, U_, U_, U_, U_, U_, U_, U_] [] := by
  refine G_aload_n 1 dJ33_find_0 rfl rfl ?_
  refine G_astore 3 [va_rf l0, .int l1, va_rf l2, va_rf l3, va_rf l0, U_, U_, U_, U_, U_, U_] dJ33_find_1 (Nat.le_of_ble_eq_true rfl) rfl rfl ?_
  exact h
set_option maxHeartbeats 4000000 in
theorem bJ33_find_3 {w : Wt} {K : Sg → Option Nat → Prop} {rc rs : Nat} {σ : Sg} (l0 : Option Nat) (l1 : Int32) (l2 : Option Nat) (l3 : Option Nat) (l4 : Option Nat) (v5 : Value) (v6 : Value) (v7 : Value) (v8 : Value) (v9 : Value) (v10 : Value) (h : ∃ a1, l4 = some a1 ∧ kd σ a1 = 32 ∧ ((FI σ 84 a1 ≤ l1 → ((l1 ≤ FI σ 84 a1 → ((FR σ 85 a1 = l2 → G w mJ33_find (KR K) (rc) (rs) σ 74 [va_rf l0, .int l1, va_rf l2, va_rf l3, va_rf l4, .int (FI σ 84 a1), v6, va_rf (FR σ 85 a1), va_rf (FR σ 91 a1), va_rf (FR σ 92 a1), v10] []) ∧ (¬ FR σ 85 a1 = l2 → ((l2 = none → G w mJ33_find (KR K) (rc) (rs) σ 77 [va_rf l0, .int l1, va_rf l2, va_rf l3, va_rf l4, .int (FI σ 84 a1), v6, va_rf (FR σ 85 a1), va_rf (FR σ 91 a1), va_rf (FR σ 92 a1), v10] []) ∧ (¬ l2 = none → ∃ a8, l2 = some a8 ∧ ((kd σ a8 = 16 ∧ CalI w mX6_equals σ [va_rf l2, va_rf (FR σ 85 a1)] (fun s10 x11 => Ext σ s10 → ((x11 = 0 → G w mJ33_find (KR K) (rc) (rs) s10 77 [va_rf l0, .int l1, va_rf l2, va_rf l3, va_rf l4, .int (FI σ 84 a1), v6, va_rf (FR σ 85 a1), va_rf (FR σ 91 a1), va_rf (FR σ 92 a1), v10] []) ∧ (¬ x11 = 0 → G w mJ33_find (KR K) (rc) (rs) s10 74 [va_rf l0, .int l1, va_rf l2, va_rf l3, va_rf l4, .int (FI σ 84 a1), v6, va_rf (FR σ 85 a1), va_rf (FR σ 91 a1), va_rf (FR σ 92 a1), v10] [])))) ∨ (kd σ a8 = 17 ∧ CalI w mJ36_equals σ [va_rf l2, va_rf (FR σ 85 a1)] (fun s16 x17 => Ext σ s16 → ((x17 = 0 → G w mJ33_find (KR K) (rc) (rs) s16 77 [va_rf l0, .int l1, va_rf l2, va_rf l3, va_rf l4, .int (FI σ 84 a1), v6, va_rf (FR σ 85 a1), va_rf (FR σ 91 a1), va_rf (FR σ 92 a1), v10] []) ∧ (¬ x17 = 0 → G w mJ33_find (KR K) (rc) (rs) s16 74 [va_rf l0, .int l1, va_rf l2, va_rf l3, va_rf l4, .int (FI σ 84 a1), v6, va_rf (FR σ 85 a1), va_rf (FR σ 91 a1), va_rf (FR σ 92 a1), v10] [])))))))))) ∧ (¬ l1 ≤ FI σ 84 a1 → G w mJ33_find (KR K) (rc) (rs) σ 165 [va_rf l0, .int l1, va_rf l2, va_rf l3, va_rf (FR σ 92 a1), .int (FI σ 84 a1), v6, v7, va_rf (FR σ 91 a1), va_rf (FR σ 92 a1), v10] []))) ∧ (¬ FI σ 84 a1 ≤ l1 → G w mJ33_find (KR K) (rc) (rs) σ 165 [va_rf l0, .int l1, va_rf l2, va_rf l3, va_rf (FR σ 91 a1), .int (FI σ 84 a1), v6, v7, va_rf (FR σ 91 a1), va_rf (FR σ 92 a1), v10] []))) : G w mJ33_find (KR K) (rc) (rs) σ 3 [va_rf l0, .int l1, va_rf l2, va_rf l3, va_rf l4, v5, v6, v7, v8, v9, v10] [] := by
  refine G_aload 5 dJ33_find_3 rfl rfl ?_
  obtain ⟨a1, e2, h⟩ := h
  obtain ⟨c3, h⟩ := h
  refine G_getR (f := 91) (a := a1) "" 8 dJ33_find_5 (Or.inl q1310) (Or.inl rfl) rfl e2 (hf91 c3) rfl ?_
  refine G_astore 10 [va_rf l0, .int l1, va_rf l2, va_rf l3, va_rf l4, v5, v6, v7, va_rf (FR σ 91 a1), v9, v10] dJ33_find_8 (Nat.le_of_ble_eq_true rfl) rfl rfl ?_
  refine G_aload 12 dJ33_find_10 rfl rfl ?_
  refine G_getR (f := 92) (a := a1) "" 15 dJ33_find_12 (Or.inl q1311) (Or.inl rfl) rfl e2 (hf92 c3) rfl ?_
  refine G_astore 17 [va_rf l0, .int l1, va_rf l2, va_rf l3, va_rf l4, v5, v6, v7, va_rf (FR σ 91 a1), va_rf (FR σ 92 a1), v10] dJ33_find_15 (Nat.le_of_ble_eq_true rfl) rfl rfl ?_
  refine G_aload 19 dJ33_find_17 rfl rfl ?_
  refine G_getI (f := 84) (a := a1) "" 22 dJ33_find_19 (Or.inl q951) (Or.inr q952) rfl e2 (hf84 (memE c3 (by decide))) rfl ?_
  refine G_dup 23 dJ33_find_22 (rfl) rfl ?_
  refine G_istore 25 [va_rf l0, .int l1, va_rf l2, va_rf l3, va_rf l4, .int (FI σ 84 a1), v6, v7, va_rf (FR σ 91 a1), va_rf (FR σ 92 a1), v10] dJ33_find_23 (Nat.le_of_ble_eq_true rfl) rfl rfl ?_
  refine G_iload_n 26 dJ33_find_25 rfl rfl ?_
  refine G_icmp_le 36 29 dJ33_find_26 (by decide) rfl (fun u4 => ?_) (fun u4 => ?_)
  · have h := h.1 u4
    refine G_iload 38 dJ33_find_36 rfl rfl ?_
    refine G_iload_n 39 dJ33_find_38 rfl rfl ?_
    refine G_icmp_ge 49 42 dJ33_find_39 (by decide) rfl (fun u5 => ?_) (fun u5 => ?_)
    · have h := h.1 u5
      refine G_aload 51 dJ33_find_49 rfl rfl ?_
      refine G_getR (f := 85) (a := a1) "" 54 dJ33_find_51 (Or.inl q958) (Or.inr q959) rfl e2 (hf85 (memE c3 (by decide))) rfl ?_
      refine G_dup 55 dJ33_find_54 (rf_cat _) rfl ?_
      refine G_astore 57 [va_rf l0, .int l1, va_rf l2, va_rf l3, va_rf l4, .int (FI σ 84 a1), v6, va_rf (FR σ 85 a1), va_rf (FR σ 91 a1), va_rf (FR σ 92 a1), v10] dJ33_find_55 (Nat.le_of_ble_eq_true rfl) rfl rfl ?_
      refine G_aload_n 58 dJ33_find_57 rfl rfl ?_
      refine G_acmp_eq 74 61 dJ33_find_58 (by decide) rfl (fun u6 => ?_) (fun u6 => ?_)
      · have h := h.1 u6
        exact h
      · have h := h.2 u6
        refine G_aload_n 62 dJ33_find_61 rfl rfl ?_
        refine G_ifnull 77 65 dJ33_find_62 (by decide) rfl (fun u7 => ?_) (fun u7 => ?_)
        · have h := h.1 u7
          exact h
        · have h := h.2 u7
          refine G_aload_n 66 dJ33_find_65 rfl rfl ?_
          refine G_aload 68 dJ33_find_66 rfl rfl ?_
          obtain ⟨a8, e9, h⟩ := h
          rcases h with ⟨c12, h⟩ | ⟨c18, h⟩
          · refine G_invU (N := mX6_equals) (owner := "java/lang/Object") (x := ⟨"java/lang/Object", "equals", "(Ljava/lang/Object;)Z"⟩) (As := [va_rf (FR σ 85 a1)]) (st := []) (t := l2) (b := a8) (rc) (rs) 71 dJ33_find_68 q1291 q1253 q1257 q1258 q74 q1259 (Or.inr (Or.inl ⟨q1252, _, _, _, q1282⟩)) rfl ax0 ⟨Nat.le_of_ble_eq_true rfl, Nat.le_of_ble_eq_true rfl⟩ rfl (Nat.zero_le _) e9 (rk16 c12) (le_b mX6_equals_c (Nat.le_refl _)) (le_b mX6_equals_s (Nat.le_refl _)) rfl (Cal.mono h ?_)
            rintro s10 v ⟨x11, rfl, h⟩ hx13
            have h := h hx13
            have x14 := hx13.x
            show G w mJ33_find (KR K) (rc) (rs) s10 71 [va_rf l0, .int l1, va_rf l2, va_rf l3, va_rf l4, .int (FI σ 84 a1), v6, va_rf (FR σ 85 a1), va_rf (FR σ 91 a1), va_rf (FR σ 92 a1), v10] [.int x11]
            refine G_if_eq 77 74 dJ33_find_71 (by decide) rfl (fun u15 => ?_) (fun u15 => ?_)
            · have h := h.1 u15
              exact h
            · have h := h.2 u15
              exact h
          · refine G_invU (N := mJ36_equals) (owner := "java/lang/Object") (x := ⟨"java/lang/Object", "equals", "(Ljava/lang/Object;)Z"⟩) (As := [va_rf (FR σ 85 a1)]) (st := []) (t := l2) (b := a8) (rc) (rs) 71 dJ33_find_68 q1291 q1253 q1256 q1252 q2405 q1282 (Or.inl rfl) rfl ax0 ⟨Nat.le_of_ble_eq_true rfl, Nat.le_of_ble_eq_true rfl⟩ rfl (Nat.zero_le _) e9 (rk17 c18) (le_b mJ36_equals_c (Nat.le_refl _)) (le_b mJ36_equals_s (Nat.le_refl _)) rfl (Cal.mono h ?_)
            rintro s16 v ⟨x17, rfl, h⟩ hx19
            have h := h hx19
            have x20 := hx19.x
            show G w mJ33_find (KR K) (rc) (rs) s16 71 [va_rf l0, .int l1, va_rf l2, va_rf l3, va_rf l4, .int (FI σ 84 a1), v6, va_rf (FR σ 85 a1), va_rf (FR σ 91 a1), va_rf (FR σ 92 a1), v10] [.int x17]
            refine G_if_eq 77 74 dJ33_find_71 (by decide) rfl (fun u21 => ?_) (fun u21 => ?_)
            · have h := h.1 u21
              exact h
            · have h := h.2 u21
              exact h
    · have h := h.2 u5
      refine G_aload 44 dJ33_find_42 rfl rfl ?_
      refine G_astore 46 [va_rf l0, .int l1, va_rf l2, va_rf l3, va_rf (FR σ 92 a1), .int (FI σ 84 a1), v6, v7, va_rf (FR σ 91 a1), va_rf (FR σ 92 a1), v10] dJ33_find_44 (Nat.le_of_ble_eq_true rfl) rfl rfl ?_
      refine G_goto 165 dJ33_find_46 (by decide) ?_
      exact h
  · have h := h.2 u4
    refine G_aload 31 dJ33_find_29 rfl rfl ?_
    refine G_astore 33 [va_rf l0, .int l1, va_rf l2, va_rf l3, va_rf (FR σ 91 a1), .int (FI σ 84 a1), v6, v7, va_rf (FR σ 91 a1), va_rf (FR σ 92 a1), v10] dJ33_find_31 (Nat.le_of_ble_eq_true rfl) rfl rfl ?_
    refine G_goto 165 dJ33_find_33 (by decide) ?_
    exact h
set_option maxHeartbeats 4000000 in
theorem bJ33_find_74 {w : Wt} {K : Sg → Option Nat → Prop} {rc rs : Nat} {σ : Sg} (l0 : Option Nat) (l1 : Int32) (l2 : Option Nat) (l3 : Option Nat) (l4 : Option Nat) (l5 : Int32) (v6 : Value) (l7 : Option Nat) (l8 : Option Nat) (l9 : Option Nat) (v10 : Value) (h : K σ l4) : G w mJ33_find (KR K) (rc) (rs) σ 74 [va_rf l0, .int l1, va_rf l2, va_rf l3, va_rf l4, .int l5, v6, va_rf l7, va_rf l8, va_rf l9, v10] [] := by
  refine G_aload 76 dJ33_find_74 rfl rfl ?_
  exact G_aret dJ33_find_76 rfl (Or.inl ⟨_, rfl⟩) ⟨_, rfl, h⟩
set_option maxHeartbeats 4000000 in
theorem bJ33_find_77 {w : Wt} {K : Sg → Option Nat → Prop} {rc rs : Nat} {σ : Sg} (l0 : Option Nat) (l1 : Int32) (l2 : Option Nat) (l3 : Option Nat) (l4 : Option Nat) (l5 : Int32) (v6 : Value) (l7 : Option Nat) (l8 : Option Nat) (l9 : Option Nat) (v10 : Value) (h : ((¬ l8 = none → ((¬ l9 = none → ((¬ l3 = none → G w mJ33_find (KR K) (rc) (rs) σ 114 [va_rf l0, .int l1, va_rf l2, va_rf l3, va_rf l4, .int l5, v6, va_rf l7, va_rf l8, va_rf l9, v10] []) ∧ (l3 = none → False))) ∧ (l9 = none → G w mJ33_find (KR K) (rc) (rs) σ 165 [va_rf l0, .int l1, va_rf l2, va_rf l3, va_rf l8, .int l5, v6, va_rf l7, va_rf l8, va_rf l9, v10] []))) ∧ (l8 = none → G w mJ33_find (KR K) (rc) (rs) σ 165 [va_rf l0, .int l1, va_rf l2, va_rf l3, va_rf l9, .int l5, v6, va_rf l7, va_rf l8, va_rf l9, v10] []))) : G w mJ33_find (KR K) (rc) (rs) σ 77 [va_rf l0, .int l1, va_rf l2, va_rf l3, va_rf l4, .int l5, v6, va_rf l7, va_rf l8, va_rf l9, v10] [] := by
  refine G_aload 79 dJ33_find_77 rfl rfl ?_
  refine G_ifnonnull 89 82 dJ33_find_79 (by decide) rfl (fun u1 => ?_) (fun u1 => ?_)
  · have h := h.1 u1
    refine G_aload 91 dJ33_find_89 rfl rfl ?_
    refine G_ifnonnull 101 94 dJ33_find_91 (by decide) rfl (fun u2 => ?_) (fun u2 => ?_)
    · have h := h.1 u2
      refine G_aload_n 102 dJ33_find_101 rfl rfl ?_
      refine G_ifnonnull 114 105 dJ33_find_102 (by decide) rfl (fun u3 => ?_) (fun u3 => ?_)
      · have h := h.1 u3
        exact h
      · have h := h.2 u3
        refine G_aload_n 106 dJ33_find_105 rfl rfl ?_
        exact h.elim
    · have h := h.2 u2
      refine G_aload 96 dJ33_find_94 rfl rfl ?_
      refine G_astore 98 [va_rf l0, .int l1, va_rf l2, va_rf l3, va_rf l8, .int l5, v6, va_rf l7, va_rf l8, va_rf l9, v10] dJ33_find_96 (Nat.le_of_ble_eq_true rfl) rfl rfl ?_
      refine G_goto 165 dJ33_find_98 (by decide) ?_
      exact h
  · have h := h.2 u1
    refine G_aload 84 dJ33_find_82 rfl rfl ?_
    refine G_astore 86 [va_rf l0, .int l1, va_rf l2, va_rf l3, va_rf l9, .int l5, v6, va_rf l7, va_rf l8, va_rf l9, v10] dJ33_find_84 (Nat.le_of_ble_eq_true rfl) rfl rfl ?_
    refine G_goto 165 dJ33_find_86 (by decide) ?_
    exact h
set_option maxHeartbeats 4000000 in
theorem bJ33_find_114 {w : Wt} {K : Sg → Option Nat → Prop} {rc rs : Nat} {σ : Sg} (l0 : Option Nat) (l1 : Int32) (l2 : Option Nat) (l3 : Option Nat) (l4 : Option Nat) (l5 : Int32) (v6 : Value) (l7 : Option Nat) (l8 : Option Nat) (l9 : Option Nat) (v10 : Value) (h : False) : G w mJ33_find (KR K) (rc) (rs) σ 114 [va_rf l0, .int l1, va_rf l2, va_rf l3, va_rf l4, .int l5, v6, va_rf l7, va_rf l8, va_rf l9, v10] [] := by
  refine G_aload_n 115 dJ33_find_114 rfl rfl ?_
  refine G_aload_n 116 dJ33_find_115 rfl rfl ?_
  refine G_aload 118 dJ33_find_116 rfl rfl ?_
  exact h.elim
set_option maxHeartbeats 4000000 in
theorem bJ33_find_144 {w : Wt} {K : Sg → Option Nat → Prop} {rc rs : Nat} {σ : Sg} (l0 : Option Nat) (l1 : Int32) (l2 : Option Nat) (l3 : Option Nat) (l4 : Option Nat) (l5 : Int32) (v6 : Value) (l7 : Option Nat) (l8 : Option Nat) (l9 : Option Nat) (v10 : Value) (h : False) : G w mJ33_find (KR K) (rc) (rs) σ 144 [va_rf l0, .int l1, va_rf l2, va_rf l3, va_rf l4, .int l5, v6, va_rf l7, va_rf l8, va_rf l9, v10] [] := by
  refine G_aload 146 dJ33_find_144 rfl rfl ?_
  refine G_iload_n 147 dJ33_find_146 rfl rfl ?_
  refine G_aload_n 148 dJ33_find_147 rfl rfl ?_
  refine G_aload_n 149 dJ33_find_148 rfl rfl ?_
  exact h.elim
set_option maxHeartbeats 4000000 in
theorem bJ33_find_165 {w : Wt} {K : Sg → Option Nat → Prop} {rc rs : Nat} {σ : Sg} (l0 : Option Nat) (l1 : Int32) (l2 : Option Nat) (l3 : Option Nat) (l4 : Option Nat) (l5 : Int32) (v6 : Value) (v7 : Value) (l8 : Option Nat) (l9 : Option Nat) (v10 : Value) (h : ((¬ l4 = none → G w mJ33_find (KR K) (rc) (rs) σ 3 [va_rf l0, .int l1, va_rf l2, va_rf l3, va_rf l4, .int l5, v6, v7, va_rf l8, va_rf l9, v10] []) ∧ (l4 = none → K σ none))) : G w mJ33_find (KR K) (rc) (rs) σ 165 [va_rf l0, .int l1, va_rf l2, va_rf l3, va_rf l4, .int l5, v6, v7, va_rf l8, va_rf l9, v10] [] := by
  refine G_aload 167 dJ33_find_165 rfl rfl ?_
  refine G_ifnonnull 3 170 dJ33_find_167 (by decide) rfl (fun u1 => ?_) (fun u1 => ?_)
  · have h := h.1 u1
    exact h
  · have h := h.2 u1
    refine G_null 171 dJ33_find_170 rfl ?_
    exact G_aret dJ33_find_171 rfl (Or.inl ⟨_, rfl⟩) ⟨_, rfl, h⟩
theorem eJ33_find {w : Wt} {K : Sg → Option Nat → Prop} {σ : Sg} (l0 : Option Nat) (l1 : Int32) (l2 : Option Nat) (l3 : Option Nat) (h : G w mJ33_find (KR K) 0 0 σ 0 [va_rf l0, .int l1, va_rf l2, va_rf l3, U_, U_, U_, U_, U_, U_, U_] []) : CalR w mJ33_find σ [va_rf l0, .int l1, va_rf l2, va_rf l3] K :=
  Cal.start 7 mJ33_find_plain (catR (catI (catR (catR cat0)))) (Nat.le_of_ble_eq_true rfl) rfl h
set_option maxHeartbeats 4000000 in
theorem bJ33_init_0 {w : Wt} {K : Sg → Prop} {rc rs : Nat} {σ : Sg} (l0 : Option Nat) (l1 : Int32) (l2 : Option Nat) (l3 : Option Nat) (l4 : Option Nat) (h : ∃ a1, l0 = some a1 ∧ CalV w mJ29_init σ [va_rf l0, .int l1, va_rf l2, va_rf l3, va_rf l4] (fun s3 => Ext σ s3 → K s3)) : G w mJ33_init (KV K) (rc) (rs) σ 0 [va_rf l0, .int l1, va_rf l2, va_rf l3, va_rf l4] [] := by
  refine G_aload_n 1 dJ33_init_0 rfl rfl ?_
  refine G_iload_n 2 dJ33_init_1 rfl rfl ?_
  refine G_aload_n 3 dJ33_init_2 rfl rfl ?_
  refine G_aload_n 4 dJ33_init_3 rfl rfl ?_
  refine G_aload 6 dJ33_init_4 rfl rfl ?_
  obtain ⟨a1, e2, h⟩ := h
  refine G_invI (N := mJ29_init) (As := [.int l1, va_rf l2, va_rf l3, va_rf l4]) (st := []) (t := l0) (b := a1) (rc) (rs) "" 9 dJ33_init_6 (Or.inl q1308) q940 q67 q941 rfl rfl rfl mJ29_init_args ⟨Nat.le_of_ble_eq_true rfl, Nat.le_of_ble_eq_true rfl⟩ e2 rfl (Nat.zero_le _) (le_b mJ29_init_c (Nat.le_refl _)) (le_b mJ29_init_s (Nat.le_refl _)) rfl (Cal.mono h ?_)
  rintro s3 v ⟨rfl, h⟩ hx4
  have h := h hx4
  have x5 := hx4.x
  show G w mJ33_init (KV K) (rc) (rs) s3 9 [va_rf l0, .int l1, va_rf l2, va_rf l3, va_rf l4] []
  exact G_ret dJ33_init_9 rfl ⟨rfl, h⟩
theorem eJ33_init {w : Wt} {K : Sg → Prop} {σ : Sg} (l0 : Option Nat) (l1 : Int32) (l2 : Option Nat) (l3 : Option Nat) (l4 : Option Nat) (h : G w mJ33_init (KV K) 0 0 σ 0 [va_rf l0, .int l1, va_rf l2, va_rf l3, va_rf l4] []) : CalV w mJ33_init σ [va_rf l0, .int l1, va_rf l2, va_rf l3, va_rf l4] K :=
  Cal.start 0 mJ33_init_plain (catR (catI (catR (catR (catR cat0))))) (Nat.le_of_ble_eq_true rfl) rfl h
set_option maxHeartbeats 4000000 in
theorem bJ33_getTreeNode_0 {w : Wt} {K : Sg → Option Nat → Prop} {rc rs : Nat} {σ : Sg} (l0 : Option Nat) (l1 : Int32) (l2 : Option Nat) (h : ∃ a1, l0 = some a1 ∧ kd σ a1 = 32 ∧ ((FR σ 90 a1 = none → CalR w mJ33_find σ [va_rf l0, .int l1, va_rf l2, va_rf none] (fun s5 x6 => Ext σ s5 → K s5 x6)) ∧ (¬ FR σ 90 a1 = none → CalR w mJ33_root σ [va_rf l0] (fun s9 x10 => Ext σ s9 → ∃ a13, x10 = some a13 ∧ kd s9 a13 = 32 ∧ CalR w mJ33_find s9 [va_rf x10, .int l1, va_rf l2, va_rf none] (fun s15 x16 => Ext s9 s15 → K s15 x16))))) : G w mJ33_getTreeNode (KR K) (rc) (rs) σ 0 [va_rf l0, .int l1, va_rf l2] [] := by
  refine G_aload_n 1 dJ33_getTreeNode_0 rfl rfl ?_
  obtain ⟨a1, e2, h⟩ := h
  obtain ⟨c3, h⟩ := h
  refine G_getR (f := 90) (a := a1) "" 4 dJ33_getTreeNode_1 (Or.inl q1309) (Or.inl rfl) rfl e2 (hf90 c3) rfl ?_
  refine G_ifnull 14 7 dJ33_getTreeNode_4 (by decide) rfl (fun u4 => ?_) (fun u4 => ?_)
  · have h := h.1 u4
    refine G_aload_n 15 dJ33_getTreeNode_14 rfl rfl ?_
    refine G_iload_n 16 dJ33_getTreeNode_15 rfl rfl ?_
    refine G_aload_n 17 dJ33_getTreeNode_16 rfl rfl ?_
    refine G_null 18 dJ33_getTreeNode_17 rfl ?_
    refine G_invV (N := mJ33_find) (As := [.int l1, va_rf l2, va_rf none]) (st := []) (t := l0) (b := a1) (rc) (rs) 21 dJ33_getTreeNode_18 q1292 q1293 q1294 q72 q1295 rfl rfl mJ33_find_args ⟨Nat.le_of_ble_eq_true rfl, Nat.le_of_ble_eq_true rfl⟩ rfl (Nat.zero_le _) e2 (rk32 c3) (le_b mJ33_find_c (Nat.le_refl _)) (le_b mJ33_find_s (Nat.le_refl _)) rfl (Cal.mono h ?_)
    rintro s5 v ⟨x6, rfl, h⟩ hx7
    have h := h hx7
    have x8 := hx7.x
    show G w mJ33_getTreeNode (KR K) (rc) (rs) s5 21 [va_rf l0, .int l1, va_rf l2] [va_rf x6]
    exact G_aret dJ33_getTreeNode_21 rfl (Or.inl ⟨_, rfl⟩) ⟨_, rfl, h⟩
  · have h := h.2 u4
    refine G_aload_n 8 dJ33_getTreeNode_7 rfl rfl ?_
    refine G_invV (N := mJ33_root) (As := []) (st := []) (t := l0) (b := a1) (rc) (rs) 11 dJ33_getTreeNode_8 q1287 q1288 q1289 q72 q1290 rfl rfl mJ33_root_args ⟨Nat.le_of_ble_eq_true rfl, Nat.le_of_ble_eq_true rfl⟩ rfl (Nat.zero_le _) e2 (rk32 c3) (le_b mJ33_root_c (Nat.le_refl _)) (le_b mJ33_root_s (Nat.le_refl _)) rfl (Cal.mono h ?_)
    rintro s9 v ⟨x10, rfl, h⟩ hx11
    have h := h hx11
    have x12 := hx11.x
    show G w mJ33_getTreeNode (KR K) (rc) (rs) s9 11 [va_rf l0, .int l1, va_rf l2] [va_rf x10]
    refine G_goto 15 dJ33_getTreeNode_11 (by decide) ?_
    refine G_iload_n 16 dJ33_getTreeNode_15 rfl rfl ?_
    refine G_aload_n 17 dJ33_getTreeNode_16 rfl rfl ?_
    refine G_null 18 dJ33_getTreeNode_17 rfl ?_
    obtain ⟨a13, e14, h⟩ := h
    obtain ⟨c17, h⟩ := h
    refine G_invV (N := mJ33_find) (As := [.int l1, va_rf l2, va_rf none]) (st := []) (t := x10) (b := a13) (rc) (rs) 21 dJ33_getTreeNode_18 q1292 q1293 q1294 q72 q1295 rfl rfl mJ33_find_args ⟨Nat.le_of_ble_eq_true rfl, Nat.le_of_ble_eq_true rfl⟩ rfl (Nat.zero_le _) e14 (rk32 c17) (le_b mJ33_find_c (Nat.le_refl _)) (le_b mJ33_find_s (Nat.le_refl _)) rfl (Cal.mono h ?_)
    rintro s15 v ⟨x16, rfl, h⟩ hx18
    have h := h hx18
    have x19 := hx18.x
    show G w mJ33_getTreeNode (KR K) (rc) (rs) s15 21 [va_rf l0, .int l1, va_rf l2] [va_rf x16]
    exact G_aret dJ33_getTreeNode_21 rfl (Or.inl ⟨_, rfl⟩) ⟨_, rfl, h⟩
theorem eJ33_getTreeNode {w : Wt} {K : Sg → Option Nat → Prop} {σ : Sg} (l0 : Option Nat) (l1 : Int32) (l2 : Option Nat) (h : G w mJ33_getTreeNode (KR K) 0 0 σ 0 [va_rf l0, .int l1, va_rf l2] []) : CalR w mJ33_getTreeNode σ [va_rf l0, .int l1, va_rf l2] K :=
  Cal.start 0 mJ33_getTreeNode_plain (catR (catI (catR cat0))) (Nat.le_of_ble_eq_true rfl) rfl h
set_option maxHeartbeats 4000000 in
theorem bJ33_removeTreeNode_0 {w : Wt} {K : Sg → Prop} {rc rs : Nat} {σ : Sg} (l0 : Option Nat) (l1 : Option Nat) (l2 : Option Nat) (l3 : Int32) (h : ((l2 = none → G w mJ33_removeTreeNode (KV K) (rc) (rs) σ 12 [va_rf l0, va_rf l1, va_rf l2, .int l3, U_, U_, U_, U_, U_, U_, U_, U_, U_, U_, U_, U_, U_, U_, U_, U_, U_] []) ∧ (¬ l2 = none → ∃ a2, l2 = some a2 ∧ kd σ a2 ∈ [1, 2, 3, 4, 5, 7, 8] ∧ ((¬ nI (ln σ a2) = 0 → ∃ a6, l0 = some a6 ∧ kd σ a6 ∈ [30, 31, 32] ∧ kd σ a2 ∈ [3, 4, 7, 8] ∧ vp_in (((nI (ln σ a2)) - 1) &&& (FI σ 84 a6)) (ln σ a2) ∧ (AR σ a2 (((nI (ln σ a2)) - 1) &&& (FI σ 84 a6)).toNatClampNeg = none ∨ ∃ b, AR σ a2 (((nI (ln σ a2)) - 1) &&& (FI σ 84 a6)).toNatClampNeg = some b ∧ kd σ b = 32) ∧ (FR σ 87 a6 = none ∨ ∃ b, FR σ 87 a6 = some b ∧ kd σ b = 32) ∧ kd σ a6 = 32 ∧ ((¬ FR σ 93 a6 = none → ∃ a15, FR σ 93 a6 = some a15 ∧ kd σ a15 ∈ [30, 31, 32] ∧ ∀ s18, s18 = sFR σ 87 a15 (FR σ 87 a6) → G w mJ33_removeTreeNode (KV K) (rc) (rs) s18 76 [va_rf l0, va_rf l1, va_rf l2, .int l3, .int (nI (ln σ a2)), .int (((nI (ln σ a2)) - 1) &&& (FI σ 84 a6)), va_rf (AR σ a2 (((nI (ln σ a2)) - 1) &&& (FI σ 84 a6)).toNatClampNeg), va_rf (AR σ a2 (((nI (ln σ a2)) - 1) &&& (FI σ 84 a6)).toNatClampNeg), U_, va_rf (FR σ 87 a6), va_rf (FR σ 93 a6), U_, U_, U_, U_, U_, U_, U_, U_, U_, U_] []) ∧ (FR σ 93 a6 = none → kd σ a2 = 4 ∧ (FR σ 87 a6 = none ∨ ∃ b, FR σ 87 a6 = some b ∧ kd σ b ∈ [30, 31, 32]) ∧ ∀ s22, s22 = sAR σ a2 (((nI (ln σ a2)) - 1) &&& (FI σ 84 a6)).toNatClampNeg (FR σ 87 a6) → G w mJ33_removeTreeNode (KV K) (rc) (rs) s22 76 [va_rf l0, va_rf l1, va_rf l2, .int l3, .int (nI (ln σ a2)), .int (((nI (ln σ a2)) - 1) &&& (FI σ 84 a6)), va_rf (FR σ 87 a6), va_rf (AR σ a2 (((nI (ln σ a2)) - 1) &&& (FI σ 84 a6)).toNatClampNeg), U_, va_rf (FR σ 87 a6), va_rf (FR σ 93 a6), U_, U_, U_, U_, U_, U_, U_, U_, U_, U_] []))) ∧ (nI (ln σ a2) = 0 → G w mJ33_removeTreeNode (KV K) (rc) (rs) σ 12 [va_rf l0, va_rf l1, va_rf l2, .int l3, .int (nI (ln σ a2)), U_, U_, U_, U_, U_, U_, U_, U_, U_, U_, U_, U_, U_, U_, U_, U_] []))))) : G w mJ33_removeTreeNode (KV K) (rc) (rs) σ 0 [va_rf l0, va_rf l1, va_rf l2, .int l3, U_, U_, U_, U_, U_, U_, U_, U_, U_, U_, U_, U_, U_, U_, U_, U_, U_] [] := by
  refine G_aload_n 1 dJ33_removeTreeNode_0 rfl rfl ?_
  refine G_ifnull 12 4 dJ33_removeTreeNode_1 (by decide) rfl (fun u1 => ?_) (fun u1 => ?_)
  · have h := h.1 u1
    exact h
  · have h := h.2 u1
    refine G_aload_n 5 dJ33_removeTreeNode_4 rfl rfl ?_
    obtain ⟨a2, e3, h⟩ := h
    obtain ⟨c4, h⟩ := h
    refine G_alen (a := a2) 6 dJ33_removeTreeNode_5 rfl e3 c4 ?_
    refine G_dup 7 dJ33_removeTreeNode_6 (rfl) rfl ?_
    refine G_istore 9 [va_rf l0, va_rf l1, va_rf l2, .int l3, .int (nI (ln σ a2)), U_, U_, U_, U_, U_, U_, U_, U_, U_, U_, U_, U_, U_, U_, U_, U_] dJ33_removeTreeNode_7 (Nat.le_of_ble_eq_true rfl) rfl rfl ?_
    refine G_if_ne 13 12 dJ33_removeTreeNode_9 (by decide) rfl (fun u5 => ?_) (fun u5 => ?_)
    · have h := h.1 u5
      refine G_iload 15 dJ33_removeTreeNode_13 rfl rfl ?_
      refine G_iconst (v := 1) 16 dJ33_removeTreeNode_15 (by decide) rfl ?_
      refine G_isub 17 dJ33_removeTreeNode_16 rfl ?_
      refine G_aload_n 18 dJ33_removeTreeNode_17 rfl rfl ?_
      obtain ⟨a6, e7, h⟩ := h
      obtain ⟨c8, h⟩ := h
      refine G_getI (f := 84) (a := a6) "" 21 dJ33_removeTreeNode_18 (Or.inl q951) (Or.inr q952) rfl e7 (hf84 c8) rfl ?_
      refine G_iand 22 dJ33_removeTreeNode_21 rfl ?_
      refine G_istore 24 [va_rf l0, va_rf l1, va_rf l2, .int l3, .int (nI (ln σ a2)), .int (((nI (ln σ a2)) - 1) &&& (FI σ 84 a6)), U_, U_, U_, U_, U_, U_, U_, U_, U_, U_, U_, U_, U_, U_, U_] dJ33_removeTreeNode_22 (Nat.le_of_ble_eq_true rfl) rfl rfl ?_
      refine G_aload_n 25 dJ33_removeTreeNode_24 rfl rfl ?_
      refine G_iload 27 dJ33_removeTreeNode_25 rfl rfl ?_
      obtain ⟨c9, h⟩ := h
      obtain ⟨c10, h⟩ := h
      refine G_aald (a := a2) 28 dJ33_removeTreeNode_27 rfl e3 c9 c10 ?_
      obtain ⟨c11, h⟩ := h
      refine G_cast 31 dJ33_removeTreeNode_28 q925 rfl (c11.imp id (fun ⟨b, e, k⟩ => ⟨b, e, co1 k⟩)) ?_
      refine G_astore 33 [va_rf l0, va_rf l1, va_rf l2, .int l3, .int (nI (ln σ a2)), .int (((nI (ln σ a2)) - 1) &&& (FI σ 84 a6)), va_rf (AR σ a2 (((nI (ln σ a2)) - 1) &&& (FI σ 84 a6)).toNatClampNeg), U_, U_, U_, U_, U_, U_, U_, U_, U_, U_, U_, U_, U_, U_] dJ33_removeTreeNode_31 (Nat.le_of_ble_eq_true rfl) rfl rfl ?_
      refine G_aload 35 dJ33_removeTreeNode_33 rfl rfl ?_
      refine G_astore 37 [va_rf l0, va_rf l1, va_rf l2, .int l3, .int (nI (ln σ a2)), .int (((nI (ln σ a2)) - 1) &&& (FI σ 84 a6)), va_rf (AR σ a2 (((nI (ln σ a2)) - 1) &&& (FI σ 84 a6)).toNatClampNeg), va_rf (AR σ a2 (((nI (ln σ a2)) - 1) &&& (FI σ 84 a6)).toNatClampNeg), U_, U_, U_, U_, U_, U_, U_, U_, U_, U_, U_, U_, U_] dJ33_removeTreeNode_35 (Nat.le_of_ble_eq_true rfl) rfl rfl ?_
      refine G_aload_n 38 dJ33_removeTreeNode_37 rfl rfl ?_
      refine G_getR (f := 87) (a := a6) "" 41 dJ33_removeTreeNode_38 (Or.inl q970) (Or.inr q971) rfl e7 (hf87 c8) rfl ?_
      obtain ⟨c12, h⟩ := h
      refine G_cast 44 dJ33_removeTreeNode_41 q925 rfl (c12.imp id (fun ⟨b, e, k⟩ => ⟨b, e, co1 k⟩)) ?_
      refine G_astore 46 [va_rf l0, va_rf l1, va_rf l2, .int l3, .int (nI (ln σ a2)), .int (((nI (ln σ a2)) - 1) &&& (FI σ 84 a6)), va_rf (AR σ a2 (((nI (ln σ a2)) - 1) &&& (FI σ 84 a6)).toNatClampNeg), va_rf (AR σ a2 (((nI (ln σ a2)) - 1) &&& (FI σ 84 a6)).toNatClampNeg), U_, va_rf (FR σ 87 a6), U_, U_, U_, U_, U_, U_, U_, U_, U_, U_, U_] dJ33_removeTreeNode_44 (Nat.le_of_ble_eq_true rfl) rfl rfl ?_
      refine G_aload_n 47 dJ33_removeTreeNode_46 rfl rfl ?_
      obtain ⟨c13, h⟩ := h
      refine G_getR (f := 93) (a := a6) "" 50 dJ33_removeTreeNode_47 (Or.inl q1312) (Or.inl rfl) rfl e7 (hf93 c13) rfl ?_
      refine G_astore 52 [va_rf l0, va_rf l1, va_rf l2, .int l3, .int (nI (ln σ a2)), .int (((nI (ln σ a2)) - 1) &&& (FI σ 84 a6)), va_rf (AR σ a2 (((nI (ln σ a2)) - 1) &&& (FI σ 84 a6)).toNatClampNeg), va_rf (AR σ a2 (((nI (ln σ a2)) - 1) &&& (FI σ 84 a6)).toNatClampNeg), U_, va_rf (FR σ 87 a6), va_rf (FR σ 93 a6), U_, U_, U_, U_, U_, U_, U_, U_, U_, U_] dJ33_removeTreeNode_50 (Nat.le_of_ble_eq_true rfl) rfl rfl ?_
      refine G_aload 54 dJ33_removeTreeNode_52 rfl rfl ?_
      refine G_ifnonnull 69 57 dJ33_removeTreeNode_54 (by decide) rfl (fun u14 => ?_) (fun u14 => ?_)
      · have h := h.1 u14
        refine G_aload 71 dJ33_removeTreeNode_69 rfl rfl ?_
        refine G_aload 73 dJ33_removeTreeNode_71 rfl rfl ?_
        obtain ⟨a15, e16, h⟩ := h
        obtain ⟨c17, h⟩ := h
        refine G_putR (f := 87) (a := a15) "" 76 dJ33_removeTreeNode_73 (Or.inl q970) (Or.inr q971) rfl e16 (hp87 c17) (nk87 c17) (Or.inl rfl) (fun y => by cases y <;> rfl) (fun y => by cases y <;> rfl) rfl ?_
        generalize hs18 : sFR σ 87 a15 (FR σ 87 a6) = s18
        have x19 : ∀ a, ¬ kd σ a = 0 → kd s18 a = kd σ a := by subst hs18; exact fun a _ => congrFun kd_sFR a
        have h := h s18 hs18.symm
        exact h
      · have h := h.2 u14
        refine G_aload_n 58 dJ33_removeTreeNode_57 rfl rfl ?_
        refine G_iload 60 dJ33_removeTreeNode_58 rfl rfl ?_
        refine G_aload 62 dJ33_removeTreeNode_60 rfl rfl ?_
        refine G_dup 63 dJ33_removeTreeNode_62 (rf_cat _) rfl ?_
        refine G_astore 65 [va_rf l0, va_rf l1, va_rf l2, .int l3, .int (nI (ln σ a2)), .int (((nI (ln σ a2)) - 1) &&& (FI σ 84 a6)), va_rf (FR σ 87 a6), va_rf (AR σ a2 (((nI (ln σ a2)) - 1) &&& (FI σ 84 a6)).toNatClampNeg), U_, va_rf (FR σ 87 a6), va_rf (FR σ 93 a6), U_, U_, U_, U_, U_, U_, U_, U_, U_, U_] dJ33_removeTreeNode_63 (Nat.le_of_ble_eq_true rfl) rfl rfl ?_
        obtain ⟨c20, h⟩ := h
        obtain ⟨c21, h⟩ := h
        refine G_aast (a := a2) (kn := 4) 66 dJ33_removeTreeNode_65 rfl e3 c20 (Or.inr rfl) c10 (c21.imp id (fun ⟨b, e, k⟩ => ⟨b, e, eo4 k⟩)) ?_
        generalize hs22 : sAR σ a2 (((nI (ln σ a2)) - 1) &&& (FI σ 84 a6)).toNatClampNeg (FR σ 87 a6) = s22
        have x23 : ∀ a, ¬ kd σ a = 0 → kd s22 a = kd σ a := by subst hs22; exact fun a _ => congrFun kd_sAR a
        have h := h s22 hs22.symm
        refine G_goto 76 dJ33_removeTreeNode_66 (by decide) ?_
        exact h
    · have h := h.2 u5
      exact h
set_option maxHeartbeats 4000000 in
theorem bJ33_removeTreeNode_12 {w : Wt} {K : Sg → Prop} {rc rs : Nat} {σ : Sg} (l0 : Option Nat) (l1 : Option Nat) (l2 : Option Nat) (l3 : Int32) (v4 : Value) (v5 : Value) (v6 : Value) (v7 : Value) (v8 : Value) (v9 : Value) (v10 : Value) (v11 : Value) (v12 : Value) (v13 : Value) (v14 : Value) (v15 : Value) (v16 : Value) (v17 : Value) (v18 : Value) (v19 : Value) (v20 : Value) (h : K σ) : G w mJ33_removeTreeNode (KV K) (rc) (rs) σ 12 [va_rf l0, va_rf l1, va_rf l2, .int l3, v4, v5, v6, v7, v8, v9, v10, v11, v12, v13, v14, v15, v16, v17, v18, v19, v20] [] := by
  exact G_ret dJ33_removeTreeNode_12 rfl ⟨rfl, h⟩
set_option maxHeartbeats 4000000 in
theorem bJ33_removeTreeNode_76 {w : Wt} {K : Sg → Prop} {rc rs : Nat} {σ : Sg} (l0 : Option Nat) (l1 : Option Nat) (l2 : Option Nat) (l3 : Int32) (l4 : Int32) (l5 : Int32) (l6 : Option Nat) (l7 : Option Nat) (v8 : Value) (l9 : Option Nat) (l10 : Option Nat) (v11 : Value) (v12 : Value) (v13 : Value) (v14 : Value) (v15 : Value) (v16 : Value) (v17 : Value) (v18 : Value) (v19 : Value) (v20 : Value) (h : ((l9 = none → G w mJ33_removeTreeNode (KV K) (rc) (rs) σ 88 [va_rf l0, va_rf l1, va_rf l2, .int l3, .int l4, .int l5, va_rf l6, va_rf l7, v8, va_rf l9, va_rf l10, v11, v12, v13, v14, v15, v16, v17, v18, v19, v20] []) ∧ (¬ l9 = none → ∃ a2, l9 = some a2 ∧ kd σ a2 = 32 ∧ ∀ s5, s5 = sFR σ 93 a2 l10 → G w mJ33_removeTreeNode (KV K) (rc) (rs) s5 88 [va_rf l0, va_rf l1, va_rf l2, .int l3, .int l4, .int l5, va_rf l6, va_rf l7, v8, va_rf l9, va_rf l10, v11, v12, v13, v14, v15, v16, v17, v18, v19, v20] []))) : G w mJ33_removeTreeNode (KV K) (rc) (rs) σ 76 [va_rf l0, va_rf l1, va_rf l2, .int l3, .int l4, .int l5, va_rf l6, va_rf l7, v8, va_rf l9, va_rf l10, v11, v12, v13, v14, v15, v16, v17, v18, v19, v20] [] := by
  refine G_aload 78 dJ33_removeTreeNode_76 rfl rfl ?_
  refine G_ifnull 88 81 dJ33_removeTreeNode_78 (by decide) rfl (fun u1 => ?_) (fun u1 => ?_)
  · have h := h.1 u1
    exact h
  · have h := h.2 u1
    refine G_aload 83 dJ33_removeTreeNode_81 rfl rfl ?_
    refine G_aload 85 dJ33_removeTreeNode_83 rfl rfl ?_
    obtain ⟨a2, e3, h⟩ := h
    obtain ⟨c4, h⟩ := h
    refine G_putR (f := 93) (a := a2) "" 88 dJ33_removeTreeNode_85 (Or.inl q1312) (Or.inl rfl) rfl e3 (hp93 c4) (nk93 c4) (Or.inl rfl) (fun y => by cases y <;> rfl) (fun y => by cases y <;> rfl) rfl ?_
    generalize hs5 : sFR σ 93 a2 l10 = s5
    have x6 : ∀ a, ¬ kd σ a = 0 → kd s5 a = kd σ a := by subst hs5; exact fun a _ => congrFun kd_sFR a
    have h := h s5 hs5.symm
    exact h
set_option maxHeartbeats 4000000 in
theorem bJ33_removeTreeNode_88 {w : Wt} {K : Sg → Prop} {rc rs : Nat} {σ : Sg} (l0 : Option Nat) (l1 : Option Nat) (l2 : Option Nat) (l3 : Int32) (l4 : Int32) (l5 : Int32) (l6 : Option Nat) (l7 : Option Nat) (v8 : Value) (l9 : Option Nat) (l10 : Option Nat) (v11 : Value) (v12 : Value) (v13 : Value) (v14 : Value) (v15 : Value) (v16 : Value) (v17 : Value) (v18 : Value) (v19 : Value) (v20 : Value) (h : ((¬ l6 = none → ∃ a2, l7 = some a2 ∧ kd σ a2 = 32 ∧ ((FR σ 90 a2 = none → G w mJ33_removeTreeNode (KV K) (rc) (rs) σ 109 [va_rf l0, va_rf l1, va_rf l2, .int l3, .int l4, .int l5, va_rf l6, va_rf l7, v8, va_rf l9, va_rf l10, v11, v12, v13, v14, v15, v16, v17, v18, v19, v20] []) ∧ (¬ FR σ 90 a2 = none → CalR w mJ33_root σ [va_rf l7] (fun s6 x7 => Ext σ s6 → G w mJ33_removeTreeNode (KV K) (rc) (rs) s6 109 [va_rf l0, va_rf l1, va_rf l2, .int l3, .int l4, .int l5, va_rf l6, va_rf x7, v8, va_rf l9, va_rf l10, v11, v12, v13, v14, v15, v16, v17, v18, v19, v20] [])))) ∧ (l6 = none → K σ))) : G w mJ33_removeTreeNode (KV K) (rc) (rs) σ 88 [va_rf l0, va_rf l1, va_rf l2, .int l3, .int l4, .int l5, va_rf l6, va_rf l7, v8, va_rf l9, va_rf l10, v11, v12, v13, v14, v15, v16, v17, v18, v19, v20] [] := by
  refine G_aload 90 dJ33_removeTreeNode_88 rfl rfl ?_
  refine G_ifnonnull 94 93 dJ33_removeTreeNode_90 (by decide) rfl (fun u1 => ?_) (fun u1 => ?_)
  · have h := h.1 u1
    refine G_aload 96 dJ33_removeTreeNode_94 rfl rfl ?_
    obtain ⟨a2, e3, h⟩ := h
    obtain ⟨c4, h⟩ := h
    refine G_getR (f := 90) (a := a2) "" 99 dJ33_removeTreeNode_96 (Or.inl q1309) (Or.inl rfl) rfl e3 (hf90 c4) rfl ?_
    refine G_ifnull 109 102 dJ33_removeTreeNode_99 (by decide) rfl (fun u5 => ?_) (fun u5 => ?_)
    · have h := h.1 u5
      exact h
    · have h := h.2 u5
      refine G_aload 104 dJ33_removeTreeNode_102 rfl rfl ?_
      refine G_invV (N := mJ33_root) (As := []) (st := []) (t := l7) (b := a2) (rc) (rs) 107 dJ33_removeTreeNode_104 q1287 q1288 q1289 q72 q1290 rfl rfl mJ33_root_args ⟨Nat.le_of_ble_eq_true rfl, Nat.le_of_ble_eq_true rfl⟩ rfl (Nat.zero_le _) e3 (rk32 c4) (le_b mJ33_root_c (Nat.le_refl _)) (le_b mJ33_root_s (Nat.le_refl _)) rfl (Cal.mono h ?_)
      rintro s6 v ⟨x7, rfl, h⟩ hx8
      have h := h hx8
      have x9 := hx8.x
      show G w mJ33_removeTreeNode (KV K) (rc) (rs) s6 107 [va_rf l0, va_rf l1, va_rf l2, .int l3, .int l4, .int l5, va_rf l6, va_rf l7, v8, va_rf l9, va_rf l10, v11, v12, v13, v14, v15, v16, v17, v18, v19, v20] [va_rf x7]
      refine G_astore 109 [va_rf l0, va_rf l1, va_rf l2, .int l3, .int l4, .int l5, va_rf l6, va_rf x7, v8, va_rf l9, va_rf l10, v11, v12, v13, v14, v15, v16, v17, v18, v19, v20] dJ33_removeTreeNode_107 (Nat.le_of_ble_eq_true rfl) rfl rfl ?_
      exact h
  · have h := h.2 u1
    exact G_ret dJ33_removeTreeNode_93 rfl ⟨rfl, h⟩
set_option maxHeartbeats 4000000 in
theorem bJ33_removeTreeNode_109 {w : Wt} {K : Sg → Prop} {rc rs : Nat} {σ : Sg} (l0 : Option Nat) (l1 : Option Nat) (l2 : Option Nat) (l3 : Int32) (l4 : Int32) (l5 : Int32) (l6 : Option Nat) (l7 : Option Nat) (v8 : Value) (l9 : Option Nat) (l10 : Option Nat) (v11 : Value) (v12 : Value) (v13 : Value) (v14 : Value) (v15 : Value) (v16 : Value) (v17 : Value) (v18 : Value) (v19 : Value) (v20 : Value) (h : ((l7 = none → G w mJ33_removeTreeNode (KV K) (rc) (rs) σ 145 [va_rf l0, va_rf l1, va_rf l2, .int l3, .int l4, .int l5, va_rf l6, va_rf l7, v8, va_rf l9, va_rf l10, v11, v12, v13, v14, v15, v16, v17, v18, v19, v20] []) ∧ (¬ l7 = none → ((l3 = 0 → G w mJ33_removeTreeNode (KV K) (rc) (rs) σ 156 [va_rf l0, va_rf l1, va_rf l2, .int l3, .int l4, .int l5, va_rf l6, va_rf l7, v8, va_rf l9, va_rf l10, v11, v12, v13, v14, v15, v16, v17, v18, v19, v20] []) ∧ (¬ l3 = 0 → ∃ a3, l7 = some a3 ∧ kd σ a3 = 32 ∧ ((FR σ 92 a3 = none → G w mJ33_removeTreeNode (KV K) (rc) (rs) σ 145 [va_rf l0, va_rf l1, va_rf l2, .int l3, .int l4, .int l5, va_rf l6, va_rf l7, v8, va_rf l9, va_rf l10, v11, v12, v13, v14, v15, v16, v17, v18, v19, v20] []) ∧ (¬ FR σ 92 a3 = none → ((FR σ 91 a3 = none → G w mJ33_removeTreeNode (KV K) (rc) (rs) σ 145 [va_rf l0, va_rf l1, va_rf l2, .int l3, .int l4, .int l5, va_rf l6, va_rf l7, va_rf (FR σ 91 a3), va_rf l9, va_rf l10, v11, v12, v13, v14, v15, v16, v17, v18, v19, v20] []) ∧ (¬ FR σ 91 a3 = none → ∃ a8, FR σ 91 a3 = some a8 ∧ kd σ a8 = 32 ∧ ((¬ FR σ 91 a8 = none → G w mJ33_removeTreeNode (KV K) (rc) (rs) σ 156 [va_rf l0, va_rf l1, va_rf l2, .int l3, .int l4, .int l5, va_rf l6, va_rf l7, va_rf (FR σ 91 a3), va_rf l9, va_rf l10, v11, v12, v13, v14, v15, v16, v17, v18, v19, v20] []) ∧ (FR σ 91 a8 = none → G w mJ33_removeTreeNode (KV K) (rc) (rs) σ 145 [va_rf l0, va_rf l1, va_rf l2, .int l3, .int l4, .int l5, va_rf l6, va_rf l7, va_rf (FR σ 91 a3), va_rf l9, va_rf l10, v11, v12, v13, v14, v15, v16, v17, v18, v19, v20] []))))))))))) : G w mJ33_removeTreeNode (KV K) (rc) (rs) σ 109 [va_rf l0, va_rf l1, va_rf l2, .int l3, .int l4, .int l5, va_rf l6, va_rf l7, v8, va_rf l9, va_rf l10, v11, v12, v13, v14, v15, v16, v17, v18, v19, v20] [] := by
  refine G_aload 111 dJ33_removeTreeNode_109 rfl rfl ?_
  refine G_ifnull 145 114 dJ33_removeTreeNode_111 (by decide) rfl (fun u1 => ?_) (fun u1 => ?_)
  · have h := h.1 u1
    exact h
  · have h := h.2 u1
    refine G_iload_n 115 dJ33_removeTreeNode_114 rfl rfl ?_
    refine G_if_eq 156 118 dJ33_removeTreeNode_115 (by decide) rfl (fun u2 => ?_) (fun u2 => ?_)
    · have h := h.1 u2
      exact h
    · have h := h.2 u2
      refine G_aload 120 dJ33_removeTreeNode_118 rfl rfl ?_
      obtain ⟨a3, e4, h⟩ := h
      obtain ⟨c5, h⟩ := h
      refine G_getR (f := 92) (a := a3) "" 123 dJ33_removeTreeNode_120 (Or.inl q1311) (Or.inl rfl) rfl e4 (hf92 c5) rfl ?_
      refine G_ifnull 145 126 dJ33_removeTreeNode_123 (by decide) rfl (fun u6 => ?_) (fun u6 => ?_)
      · have h := h.1 u6
        exact h
      · have h := h.2 u6
        refine G_aload 128 dJ33_removeTreeNode_126 rfl rfl ?_
        refine G_getR (f := 91) (a := a3) "" 131 dJ33_removeTreeNode_128 (Or.inl q1310) (Or.inl rfl) rfl e4 (hf91 c5) rfl ?_
        refine G_dup 132 dJ33_removeTreeNode_131 (rf_cat _) rfl ?_
        refine G_astore 134 [va_rf l0, va_rf l1, va_rf l2, .int l3, .int l4, .int l5, va_rf l6, va_rf l7, va_rf (FR σ 91 a3), va_rf l9, va_rf l10, v11, v12, v13, v14, v15, v16, v17, v18, v19, v20] dJ33_removeTreeNode_132 (Nat.le_of_ble_eq_true rfl) rfl rfl ?_
        refine G_ifnull 145 137 dJ33_removeTreeNode_134 (by decide) rfl (fun u7 => ?_) (fun u7 => ?_)
        · have h := h.1 u7
          exact h
        · have h := h.2 u7
          refine G_aload 139 dJ33_removeTreeNode_137 rfl rfl ?_
          obtain ⟨a8, e9, h⟩ := h
          obtain ⟨c10, h⟩ := h
          refine G_getR (f := 91) (a := a8) "" 142 dJ33_removeTreeNode_139 (Or.inl q1310) (Or.inl rfl) rfl e9 (hf91 c10) rfl ?_
          refine G_ifnonnull 156 145 dJ33_removeTreeNode_142 (by decide) rfl (fun u11 => ?_) (fun u11 => ?_)
          · have h := h.1 u11
            exact h
          · have h := h.2 u11
            exact h
set_option maxHeartbeats 4000000 in
theorem bJ33_removeTreeNode_145 {w : Wt} {K : Sg → Prop} {rc rs : Nat} {σ : Sg} (l0 : Option Nat) (l1 : Option Nat) (l2 : Option Nat) (l3 : Int32) (l4 : Int32) (l5 : Int32) (l6 : Option Nat) (l7 : Option Nat) (v8 : Value) (l9 : Option Nat) (l10 : Option Nat) (v11 : Value) (v12 : Value) (v13 : Value) (v14 : Value) (v15 : Value) (v16 : Value) (v17 : Value) (v18 : Value) (v19 : Value) (v20 : Value) (h : ∃ a1, l6 = some a1 ∧ kd σ a1 = 32 ∧ CalR w mJ33_untreeify σ [va_rf l6, va_rf l1] (fun s3 x4 => Ext σ s3 → ∃ a8, l2 = some a8 ∧ kd s3 a8 = 4 ∧ vp_in l5 (ln s3 a8) ∧ (x4 = none ∨ ∃ b, x4 = some b ∧ kd s3 b ∈ [30, 31, 32]) ∧ ∀ s13, s13 = sAR s3 a8 l5.toNatClampNeg x4 → K s13)) : G w mJ33_removeTreeNode (KV K) (rc + 19) (rs + 114) σ 145 [va_rf l0, va_rf l1, va_rf l2, .int l3, .int l4, .int l5, va_rf l6, va_rf l7, v8, va_rf l9, va_rf l10, v11, v12, v13, v14, v15, v16, v17, v18, v19, v20] [] := by
  refine G_aload_n 146 dJ33_removeTreeNode_145 rfl rfl ?_
  refine G_iload 148 dJ33_removeTreeNode_146 rfl rfl ?_
  refine G_aload 150 dJ33_removeTreeNode_148 rfl rfl ?_
  refine G_aload_n 151 dJ33_removeTreeNode_150 rfl rfl ?_
  obtain ⟨a1, e2, h⟩ := h
  obtain ⟨c5, h⟩ := h
  refine G_invV (N := mJ33_untreeify) (As := [va_rf l1]) (st := [.int l5, va_rf l2]) (t := l6) (b := a1) (rc) (rs) 154 dJ33_removeTreeNode_151 q926 q927 q928 q72 q929 rfl rfl mJ33_untreeify_args ⟨Nat.le_of_ble_eq_true rfl, Nat.le_of_ble_eq_true rfl⟩ rfl (Nat.le_trans (w_I (w_R w_0)) (Nat.le_of_ble_eq_true rfl)) e2 (rk32 c5) (le_b mJ33_untreeify_c (Nat.le_refl _)) (le_b mJ33_untreeify_s (Nat.le_refl _)) rfl (Cal.mono h ?_)
  rintro s3 v ⟨x4, rfl, h⟩ hx6
  have h := h hx6
  have x7 := hx6.x
  show G w mJ33_removeTreeNode (KV K) (rc) (rs) s3 154 [va_rf l0, va_rf l1, va_rf l2, .int l3, .int l4, .int l5, va_rf l6, va_rf l7, v8, va_rf l9, va_rf l10, v11, v12, v13, v14, v15, v16, v17, v18, v19, v20] [va_rf x4, .int l5, va_rf l2]
  obtain ⟨a8, e9, h⟩ := h
  obtain ⟨c10, h⟩ := h
  obtain ⟨c11, h⟩ := h
  obtain ⟨c12, h⟩ := h
  refine G_aast (a := a8) (kn := 4) 155 dJ33_removeTreeNode_154 rfl e9 c10 (Or.inr rfl) c11 (c12.imp id (fun ⟨b, e, k⟩ => ⟨b, e, eo4 k⟩)) ?_
  generalize hs13 : sAR s3 a8 l5.toNatClampNeg x4 = s13
  have x14 : ∀ a, ¬ kd s3 a = 0 → kd s13 a = kd s3 a := by subst hs13; exact fun a _ => congrFun kd_sAR a
  have h := h s13 hs13.symm
  exact G_ret dJ33_removeTreeNode_155 rfl ⟨rfl, h⟩
set_option maxHeartbeats 4000000 in
theorem bJ33_removeTreeNode_156 {w : Wt} {K : Sg → Prop} {rc rs : Nat} {σ : Sg} (l0 : Option Nat) (l1 : Option Nat) (l2 : Option Nat) (l3 : Int32) (l4 : Int32) (l5 : Int32) (l6 : Option Nat) (l7 : Option Nat) (v8 : Value) (l9 : Option Nat) (l10 : Option Nat) (v11 : Value) (v12 : Value) (v13 : Value) (v14 : Value) (v15 : Value) (v16 : Value) (v17 : Value) (v18 : Value) (v19 : Value) (v20 : Value) (h : ∃ a1, l0 = some a1 ∧ kd σ a1 = 32 ∧ ((FR σ 91 a1 = none → G w mJ33_removeTreeNode (KV K) (rc) (rs) σ 434 [va_rf l0, va_rf l1, va_rf l2, .int l3, .int l4, .int l5, va_rf l6, va_rf l7, v8, va_rf l9, va_rf l10, va_rf l0, va_rf (FR σ 91 a1), va_rf (FR σ 92 a1), v14, v15, v16, v17, v18, v19, v20] []) ∧ (¬ FR σ 91 a1 = none → ((FR σ 92 a1 = none → G w mJ33_removeTreeNode (KV K) (rc) (rs) σ 434 [va_rf l0, va_rf l1, va_rf l2, .int l3, .int l4, .int l5, va_rf l6, va_rf l7, v8, va_rf l9, va_rf l10, va_rf l0, va_rf (FR σ 91 a1), va_rf (FR σ 92 a1), v14, v15, v16, v17, v18, v19, v20] []) ∧ (¬ FR σ 92 a1 = none → G w mJ33_removeTreeNode (KV K) (rc) (rs) σ 185 [va_rf l0, va_rf l1, va_rf l2, .int l3, .int l4, .int l5, va_rf l6, va_rf l7, v8, va_rf l9, va_rf l10, va_rf l0, va_rf (FR σ 91 a1), va_rf (FR σ 92 a1), v14, va_rf (FR σ 92 a1), v16, v17, v18, v19, v20] []))))) : G w mJ33_removeTreeNode (KV K) (rc) (rs) σ 156 [va_rf l0, va_rf l1, va_rf l2, .int l3, .int l4, .int l5, va_rf l6, va_rf l7, v8, va_rf l9, va_rf l10, v11, v12, v13, v14, v15, v16, v17, v18, v19, v20] [] := by
  refine G_aload_n 157 dJ33_removeTreeNode_156 rfl rfl ?_
  refine G_astore 159 [va_rf l0, va_rf l1, va_rf l2, .int l3, .int l4, .int l5, va_rf l6, va_rf l7, v8, va_rf l9, va_rf l10, va_rf l0, v12, v13, v14, v15, v16, v17, v18, v19, v20] dJ33_removeTreeNode_157 (Nat.le_of_ble_eq_true rfl) rfl rfl ?_
  refine G_aload_n 160 dJ33_removeTreeNode_159 rfl rfl ?_
  obtain ⟨a1, e2, h⟩ := h
  obtain ⟨c3, h⟩ := h
  refine G_getR (f := 91) (a := a1) "" 163 dJ33_removeTreeNode_160 (Or.inl q1310) (Or.inl rfl) rfl e2 (hf91 c3) rfl ?_
  refine G_astore 165 [va_rf l0, va_rf l1, va_rf l2, .int l3, .int l4, .int l5, va_rf l6, va_rf l7, v8, va_rf l9, va_rf l10, va_rf l0, va_rf (FR σ 91 a1), v13, v14, v15, v16, v17, v18, v19, v20] dJ33_removeTreeNode_163 (Nat.le_of_ble_eq_true rfl) rfl rfl ?_
  refine G_aload_n 166 dJ33_removeTreeNode_165 rfl rfl ?_
  refine G_getR (f := 92) (a := a1) "" 169 dJ33_removeTreeNode_166 (Or.inl q1311) (Or.inl rfl) rfl e2 (hf92 c3) rfl ?_
  refine G_astore 171 [va_rf l0, va_rf l1, va_rf l2, .int l3, .int l4, .int l5, va_rf l6, va_rf l7, v8, va_rf l9, va_rf l10, va_rf l0, va_rf (FR σ 91 a1), va_rf (FR σ 92 a1), v14, v15, v16, v17, v18, v19, v20] dJ33_removeTreeNode_169 (Nat.le_of_ble_eq_true rfl) rfl rfl ?_
  refine G_aload 173 dJ33_removeTreeNode_171 rfl rfl ?_
  refine G_ifnull 434 176 dJ33_removeTreeNode_173 (by decide) rfl (fun u4 => ?_) (fun u4 => ?_)
  · have h := h.1 u4
    exact h
  · have h := h.2 u4
    refine G_aload 178 dJ33_removeTreeNode_176 rfl rfl ?_
    refine G_ifnull 434 181 dJ33_removeTreeNode_178 (by decide) rfl (fun u5 => ?_) (fun u5 => ?_)
    · have h := h.1 u5
      exact h
    · have h := h.2 u5
      refine G_aload 183 dJ33_removeTreeNode_181 rfl rfl ?_
      refine G_astore 185 [va_rf l0, va_rf l1, va_rf l2, .int l3, .int l4, .int l5, va_rf l6, va_rf l7, v8, va_rf l9, va_rf l10, va_rf l0, va_rf (FR σ 91 a1), va_rf (FR σ 92 a1), v14, va_rf (FR σ 92 a1), v16, v17, v18, v19, v20] dJ33_removeTreeNode_183 (Nat.le_of_ble_eq_true rfl) rfl rfl ?_
      exact h
set_option maxHeartbeats 4000000 in
theorem bJ33_removeTreeNode_185 {w : Wt} {K : Sg → Prop} {rc rs : Nat} {σ : Sg} (l0 : Option Nat) (l1 : Option Nat) (l2 : Option Nat) (l3 : Int32) (l4 : Int32) (l5 : Int32) (l6 : Option Nat) (l7 : Option Nat) (v8 : Value) (l9 : Option Nat) (l10 : Option Nat) (l11 : Option Nat) (l12 : Option Nat) (l13 : Option Nat) (v14 : Value) (l15 : Option Nat) (v16 : Value) (v17 : Value) (v18 : Value) (v19 : Value) (v20 : Value) (h : ∃ a1, l15 = some a1 ∧ kd σ a1 = 32 ∧ ((FR σ 91 a1 = none → ∃ a5, l11 = some a5 ∧ kd σ a5 = 32 ∧ (FI σ 94 a5 = 0 ∨ FI σ 94 a5 = 1) ∧ ∀ s9, s9 = sFI σ 94 a1 (FI σ 94 a5) → (FI σ 94 a1 = 0 ∨ FI σ 94 a1 = 1) ∧ ∀ s12, s12 = sFI s9 94 a5 (FI σ 94 a1) → ((¬ l15 = l13 → ∀ s15, s15 = sFR s12 90 a5 (FR s12 90 a1) → ((FR s12 90 a1 = none → G w mJ33_removeTreeNode (KV K) (rc) (rs) s15 310 [va_rf l0, va_rf l1, va_rf l2, .int l3, .int l4, .int l5, va_rf l6, va_rf l7, v8, va_rf l9, va_rf l10, va_rf l11, va_rf l12, va_rf l13, v14, va_rf l15, va_rf (FR σ 91 a1), .int (FI σ 94 a1), va_rf (FR s12 92 a1), va_rf (FR s12 90 a5), va_rf (FR s12 90 a1)] []) ∧ (¬ FR s12 90 a1 = none → ∃ a18, FR s12 90 a1 = some a18 ∧ kd s15 a18 = 32 ∧ ((¬ l15 = FR s15 91 a18 → ∀ s22, s22 = sFR s15 92 a18 l11 → G w mJ33_removeTreeNode (KV K) (rc) (rs) s22 310 [va_rf l0, va_rf l1, va_rf l2, .int l3, .int l4, .int l5, va_rf l6, va_rf l7, v8, va_rf l9, va_rf l10, va_rf l11, va_rf l12, va_rf l13, v14, va_rf l15, va_rf (FR σ 91 a1), .int (FI σ 94 a1), va_rf (FR s12 92 a1), va_rf (FR s12 90 a5), va_rf (FR s12 90 a1)] []) ∧ (l15 = FR s15 91 a18 → ∀ s24, s24 = sFR s15 91 a18 l11 → G w mJ33_removeTreeNode (KV K) (rc) (rs) s24 310 [va_rf l0, va_rf l1, va_rf l2, .int l3, .int l4, .int l5, va_rf l6, va_rf l7, v8, va_rf l9, va_rf l10, va_rf l11, va_rf l12, va_rf l13, v14, va_rf l15, va_rf (FR σ 91 a1), .int (FI σ 94 a1), va_rf (FR s12 92 a1), va_rf (FR s12 90 a5), va_rf (FR s12 90 a1)] []))))) ∧ (l15 = l13 → ∀ s26, s26 = sFR s12 90 a5 l15 → ∀ s28, s28 = sFR s26 92 a1 l11 → G w mJ33_removeTreeNode (KV K) (rc) (rs) s28 328 [va_rf l0, va_rf l1, va_rf l2, .int l3, .int l4, .int l5, va_rf l6, va_rf l7, v8, va_rf l9, va_rf l10, va_rf l11, va_rf l12, va_rf l13, v14, va_rf l15, va_rf (FR σ 91 a1), .int (FI σ 94 a1), va_rf (FR s12 92 a1), va_rf (FR s12 90 a5), v20] []))) ∧ (¬ FR σ 91 a1 = none → G w mJ33_removeTreeNode (KV K) (rc) (rs) σ 185 [va_rf l0, va_rf l1, va_rf l2, .int l3, .int l4, .int l5, va_rf l6, va_rf l7, v8, va_rf l9, va_rf l10, va_rf l11, va_rf l12, va_rf l13, v14, va_rf (FR σ 91 a1), va_rf (FR σ 91 a1), v17, v18, v19, v20] []))) : G w mJ33_removeTreeNode (KV K) (rc) (rs) σ 185 [va_rf l0, va_rf l1, va_rf l2, .int l3, .int l4, .int l5, va_rf l6, va_rf l7, v8, va_rf l9, va_rf l10, va_rf l11, va_rf l12, va_rf l13, v14, va_rf l15, v16, v17, v18, v19, v20] [] := by
  refine G_aload 187 dJ33_removeTreeNode_185 rfl rfl ?_
  obtain ⟨a1, e2, h⟩ := h
  obtain ⟨c3, h⟩ := h
  refine G_getR (f := 91) (a := a1) "" 190 dJ33_removeTreeNode_187 (Or.inl q1310) (Or.inl rfl) rfl e2 (hf91 c3) rfl ?_
  refine G_dup 191 dJ33_removeTreeNode_190 (rf_cat _) rfl ?_
  refine G_astore 193 [va_rf l0, va_rf l1, va_rf l2, .int l3, .int l4, .int l5, va_rf l6, va_rf l7, v8, va_rf l9, va_rf l10, va_rf l11, va_rf l12, va_rf l13, v14, va_rf l15, va_rf (FR σ 91 a1), v17, v18, v19, v20] dJ33_removeTreeNode_191 (Nat.le_of_ble_eq_true rfl) rfl rfl ?_
  refine G_ifnull 203 196 dJ33_removeTreeNode_193 (by decide) rfl (fun u4 => ?_) (fun u4 => ?_)
  · have h := h.1 u4
    refine G_aload 205 dJ33_removeTreeNode_203 rfl rfl ?_
    refine G_getI (f := 94) (a := a1) "" 208 dJ33_removeTreeNode_205 (Or.inl q1314) (Or.inl rfl) rfl e2 (hf94 c3) rfl ?_
    refine G_istore 210 [va_rf l0, va_rf l1, va_rf l2, .int l3, .int l4, .int l5, va_rf l6, va_rf l7, v8, va_rf l9, va_rf l10, va_rf l11, va_rf l12, va_rf l13, v14, va_rf l15, va_rf (FR σ 91 a1), .int (FI σ 94 a1), v18, v19, v20] dJ33_removeTreeNode_208 (Nat.le_of_ble_eq_true rfl) rfl rfl ?_
    refine G_aload 212 dJ33_removeTreeNode_210 rfl rfl ?_
    refine G_aload 214 dJ33_removeTreeNode_212 rfl rfl ?_
    obtain ⟨a5, e6, h⟩ := h
    obtain ⟨c7, h⟩ := h
    refine G_getI (f := 94) (a := a5) "" 217 dJ33_removeTreeNode_214 (Or.inl q1314) (Or.inl rfl) rfl e6 (hf94 c7) rfl ?_
    obtain ⟨c8, h⟩ := h
    refine G_putI (f := 94) (a := a1) "" 220 dJ33_removeTreeNode_217 (Or.inl q1314) (Or.inl rfl) rfl e2 (hp94 c3) (nk94 c3) (Or.inl rfl) (nar_bz c8).1 (nar_bz c8).2 rfl ?_
    generalize hs9 : sFI σ 94 a1 (FI σ 94 a5) = s9
    have x10 : ∀ a, ¬ kd σ a = 0 → kd s9 a = kd σ a := by subst hs9; exact fun a _ => congrFun kd_sFI a
    have h := h s9 hs9.symm
    refine G_aload 222 dJ33_removeTreeNode_220 rfl rfl ?_
    refine G_iload 224 dJ33_removeTreeNode_222 rfl rfl ?_
    have c7 := kdE x10 c7 (by decide)
    obtain ⟨c11, h⟩ := h
    refine G_putI (f := 94) (a := a5) "" 227 dJ33_removeTreeNode_224 (Or.inl q1314) (Or.inl rfl) rfl e6 (hp94 c7) (nk94 c7) (Or.inl rfl) (nar_bz c11).1 (nar_bz c11).2 rfl ?_
    generalize hs12 : sFI s9 94 a5 (FI σ 94 a1) = s12
    have x13 : ∀ a, ¬ kd s9 a = 0 → kd s12 a = kd s9 a := by subst hs12; exact fun a _ => congrFun kd_sFI a
    have h := h s12 hs12.symm
    refine G_aload 229 dJ33_removeTreeNode_227 rfl rfl ?_
    have c3 := kdE x10 c3 (by decide)
    have c3 := kdE x13 c3 (by decide)
    refine G_getR (f := 92) (a := a1) "" 232 dJ33_removeTreeNode_229 (Or.inl q1311) (Or.inl rfl) rfl e2 (hf92 c3) rfl ?_
    refine G_astore 234 [va_rf l0, va_rf l1, va_rf l2, .int l3, .int l4, .int l5, va_rf l6, va_rf l7, v8, va_rf l9, va_rf l10, va_rf l11, va_rf l12, va_rf l13, v14, va_rf l15, va_rf (FR σ 91 a1), .int (FI σ 94 a1), va_rf (FR s12 92 a1), v19, v20] dJ33_removeTreeNode_232 (Nat.le_of_ble_eq_true rfl) rfl rfl ?_
    refine G_aload 236 dJ33_removeTreeNode_234 rfl rfl ?_
    have c7 := kdE x13 c7 (by decide)
    refine G_getR (f := 90) (a := a5) "" 239 dJ33_removeTreeNode_236 (Or.inl q1309) (Or.inl rfl) rfl e6 (hf90 c7) rfl ?_
    refine G_astore 241 [va_rf l0, va_rf l1, va_rf l2, .int l3, .int l4, .int l5, va_rf l6, va_rf l7, v8, va_rf l9, va_rf l10, va_rf l11, va_rf l12, va_rf l13, v14, va_rf l15, va_rf (FR σ 91 a1), .int (FI σ 94 a1), va_rf (FR s12 92 a1), va_rf (FR s12 90 a5), v20] dJ33_removeTreeNode_239 (Nat.le_of_ble_eq_true rfl) rfl rfl ?_
    refine G_aload 243 dJ33_removeTreeNode_241 rfl rfl ?_
    refine G_aload 245 dJ33_removeTreeNode_243 rfl rfl ?_
    refine G_acmp_ne 265 248 dJ33_removeTreeNode_245 (by decide) rfl (fun u14 => ?_) (fun u14 => ?_)
    · have h := h.1 u14
      refine G_aload 267 dJ33_removeTreeNode_265 rfl rfl ?_
      refine G_getR (f := 90) (a := a1) "" 270 dJ33_removeTreeNode_267 (Or.inl q1309) (Or.inl rfl) rfl e2 (hf90 c3) rfl ?_
      refine G_astore 272 [va_rf l0, va_rf l1, va_rf l2, .int l3, .int l4, .int l5, va_rf l6, va_rf l7, v8, va_rf l9, va_rf l10, va_rf l11, va_rf l12, va_rf l13, v14, va_rf l15, va_rf (FR σ 91 a1), .int (FI σ 94 a1), va_rf (FR s12 92 a1), va_rf (FR s12 90 a5), va_rf (FR s12 90 a1)] dJ33_removeTreeNode_270 (Nat.le_of_ble_eq_true rfl) rfl rfl ?_
      refine G_aload 274 dJ33_removeTreeNode_272 rfl rfl ?_
      refine G_aload 276 dJ33_removeTreeNode_274 rfl rfl ?_
      refine G_dup_x1 277 dJ33_removeTreeNode_276 (rf_cat _) (rf_cat _) rfl ?_
      refine G_putR (f := 90) (a := a5) "" 280 dJ33_removeTreeNode_277 (Or.inl q1309) (Or.inl rfl) rfl e6 (hp90 c7) (nk90 c7) (Or.inl rfl) (fun y => by cases y <;> rfl) (fun y => by cases y <;> rfl) rfl ?_
      generalize hs15 : sFR s12 90 a5 (FR s12 90 a1) = s15
      have x16 : ∀ a, ¬ kd s12 a = 0 → kd s15 a = kd s12 a := by subst hs15; exact fun a _ => congrFun kd_sFR a
      have h := h s15 hs15.symm
      refine G_ifnull 310 283 dJ33_removeTreeNode_280 (by decide) rfl (fun u17 => ?_) (fun u17 => ?_)
      · have h := h.1 u17
        exact h
      · have h := h.2 u17
        refine G_aload 285 dJ33_removeTreeNode_283 rfl rfl ?_
        refine G_aload 287 dJ33_removeTreeNode_285 rfl rfl ?_
        obtain ⟨a18, e19, h⟩ := h
        obtain ⟨c20, h⟩ := h
        refine G_getR (f := 91) (a := a18) "" 290 dJ33_removeTreeNode_287 (Or.inl q1310) (Or.inl rfl) rfl e19 (hf91 c20) rfl ?_
        refine G_acmp_ne 303 293 dJ33_removeTreeNode_290 (by decide) rfl (fun u21 => ?_) (fun u21 => ?_)
        · have h := h.1 u21
          refine G_aload 305 dJ33_removeTreeNode_303 rfl rfl ?_
          refine G_aload 307 dJ33_removeTreeNode_305 rfl rfl ?_
          refine G_putR (f := 92) (a := a18) "" 310 dJ33_removeTreeNode_307 (Or.inl q1311) (Or.inl rfl) rfl e19 (hp92 c20) (nk92 c20) (Or.inl rfl) (fun y => by cases y <;> rfl) (fun y => by cases y <;> rfl) rfl ?_
          generalize hs22 : sFR s15 92 a18 l11 = s22
          have x23 : ∀ a, ¬ kd s15 a = 0 → kd s22 a = kd s15 a := by subst hs22; exact fun a _ => congrFun kd_sFR a
          have h := h s22 hs22.symm
          exact h
        · have h := h.2 u21
          refine G_aload 295 dJ33_removeTreeNode_293 rfl rfl ?_
          refine G_aload 297 dJ33_removeTreeNode_295 rfl rfl ?_
          refine G_putR (f := 91) (a := a18) "" 300 dJ33_removeTreeNode_297 (Or.inl q1310) (Or.inl rfl) rfl e19 (hp91 c20) (nk91 c20) (Or.inl rfl) (fun y => by cases y <;> rfl) (fun y => by cases y <;> rfl) rfl ?_
          generalize hs24 : sFR s15 91 a18 l11 = s24
          have x25 : ∀ a, ¬ kd s15 a = 0 → kd s24 a = kd s15 a := by subst hs24; exact fun a _ => congrFun kd_sFR a
          have h := h s24 hs24.symm
          refine G_goto 310 dJ33_removeTreeNode_300 (by decide) ?_
          exact h
    · have h := h.2 u14
      refine G_aload 250 dJ33_removeTreeNode_248 rfl rfl ?_
      refine G_aload 252 dJ33_removeTreeNode_250 rfl rfl ?_
      refine G_putR (f := 90) (a := a5) "" 255 dJ33_removeTreeNode_252 (Or.inl q1309) (Or.inl rfl) rfl e6 (hp90 c7) (nk90 c7) (Or.inl rfl) (fun y => by cases y <;> rfl) (fun y => by cases y <;> rfl) rfl ?_
      generalize hs26 : sFR s12 90 a5 l15 = s26
      have x27 : ∀ a, ¬ kd s12 a = 0 → kd s26 a = kd s12 a := by subst hs26; exact fun a _ => congrFun kd_sFR a
      have h := h s26 hs26.symm
      refine G_aload 257 dJ33_removeTreeNode_255 rfl rfl ?_
      refine G_aload 259 dJ33_removeTreeNode_257 rfl rfl ?_
      have c3 := kdE x27 c3 (by decide)
      refine G_putR (f := 92) (a := a1) "" 262 dJ33_removeTreeNode_259 (Or.inl q1311) (Or.inl rfl) rfl e2 (hp92 c3) (nk92 c3) (Or.inl rfl) (fun y => by cases y <;> rfl) (fun y => by cases y <;> rfl) rfl ?_
      generalize hs28 : sFR s26 92 a1 l11 = s28
      have x29 : ∀ a, ¬ kd s26 a = 0 → kd s28 a = kd s26 a := by subst hs28; exact fun a _ => congrFun kd_sFR a
      have h := h s28 hs28.symm
      refine G_goto 328 dJ33_removeTreeNode_262 (by decide) ?_
      exact h
  · have h := h.2 u4
    refine G_aload 198 dJ33_removeTreeNode_196 rfl rfl ?_
    refine G_astore 200 [va_rf l0, va_rf l1, va_rf l2, .int l3, .int l4, .int l5, va_rf l6, va_rf l7, v8, va_rf l9, va_rf l10, va_rf l11, va_rf l12, va_rf l13, v14, va_rf (FR σ 91 a1), va_rf (FR σ 91 a1), v17, v18, v19, v20] dJ33_removeTreeNode_198 (Nat.le_of_ble_eq_true rfl) rfl rfl ?_
    refine G_goto 185 dJ33_removeTreeNode_200 (by decide) ?_
    exact h
set_option maxHeartbeats 4000000 in
theorem bJ33_removeTreeNode_310 {w : Wt} {K : Sg → Prop} {rc rs : Nat} {σ : Sg} (l0 : Option Nat) (l1 : Option Nat) (l2 : Option Nat) (l3 : Int32) (l4 : Int32) (l5 : Int32) (l6 : Option Nat) (l7 : Option Nat) (v8 : Value) (l9 : Option Nat) (l10 : Option Nat) (l11 : Option Nat) (l12 : Option Nat) (l13 : Option Nat) (v14 : Value) (l15 : Option Nat) (l16 : Option Nat) (l17 : Int32) (l18 : Option Nat) (l19 : Option Nat) (l20 : Option Nat) (h : ∃ a1, l15 = some a1 ∧ kd σ a1 = 32 ∧ ∀ s4, s4 = sFR σ 92 a1 l13 → ((l13 = none → G w mJ33_removeTreeNode (KV K) (rc) (rs) s4 328 [va_rf l0, va_rf l1, va_rf l2, .int l3, .int l4, .int l5, va_rf l6, va_rf l7, v8, va_rf l9, va_rf l10, va_rf l11, va_rf l12, va_rf l13, v14, va_rf l15, va_rf l16, .int l17, va_rf l18, va_rf l19, va_rf l20] []) ∧ (¬ l13 = none → ∃ a7, l13 = some a7 ∧ kd s4 a7 = 32 ∧ ∀ s10, s10 = sFR s4 90 a7 l15 → G w mJ33_removeTreeNode (KV K) (rc) (rs) s10 328 [va_rf l0, va_rf l1, va_rf l2, .int l3, .int l4, .int l5, va_rf l6, va_rf l7, v8, va_rf l9, va_rf l10, va_rf l11, va_rf l12, va_rf l13, v14, va_rf l15, va_rf l16, .int l17, va_rf l18, va_rf l19, va_rf l20] []))) : G w mJ33_removeTreeNode (KV K) (rc) (rs) σ 310 [va_rf l0, va_rf l1, va_rf l2, .int l3, .int l4, .int l5, va_rf l6, va_rf l7, v8, va_rf l9, va_rf l10, va_rf l11, va_rf l12, va_rf l13, v14, va_rf l15, va_rf l16, .int l17, va_rf l18, va_rf l19, va_rf l20] [] := by
  refine G_aload 312 dJ33_removeTreeNode_310 rfl rfl ?_
  refine G_aload 314 dJ33_removeTreeNode_312 rfl rfl ?_
  refine G_dup_x1 315 dJ33_removeTreeNode_314 (rf_cat _) (rf_cat _) rfl ?_
  obtain ⟨a1, e2, h⟩ := h
  obtain ⟨c3, h⟩ := h
  refine G_putR (f := 92) (a := a1) "" 318 dJ33_removeTreeNode_315 (Or.inl q1311) (Or.inl rfl) rfl e2 (hp92 c3) (nk92 c3) (Or.inl rfl) (fun y => by cases y <;> rfl) (fun y => by cases y <;> rfl) rfl ?_
  generalize hs4 : sFR σ 92 a1 l13 = s4
  have x5 : ∀ a, ¬ kd σ a = 0 → kd s4 a = kd σ a := by subst hs4; exact fun a _ => congrFun kd_sFR a
  have h := h s4 hs4.symm
  refine G_ifnull 328 321 dJ33_removeTreeNode_318 (by decide) rfl (fun u6 => ?_) (fun u6 => ?_)
  · have h := h.1 u6
    exact h
  · have h := h.2 u6
    refine G_aload 323 dJ33_removeTreeNode_321 rfl rfl ?_
    refine G_aload 325 dJ33_removeTreeNode_323 rfl rfl ?_
    obtain ⟨a7, e8, h⟩ := h
    obtain ⟨c9, h⟩ := h
    refine G_putR (f := 90) (a := a7) "" 328 dJ33_removeTreeNode_325 (Or.inl q1309) (Or.inl rfl) rfl e8 (hp90 c9) (nk90 c9) (Or.inl rfl) (fun y => by cases y <;> rfl) (fun y => by cases y <;> rfl) rfl ?_
    generalize hs10 : sFR s4 90 a7 l15 = s10
    have x11 : ∀ a, ¬ kd s4 a = 0 → kd s10 a = kd s4 a := by subst hs10; exact fun a _ => congrFun kd_sFR a
    have h := h s10 hs10.symm
    exact h
set_option maxHeartbeats 4000000 in
theorem bJ33_removeTreeNode_328 {w : Wt} {K : Sg → Prop} {rc rs : Nat} {σ : Sg} (l0 : Option Nat) (l1 : Option Nat) (l2 : Option Nat) (l3 : Int32) (l4 : Int32) (l5 : Int32) (l6 : Option Nat) (l7 : Option Nat) (v8 : Value) (l9 : Option Nat) (l10 : Option Nat) (l11 : Option Nat) (l12 : Option Nat) (l13 : Option Nat) (v14 : Value) (l15 : Option Nat) (l16 : Option Nat) (l17 : Int32) (l18 : Option Nat) (l19 : Option Nat) (v20 : Value) (h : ∃ a1, l11 = some a1 ∧ kd σ a1 = 32 ∧ ∀ s4, s4 = sFR σ 91 a1 none → ∀ s6, s6 = sFR s4 92 a1 l18 → ((l18 = none → G w mJ33_removeTreeNode (KV K) (rc) (rs) s6 352 [va_rf l0, va_rf l1, va_rf l2, .int l3, .int l4, .int l5, va_rf l6, va_rf l7, v8, va_rf l9, va_rf l10, va_rf l11, va_rf l12, va_rf l13, v14, va_rf l15, va_rf l16, .int l17, va_rf l18, va_rf l19, v20] []) ∧ (¬ l18 = none → ∃ a9, l18 = some a9 ∧ kd s6 a9 = 32 ∧ ∀ s12, s12 = sFR s6 90 a9 l11 → G w mJ33_removeTreeNode (KV K) (rc) (rs) s12 352 [va_rf l0, va_rf l1, va_rf l2, .int l3, .int l4, .int l5, va_rf l6, va_rf l7, v8, va_rf l9, va_rf l10, va_rf l11, va_rf l12, va_rf l13, v14, va_rf l15, va_rf l16, .int l17, va_rf l18, va_rf l19, v20] []))) : G w mJ33_removeTreeNode (KV K) (rc) (rs) σ 328 [va_rf l0, va_rf l1, va_rf l2, .int l3, .int l4, .int l5, va_rf l6, va_rf l7, v8, va_rf l9, va_rf l10, va_rf l11, va_rf l12, va_rf l13, v14, va_rf l15, va_rf l16, .int l17, va_rf l18, va_rf l19, v20] [] := by
  refine G_aload 330 dJ33_removeTreeNode_328 rfl rfl ?_
  refine G_null 331 dJ33_removeTreeNode_330 rfl ?_
  obtain ⟨a1, e2, h⟩ := h
  obtain ⟨c3, h⟩ := h
  refine G_putR (f := 91) (a := a1) "" 334 dJ33_removeTreeNode_331 (Or.inl q1310) (Or.inl rfl) rfl e2 (hp91 c3) (nk91 c3) (Or.inl rfl) (fun y => by cases y <;> rfl) (fun y => by cases y <;> rfl) rfl ?_
  generalize hs4 : sFR σ 91 a1 none = s4
  have x5 : ∀ a, ¬ kd σ a = 0 → kd s4 a = kd σ a := by subst hs4; exact fun a _ => congrFun kd_sFR a
  have h := h s4 hs4.symm
  refine G_aload 336 dJ33_removeTreeNode_334 rfl rfl ?_
  refine G_aload 338 dJ33_removeTreeNode_336 rfl rfl ?_
  refine G_dup_x1 339 dJ33_removeTreeNode_338 (rf_cat _) (rf_cat _) rfl ?_
  have c3 := kdE x5 c3 (by decide)
  refine G_putR (f := 92) (a := a1) "" 342 dJ33_removeTreeNode_339 (Or.inl q1311) (Or.inl rfl) rfl e2 (hp92 c3) (nk92 c3) (Or.inl rfl) (fun y => by cases y <;> rfl) (fun y => by cases y <;> rfl) rfl ?_
  generalize hs6 : sFR s4 92 a1 l18 = s6
  have x7 : ∀ a, ¬ kd s4 a = 0 → kd s6 a = kd s4 a := by subst hs6; exact fun a _ => congrFun kd_sFR a
  have h := h s6 hs6.symm
  refine G_ifnull 352 345 dJ33_removeTreeNode_342 (by decide) rfl (fun u8 => ?_) (fun u8 => ?_)
  · have h := h.1 u8
    exact h
  · have h := h.2 u8
    refine G_aload 347 dJ33_removeTreeNode_345 rfl rfl ?_
    refine G_aload 349 dJ33_removeTreeNode_347 rfl rfl ?_
    obtain ⟨a9, e10, h⟩ := h
    obtain ⟨c11, h⟩ := h
    refine G_putR (f := 90) (a := a9) "" 352 dJ33_removeTreeNode_349 (Or.inl q1309) (Or.inl rfl) rfl e10 (hp90 c11) (nk90 c11) (Or.inl rfl) (fun y => by cases y <;> rfl) (fun y => by cases y <;> rfl) rfl ?_
    generalize hs12 : sFR s6 90 a9 l11 = s12
    have x13 : ∀ a, ¬ kd s6 a = 0 → kd s12 a = kd s6 a := by subst hs12; exact fun a _ => congrFun kd_sFR a
    have h := h s12 hs12.symm
    exact h
set_option maxHeartbeats 4000000 in
theorem bJ33_removeTreeNode_352 {w : Wt} {K : Sg → Prop} {rc rs : Nat} {σ : Sg} (l0 : Option Nat) (l1 : Option Nat) (l2 : Option Nat) (l3 : Int32) (l4 : Int32) (l5 : Int32) (l6 : Option Nat) (l7 : Option Nat) (v8 : Value) (l9 : Option Nat) (l10 : Option Nat) (l11 : Option Nat) (l12 : Option Nat) (l13 : Option Nat) (v14 : Value) (l15 : Option Nat) (l16 : Option Nat) (l17 : Int32) (l18 : Option Nat) (l19 : Option Nat) (v20 : Value) (h : ∃ a1, l15 = some a1 ∧ kd σ a1 = 32 ∧ ∀ s4, s4 = sFR σ 91 a1 l12 → ((l12 = none → G w mJ33_removeTreeNode (KV K) (rc) (rs) s4 370 [va_rf l0, va_rf l1, va_rf l2, .int l3, .int l4, .int l5, va_rf l6, va_rf l7, v8, va_rf l9, va_rf l10, va_rf l11, va_rf l12, va_rf l13, v14, va_rf l15, va_rf l16, .int l17, va_rf l18, va_rf l19, v20] []) ∧ (¬ l12 = none → ∃ a7, l12 = some a7 ∧ kd s4 a7 = 32 ∧ ∀ s10, s10 = sFR s4 90 a7 l15 → G w mJ33_removeTreeNode (KV K) (rc) (rs) s10 370 [va_rf l0, va_rf l1, va_rf l2, .int l3, .int l4, .int l5, va_rf l6, va_rf l7, v8, va_rf l9, va_rf l10, va_rf l11, va_rf l12, va_rf l13, v14, va_rf l15, va_rf l16, .int l17, va_rf l18, va_rf l19, v20] []))) : G w mJ33_removeTreeNode (KV K) (rc) (rs) σ 352 [va_rf l0, va_rf l1, va_rf l2, .int l3, .int l4, .int l5, va_rf l6, va_rf l7, v8, va_rf l9, va_rf l10, va_rf l11, va_rf l12, va_rf l13, v14, va_rf l15, va_rf l16, .int l17, va_rf l18, va_rf l19, v20] [] := by
  refine G_aload 354 dJ33_removeTreeNode_352 rfl rfl ?_
  refine G_aload 356 dJ33_removeTreeNode_354 rfl rfl ?_
  refine G_dup_x1 357 dJ33_removeTreeNode_356 (rf_cat _) (rf_cat _) rfl ?_
  obtain ⟨a1, e2, h⟩ := h
  obtain ⟨c3, h⟩ := h
  refine G_putR (f := 91) (a := a1) "" 360 dJ33_removeTreeNode_357 (Or.inl q1310) (Or.inl rfl) rfl e2 (hp91 c3) (nk91 c3) (Or.inl rfl) (fun y => by cases y <;> rfl) (fun y => by cases y <;> rfl) rfl ?_
  generalize hs4 : sFR σ 91 a1 l12 = s4
  have x5 : ∀ a, ¬ kd σ a = 0 → kd s4 a = kd σ a := by subst hs4; exact fun a _ => congrFun kd_sFR a
  have h := h s4 hs4.symm
  refine G_ifnull 370 363 dJ33_removeTreeNode_360 (by decide) rfl (fun u6 => ?_) (fun u6 => ?_)
  · have h := h.1 u6
    exact h
  · have h := h.2 u6
    refine G_aload 365 dJ33_removeTreeNode_363 rfl rfl ?_
    refine G_aload 367 dJ33_removeTreeNode_365 rfl rfl ?_
    obtain ⟨a7, e8, h⟩ := h
    obtain ⟨c9, h⟩ := h
    refine G_putR (f := 90) (a := a7) "" 370 dJ33_removeTreeNode_367 (Or.inl q1309) (Or.inl rfl) rfl e8 (hp90 c9) (nk90 c9) (Or.inl rfl) (fun y => by cases y <;> rfl) (fun y => by cases y <;> rfl) rfl ?_
    generalize hs10 : sFR s4 90 a7 l15 = s10
    have x11 : ∀ a, ¬ kd s4 a = 0 → kd s10 a = kd s4 a := by subst hs10; exact fun a _ => congrFun kd_sFR a
    have h := h s10 hs10.symm
    exact h
set_option maxHeartbeats 4000000 in
theorem bJ33_removeTreeNode_370 {w : Wt} {K : Sg → Prop} {rc rs : Nat} {σ : Sg} (l0 : Option Nat) (l1 : Option Nat) (l2 : Option Nat) (l3 : Int32) (l4 : Int32) (l5 : Int32) (l6 : Option Nat) (l7 : Option Nat) (v8 : Value) (l9 : Option Nat) (l10 : Option Nat) (l11 : Option Nat) (l12 : Option Nat) (l13 : Option Nat) (v14 : Value) (l15 : Option Nat) (l16 : Option Nat) (l17 : Int32) (l18 : Option Nat) (l19 : Option Nat) (v20 : Value) (h : ∃ a1, l15 = some a1 ∧ kd σ a1 = 32 ∧ ∀ s4, s4 = sFR σ 90 a1 l19 → ((¬ l19 = none → ∃ a7, l19 = some a7 ∧ kd s4 a7 = 32 ∧ ((¬ l11 = FR s4 91 a7 → ∀ s11, s11 = sFR s4 92 a7 l15 → G w mJ33_removeTreeNode (KV K) (rc) (rs) s11 415 [va_rf l0, va_rf l1, va_rf l2, .int l3, .int l4, .int l5, va_rf l6, va_rf l7, v8, va_rf l9, va_rf l10, va_rf l11, va_rf l12, va_rf l13, v14, va_rf l15, va_rf l16, .int l17, va_rf l18, va_rf l19, v20] []) ∧ (l11 = FR s4 91 a7 → ∀ s13, s13 = sFR s4 91 a7 l15 → G w mJ33_removeTreeNode (KV K) (rc) (rs) s13 415 [va_rf l0, va_rf l1, va_rf l2, .int l3, .int l4, .int l5, va_rf l6, va_rf l7, v8, va_rf l9, va_rf l10, va_rf l11, va_rf l12, va_rf l13, v14, va_rf l15, va_rf l16, .int l17, va_rf l18, va_rf l19, v20] []))) ∧ (l19 = none → G w mJ33_removeTreeNode (KV K) (rc) (rs) s4 415 [va_rf l0, va_rf l1, va_rf l2, .int l3, .int l4, .int l5, va_rf l6, va_rf l15, v8, va_rf l9, va_rf l10, va_rf l11, va_rf l12, va_rf l13, v14, va_rf l15, va_rf l16, .int l17, va_rf l18, va_rf l19, v20] []))) : G w mJ33_removeTreeNode (KV K) (rc) (rs) σ 370 [va_rf l0, va_rf l1, va_rf l2, .int l3, .int l4, .int l5, va_rf l6, va_rf l7, v8, va_rf l9, va_rf l10, va_rf l11, va_rf l12, va_rf l13, v14, va_rf l15, va_rf l16, .int l17, va_rf l18, va_rf l19, v20] [] := by
  refine G_aload 372 dJ33_removeTreeNode_370 rfl rfl ?_
  refine G_aload 374 dJ33_removeTreeNode_372 rfl rfl ?_
  refine G_dup_x1 375 dJ33_removeTreeNode_374 (rf_cat _) (rf_cat _) rfl ?_
  obtain ⟨a1, e2, h⟩ := h
  obtain ⟨c3, h⟩ := h
  refine G_putR (f := 90) (a := a1) "" 378 dJ33_removeTreeNode_375 (Or.inl q1309) (Or.inl rfl) rfl e2 (hp90 c3) (nk90 c3) (Or.inl rfl) (fun y => by cases y <;> rfl) (fun y => by cases y <;> rfl) rfl ?_
  generalize hs4 : sFR σ 90 a1 l19 = s4
  have x5 : ∀ a, ¬ kd σ a = 0 → kd s4 a = kd σ a := by subst hs4; exact fun a _ => congrFun kd_sFR a
  have h := h s4 hs4.symm
  refine G_ifnonnull 388 381 dJ33_removeTreeNode_378 (by decide) rfl (fun u6 => ?_) (fun u6 => ?_)
  · have h := h.1 u6
    refine G_aload 390 dJ33_removeTreeNode_388 rfl rfl ?_
    refine G_aload 392 dJ33_removeTreeNode_390 rfl rfl ?_
    obtain ⟨a7, e8, h⟩ := h
    obtain ⟨c9, h⟩ := h
    refine G_getR (f := 91) (a := a7) "" 395 dJ33_removeTreeNode_392 (Or.inl q1310) (Or.inl rfl) rfl e8 (hf91 c9) rfl ?_
    refine G_acmp_ne 408 398 dJ33_removeTreeNode_395 (by decide) rfl (fun u10 => ?_) (fun u10 => ?_)
    · have h := h.1 u10
      refine G_aload 410 dJ33_removeTreeNode_408 rfl rfl ?_
      refine G_aload 412 dJ33_removeTreeNode_410 rfl rfl ?_
      refine G_putR (f := 92) (a := a7) "" 415 dJ33_removeTreeNode_412 (Or.inl q1311) (Or.inl rfl) rfl e8 (hp92 c9) (nk92 c9) (Or.inl rfl) (fun y => by cases y <;> rfl) (fun y => by cases y <;> rfl) rfl ?_
      generalize hs11 : sFR s4 92 a7 l15 = s11
      have x12 : ∀ a, ¬ kd s4 a = 0 → kd s11 a = kd s4 a := by subst hs11; exact fun a _ => congrFun kd_sFR a
      have h := h s11 hs11.symm
      exact h
    · have h := h.2 u10
      refine G_aload 400 dJ33_removeTreeNode_398 rfl rfl ?_
      refine G_aload 402 dJ33_removeTreeNode_400 rfl rfl ?_
      refine G_putR (f := 91) (a := a7) "" 405 dJ33_removeTreeNode_402 (Or.inl q1310) (Or.inl rfl) rfl e8 (hp91 c9) (nk91 c9) (Or.inl rfl) (fun y => by cases y <;> rfl) (fun y => by cases y <;> rfl) rfl ?_
      generalize hs13 : sFR s4 91 a7 l15 = s13
      have x14 : ∀ a, ¬ kd s4 a = 0 → kd s13 a = kd s4 a := by subst hs13; exact fun a _ => congrFun kd_sFR a
      have h := h s13 hs13.symm
      refine G_goto 415 dJ33_removeTreeNode_405 (by decide) ?_
      exact h
  · have h := h.2 u6
    refine G_aload 383 dJ33_removeTreeNode_381 rfl rfl ?_
    refine G_astore 385 [va_rf l0, va_rf l1, va_rf l2, .int l3, .int l4, .int l5, va_rf l6, va_rf l15, v8, va_rf l9, va_rf l10, va_rf l11, va_rf l12, va_rf l13, v14, va_rf l15, va_rf l16, .int l17, va_rf l18, va_rf l19, v20] dJ33_removeTreeNode_383 (Nat.le_of_ble_eq_true rfl) rfl rfl ?_
    refine G_goto 415 dJ33_removeTreeNode_385 (by decide) ?_
    exact h
set_option maxHeartbeats 4000000 in
theorem bJ33_removeTreeNode_415 {w : Wt} {K : Sg → Prop} {rc rs : Nat} {σ : Sg} (l0 : Option Nat) (l1 : Option Nat) (l2 : Option Nat) (l3 : Int32) (l4 : Int32) (l5 : Int32) (l6 : Option Nat) (l7 : Option Nat) (v8 : Value) (l9 : Option Nat) (l10 : Option Nat) (l11 : Option Nat) (l12 : Option Nat) (l13 : Option Nat) (v14 : Value) (l15 : Option Nat) (l16 : Option Nat) (l17 : Int32) (l18 : Option Nat) (l19 : Option Nat) (v20 : Value) (h : ((l18 = none → G w mJ33_removeTreeNode (KV K) (rc) (rs) σ 431 [va_rf l0, va_rf l1, va_rf l2, .int l3, .int l4, .int l5, va_rf l6, va_rf l7, v8, va_rf l9, va_rf l10, va_rf l11, va_rf l12, va_rf l13, va_rf l11, va_rf l15, va_rf l16, .int l17, va_rf l18, va_rf l19, v20] []) ∧ (¬ l18 = none → G w mJ33_removeTreeNode (KV K) (rc) (rs) σ 431 [va_rf l0, va_rf l1, va_rf l2, .int l3, .int l4, .int l5, va_rf l6, va_rf l7, v8, va_rf l9, va_rf l10, va_rf l11, va_rf l12, va_rf l13, va_rf l18, va_rf l15, va_rf l16, .int l17, va_rf l18, va_rf l19, v20] []))) : G w mJ33_removeTreeNode (KV K) (rc) (rs) σ 415 [va_rf l0, va_rf l1, va_rf l2, .int l3, .int l4, .int l5, va_rf l6, va_rf l7, v8, va_rf l9, va_rf l10, va_rf l11, va_rf l12, va_rf l13, v14, va_rf l15, va_rf l16, .int l17, va_rf l18, va_rf l19, v20] [] := by
  refine G_aload 417 dJ33_removeTreeNode_415 rfl rfl ?_
  refine G_ifnull 427 420 dJ33_removeTreeNode_417 (by decide) rfl (fun u1 => ?_) (fun u1 => ?_)
  · have h := h.1 u1
    refine G_aload 429 dJ33_removeTreeNode_427 rfl rfl ?_
    refine G_astore 431 [va_rf l0, va_rf l1, va_rf l2, .int l3, .int l4, .int l5, va_rf l6, va_rf l7, v8, va_rf l9, va_rf l10, va_rf l11, va_rf l12, va_rf l13, va_rf l11, va_rf l15, va_rf l16, .int l17, va_rf l18, va_rf l19, v20] dJ33_removeTreeNode_429 (Nat.le_of_ble_eq_true rfl) rfl rfl ?_
    exact h
  · have h := h.2 u1
    refine G_aload 422 dJ33_removeTreeNode_420 rfl rfl ?_
    refine G_astore 424 [va_rf l0, va_rf l1, va_rf l2, .int l3, .int l4, .int l5, va_rf l6, va_rf l7, v8, va_rf l9, va_rf l10, va_rf l11, va_rf l12, va_rf l13, va_rf l18, va_rf l15, va_rf l16, .int l17, va_rf l18, va_rf l19, v20] dJ33_removeTreeNode_422 (Nat.le_of_ble_eq_true rfl) rfl rfl ?_
    refine G_goto 431 dJ33_removeTreeNode_424 (by decide) ?_
    exact h
set_option maxHeartbeats 4000000 in
theorem bJ33_removeTreeNode_431 {w : Wt} {K : Sg → Prop} {rc rs : Nat} {σ : Sg} (l0 : Option Nat) (l1 : Option Nat) (l2 : Option Nat) (l3 : Int32) (l4 : Int32) (l5 : Int32) (l6 : Option Nat) (l7 : Option Nat) (v8 : Value) (l9 : Option Nat) (l10 : Option Nat) (l11 : Option Nat) (l12 : Option Nat) (l13 : Option Nat) (l14 : Option Nat) (l15 : Option Nat) (l16 : Option Nat) (l17 : Int32) (l18 : Option Nat) (l19 : Option Nat) (v20 : Value) (h : G w mJ33_removeTreeNode (KV K) (rc) (rs) σ 462 [va_rf l0, va_rf l1, va_rf l2, .int l3, .int l4, .int l5, va_rf l6, va_rf l7, v8, va_rf l9, va_rf l10, va_rf l11, va_rf l12, va_rf l13, va_rf l14, va_rf l15, va_rf l16, .int l17, va_rf l18, va_rf l19, v20] []) : G w mJ33_removeTreeNode (KV K) (rc) (rs) σ 431 [va_rf l0, va_rf l1, va_rf l2, .int l3, .int l4, .int l5, va_rf l6, va_rf l7, v8, va_rf l9, va_rf l10, va_rf l11, va_rf l12, va_rf l13, va_rf l14, va_rf l15, va_rf l16, .int l17, va_rf l18, va_rf l19, v20] [] := by
  refine G_goto 462 dJ33_removeTreeNode_431 (by decide) ?_
  exact h
set_option maxHeartbeats 4000000 in
theorem bJ33_removeTreeNode_434 {w : Wt} {K : Sg → Prop} {rc rs : Nat} {σ : Sg} (l0 : Option Nat) (l1 : Option Nat) (l2 : Option Nat) (l3 : Int32) (l4 : Int32) (l5 : Int32) (l6 : Option Nat) (l7 : Option Nat) (v8 : Value) (l9 : Option Nat) (l10 : Option Nat) (l11 : Option Nat) (l12 : Option Nat) (l13 : Option Nat) (v14 : Value) (v15 : Value) (v16 : Value) (v17 : Value) (v18 : Value) (v19 : Value) (v20 : Value) (h : ((l12 = none → ((l13 = none → G w mJ33_removeTreeNode (KV K) (rc) (rs) σ 462 [va_rf l0, va_rf l1, va_rf l2, .int l3, .int l4, .int l5, va_rf l6, va_rf l7, v8, va_rf l9, va_rf l10, va_rf l11, va_rf l12, va_rf l13, va_rf l11, v15, v16, v17, v18, v19, v20] []) ∧ (¬ l13 = none → G w mJ33_removeTreeNode (KV K) (rc) (rs) σ 462 [va_rf l0, va_rf l1, va_rf l2, .int l3, .int l4, .int l5, va_rf l6, va_rf l7, v8, va_rf l9, va_rf l10, va_rf l11, va_rf l12, va_rf l13, va_rf l13, v15, v16, v17, v18, v19, v20] []))) ∧ (¬ l12 = none → G w mJ33_removeTreeNode (KV K) (rc) (rs) σ 462 [va_rf l0, va_rf l1, va_rf l2, .int l3, .int l4, .int l5, va_rf l6, va_rf l7, v8, va_rf l9, va_rf l10, va_rf l11, va_rf l12, va_rf l13, va_rf l12, v15, v16, v17, v18, v19, v20] []))) : G w mJ33_removeTreeNode (KV K) (rc) (rs) σ 434 [va_rf l0, va_rf l1, va_rf l2, .int l3, .int l4, .int l5, va_rf l6, va_rf l7, v8, va_rf l9, va_rf l10, va_rf l11, va_rf l12, va_rf l13, v14, v15, v16, v17, v18, v19, v20] [] := by
  refine G_aload 436 dJ33_removeTreeNode_434 rfl rfl ?_
  refine G_ifnull 446 439 dJ33_removeTreeNode_436 (by decide) rfl (fun u1 => ?_) (fun u1 => ?_)
  · have h := h.1 u1
    refine G_aload 448 dJ33_removeTreeNode_446 rfl rfl ?_
    refine G_ifnull 458 451 dJ33_removeTreeNode_448 (by decide) rfl (fun u2 => ?_) (fun u2 => ?_)
    · have h := h.1 u2
      refine G_aload 460 dJ33_removeTreeNode_458 rfl rfl ?_
      refine G_astore 462 [va_rf l0, va_rf l1, va_rf l2, .int l3, .int l4, .int l5, va_rf l6, va_rf l7, v8, va_rf l9, va_rf l10, va_rf l11, va_rf l12, va_rf l13, va_rf l11, v15, v16, v17, v18, v19, v20] dJ33_removeTreeNode_460 (Nat.le_of_ble_eq_true rfl) rfl rfl ?_
      exact h
    · have h := h.2 u2
      refine G_aload 453 dJ33_removeTreeNode_451 rfl rfl ?_
      refine G_astore 455 [va_rf l0, va_rf l1, va_rf l2, .int l3, .int l4, .int l5, va_rf l6, va_rf l7, v8, va_rf l9, va_rf l10, va_rf l11, va_rf l12, va_rf l13, va_rf l13, v15, v16, v17, v18, v19, v20] dJ33_removeTreeNode_453 (Nat.le_of_ble_eq_true rfl) rfl rfl ?_
      refine G_goto 462 dJ33_removeTreeNode_455 (by decide) ?_
      exact h
  · have h := h.2 u1
    refine G_aload 441 dJ33_removeTreeNode_439 rfl rfl ?_
    refine G_astore 443 [va_rf l0, va_rf l1, va_rf l2, .int l3, .int l4, .int l5, va_rf l6, va_rf l7, v8, va_rf l9, va_rf l10, va_rf l11, va_rf l12, va_rf l13, va_rf l12, v15, v16, v17, v18, v19, v20] dJ33_removeTreeNode_441 (Nat.le_of_ble_eq_true rfl) rfl rfl ?_
    refine G_goto 462 dJ33_removeTreeNode_443 (by decide) ?_
    exact h
set_option maxHeartbeats 4000000 in
theorem bJ33_removeTreeNode_462 {w : Wt} {K : Sg → Prop} {rc rs : Nat} {σ : Sg} (l0 : Option Nat) (l1 : Option Nat) (l2 : Option Nat) (l3 : Int32) (l4 : Int32) (l5 : Int32) (l6 : Option Nat) (l7 : Option Nat) (v8 : Value) (l9 : Option Nat) (l10 : Option Nat) (l11 : Option Nat) (l12 : Option Nat) (l13 : Option Nat) (l14 : Option Nat) (v15 : Value) (v16 : Value) (v17 : Value) (v18 : Value) (v19 : Value) (v20 : Value) (h : ((l14 = l11 → G w mJ33_removeTreeNode (KV K) (rc) (rs) σ 544 [va_rf l0, va_rf l1, va_rf l2, .int l3, .int l4, .int l5, va_rf l6, va_rf l7, v8, va_rf l9, va_rf l10, va_rf l11, va_rf l12, va_rf l13, va_rf l14, v15, v16, v17, v18, v19, v20] []) ∧ (¬ l14 = l11 → ∃ a2, l11 = some a2 ∧ kd σ a2 = 32 ∧ ∃ a5, l14 = some a5 ∧ kd σ a5 = 32 ∧ ∀ s8, s8 = sFR σ 90 a5 (FR σ 90 a2) → ((¬ FR σ 90 a2 = none → ∃ a11, FR σ 90 a2 = some a11 ∧ kd s8 a11 = 32 ∧ ((¬ l11 = FR s8 91 a11 → ∀ s15, s15 = sFR s8 92 a11 l14 → G w mJ33_removeTreeNode (KV K) (rc) (rs) s15 526 [va_rf l0, va_rf l1, va_rf l2, .int l3, .int l4, .int l5, va_rf l6, va_rf l7, v8, va_rf l9, va_rf l10, va_rf l11, va_rf l12, va_rf l13, va_rf l14, va_rf (FR σ 90 a2), v16, v17, v18, v19, v20] []) ∧ (l11 = FR s8 91 a11 → ∀ s17, s17 = sFR s8 91 a11 l14 → G w mJ33_removeTreeNode (KV K) (rc) (rs) s17 526 [va_rf l0, va_rf l1, va_rf l2, .int l3, .int l4, .int l5, va_rf l6, va_rf l7, v8, va_rf l9, va_rf l10, va_rf l11, va_rf l12, va_rf l13, va_rf l14, va_rf (FR σ 90 a2), v16, v17, v18, v19, v20] []))) ∧ (FR σ 90 a2 = none → ∀ s19, s19 = sFI s8 94 a5 0 → G w mJ33_removeTreeNode (KV K) (rc) (rs) s19 526 [va_rf l0, va_rf l1, va_rf l2, .int l3, .int l4, .int l5, va_rf l6, va_rf l14, v8, va_rf l9, va_rf l10, va_rf l11, va_rf l12, va_rf l13, va_rf l14, va_rf (FR σ 90 a2), v16, v17, v18, v19, v20] []))))) : G w mJ33_removeTreeNode (KV K) (rc) (rs) σ 462 [va_rf l0, va_rf l1, va_rf l2, .int l3, .int l4, .int l5, va_rf l6, va_rf l7, v8, va_rf l9, va_rf l10, va_rf l11, va_rf l12, va_rf l13, va_rf l14, v15, v16, v17, v18, v19, v20] [] := by
  refine G_aload 464 dJ33_removeTreeNode_462 rfl rfl ?_
  refine G_aload 466 dJ33_removeTreeNode_464 rfl rfl ?_
  refine G_acmp_eq 544 469 dJ33_removeTreeNode_466 (by decide) rfl (fun u1 => ?_) (fun u1 => ?_)
  · have h := h.1 u1
    exact h
  · have h := h.2 u1
    refine G_aload 471 dJ33_removeTreeNode_469 rfl rfl ?_
    refine G_aload 473 dJ33_removeTreeNode_471 rfl rfl ?_
    obtain ⟨a2, e3, h⟩ := h
    obtain ⟨c4, h⟩ := h
    refine G_getR (f := 90) (a := a2) "" 476 dJ33_removeTreeNode_473 (Or.inl q1309) (Or.inl rfl) rfl e3 (hf90 c4) rfl ?_
    refine G_dup_x1 477 dJ33_removeTreeNode_476 (rf_cat _) (rf_cat _) rfl ?_
    obtain ⟨a5, e6, h⟩ := h
    obtain ⟨c7, h⟩ := h
    refine G_putR (f := 90) (a := a5) "" 480 dJ33_removeTreeNode_477 (Or.inl q1309) (Or.inl rfl) rfl e6 (hp90 c7) (nk90 c7) (Or.inl rfl) (fun y => by cases y <;> rfl) (fun y => by cases y <;> rfl) rfl ?_
    generalize hs8 : sFR σ 90 a5 (FR σ 90 a2) = s8
    have x9 : ∀ a, ¬ kd σ a = 0 → kd s8 a = kd σ a := by subst hs8; exact fun a _ => congrFun kd_sFR a
    have h := h s8 hs8.symm
    refine G_astore 482 [va_rf l0, va_rf l1, va_rf l2, .int l3, .int l4, .int l5, va_rf l6, va_rf l7, v8, va_rf l9, va_rf l10, va_rf l11, va_rf l12, va_rf l13, va_rf l14, va_rf (FR σ 90 a2), v16, v17, v18, v19, v20] dJ33_removeTreeNode_480 (Nat.le_of_ble_eq_true rfl) rfl rfl ?_
    refine G_aload 484 dJ33_removeTreeNode_482 rfl rfl ?_
    refine G_ifnonnull 499 487 dJ33_removeTreeNode_484 (by decide) rfl (fun u10 => ?_) (fun u10 => ?_)
    · have h := h.1 u10
      refine G_aload 501 dJ33_removeTreeNode_499 rfl rfl ?_
      refine G_aload 503 dJ33_removeTreeNode_501 rfl rfl ?_
      obtain ⟨a11, e12, h⟩ := h
      obtain ⟨c13, h⟩ := h
      refine G_getR (f := 91) (a := a11) "" 506 dJ33_removeTreeNode_503 (Or.inl q1310) (Or.inl rfl) rfl e12 (hf91 c13) rfl ?_
      refine G_acmp_ne 519 509 dJ33_removeTreeNode_506 (by decide) rfl (fun u14 => ?_) (fun u14 => ?_)
      · have h := h.1 u14
        refine G_aload 521 dJ33_removeTreeNode_519 rfl rfl ?_
        refine G_aload 523 dJ33_removeTreeNode_521 rfl rfl ?_
        refine G_putR (f := 92) (a := a11) "" 526 dJ33_removeTreeNode_523 (Or.inl q1311) (Or.inl rfl) rfl e12 (hp92 c13) (nk92 c13) (Or.inl rfl) (fun y => by cases y <;> rfl) (fun y => by cases y <;> rfl) rfl ?_
        generalize hs15 : sFR s8 92 a11 l14 = s15
        have x16 : ∀ a, ¬ kd s8 a = 0 → kd s15 a = kd s8 a := by subst hs15; exact fun a _ => congrFun kd_sFR a
        have h := h s15 hs15.symm
        exact h
      · have h := h.2 u14
        refine G_aload 511 dJ33_removeTreeNode_509 rfl rfl ?_
        refine G_aload 513 dJ33_removeTreeNode_511 rfl rfl ?_
        refine G_putR (f := 91) (a := a11) "" 516 dJ33_removeTreeNode_513 (Or.inl q1310) (Or.inl rfl) rfl e12 (hp91 c13) (nk91 c13) (Or.inl rfl) (fun y => by cases y <;> rfl) (fun y => by cases y <;> rfl) rfl ?_
        generalize hs17 : sFR s8 91 a11 l14 = s17
        have x18 : ∀ a, ¬ kd s8 a = 0 → kd s17 a = kd s8 a := by subst hs17; exact fun a _ => congrFun kd_sFR a
        have h := h s17 hs17.symm
        refine G_goto 526 dJ33_removeTreeNode_516 (by decide) ?_
        exact h
    · have h := h.2 u10
      refine G_aload 489 dJ33_removeTreeNode_487 rfl rfl ?_
      refine G_dup 490 dJ33_removeTreeNode_489 (rf_cat _) rfl ?_
      refine G_astore 492 [va_rf l0, va_rf l1, va_rf l2, .int l3, .int l4, .int l5, va_rf l6, va_rf l14, v8, va_rf l9, va_rf l10, va_rf l11, va_rf l12, va_rf l13, va_rf l14, va_rf (FR σ 90 a2), v16, v17, v18, v19, v20] dJ33_removeTreeNode_490 (Nat.le_of_ble_eq_true rfl) rfl rfl ?_
      refine G_iconst (v := 0) 493 dJ33_removeTreeNode_492 (by decide) rfl ?_
      have c7 := kdE x9 c7 (by decide)
      refine G_putI (f := 94) (a := a5) "" 496 dJ33_removeTreeNode_493 (Or.inl q1314) (Or.inl rfl) rfl e6 (hp94 c7) (nk94 c7) (Or.inl rfl) rfl rfl rfl ?_
      generalize hs19 : sFI s8 94 a5 0 = s19
      have x20 : ∀ a, ¬ kd s8 a = 0 → kd s19 a = kd s8 a := by subst hs19; exact fun a _ => congrFun kd_sFI a
      have h := h s19 hs19.symm
      refine G_goto 526 dJ33_removeTreeNode_496 (by decide) ?_
      exact h
set_option maxHeartbeats 4000000 in
theorem bJ33_removeTreeNode_526 {w : Wt} {K : Sg → Prop} {rc rs : Nat} {σ : Sg} (l0 : Option Nat) (l1 : Option Nat) (l2 : Option Nat) (l3 : Int32) (l4 : Int32) (l5 : Int32) (l6 : Option Nat) (l7 : Option Nat) (v8 : Value) (l9 : Option Nat) (l10 : Option Nat) (l11 : Option Nat) (l12 : Option Nat) (l13 : Option Nat) (l14 : Option Nat) (l15 : Option Nat) (v16 : Value) (v17 : Value) (v18 : Value) (v19 : Value) (v20 : Value) (h : ∃ a1, l11 = some a1 ∧ kd σ a1 = 32 ∧ ∀ s4, s4 = sFR σ 90 a1 none → ∀ s6, s6 = sFR s4 92 a1 none → ∀ s8, s8 = sFR s6 91 a1 none → G w mJ33_removeTreeNode (KV K) (rc) (rs) s8 544 [va_rf l0, va_rf l1, va_rf l2, .int l3, .int l4, .int l5, va_rf l6, va_rf l7, v8, va_rf l9, va_rf l10, va_rf l11, va_rf l12, va_rf l13, va_rf l14, va_rf l15, v16, v17, v18, v19, v20] []) : G w mJ33_removeTreeNode (KV K) (rc) (rs) σ 526 [va_rf l0, va_rf l1, va_rf l2, .int l3, .int l4, .int l5, va_rf l6, va_rf l7, v8, va_rf l9, va_rf l10, va_rf l11, va_rf l12, va_rf l13, va_rf l14, va_rf l15, v16, v17, v18, v19, v20] [] := by
  refine G_aload 528 dJ33_removeTreeNode_526 rfl rfl ?_
  refine G_aload 530 dJ33_removeTreeNode_528 rfl rfl ?_
  refine G_aload 532 dJ33_removeTreeNode_530 rfl rfl ?_
  refine G_null 533 dJ33_removeTreeNode_532 rfl ?_
  refine G_dup_x1 534 dJ33_removeTreeNode_533 (rf_cat _) (rf_cat _) rfl ?_
  obtain ⟨a1, e2, h⟩ := h
  obtain ⟨c3, h⟩ := h
  refine G_putR (f := 90) (a := a1) "" 537 dJ33_removeTreeNode_534 (Or.inl q1309) (Or.inl rfl) rfl e2 (hp90 c3) (nk90 c3) (Or.inl rfl) (fun y => by cases y <;> rfl) (fun y => by cases y <;> rfl) rfl ?_
  generalize hs4 : sFR σ 90 a1 none = s4
  have x5 : ∀ a, ¬ kd σ a = 0 → kd s4 a = kd σ a := by subst hs4; exact fun a _ => congrFun kd_sFR a
  have h := h s4 hs4.symm
  refine G_dup_x1 538 dJ33_removeTreeNode_537 (rf_cat _) (rf_cat _) rfl ?_
  have c3 := kdE x5 c3 (by decide)
  refine G_putR (f := 92) (a := a1) "" 541 dJ33_removeTreeNode_538 (Or.inl q1311) (Or.inl rfl) rfl e2 (hp92 c3) (nk92 c3) (Or.inl rfl) (fun y => by cases y <;> rfl) (fun y => by cases y <;> rfl) rfl ?_
  generalize hs6 : sFR s4 92 a1 none = s6
  have x7 : ∀ a, ¬ kd s4 a = 0 → kd s6 a = kd s4 a := by subst hs6; exact fun a _ => congrFun kd_sFR a
  have h := h s6 hs6.symm
  have c3 := kdE x7 c3 (by decide)
  refine G_putR (f := 91) (a := a1) "" 544 dJ33_removeTreeNode_541 (Or.inl q1310) (Or.inl rfl) rfl e2 (hp91 c3) (nk91 c3) (Or.inl rfl) (fun y => by cases y <;> rfl) (fun y => by cases y <;> rfl) rfl ?_
  generalize hs8 : sFR s6 91 a1 none = s8
  have x9 : ∀ a, ¬ kd s6 a = 0 → kd s8 a = kd s6 a := by subst hs8; exact fun a _ => congrFun kd_sFR a
  have h := h s8 hs8.symm
  exact h
set_option maxHeartbeats 4000000 in
theorem bJ33_removeTreeNode_544 {w : Wt} {K : Sg → Prop} {rc rs : Nat} {σ : Sg} (l0 : Option Nat) (l1 : Option Nat) (l2 : Option Nat) (l3 : Int32) (l4 : Int32) (l5 : Int32) (l6 : Option Nat) (l7 : Option Nat) (v8 : Value) (l9 : Option Nat) (l10 : Option Nat) (l11 : Option Nat) (l12 : Option Nat) (l13 : Option Nat) (l14 : Option Nat) (v15 : Value) (v16 : Value) (v17 : Value) (v18 : Value) (v19 : Value) (v20 : Value) (h : ∃ a1, l11 = some a1 ∧ kd σ a1 = 32 ∧ ((FI σ 94 a1 = 0 → CalR w mJ33_balanceDeletion σ [va_rf l7, va_rf l14] (fun s5 x6 => Ext σ s5 → ((¬ l14 = l11 → G w mJ33_removeTreeNode (KV K) (rc) (rs) s5 626 [va_rf l0, va_rf l1, va_rf l2, .int l3, .int l4, .int l5, va_rf l6, va_rf l7, v8, va_rf l9, va_rf l10, va_rf l11, va_rf l12, va_rf l13, va_rf l14, va_rf x6, v16, v17, v18, v19, v20] []) ∧ (l14 = l11 → ∀ s10, s10 = sFR s5 90 a1 none → ((FR s5 90 a1 = none → G w mJ33_removeTreeNode (KV K) (rc) (rs) s10 626 [va_rf l0, va_rf l1, va_rf l2, .int l3, .int l4, .int l5, va_rf l6, va_rf l7, v8, va_rf l9, va_rf l10, va_rf l11, va_rf l12, va_rf l13, va_rf l14, va_rf x6, va_rf (FR s5 90 a1), v17, v18, v19, v20] []) ∧ (¬ FR s5 90 a1 = none → ∃ a13, FR s5 90 a1 = some a13 ∧ kd s10 a13 = 32 ∧ ((¬ l11 = FR s10 91 a13 → ((¬ l11 = FR s10 92 a13 → G w mJ33_removeTreeNode (KV K) (rc) (rs) s10 626 [va_rf l0, va_rf l1, va_rf l2, .int l3, .int l4, .int l5, va_rf l6, va_rf l7, v8, va_rf l9, va_rf l10, va_rf l11, va_rf l12, va_rf l13, va_rf l14, va_rf x6, va_rf (FR s5 90 a1), v17, v18, v19, v20] []) ∧ (l11 = FR s10 92 a13 → ∀ s18, s18 = sFR s10 92 a13 none → G w mJ33_removeTreeNode (KV K) (rc) (rs) s18 626 [va_rf l0, va_rf l1, va_rf l2, .int l3, .int l4, .int l5, va_rf l6, va_rf l7, v8, va_rf l9, va_rf l10, va_rf l11, va_rf l12, va_rf l13, va_rf l14, va_rf x6, va_rf (FR s5 90 a1), v17, v18, v19, v20] []))) ∧ (l11 = FR s10 91 a13 → ∀ s20, s20 = sFR s10 91 a13 none → G w mJ33_removeTreeNode (KV K) (rc) (rs) s20 626 [va_rf l0, va_rf l1, va_rf l2, .int l3, .int l4, .int l5, va_rf l6, va_rf l7, v8, va_rf l9, va_rf l10, va_rf l11, va_rf l12, va_rf l13, va_rf l14, va_rf x6, va_rf (FR s5 90 a1), v17, v18, v19, v20] [])))))))) ∧ (¬ FI σ 94 a1 = 0 → ((¬ l14 = l11 → G w mJ33_removeTreeNode (KV K) (rc) (rs) σ 626 [va_rf l0, va_rf l1, va_rf l2, .int l3, .int l4, .int l5, va_rf l6, va_rf l7, v8, va_rf l9, va_rf l10, va_rf l11, va_rf l12, va_rf l13, va_rf l14, va_rf l7, v16, v17, v18, v19, v20] []) ∧ (l14 = l11 → ∀ s23, s23 = sFR σ 90 a1 none → ((FR σ 90 a1 = none → G w mJ33_removeTreeNode (KV K) (rc) (rs) s23 626 [va_rf l0, va_rf l1, va_rf l2, .int l3, .int l4, .int l5, va_rf l6, va_rf l7, v8, va_rf l9, va_rf l10, va_rf l11, va_rf l12, va_rf l13, va_rf l14, va_rf l7, va_rf (FR σ 90 a1), v17, v18, v19, v20] []) ∧ (¬ FR σ 90 a1 = none → ∃ a26, FR σ 90 a1 = some a26 ∧ kd s23 a26 = 32 ∧ ((¬ l11 = FR s23 91 a26 → ((¬ l11 = FR s23 92 a26 → G w mJ33_removeTreeNode (KV K) (rc) (rs) s23 626 [va_rf l0, va_rf l1, va_rf l2, .int l3, .int l4, .int l5, va_rf l6, va_rf l7, v8, va_rf l9, va_rf l10, va_rf l11, va_rf l12, va_rf l13, va_rf l14, va_rf l7, va_rf (FR σ 90 a1), v17, v18, v19, v20] []) ∧ (l11 = FR s23 92 a26 → ∀ s31, s31 = sFR s23 92 a26 none → G w mJ33_removeTreeNode (KV K) (rc) (rs) s31 626 [va_rf l0, va_rf l1, va_rf l2, .int l3, .int l4, .int l5, va_rf l6, va_rf l7, v8, va_rf l9, va_rf l10, va_rf l11, va_rf l12, va_rf l13, va_rf l14, va_rf l7, va_rf (FR σ 90 a1), v17, v18, v19, v20] []))) ∧ (l11 = FR s23 91 a26 → ∀ s33, s33 = sFR s23 91 a26 none → G w mJ33_removeTreeNode (KV K) (rc) (rs) s33 626 [va_rf l0, va_rf l1, va_rf l2, .int l3, .int l4, .int l5, va_rf l6, va_rf l7, v8, va_rf l9, va_rf l10, va_rf l11, va_rf l12, va_rf l13, va_rf l14, va_rf l7, va_rf (FR σ 90 a1), v17, v18, v19, v20] []))))))))) : G w mJ33_removeTreeNode (KV K) (rc) (rs) σ 544 [va_rf l0, va_rf l1, va_rf l2, .int l3, .int l4, .int l5, va_rf l6, va_rf l7, v8, va_rf l9, va_rf l10, va_rf l11, va_rf l12, va_rf l13, va_rf l14, v15, v16, v17, v18, v19, v20] [] := by
  refine G_aload 546 dJ33_removeTreeNode_544 rfl rfl ?_
  obtain ⟨a1, e2, h⟩ := h
  obtain ⟨c3, h⟩ := h
  refine G_getI (f := 94) (a := a1) "" 549 dJ33_removeTreeNode_546 (Or.inl q1314) (Or.inl rfl) rfl e2 (hf94 c3) rfl ?_
  refine G_if_eq 557 552 dJ33_removeTreeNode_549 (by decide) rfl (fun u4 => ?_) (fun u4 => ?_)
  · have h := h.1 u4
    refine G_aload 559 dJ33_removeTreeNode_557 rfl rfl ?_
    refine G_aload 561 dJ33_removeTreeNode_559 rfl rfl ?_
    refine G_invS (N := mJ33_balanceDeletion) (As := [va_rf l7, va_rf l14]) (st := []) (rc) (rs) "" 564 dJ33_removeTreeNode_561 (Or.inl q1520) q1521 q72 q1522 rfl mJ33_balanceDeletion_args ⟨Nat.le_of_ble_eq_true rfl, Nat.le_of_ble_eq_true rfl⟩ rfl (Nat.zero_le _) (le_b mJ33_balanceDeletion_c (Nat.le_refl _)) (le_b mJ33_balanceDeletion_s (Nat.le_refl _)) rfl (Cal.mono h ?_)
    rintro s5 v ⟨x6, rfl, h⟩ hx7
    have h := h hx7
    have x8 := hx7.x
    show G w mJ33_removeTreeNode (KV K) (rc) (rs) s5 564 [va_rf l0, va_rf l1, va_rf l2, .int l3, .int l4, .int l5, va_rf l6, va_rf l7, v8, va_rf l9, va_rf l10, va_rf l11, va_rf l12, va_rf l13, va_rf l14, v15, v16, v17, v18, v19, v20] [va_rf x6]
    refine G_astore 566 [va_rf l0, va_rf l1, va_rf l2, .int l3, .int l4, .int l5, va_rf l6, va_rf l7, v8, va_rf l9, va_rf l10, va_rf l11, va_rf l12, va_rf l13, va_rf l14, va_rf x6, v16, v17, v18, v19, v20] dJ33_removeTreeNode_564 (Nat.le_of_ble_eq_true rfl) rfl rfl ?_
    refine G_aload 568 dJ33_removeTreeNode_566 rfl rfl ?_
    refine G_aload 570 dJ33_removeTreeNode_568 rfl rfl ?_
    refine G_acmp_ne 626 573 dJ33_removeTreeNode_570 (by decide) rfl (fun u9 => ?_) (fun u9 => ?_)
    · have h := h.1 u9
      exact h
    · have h := h.2 u9
      refine G_aload 575 dJ33_removeTreeNode_573 rfl rfl ?_
      have c3 := kdE x8 c3 (by decide)
      refine G_getR (f := 90) (a := a1) "" 578 dJ33_removeTreeNode_575 (Or.inl q1309) (Or.inl rfl) rfl e2 (hf90 c3) rfl ?_
      refine G_astore 580 [va_rf l0, va_rf l1, va_rf l2, .int l3, .int l4, .int l5, va_rf l6, va_rf l7, v8, va_rf l9, va_rf l10, va_rf l11, va_rf l12, va_rf l13, va_rf l14, va_rf x6, va_rf (FR s5 90 a1), v17, v18, v19, v20] dJ33_removeTreeNode_578 (Nat.le_of_ble_eq_true rfl) rfl rfl ?_
      refine G_aload 582 dJ33_removeTreeNode_580 rfl rfl ?_
      refine G_null 583 dJ33_removeTreeNode_582 rfl ?_
      refine G_putR (f := 90) (a := a1) "" 586 dJ33_removeTreeNode_583 (Or.inl q1309) (Or.inl rfl) rfl e2 (hp90 c3) (nk90 c3) (Or.inl rfl) (fun y => by cases y <;> rfl) (fun y => by cases y <;> rfl) rfl ?_
      generalize hs10 : sFR s5 90 a1 none = s10
      have x11 : ∀ a, ¬ kd s5 a = 0 → kd s10 a = kd s5 a := by subst hs10; exact fun a _ => congrFun kd_sFR a
      have h := h s10 hs10.symm
      refine G_aload 588 dJ33_removeTreeNode_586 rfl rfl ?_
      refine G_ifnull 626 591 dJ33_removeTreeNode_588 (by decide) rfl (fun u12 => ?_) (fun u12 => ?_)
      · have h := h.1 u12
        exact h
      · have h := h.2 u12
        refine G_aload 593 dJ33_removeTreeNode_591 rfl rfl ?_
        refine G_aload 595 dJ33_removeTreeNode_593 rfl rfl ?_
        obtain ⟨a13, e14, h⟩ := h
        obtain ⟨c15, h⟩ := h
        refine G_getR (f := 91) (a := a13) "" 598 dJ33_removeTreeNode_595 (Or.inl q1310) (Or.inl rfl) rfl e14 (hf91 c15) rfl ?_
        refine G_acmp_ne 610 601 dJ33_removeTreeNode_598 (by decide) rfl (fun u16 => ?_) (fun u16 => ?_)
        · have h := h.1 u16
          refine G_aload 612 dJ33_removeTreeNode_610 rfl rfl ?_
          refine G_aload 614 dJ33_removeTreeNode_612 rfl rfl ?_
          refine G_getR (f := 92) (a := a13) "" 617 dJ33_removeTreeNode_614 (Or.inl q1311) (Or.inl rfl) rfl e14 (hf92 c15) rfl ?_
          refine G_acmp_ne 626 620 dJ33_removeTreeNode_617 (by decide) rfl (fun u17 => ?_) (fun u17 => ?_)
          · have h := h.1 u17
            exact h
          · have h := h.2 u17
            refine G_aload 622 dJ33_removeTreeNode_620 rfl rfl ?_
            refine G_null 623 dJ33_removeTreeNode_622 rfl ?_
            refine G_putR (f := 92) (a := a13) "" 626 dJ33_removeTreeNode_623 (Or.inl q1311) (Or.inl rfl) rfl e14 (hp92 c15) (nk92 c15) (Or.inl rfl) (fun y => by cases y <;> rfl) (fun y => by cases y <;> rfl) rfl ?_
            generalize hs18 : sFR s10 92 a13 none = s18
            have x19 : ∀ a, ¬ kd s10 a = 0 → kd s18 a = kd s10 a := by subst hs18; exact fun a _ => congrFun kd_sFR a
            have h := h s18 hs18.symm
            exact h
        · have h := h.2 u16
          refine G_aload 603 dJ33_removeTreeNode_601 rfl rfl ?_
          refine G_null 604 dJ33_removeTreeNode_603 rfl ?_
          refine G_putR (f := 91) (a := a13) "" 607 dJ33_removeTreeNode_604 (Or.inl q1310) (Or.inl rfl) rfl e14 (hp91 c15) (nk91 c15) (Or.inl rfl) (fun y => by cases y <;> rfl) (fun y => by cases y <;> rfl) rfl ?_
          generalize hs20 : sFR s10 91 a13 none = s20
          have x21 : ∀ a, ¬ kd s10 a = 0 → kd s20 a = kd s10 a := by subst hs20; exact fun a _ => congrFun kd_sFR a
          have h := h s20 hs20.symm
          refine G_goto 626 dJ33_removeTreeNode_607 (by decide) ?_
          exact h
  · have h := h.2 u4
    refine G_aload 554 dJ33_removeTreeNode_552 rfl rfl ?_
    refine G_goto 564 dJ33_removeTreeNode_554 (by decide) ?_
    refine G_astore 566 [va_rf l0, va_rf l1, va_rf l2, .int l3, .int l4, .int l5, va_rf l6, va_rf l7, v8, va_rf l9, va_rf l10, va_rf l11, va_rf l12, va_rf l13, va_rf l14, va_rf l7, v16, v17, v18, v19, v20] dJ33_removeTreeNode_564 (Nat.le_of_ble_eq_true rfl) rfl rfl ?_
    refine G_aload 568 dJ33_removeTreeNode_566 rfl rfl ?_
    refine G_aload 570 dJ33_removeTreeNode_568 rfl rfl ?_
    refine G_acmp_ne 626 573 dJ33_removeTreeNode_570 (by decide) rfl (fun u22 => ?_) (fun u22 => ?_)
    · have h := h.1 u22
      exact h
    · have h := h.2 u22
      refine G_aload 575 dJ33_removeTreeNode_573 rfl rfl ?_
      refine G_getR (f := 90) (a := a1) "" 578 dJ33_removeTreeNode_575 (Or.inl q1309) (Or.inl rfl) rfl e2 (hf90 c3) rfl ?_
      refine G_astore 580 [va_rf l0, va_rf l1, va_rf l2, .int l3, .int l4, .int l5, va_rf l6, va_rf l7, v8, va_rf l9, va_rf l10, va_rf l11, va_rf l12, va_rf l13, va_rf l14, va_rf l7, va_rf (FR σ 90 a1), v17, v18, v19, v20] dJ33_removeTreeNode_578 (Nat.le_of_ble_eq_true rfl) rfl rfl ?_
      refine G_aload 582 dJ33_removeTreeNode_580 rfl rfl ?_
      refine G_null 583 dJ33_removeTreeNode_582 rfl ?_
      refine G_putR (f := 90) (a := a1) "" 586 dJ33_removeTreeNode_583 (Or.inl q1309) (Or.inl rfl) rfl e2 (hp90 c3) (nk90 c3) (Or.inl rfl) (fun y => by cases y <;> rfl) (fun y => by cases y <;> rfl) rfl ?_
      generalize hs23 : sFR σ 90 a1 none = s23
      have x24 : ∀ a, ¬ kd σ a = 0 → kd s23 a = kd σ a := by subst hs23; exact fun a _ => congrFun kd_sFR a
      have h := h s23 hs23.symm
      refine G_aload 588 dJ33_removeTreeNode_586 rfl rfl ?_
      refine G_ifnull 626 591 dJ33_removeTreeNode_588 (by decide) rfl (fun u25 => ?_) (fun u25 => ?_)
      · have h := h.1 u25
        exact h
      · have h := h.2 u25
        refine G_aload 593 dJ33_removeTreeNode_591 rfl rfl ?_
        refine G_aload 595 dJ33_removeTreeNode_593 rfl rfl ?_
        obtain ⟨a26, e27, h⟩ := h
        obtain ⟨c28, h⟩ := h
        refine G_getR (f := 91) (a := a26) "" 598 dJ33_removeTreeNode_595 (Or.inl q1310) (Or.inl rfl) rfl e27 (hf91 c28) rfl ?_
        refine G_acmp_ne 610 601 dJ33_removeTreeNode_598 (by decide) rfl (fun u29 => ?_) (fun u29 => ?_)
        · have h := h.1 u29
          refine G_aload 612 dJ33_removeTreeNode_610 rfl rfl ?_
          refine G_aload 614 dJ33_removeTreeNode_612 rfl rfl ?_
          refine G_getR (f := 92) (a := a26) "" 617 dJ33_removeTreeNode_614 (Or.inl q1311) (Or.inl rfl) rfl e27 (hf92 c28) rfl ?_
          refine G_acmp_ne 626 620 dJ33_removeTreeNode_617 (by decide) rfl (fun u30 => ?_) (fun u30 => ?_)
          · have h := h.1 u30
            exact h
          · have h := h.2 u30
            refine G_aload 622 dJ33_removeTreeNode_620 rfl rfl ?_
            refine G_null 623 dJ33_removeTreeNode_622 rfl ?_
            refine G_putR (f := 92) (a := a26) "" 626 dJ33_removeTreeNode_623 (Or.inl q1311) (Or.inl rfl) rfl e27 (hp92 c28) (nk92 c28) (Or.inl rfl) (fun y => by cases y <;> rfl) (fun y => by cases y <;> rfl) rfl ?_
            generalize hs31 : sFR s23 92 a26 none = s31
            have x32 : ∀ a, ¬ kd s23 a = 0 → kd s31 a = kd s23 a := by subst hs31; exact fun a _ => congrFun kd_sFR a
            have h := h s31 hs31.symm
            exact h
        · have h := h.2 u29
          refine G_aload 603 dJ33_removeTreeNode_601 rfl rfl ?_
          refine G_null 604 dJ33_removeTreeNode_603 rfl ?_
          refine G_putR (f := 91) (a := a26) "" 607 dJ33_removeTreeNode_604 (Or.inl q1310) (Or.inl rfl) rfl e27 (hp91 c28) (nk91 c28) (Or.inl rfl) (fun y => by cases y <;> rfl) (fun y => by cases y <;> rfl) rfl ?_
          generalize hs33 : sFR s23 91 a26 none = s33
          have x34 : ∀ a, ¬ kd s23 a = 0 → kd s33 a = kd s23 a := by subst hs33; exact fun a _ => congrFun kd_sFR a
          have h := h s33 hs33.symm
          refine G_goto 626 dJ33_removeTreeNode_607 (by decide) ?_
          exact h
set_option maxHeartbeats 4000000 in
theorem bJ33_removeTreeNode_626 {w : Wt} {K : Sg → Prop} {rc rs : Nat} {σ : Sg} (l0 : Option Nat) (l1 : Option Nat) (l2 : Option Nat) (l3 : Int32) (l4 : Int32) (l5 : Int32) (l6 : Option Nat) (l7 : Option Nat) (v8 : Value) (l9 : Option Nat) (l10 : Option Nat) (l11 : Option Nat) (l12 : Option Nat) (l13 : Option Nat) (l14 : Option Nat) (l15 : Option Nat) (v16 : Value) (v17 : Value) (v18 : Value) (v19 : Value) (v20 : Value) (h : ((l3 = 0 → G w mJ33_removeTreeNode (KV K) (rc) (rs) σ 636 [va_rf l0, va_rf l1, va_rf l2, .int l3, .int l4, .int l5, va_rf l6, va_rf l7, v8, va_rf l9, va_rf l10, va_rf l11, va_rf l12, va_rf l13, va_rf l14, va_rf l15, v16, v17, v18, v19, v20] []) ∧ (¬ l3 = 0 → CalV w mJ33_moveRootToFront σ [va_rf l2, va_rf l15] (fun s2 => Ext σ s2 → G w mJ33_removeTreeNode (KV K) (rc) (rs) s2 636 [va_rf l0, va_rf l1, va_rf l2, .int l3, .int l4, .int l5, va_rf l6, va_rf l7, v8, va_rf l9, va_rf l10, va_rf l11, va_rf l12, va_rf l13, va_rf l14, va_rf l15, v16, v17, v18, v19, v20] [])))) : G w mJ33_removeTreeNode (KV K) (rc) (rs) σ 626 [va_rf l0, va_rf l1, va_rf l2, .int l3, .int l4, .int l5, va_rf l6, va_rf l7, v8, va_rf l9, va_rf l10, va_rf l11, va_rf l12, va_rf l13, va_rf l14, va_rf l15, v16, v17, v18, v19, v20] [] := by
  refine G_iload_n 627 dJ33_removeTreeNode_626 rfl rfl ?_
  refine G_if_eq 636 630 dJ33_removeTreeNode_627 (by decide) rfl (fun u1 => ?_) (fun u1 => ?_)
  · have h := h.1 u1
    exact h
  · have h := h.2 u1
    refine G_aload_n 631 dJ33_removeTreeNode_630 rfl rfl ?_
    refine G_aload 633 dJ33_removeTreeNode_631 rfl rfl ?_
    refine G_invS (N := mJ33_moveRootToFront) (As := [va_rf l2, va_rf l15]) (st := []) (rc) (rs) "" 636 dJ33_removeTreeNode_633 (Or.inl q1233) q1234 q72 q1235 rfl mJ33_moveRootToFront_args ⟨Nat.le_of_ble_eq_true rfl, Nat.le_of_ble_eq_true rfl⟩ rfl (Nat.zero_le _) (le_b mJ33_moveRootToFront_c (Nat.le_refl _)) (le_b mJ33_moveRootToFront_s (Nat.le_refl _)) rfl (Cal.mono h ?_)
    rintro s2 v ⟨rfl, h⟩ hx3
    have h := h hx3
    have x4 := hx3.x
    show G w mJ33_removeTreeNode (KV K) (rc) (rs) s2 636 [va_rf l0, va_rf l1, va_rf l2, .int l3, .int l4, .int l5, va_rf l6, va_rf l7, v8, va_rf l9, va_rf l10, va_rf l11, va_rf l12, va_rf l13, va_rf l14, va_rf l15, v16, v17, v18, v19, v20] []
    exact h
set_option maxHeartbeats 4000000 in
theorem bJ33_removeTreeNode_636 {w : Wt} {K : Sg → Prop} {rc rs : Nat} {σ : Sg} (l0 : Option Nat) (l1 : Option Nat) (l2 : Option Nat) (l3 : Int32) (l4 : Int32) (l5 : Int32) (l6 : Option Nat) (l7 : Option Nat) (v8 : Value) (l9 : Option Nat) (l10 : Option Nat) (l11 : Option Nat) (l12 : Option Nat) (l13 : Option Nat) (l14 : Option Nat) (l15 : Option Nat) (v16 : Value) (v17 : Value) (v18 : Value) (v19 : Value) (v20 : Value) (h : K σ) : G w mJ33_removeTreeNode (KV K) (rc) (rs) σ 636 [va_rf l0, va_rf l1, va_rf l2, .int l3, .int l4, .int l5, va_rf l6, va_rf l7, v8, va_rf l9, va_rf l10, va_rf l11, va_rf l12, va_rf l13, va_rf l14, va_rf l15, v16, v17, v18, v19, v20] [] := by
  exact G_ret dJ33_removeTreeNode_636 rfl ⟨rfl, h⟩
theorem eJ33_removeTreeNode {w : Wt} {K : Sg → Prop} {σ : Sg} (l0 : Option Nat) (l1 : Option Nat) (l2 : Option Nat) (l3 : Int32) (h : G w mJ33_removeTreeNode (KV K) 19 114 σ 0 [va_rf l0, va_rf l1, va_rf l2, .int l3, U_, U_, U_, U_, U_, U_, U_, U_, U_, U_, U_, U_, U_, U_, U_, U_, U_] []) : CalV w mJ33_removeTreeNode σ [va_rf l0, va_rf l1, va_rf l2, .int l3] K :=
  Cal.start 17 mJ33_removeTreeNode_plain (catR (catR (catR (catI cat0)))) (Nat.le_of_ble_eq_true rfl) rfl h
set_option maxHeartbeats 4000000 in
theorem bJ33_balanceDeletion_0 {w : Wt} {K : Sg → Option Nat → Prop} {rc rs : Nat} {σ : Sg} (l0 : Option Nat) (l1 : Option Nat) (h : ((l1 = none → G w mJ33_balanceDeletion (KR K) (rc) (rs) σ 9 [va_rf l0, va_rf l1, U_, U_, U_, U_, U_] []) ∧ (¬ l1 = none → ((¬ l1 = l0 → ∃ a3, l1 = some a3 ∧ kd σ a3 = 32 ∧ ((¬ FR σ 90 a3 = none → ((FI σ 94 a3 = 0 → ∃ a8, FR σ 90 a3 = some a8 ∧ kd σ a8 = 32 ∧ ((¬ FR σ 91 a8 = l1 → ((FR σ 91 a8 = none → G w mJ33_balanceDeletion (KR K) (rc) (rs) σ 326 [va_rf l0, va_rf l1, va_rf (FR σ 90 a3), va_rf (FR σ 91 a8), U_, U_, U_] []) ∧ (¬ FR σ 91 a8 = none → ∃ a13, FR σ 91 a8 = some a13 ∧ kd σ a13 = 32 ∧ ((FI σ 94 a13 = 0 → G w mJ33_balanceDeletion (KR K) (rc) (rs) σ 326 [va_rf l0, va_rf l1, va_rf (FR σ 90 a3), va_rf (FR σ 91 a8), U_, U_, U_] []) ∧ (¬ FI σ 94 a13 = 0 → ∀ s17, s17 = sFI σ 94 a13 0 → ∀ s19, s19 = sFI s17 94 a8 1 → CalR w mJ33_rotateRight s19 [va_rf l0, va_rf (FR σ 90 a3)] (fun s21 x22 => Ext s19 s21 → ((¬ FR s21 90 a3 = none → ∃ a26, FR s21 90 a3 = some a26 ∧ kd s21 a26 = 32 ∧ G w mJ33_balanceDeletion (KR K) (rc) (rs) s21 326 [va_rf x22, va_rf l1, va_rf (FR s21 90 a3), va_rf (FR s21 91 a26), U_, U_, U_] []) ∧ (FR s21 90 a3 = none → G w mJ33_balanceDeletion (KR K) (rc) (rs) s21 326 [va_rf x22, va_rf l1, va_rf (FR s21 90 a3), va_rf none, U_, U_, U_] [])))))))) ∧ (FR σ 91 a8 = l1 → ((FR σ 92 a8 = none → G w mJ33_balanceDeletion (KR K) (rc) (rs) σ 105 [va_rf l0, va_rf l1, va_rf (FR σ 90 a3), va_rf (FR σ 91 a8), va_rf (FR σ 92 a8), U_, U_] []) ∧ (¬ FR σ 92 a8 = none → ∃ a30, FR σ 92 a8 = some a30 ∧ kd σ a30 = 32 ∧ ((FI σ 94 a30 = 0 → G w mJ33_balanceDeletion (KR K) (rc) (rs) σ 105 [va_rf l0, va_rf l1, va_rf (FR σ 90 a3), va_rf (FR σ 91 a8), va_rf (FR σ 92 a8), U_, U_] []) ∧ (¬ FI σ 94 a30 = 0 → ∀ s34, s34 = sFI σ 94 a30 0 → ∀ s36, s36 = sFI s34 94 a8 1 → CalR w mJ33_rotateLeft s36 [va_rf l0, va_rf (FR σ 90 a3)] (fun s38 x39 => Ext s36 s38 → ((¬ FR s38 90 a3 = none → ∃ a43, FR s38 90 a3 = some a43 ∧ kd s38 a43 = 32 ∧ G w mJ33_balanceDeletion (KR K) (rc) (rs) s38 105 [va_rf x39, va_rf l1, va_rf (FR s38 90 a3), va_rf (FR σ 91 a8), va_rf (FR s38 92 a43), U_, U_] []) ∧ (FR s38 90 a3 = none → G w mJ33_balanceDeletion (KR K) (rc) (rs) s38 105 [va_rf x39, va_rf l1, va_rf (FR s38 90 a3), va_rf (FR σ 91 a8), va_rf none, U_, U_] [])))))))))) ∧ (¬ FI σ 94 a3 = 0 → ∀ s46, s46 = sFI σ 94 a3 0 → K s46 l0))) ∧ (FR σ 90 a3 = none → ∀ s48, s48 = sFI σ 94 a3 0 → K s48 l1))) ∧ (l1 = l0 → G w mJ33_balanceDeletion (KR K) (rc) (rs) σ 9 [va_rf l0, va_rf l1, U_, U_, U_, U_, U_] []))))) : G w mJ33_balanceDeletion (KR K) (rc) (rs) σ 0 [va_rf l0, va_rf l1, U_, U_, U_, U_, U_] [] := by
  refine G_aload_n 1 dJ33_balanceDeletion_0 rfl rfl ?_
  refine G_ifnull 9 4 dJ33_balanceDeletion_1 (by decide) rfl (fun u1 => ?_) (fun u1 => ?_)
  · have h := h.1 u1
    exact h
  · have h := h.2 u1
    refine G_aload_n 5 dJ33_balanceDeletion_4 rfl rfl ?_
    refine G_aload_n 6 dJ33_balanceDeletion_5 rfl rfl ?_
    refine G_acmp_ne 11 9 dJ33_balanceDeletion_6 (by decide) rfl (fun u2 => ?_) (fun u2 => ?_)
    · have h := h.1 u2
      refine G_aload_n 12 dJ33_balanceDeletion_11 rfl rfl ?_
      obtain ⟨a3, e4, h⟩ := h
      obtain ⟨c5, h⟩ := h
      refine G_getR (f := 90) (a := a3) "" 15 dJ33_balanceDeletion_12 (Or.inl q1309) (Or.inl rfl) rfl e4 (hf90 c5) rfl ?_
      refine G_dup 16 dJ33_balanceDeletion_15 (rf_cat _) rfl ?_
      refine G_astore_n 17 [va_rf l0, va_rf l1, va_rf (FR σ 90 a3), U_, U_, U_, U_] dJ33_balanceDeletion_16 (Nat.le_of_ble_eq_true rfl) rfl rfl ?_
      refine G_ifnonnull 27 20 dJ33_balanceDeletion_17 (by decide) rfl (fun u6 => ?_) (fun u6 => ?_)
      · have h := h.1 u6
        refine G_aload_n 28 dJ33_balanceDeletion_27 rfl rfl ?_
        refine G_getI (f := 94) (a := a3) "" 31 dJ33_balanceDeletion_28 (Or.inl q1314) (Or.inl rfl) rfl e4 (hf94 c5) rfl ?_
        refine G_if_eq 41 34 dJ33_balanceDeletion_31 (by decide) rfl (fun u7 => ?_) (fun u7 => ?_)
        · have h := h.1 u7
          refine G_aload_n 42 dJ33_balanceDeletion_41 rfl rfl ?_
          obtain ⟨a8, e9, h⟩ := h
          obtain ⟨c10, h⟩ := h
          refine G_getR (f := 91) (a := a8) "" 45 dJ33_balanceDeletion_42 (Or.inl q1310) (Or.inl rfl) rfl e9 (hf91 c10) rfl ?_
          refine G_dup 46 dJ33_balanceDeletion_45 (rf_cat _) rfl ?_
          refine G_astore_n 47 [va_rf l0, va_rf l1, va_rf (FR σ 90 a3), va_rf (FR σ 91 a8), U_, U_, U_] dJ33_balanceDeletion_46 (Nat.le_of_ble_eq_true rfl) rfl rfl ?_
          refine G_aload_n 48 dJ33_balanceDeletion_47 rfl rfl ?_
          refine G_acmp_ne 281 51 dJ33_balanceDeletion_48 (by decide) rfl (fun u11 => ?_) (fun u11 => ?_)
          · have h := h.1 u11
            refine G_aload_n 282 dJ33_balanceDeletion_281 rfl rfl ?_
            refine G_ifnull 326 285 dJ33_balanceDeletion_282 (by decide) rfl (fun u12 => ?_) (fun u12 => ?_)
            · have h := h.1 u12
              exact h
            · have h := h.2 u12
              refine G_aload_n 286 dJ33_balanceDeletion_285 rfl rfl ?_
              obtain ⟨a13, e14, h⟩ := h
              obtain ⟨c15, h⟩ := h
              refine G_getI (f := 94) (a := a13) "" 289 dJ33_balanceDeletion_286 (Or.inl q1314) (Or.inl rfl) rfl e14 (hf94 c15) rfl ?_
              refine G_if_eq 326 292 dJ33_balanceDeletion_289 (by decide) rfl (fun u16 => ?_) (fun u16 => ?_)
              · have h := h.1 u16
                exact h
              · have h := h.2 u16
                refine G_aload_n 293 dJ33_balanceDeletion_292 rfl rfl ?_
                refine G_iconst (v := 0) 294 dJ33_balanceDeletion_293 (by decide) rfl ?_
                refine G_putI (f := 94) (a := a13) "" 297 dJ33_balanceDeletion_294 (Or.inl q1314) (Or.inl rfl) rfl e14 (hp94 c15) (nk94 c15) (Or.inl rfl) rfl rfl rfl ?_
                generalize hs17 : sFI σ 94 a13 0 = s17
                have x18 : ∀ a, ¬ kd σ a = 0 → kd s17 a = kd σ a := by subst hs17; exact fun a _ => congrFun kd_sFI a
                have h := h s17 hs17.symm
                refine G_aload_n 298 dJ33_balanceDeletion_297 rfl rfl ?_
                refine G_iconst (v := 1) 299 dJ33_balanceDeletion_298 (by decide) rfl ?_
                have c10 := kdE x18 c10 (by decide)
                refine G_putI (f := 94) (a := a8) "" 302 dJ33_balanceDeletion_299 (Or.inl q1314) (Or.inl rfl) rfl e9 (hp94 c10) (nk94 c10) (Or.inl rfl) rfl rfl rfl ?_
                generalize hs19 : sFI s17 94 a8 1 = s19
                have x20 : ∀ a, ¬ kd s17 a = 0 → kd s19 a = kd s17 a := by subst hs19; exact fun a _ => congrFun kd_sFI a
                have h := h s19 hs19.symm
                refine G_aload_n 303 dJ33_balanceDeletion_302 rfl rfl ?_
                refine G_aload_n 304 dJ33_balanceDeletion_303 rfl rfl ?_
                refine G_invS (N := mJ33_rotateRight) (As := [va_rf l0, va_rf (FR σ 90 a3)]) (st := []) (rc) (rs) "" 307 dJ33_balanceDeletion_304 (Or.inl q1230) q1231 q72 q1232 rfl mJ33_rotateRight_args ⟨Nat.le_of_ble_eq_true rfl, Nat.le_of_ble_eq_true rfl⟩ rfl (Nat.zero_le _) (le_b mJ33_rotateRight_c (Nat.le_refl _)) (le_b mJ33_rotateRight_s (Nat.le_refl _)) rfl (Cal.mono h ?_)
                rintro s21 v ⟨x22, rfl, h⟩ hx23
                have h := h hx23
                have x24 := hx23.x
                show G w mJ33_balanceDeletion (KR K) (rc) (rs) s21 307 [va_rf l0, va_rf l1, va_rf (FR σ 90 a3), va_rf (FR σ 91 a8), U_, U_, U_] [va_rf x22]
                refine G_astore_n 308 [va_rf x22, va_rf l1, va_rf (FR σ 90 a3), va_rf (FR σ 91 a8), U_, U_, U_] dJ33_balanceDeletion_307 (Nat.le_of_ble_eq_true rfl) rfl rfl ?_
                refine G_aload_n 309 dJ33_balanceDeletion_308 rfl rfl ?_
                have c5 := kdE x18 c5 (by decide)
                have c5 := kdE x20 c5 (by decide)
                have c5 := kdE x24 c5 (by decide)
                refine G_getR (f := 90) (a := a3) "" 312 dJ33_balanceDeletion_309 (Or.inl q1309) (Or.inl rfl) rfl e4 (hf90 c5) rfl ?_
                refine G_dup 313 dJ33_balanceDeletion_312 (rf_cat _) rfl ?_
                refine G_astore_n 314 [va_rf x22, va_rf l1, va_rf (FR s21 90 a3), va_rf (FR σ 91 a8), U_, U_, U_] dJ33_balanceDeletion_313 (Nat.le_of_ble_eq_true rfl) rfl rfl ?_
                refine G_ifnonnull 321 317 dJ33_balanceDeletion_314 (by decide) rfl (fun u25 => ?_) (fun u25 => ?_)
                · have h := h.1 u25
                  refine G_aload_n 322 dJ33_balanceDeletion_321 rfl rfl ?_
                  obtain ⟨a26, e27, h⟩ := h
                  obtain ⟨c28, h⟩ := h
                  refine G_getR (f := 91) (a := a26) "" 325 dJ33_balanceDeletion_322 (Or.inl q1310) (Or.inl rfl) rfl e27 (hf91 c28) rfl ?_
                  refine G_astore_n 326 [va_rf x22, va_rf l1, va_rf (FR s21 90 a3), va_rf (FR s21 91 a26), U_, U_, U_] dJ33_balanceDeletion_325 (Nat.le_of_ble_eq_true rfl) rfl rfl ?_
                  exact h
                · have h := h.2 u25
                  refine G_null 318 dJ33_balanceDeletion_317 rfl ?_
                  refine G_goto 325 dJ33_balanceDeletion_318 (by decide) ?_
                  refine G_astore_n 326 [va_rf x22, va_rf l1, va_rf (FR s21 90 a3), va_rf none, U_, U_, U_] dJ33_balanceDeletion_325 (Nat.le_of_ble_eq_true rfl) rfl rfl ?_
                  exact h
          · have h := h.2 u11
            refine G_aload_n 52 dJ33_balanceDeletion_51 rfl rfl ?_
            refine G_getR (f := 92) (a := a8) "" 55 dJ33_balanceDeletion_52 (Or.inl q1311) (Or.inl rfl) rfl e9 (hf92 c10) rfl ?_
            refine G_dup 56 dJ33_balanceDeletion_55 (rf_cat _) rfl ?_
            refine G_astore 58 [va_rf l0, va_rf l1, va_rf (FR σ 90 a3), va_rf (FR σ 91 a8), va_rf (FR σ 92 a8), U_, U_] dJ33_balanceDeletion_56 (Nat.le_of_ble_eq_true rfl) rfl rfl ?_
            refine G_ifnull 105 61 dJ33_balanceDeletion_58 (by decide) rfl (fun u29 => ?_) (fun u29 => ?_)
            · have h := h.1 u29
              exact h
            · have h := h.2 u29
              refine G_aload 63 dJ33_balanceDeletion_61 rfl rfl ?_
              obtain ⟨a30, e31, h⟩ := h
              obtain ⟨c32, h⟩ := h
              refine G_getI (f := 94) (a := a30) "" 66 dJ33_balanceDeletion_63 (Or.inl q1314) (Or.inl rfl) rfl e31 (hf94 c32) rfl ?_
              refine G_if_eq 105 69 dJ33_balanceDeletion_66 (by decide) rfl (fun u33 => ?_) (fun u33 => ?_)
              · have h := h.1 u33
                exact h
              · have h := h.2 u33
                refine G_aload 71 dJ33_balanceDeletion_69 rfl rfl ?_
                refine G_iconst (v := 0) 72 dJ33_balanceDeletion_71 (by decide) rfl ?_
                refine G_putI (f := 94) (a := a30) "" 75 dJ33_balanceDeletion_72 (Or.inl q1314) (Or.inl rfl) rfl e31 (hp94 c32) (nk94 c32) (Or.inl rfl) rfl rfl rfl ?_
                generalize hs34 : sFI σ 94 a30 0 = s34
                have x35 : ∀ a, ¬ kd σ a = 0 → kd s34 a = kd σ a := by subst hs34; exact fun a _ => congrFun kd_sFI a
                have h := h s34 hs34.symm
                refine G_aload_n 76 dJ33_balanceDeletion_75 rfl rfl ?_
                refine G_iconst (v := 1) 77 dJ33_balanceDeletion_76 (by decide) rfl ?_
                have c10 := kdE x35 c10 (by decide)
                refine G_putI (f := 94) (a := a8) "" 80 dJ33_balanceDeletion_77 (Or.inl q1314) (Or.inl rfl) rfl e9 (hp94 c10) (nk94 c10) (Or.inl rfl) rfl rfl rfl ?_
                generalize hs36 : sFI s34 94 a8 1 = s36
                have x37 : ∀ a, ¬ kd s34 a = 0 → kd s36 a = kd s34 a := by subst hs36; exact fun a _ => congrFun kd_sFI a
                have h := h s36 hs36.symm
                refine G_aload_n 81 dJ33_balanceDeletion_80 rfl rfl ?_
                refine G_aload_n 82 dJ33_balanceDeletion_81 rfl rfl ?_
                refine G_invS (N := mJ33_rotateLeft) (As := [va_rf l0, va_rf (FR σ 90 a3)]) (st := []) (rc) (rs) "" 85 dJ33_balanceDeletion_82 (Or.inl q1227) q1228 q72 q1229 rfl mJ33_rotateLeft_args ⟨Nat.le_of_ble_eq_true rfl, Nat.le_of_ble_eq_true rfl⟩ rfl (Nat.zero_le _) (le_b mJ33_rotateLeft_c (Nat.le_refl _)) (le_b mJ33_rotateLeft_s (Nat.le_refl _)) rfl (Cal.mono h ?_)
                rintro s38 v ⟨x39, rfl, h⟩ hx40
                have h := h hx40
                have x41 := hx40.x
                show G w mJ33_balanceDeletion (KR K) (rc) (rs) s38 85 [va_rf l0, va_rf l1, va_rf (FR σ 90 a3), va_rf (FR σ 91 a8), va_rf (FR σ 92 a8), U_, U_] [va_rf x39]
                refine G_astore_n 86 [va_rf x39, va_rf l1, va_rf (FR σ 90 a3), va_rf (FR σ 91 a8), va_rf (FR σ 92 a8), U_, U_] dJ33_balanceDeletion_85 (Nat.le_of_ble_eq_true rfl) rfl rfl ?_
                refine G_aload_n 87 dJ33_balanceDeletion_86 rfl rfl ?_
                have c5 := kdE x35 c5 (by decide)
                have c5 := kdE x37 c5 (by decide)
                have c5 := kdE x41 c5 (by decide)
                refine G_getR (f := 90) (a := a3) "" 90 dJ33_balanceDeletion_87 (Or.inl q1309) (Or.inl rfl) rfl e4 (hf90 c5) rfl ?_
                refine G_dup 91 dJ33_balanceDeletion_90 (rf_cat _) rfl ?_
                refine G_astore_n 92 [va_rf x39, va_rf l1, va_rf (FR s38 90 a3), va_rf (FR σ 91 a8), va_rf (FR σ 92 a8), U_, U_] dJ33_balanceDeletion_91 (Nat.le_of_ble_eq_true rfl) rfl rfl ?_
                refine G_ifnonnull 99 95 dJ33_balanceDeletion_92 (by decide) rfl (fun u42 => ?_) (fun u42 => ?_)
                · have h := h.1 u42
                  refine G_aload_n 100 dJ33_balanceDeletion_99 rfl rfl ?_
                  obtain ⟨a43, e44, h⟩ := h
                  obtain ⟨c45, h⟩ := h
                  refine G_getR (f := 92) (a := a43) "" 103 dJ33_balanceDeletion_100 (Or.inl q1311) (Or.inl rfl) rfl e44 (hf92 c45) rfl ?_
                  refine G_astore 105 [va_rf x39, va_rf l1, va_rf (FR s38 90 a3), va_rf (FR σ 91 a8), va_rf (FR s38 92 a43), U_, U_] dJ33_balanceDeletion_103 (Nat.le_of_ble_eq_true rfl) rfl rfl ?_
                  exact h
                · have h := h.2 u42
                  refine G_null 96 dJ33_balanceDeletion_95 rfl ?_
                  refine G_goto 103 dJ33_balanceDeletion_96 (by decide) ?_
                  refine G_astore 105 [va_rf x39, va_rf l1, va_rf (FR s38 90 a3), va_rf (FR σ 91 a8), va_rf none, U_, U_] dJ33_balanceDeletion_103 (Nat.le_of_ble_eq_true rfl) rfl rfl ?_
                  exact h
        · have h := h.2 u7
          refine G_aload_n 35 dJ33_balanceDeletion_34 rfl rfl ?_
          refine G_iconst (v := 0) 36 dJ33_balanceDeletion_35 (by decide) rfl ?_
          refine G_putI (f := 94) (a := a3) "" 39 dJ33_balanceDeletion_36 (Or.inl q1314) (Or.inl rfl) rfl e4 (hp94 c5) (nk94 c5) (Or.inl rfl) rfl rfl rfl ?_
          generalize hs46 : sFI σ 94 a3 0 = s46
          have x47 : ∀ a, ¬ kd σ a = 0 → kd s46 a = kd σ a := by subst hs46; exact fun a _ => congrFun kd_sFI a
          have h := h s46 hs46.symm
          refine G_aload_n 40 dJ33_balanceDeletion_39 rfl rfl ?_
          exact G_aret dJ33_balanceDeletion_40 rfl (Or.inl ⟨_, rfl⟩) ⟨_, rfl, h⟩
      · have h := h.2 u6
        refine G_aload_n 21 dJ33_balanceDeletion_20 rfl rfl ?_
        refine G_iconst (v := 0) 22 dJ33_balanceDeletion_21 (by decide) rfl ?_
        refine G_putI (f := 94) (a := a3) "" 25 dJ33_balanceDeletion_22 (Or.inl q1314) (Or.inl rfl) rfl e4 (hp94 c5) (nk94 c5) (Or.inl rfl) rfl rfl rfl ?_
        generalize hs48 : sFI σ 94 a3 0 = s48
        have x49 : ∀ a, ¬ kd σ a = 0 → kd s48 a = kd σ a := by subst hs48; exact fun a _ => congrFun kd_sFI a
        have h := h s48 hs48.symm
        refine G_aload_n 26 dJ33_balanceDeletion_25 rfl rfl ?_
        exact G_aret dJ33_balanceDeletion_26 rfl (Or.inl ⟨_, rfl⟩) ⟨_, rfl, h⟩
    · have h := h.2 u2
      exact h
set_option maxHeartbeats 4000000 in
theorem bJ33_balanceDeletion_9 {w : Wt} {K : Sg → Option Nat → Prop} {rc rs : Nat} {σ : Sg} (l0 : Option Nat) (l1 : Option Nat) (v2 : Value) (v3 : Value) (v4 : Value) (v5 : Value) (v6 : Value) (h : K σ l0) : G w mJ33_balanceDeletion (KR K) (rc) (rs) σ 9 [va_rf l0, va_rf l1, v2, v3, v4, v5, v6] [] := by
  refine G_aload_n 10 dJ33_balanceDeletion_9 rfl rfl ?_
  exact G_aret dJ33_balanceDeletion_10 rfl (Or.inl ⟨_, rfl⟩) ⟨_, rfl, h⟩
set_option maxHeartbeats 4000000 in
theorem bJ33_balanceDeletion_105 {w : Wt} {K : Sg → Option Nat → Prop} {rc rs : Nat} {σ : Sg} (l0 : Option Nat) (l1 : Option Nat) (l2 : Option Nat) (l3 : Option Nat) (l4 : Option Nat) (v5 : Value) (v6 : Value) (h : ((¬ l4 = none → ∃ a2, l4 = some a2 ∧ kd σ a2 = 32 ∧ ((FR σ 92 a2 = none → G w mJ33_balanceDeletion (KR K) (rc) (rs) σ 142 [va_rf l0, va_rf l1, va_rf l2, va_rf l3, va_rf l4, va_rf (FR σ 91 a2), va_rf (FR σ 92 a2)] []) ∧ (¬ FR σ 92 a2 = none → ∃ a6, FR σ 92 a2 = some a6 ∧ kd σ a6 = 32 ∧ ((¬ FI σ 94 a6 = 0 → G w mJ33_balanceDeletion (KR K) (rc) (rs) σ 166 [va_rf l0, va_rf l1, va_rf l2, va_rf l3, va_rf l4, va_rf (FR σ 91 a2), va_rf (FR σ 92 a2)] []) ∧ (FI σ 94 a6 = 0 → G w mJ33_balanceDeletion (KR K) (rc) (rs) σ 142 [va_rf l0, va_rf l1, va_rf l2, va_rf l3, va_rf l4, va_rf (FR σ 91 a2), va_rf (FR σ 92 a2)] []))))) ∧ (l4 = none → G w mJ33_balanceDeletion (KR K) (rc) (rs) σ 0 [va_rf l0, va_rf l2, va_rf l2, va_rf l3, va_rf l4, v5, v6] []))) : G w mJ33_balanceDeletion (KR K) (rc) (rs) σ 105 [va_rf l0, va_rf l1, va_rf l2, va_rf l3, va_rf l4, v5, v6] [] := by
  refine G_aload 107 dJ33_balanceDeletion_105 rfl rfl ?_
  refine G_ifnonnull 115 110 dJ33_balanceDeletion_107 (by decide) rfl (fun u1 => ?_) (fun u1 => ?_)
  · have h := h.1 u1
    refine G_aload 117 dJ33_balanceDeletion_115 rfl rfl ?_
    obtain ⟨a2, e3, h⟩ := h
    obtain ⟨c4, h⟩ := h
    refine G_getR (f := 91) (a := a2) "" 120 dJ33_balanceDeletion_117 (Or.inl q1310) (Or.inl rfl) rfl e3 (hf91 c4) rfl ?_
    refine G_astore 122 [va_rf l0, va_rf l1, va_rf l2, va_rf l3, va_rf l4, va_rf (FR σ 91 a2), v6] dJ33_balanceDeletion_120 (Nat.le_of_ble_eq_true rfl) rfl rfl ?_
    refine G_aload 124 dJ33_balanceDeletion_122 rfl rfl ?_
    refine G_getR (f := 92) (a := a2) "" 127 dJ33_balanceDeletion_124 (Or.inl q1311) (Or.inl rfl) rfl e3 (hf92 c4) rfl ?_
    refine G_astore 129 [va_rf l0, va_rf l1, va_rf l2, va_rf l3, va_rf l4, va_rf (FR σ 91 a2), va_rf (FR σ 92 a2)] dJ33_balanceDeletion_127 (Nat.le_of_ble_eq_true rfl) rfl rfl ?_
    refine G_aload 131 dJ33_balanceDeletion_129 rfl rfl ?_
    refine G_ifnull 142 134 dJ33_balanceDeletion_131 (by decide) rfl (fun u5 => ?_) (fun u5 => ?_)
    · have h := h.1 u5
      exact h
    · have h := h.2 u5
      refine G_aload 136 dJ33_balanceDeletion_134 rfl rfl ?_
      obtain ⟨a6, e7, h⟩ := h
      obtain ⟨c8, h⟩ := h
      refine G_getI (f := 94) (a := a6) "" 139 dJ33_balanceDeletion_136 (Or.inl q1314) (Or.inl rfl) rfl e7 (hf94 c8) rfl ?_
      refine G_if_ne 166 142 dJ33_balanceDeletion_139 (by decide) rfl (fun u9 => ?_) (fun u9 => ?_)
      · have h := h.1 u9
        exact h
      · have h := h.2 u9
        exact h
  · have h := h.2 u1
    refine G_aload_n 111 dJ33_balanceDeletion_110 rfl rfl ?_
    refine G_astore_n 112 [va_rf l0, va_rf l2, va_rf l2, va_rf l3, va_rf l4, v5, v6] dJ33_balanceDeletion_111 (Nat.le_of_ble_eq_true rfl) rfl rfl ?_
    refine G_goto 0 dJ33_balanceDeletion_112 (by decide) ?_
    exact h
set_option maxHeartbeats 4000000 in
theorem bJ33_balanceDeletion_142 {w : Wt} {K : Sg → Option Nat → Prop} {rc rs : Nat} {σ : Sg} (l0 : Option Nat) (l1 : Option Nat) (l2 : Option Nat) (l3 : Option Nat) (l4 : Option Nat) (l5 : Option Nat) (l6 : Option Nat) (h : ((l5 = none → G w mJ33_balanceDeletion (KR K) (rc) (rs) σ 155 [va_rf l0, va_rf l1, va_rf l2, va_rf l3, va_rf l4, va_rf l5, va_rf l6] []) ∧ (¬ l5 = none → ∃ a2, l5 = some a2 ∧ kd σ a2 = 32 ∧ ((¬ FI σ 94 a2 = 0 → G w mJ33_balanceDeletion (KR K) (rc) (rs) σ 166 [va_rf l0, va_rf l1, va_rf l2, va_rf l3, va_rf l4, va_rf l5, va_rf l6] []) ∧ (FI σ 94 a2 = 0 → G w mJ33_balanceDeletion (KR K) (rc) (rs) σ 155 [va_rf l0, va_rf l1, va_rf l2, va_rf l3, va_rf l4, va_rf l5, va_rf l6] []))))) : G w mJ33_balanceDeletion (KR K) (rc) (rs) σ 142 [va_rf l0, va_rf l1, va_rf l2, va_rf l3, va_rf l4, va_rf l5, va_rf l6] [] := by
  refine G_aload 144 dJ33_balanceDeletion_142 rfl rfl ?_
  refine G_ifnull 155 147 dJ33_balanceDeletion_144 (by decide) rfl (fun u1 => ?_) (fun u1 => ?_)
  · have h := h.1 u1
    exact h
  · have h := h.2 u1
    refine G_aload 149 dJ33_balanceDeletion_147 rfl rfl ?_
    obtain ⟨a2, e3, h⟩ := h
    obtain ⟨c4, h⟩ := h
    refine G_getI (f := 94) (a := a2) "" 152 dJ33_balanceDeletion_149 (Or.inl q1314) (Or.inl rfl) rfl e3 (hf94 c4) rfl ?_
    refine G_if_ne 166 155 dJ33_balanceDeletion_152 (by decide) rfl (fun u5 => ?_) (fun u5 => ?_)
    · have h := h.1 u5
      exact h
    · have h := h.2 u5
      exact h
set_option maxHeartbeats 4000000 in
theorem bJ33_balanceDeletion_155 {w : Wt} {K : Sg → Option Nat → Prop} {rc rs : Nat} {σ : Sg} (l0 : Option Nat) (l1 : Option Nat) (l2 : Option Nat) (l3 : Option Nat) (l4 : Option Nat) (l5 : Option Nat) (l6 : Option Nat) (h : ∃ a1, l4 = some a1 ∧ kd σ a1 = 32 ∧ ∀ s4, s4 = sFI σ 94 a1 1 → G w mJ33_balanceDeletion (KR K) (rc) (rs) s4 278 [va_rf l0, va_rf l2, va_rf l2, va_rf l3, va_rf l4, va_rf l5, va_rf l6] []) : G w mJ33_balanceDeletion (KR K) (rc) (rs) σ 155 [va_rf l0, va_rf l1, va_rf l2, va_rf l3, va_rf l4, va_rf l5, va_rf l6] [] := by
  refine G_aload 157 dJ33_balanceDeletion_155 rfl rfl ?_
  refine G_iconst (v := 1) 158 dJ33_balanceDeletion_157 (by decide) rfl ?_
  obtain ⟨a1, e2, h⟩ := h
  obtain ⟨c3, h⟩ := h
  refine G_putI (f := 94) (a := a1) "" 161 dJ33_balanceDeletion_158 (Or.inl q1314) (Or.inl rfl) rfl e2 (hp94 c3) (nk94 c3) (Or.inl rfl) rfl rfl rfl ?_
  generalize hs4 : sFI σ 94 a1 1 = s4
  have x5 : ∀ a, ¬ kd σ a = 0 → kd s4 a = kd σ a := by subst hs4; exact fun a _ => congrFun kd_sFI a
  have h := h s4 hs4.symm
  refine G_aload_n 162 dJ33_balanceDeletion_161 rfl rfl ?_
  refine G_astore_n 163 [va_rf l0, va_rf l2, va_rf l2, va_rf l3, va_rf l4, va_rf l5, va_rf l6] dJ33_balanceDeletion_162 (Nat.le_of_ble_eq_true rfl) rfl rfl ?_
  refine G_goto 278 dJ33_balanceDeletion_163 (by decide) ?_
  exact h
set_option maxHeartbeats 4000000 in
theorem bJ33_balanceDeletion_166 {w : Wt} {K : Sg → Option Nat → Prop} {rc rs : Nat} {σ : Sg} (l0 : Option Nat) (l1 : Option Nat) (l2 : Option Nat) (l3 : Option Nat) (l4 : Option Nat) (l5 : Option Nat) (l6 : Option Nat) (h : ((l6 = none → G w mJ33_balanceDeletion (KR K) (rc) (rs) σ 179 [va_rf l0, va_rf l1, va_rf l2, va_rf l3, va_rf l4, va_rf l5, va_rf l6] []) ∧ (¬ l6 = none → ∃ a2, l6 = some a2 ∧ kd σ a2 = 32 ∧ ((¬ FI σ 94 a2 = 0 → G w mJ33_balanceDeletion (KR K) (rc) (rs) σ 222 [va_rf l0, va_rf l1, va_rf l2, va_rf l3, va_rf l4, va_rf l5, va_rf l6] []) ∧ (FI σ 94 a2 = 0 → G w mJ33_balanceDeletion (KR K) (rc) (rs) σ 179 [va_rf l0, va_rf l1, va_rf l2, va_rf l3, va_rf l4, va_rf l5, va_rf l6] []))))) : G w mJ33_balanceDeletion (KR K) (rc) (rs) σ 166 [va_rf l0, va_rf l1, va_rf l2, va_rf l3, va_rf l4, va_rf l5, va_rf l6] [] := by
  refine G_aload 168 dJ33_balanceDeletion_166 rfl rfl ?_
  refine G_ifnull 179 171 dJ33_balanceDeletion_168 (by decide) rfl (fun u1 => ?_) (fun u1 => ?_)
  · have h := h.1 u1
    exact h
  · have h := h.2 u1
    refine G_aload 173 dJ33_balanceDeletion_171 rfl rfl ?_
    obtain ⟨a2, e3, h⟩ := h
    obtain ⟨c4, h⟩ := h
    refine G_getI (f := 94) (a := a2) "" 176 dJ33_balanceDeletion_173 (Or.inl q1314) (Or.inl rfl) rfl e3 (hf94 c4) rfl ?_
    refine G_if_ne 222 179 dJ33_balanceDeletion_176 (by decide) rfl (fun u5 => ?_) (fun u5 => ?_)
    · have h := h.1 u5
      exact h
    · have h := h.2 u5
      exact h
set_option maxHeartbeats 4000000 in
theorem bJ33_balanceDeletion_179 {w : Wt} {K : Sg → Option Nat → Prop} {rc rs : Nat} {σ : Sg} (l0 : Option Nat) (l1 : Option Nat) (l2 : Option Nat) (l3 : Option Nat) (l4 : Option Nat) (l5 : Option Nat) (l6 : Option Nat) (h : ((l5 = none → G w mJ33_balanceDeletion (KR K) (rc) (rs) σ 190 [va_rf l0, va_rf l1, va_rf l2, va_rf l3, va_rf l4, va_rf l5, va_rf l6] []) ∧ (¬ l5 = none → ∃ a2, l5 = some a2 ∧ kd σ a2 = 32 ∧ ∀ s5, s5 = sFI σ 94 a2 0 → G w mJ33_balanceDeletion (KR K) (rc) (rs) s5 190 [va_rf l0, va_rf l1, va_rf l2, va_rf l3, va_rf l4, va_rf l5, va_rf l6] []))) : G w mJ33_balanceDeletion (KR K) (rc) (rs) σ 179 [va_rf l0, va_rf l1, va_rf l2, va_rf l3, va_rf l4, va_rf l5, va_rf l6] [] := by
  refine G_aload 181 dJ33_balanceDeletion_179 rfl rfl ?_
  refine G_ifnull 190 184 dJ33_balanceDeletion_181 (by decide) rfl (fun u1 => ?_) (fun u1 => ?_)
  · have h := h.1 u1
    exact h
  · have h := h.2 u1
    refine G_aload 186 dJ33_balanceDeletion_184 rfl rfl ?_
    refine G_iconst (v := 0) 187 dJ33_balanceDeletion_186 (by decide) rfl ?_
    obtain ⟨a2, e3, h⟩ := h
    obtain ⟨c4, h⟩ := h
    refine G_putI (f := 94) (a := a2) "" 190 dJ33_balanceDeletion_187 (Or.inl q1314) (Or.inl rfl) rfl e3 (hp94 c4) (nk94 c4) (Or.inl rfl) rfl rfl rfl ?_
    generalize hs5 : sFI σ 94 a2 0 = s5
    have x6 : ∀ a, ¬ kd σ a = 0 → kd s5 a = kd σ a := by subst hs5; exact fun a _ => congrFun kd_sFI a
    have h := h s5 hs5.symm
    exact h
set_option maxHeartbeats 4000000 in
theorem bJ33_balanceDeletion_190 {w : Wt} {K : Sg → Option Nat → Prop} {rc rs : Nat} {σ : Sg} (l0 : Option Nat) (l1 : Option Nat) (l2 : Option Nat) (l3 : Option Nat) (l4 : Option Nat) (l5 : Option Nat) (l6 : Option Nat) (h : ∃ a1, l4 = some a1 ∧ kd σ a1 = 32 ∧ ∀ s4, s4 = sFI σ 94 a1 1 → CalR w mJ33_rotateRight s4 [va_rf l0, va_rf l4] (fun s6 x7 => Ext s4 s6 → ∃ a10, l1 = some a10 ∧ kd s6 a10 = 32 ∧ ((¬ FR s6 90 a10 = none → ∃ a14, FR s6 90 a10 = some a14 ∧ kd s6 a14 = 32 ∧ G w mJ33_balanceDeletion (KR K) (rc) (rs) s6 222 [va_rf x7, va_rf l1, va_rf (FR s6 90 a10), va_rf l3, va_rf (FR s6 92 a14), va_rf l5, va_rf l6] []) ∧ (FR s6 90 a10 = none → G w mJ33_balanceDeletion (KR K) (rc) (rs) s6 222 [va_rf x7, va_rf l1, va_rf (FR s6 90 a10), va_rf l3, va_rf none, va_rf l5, va_rf l6] [])))) : G w mJ33_balanceDeletion (KR K) (rc) (rs) σ 190 [va_rf l0, va_rf l1, va_rf l2, va_rf l3, va_rf l4, va_rf l5, va_rf l6] [] := by
  refine G_aload 192 dJ33_balanceDeletion_190 rfl rfl ?_
  refine G_iconst (v := 1) 193 dJ33_balanceDeletion_192 (by decide) rfl ?_
  obtain ⟨a1, e2, h⟩ := h
  obtain ⟨c3, h⟩ := h
  refine G_putI (f := 94) (a := a1) "" 196 dJ33_balanceDeletion_193 (Or.inl q1314) (Or.inl rfl) rfl e2 (hp94 c3) (nk94 c3) (Or.inl rfl) rfl rfl rfl ?_
  generalize hs4 : sFI σ 94 a1 1 = s4
  have x5 : ∀ a, ¬ kd σ a = 0 → kd s4 a = kd σ a := by subst hs4; exact fun a _ => congrFun kd_sFI a
  have h := h s4 hs4.symm
  refine G_aload_n 197 dJ33_balanceDeletion_196 rfl rfl ?_
  refine G_aload 199 dJ33_balanceDeletion_197 rfl rfl ?_
  refine G_invS (N := mJ33_rotateRight) (As := [va_rf l0, va_rf l4]) (st := []) (rc) (rs) "" 202 dJ33_balanceDeletion_199 (Or.inl q1230) q1231 q72 q1232 rfl mJ33_rotateRight_args ⟨Nat.le_of_ble_eq_true rfl, Nat.le_of_ble_eq_true rfl⟩ rfl (Nat.zero_le _) (le_b mJ33_rotateRight_c (Nat.le_refl _)) (le_b mJ33_rotateRight_s (Nat.le_refl _)) rfl (Cal.mono h ?_)
  rintro s6 v ⟨x7, rfl, h⟩ hx8
  have h := h hx8
  have x9 := hx8.x
  show G w mJ33_balanceDeletion (KR K) (rc) (rs) s6 202 [va_rf l0, va_rf l1, va_rf l2, va_rf l3, va_rf l4, va_rf l5, va_rf l6] [va_rf x7]
  refine G_astore_n 203 [va_rf x7, va_rf l1, va_rf l2, va_rf l3, va_rf l4, va_rf l5, va_rf l6] dJ33_balanceDeletion_202 (Nat.le_of_ble_eq_true rfl) rfl rfl ?_
  refine G_aload_n 204 dJ33_balanceDeletion_203 rfl rfl ?_
  obtain ⟨a10, e11, h⟩ := h
  obtain ⟨c12, h⟩ := h
  refine G_getR (f := 90) (a := a10) "" 207 dJ33_balanceDeletion_204 (Or.inl q1309) (Or.inl rfl) rfl e11 (hf90 c12) rfl ?_
  refine G_dup 208 dJ33_balanceDeletion_207 (rf_cat _) rfl ?_
  refine G_astore_n 209 [va_rf x7, va_rf l1, va_rf (FR s6 90 a10), va_rf l3, va_rf l4, va_rf l5, va_rf l6] dJ33_balanceDeletion_208 (Nat.le_of_ble_eq_true rfl) rfl rfl ?_
  refine G_ifnonnull 216 212 dJ33_balanceDeletion_209 (by decide) rfl (fun u13 => ?_) (fun u13 => ?_)
  · have h := h.1 u13
    refine G_aload_n 217 dJ33_balanceDeletion_216 rfl rfl ?_
    obtain ⟨a14, e15, h⟩ := h
    obtain ⟨c16, h⟩ := h
    refine G_getR (f := 92) (a := a14) "" 220 dJ33_balanceDeletion_217 (Or.inl q1311) (Or.inl rfl) rfl e15 (hf92 c16) rfl ?_
    refine G_astore 222 [va_rf x7, va_rf l1, va_rf (FR s6 90 a10), va_rf l3, va_rf (FR s6 92 a14), va_rf l5, va_rf l6] dJ33_balanceDeletion_220 (Nat.le_of_ble_eq_true rfl) rfl rfl ?_
    exact h
  · have h := h.2 u13
    refine G_null 213 dJ33_balanceDeletion_212 rfl ?_
    refine G_goto 220 dJ33_balanceDeletion_213 (by decide) ?_
    refine G_astore 222 [va_rf x7, va_rf l1, va_rf (FR s6 90 a10), va_rf l3, va_rf none, va_rf l5, va_rf l6] dJ33_balanceDeletion_220 (Nat.le_of_ble_eq_true rfl) rfl rfl ?_
    exact h
set_option maxHeartbeats 4000000 in
theorem bJ33_balanceDeletion_222 {w : Wt} {K : Sg → Option Nat → Prop} {rc rs : Nat} {σ : Sg} (l0 : Option Nat) (l1 : Option Nat) (l2 : Option Nat) (l3 : Option Nat) (l4 : Option Nat) (l5 : Option Nat) (l6 : Option Nat) (h : ((l4 = none → G w mJ33_balanceDeletion (KR K) (rc) (rs) σ 261 [va_rf l0, va_rf l1, va_rf l2, va_rf l3, va_rf l4, va_rf l5, va_rf l6] []) ∧ (¬ l4 = none → ((¬ l2 = none → ∃ a3, l2 = some a3 ∧ kd σ a3 = 32 ∧ ∃ a6, l4 = some a6 ∧ kd σ a6 = 32 ∧ (FI σ 94 a3 = 0 ∨ FI σ 94 a3 = 1) ∧ ∀ s10, s10 = sFI σ 94 a6 (FI σ 94 a3) → ((FR s10 92 a6 = none → G w mJ33_balanceDeletion (KR K) (rc) (rs) s10 261 [va_rf l0, va_rf l1, va_rf l2, va_rf l3, va_rf l4, va_rf l5, va_rf (FR s10 92 a6)] []) ∧ (¬ FR s10 92 a6 = none → ∃ a13, FR s10 92 a6 = some a13 ∧ kd s10 a13 = 32 ∧ ∀ s16, s16 = sFI s10 94 a13 0 → G w mJ33_balanceDeletion (KR K) (rc) (rs) s16 261 [va_rf l0, va_rf l1, va_rf l2, va_rf l3, va_rf l4, va_rf l5, va_rf (FR s10 92 a6)] []))) ∧ (l2 = none → ∃ a18, l4 = some a18 ∧ kd σ a18 = 32 ∧ ∀ s21, s21 = sFI σ 94 a18 0 → ((FR s21 92 a18 = none → G w mJ33_balanceDeletion (KR K) (rc) (rs) s21 261 [va_rf l0, va_rf l1, va_rf l2, va_rf l3, va_rf l4, va_rf l5, va_rf (FR s21 92 a18)] []) ∧ (¬ FR s21 92 a18 = none → ∃ a24, FR s21 92 a18 = some a24 ∧ kd s21 a24 = 32 ∧ ∀ s27, s27 = sFI s21 94 a24 0 → G w mJ33_balanceDeletion (KR K) (rc) (rs) s27 261 [va_rf l0, va_rf l1, va_rf l2, va_rf l3, va_rf l4, va_rf l5, va_rf (FR s21 92 a18)] []))))))) : G w mJ33_balanceDeletion (KR K) (rc) (rs) σ 222 [va_rf l0, va_rf l1, va_rf l2, va_rf l3, va_rf l4, va_rf l5, va_rf l6] [] := by
  refine G_aload 224 dJ33_balanceDeletion_222 rfl rfl ?_
  refine G_ifnull 261 227 dJ33_balanceDeletion_224 (by decide) rfl (fun u1 => ?_) (fun u1 => ?_)
  · have h := h.1 u1
    exact h
  · have h := h.2 u1
    refine G_aload 229 dJ33_balanceDeletion_227 rfl rfl ?_
    refine G_aload_n 230 dJ33_balanceDeletion_229 rfl rfl ?_
    refine G_ifnonnull 237 233 dJ33_balanceDeletion_230 (by decide) rfl (fun u2 => ?_) (fun u2 => ?_)
    · have h := h.1 u2
      refine G_aload_n 238 dJ33_balanceDeletion_237 rfl rfl ?_
      obtain ⟨a3, e4, h⟩ := h
      obtain ⟨c5, h⟩ := h
      refine G_getI (f := 94) (a := a3) "" 241 dJ33_balanceDeletion_238 (Or.inl q1314) (Or.inl rfl) rfl e4 (hf94 c5) rfl ?_
      obtain ⟨a6, e7, h⟩ := h
      obtain ⟨c8, h⟩ := h
      obtain ⟨c9, h⟩ := h
      refine G_putI (f := 94) (a := a6) "" 244 dJ33_balanceDeletion_241 (Or.inl q1314) (Or.inl rfl) rfl e7 (hp94 c8) (nk94 c8) (Or.inl rfl) (nar_bz c9).1 (nar_bz c9).2 rfl ?_
      generalize hs10 : sFI σ 94 a6 (FI σ 94 a3) = s10
      have x11 : ∀ a, ¬ kd σ a = 0 → kd s10 a = kd σ a := by subst hs10; exact fun a _ => congrFun kd_sFI a
      have h := h s10 hs10.symm
      refine G_aload 246 dJ33_balanceDeletion_244 rfl rfl ?_
      have c8 := kdE x11 c8 (by decide)
      refine G_getR (f := 92) (a := a6) "" 249 dJ33_balanceDeletion_246 (Or.inl q1311) (Or.inl rfl) rfl e7 (hf92 c8) rfl ?_
      refine G_dup 250 dJ33_balanceDeletion_249 (rf_cat _) rfl ?_
      refine G_astore 252 [va_rf l0, va_rf l1, va_rf l2, va_rf l3, va_rf l4, va_rf l5, va_rf (FR s10 92 a6)] dJ33_balanceDeletion_250 (Nat.le_of_ble_eq_true rfl) rfl rfl ?_
      refine G_ifnull 261 255 dJ33_balanceDeletion_252 (by decide) rfl (fun u12 => ?_) (fun u12 => ?_)
      · have h := h.1 u12
        exact h
      · have h := h.2 u12
        refine G_aload 257 dJ33_balanceDeletion_255 rfl rfl ?_
        refine G_iconst (v := 0) 258 dJ33_balanceDeletion_257 (by decide) rfl ?_
        obtain ⟨a13, e14, h⟩ := h
        obtain ⟨c15, h⟩ := h
        refine G_putI (f := 94) (a := a13) "" 261 dJ33_balanceDeletion_258 (Or.inl q1314) (Or.inl rfl) rfl e14 (hp94 c15) (nk94 c15) (Or.inl rfl) rfl rfl rfl ?_
        generalize hs16 : sFI s10 94 a13 0 = s16
        have x17 : ∀ a, ¬ kd s10 a = 0 → kd s16 a = kd s10 a := by subst hs16; exact fun a _ => congrFun kd_sFI a
        have h := h s16 hs16.symm
        exact h
    · have h := h.2 u2
      refine G_iconst (v := 0) 234 dJ33_balanceDeletion_233 (by decide) rfl ?_
      refine G_goto 241 dJ33_balanceDeletion_234 (by decide) ?_
      obtain ⟨a18, e19, h⟩ := h
      obtain ⟨c20, h⟩ := h
      refine G_putI (f := 94) (a := a18) "" 244 dJ33_balanceDeletion_241 (Or.inl q1314) (Or.inl rfl) rfl e19 (hp94 c20) (nk94 c20) (Or.inl rfl) rfl rfl rfl ?_
      generalize hs21 : sFI σ 94 a18 0 = s21
      have x22 : ∀ a, ¬ kd σ a = 0 → kd s21 a = kd σ a := by subst hs21; exact fun a _ => congrFun kd_sFI a
      have h := h s21 hs21.symm
      refine G_aload 246 dJ33_balanceDeletion_244 rfl rfl ?_
      have c20 := kdE x22 c20 (by decide)
      refine G_getR (f := 92) (a := a18) "" 249 dJ33_balanceDeletion_246 (Or.inl q1311) (Or.inl rfl) rfl e19 (hf92 c20) rfl ?_
      refine G_dup 250 dJ33_balanceDeletion_249 (rf_cat _) rfl ?_
      refine G_astore 252 [va_rf l0, va_rf l1, va_rf l2, va_rf l3, va_rf l4, va_rf l5, va_rf (FR s21 92 a18)] dJ33_balanceDeletion_250 (Nat.le_of_ble_eq_true rfl) rfl rfl ?_
      refine G_ifnull 261 255 dJ33_balanceDeletion_252 (by decide) rfl (fun u23 => ?_) (fun u23 => ?_)
      · have h := h.1 u23
        exact h
      · have h := h.2 u23
        refine G_aload 257 dJ33_balanceDeletion_255 rfl rfl ?_
        refine G_iconst (v := 0) 258 dJ33_balanceDeletion_257 (by decide) rfl ?_
        obtain ⟨a24, e25, h⟩ := h
        obtain ⟨c26, h⟩ := h
        refine G_putI (f := 94) (a := a24) "" 261 dJ33_balanceDeletion_258 (Or.inl q1314) (Or.inl rfl) rfl e25 (hp94 c26) (nk94 c26) (Or.inl rfl) rfl rfl rfl ?_
        generalize hs27 : sFI s21 94 a24 0 = s27
        have x28 : ∀ a, ¬ kd s21 a = 0 → kd s27 a = kd s21 a := by subst hs27; exact fun a _ => congrFun kd_sFI a
        have h := h s27 hs27.symm
        exact h
set_option maxHeartbeats 4000000 in
theorem bJ33_balanceDeletion_261 {w : Wt} {K : Sg → Option Nat → Prop} {rc rs : Nat} {σ : Sg} (l0 : Option Nat) (l1 : Option Nat) (l2 : Option Nat) (l3 : Option Nat) (l4 : Option Nat) (l5 : Option Nat) (l6 : Option Nat) (h : ((l2 = none → G w mJ33_balanceDeletion (KR K) (rc) (rs) σ 276 [va_rf l0, va_rf l1, va_rf l2, va_rf l3, va_rf l4, va_rf l5, va_rf l6] []) ∧ (¬ l2 = none → ∃ a2, l2 = some a2 ∧ kd σ a2 = 32 ∧ ∀ s5, s5 = sFI σ 94 a2 0 → CalR w mJ33_rotateLeft s5 [va_rf l0, va_rf l2] (fun s7 x8 => Ext s5 s7 → G w mJ33_balanceDeletion (KR K) (rc) (rs) s7 276 [va_rf x8, va_rf l1, va_rf l2, va_rf l3, va_rf l4, va_rf l5, va_rf l6] [])))) : G w mJ33_balanceDeletion (KR K) (rc) (rs) σ 261 [va_rf l0, va_rf l1, va_rf l2, va_rf l3, va_rf l4, va_rf l5, va_rf l6] [] := by
  refine G_aload_n 262 dJ33_balanceDeletion_261 rfl rfl ?_
  refine G_ifnull 276 265 dJ33_balanceDeletion_262 (by decide) rfl (fun u1 => ?_) (fun u1 => ?_)
  · have h := h.1 u1
    exact h
  · have h := h.2 u1
    refine G_aload_n 266 dJ33_balanceDeletion_265 rfl rfl ?_
    refine G_iconst (v := 0) 267 dJ33_balanceDeletion_266 (by decide) rfl ?_
    obtain ⟨a2, e3, h⟩ := h
    obtain ⟨c4, h⟩ := h
    refine G_putI (f := 94) (a := a2) "" 270 dJ33_balanceDeletion_267 (Or.inl q1314) (Or.inl rfl) rfl e3 (hp94 c4) (nk94 c4) (Or.inl rfl) rfl rfl rfl ?_
    generalize hs5 : sFI σ 94 a2 0 = s5
    have x6 : ∀ a, ¬ kd σ a = 0 → kd s5 a = kd σ a := by subst hs5; exact fun a _ => congrFun kd_sFI a
    have h := h s5 hs5.symm
    refine G_aload_n 271 dJ33_balanceDeletion_270 rfl rfl ?_
    refine G_aload_n 272 dJ33_balanceDeletion_271 rfl rfl ?_
    refine G_invS (N := mJ33_rotateLeft) (As := [va_rf l0, va_rf l2]) (st := []) (rc) (rs) "" 275 dJ33_balanceDeletion_272 (Or.inl q1227) q1228 q72 q1229 rfl mJ33_rotateLeft_args ⟨Nat.le_of_ble_eq_true rfl, Nat.le_of_ble_eq_true rfl⟩ rfl (Nat.zero_le _) (le_b mJ33_rotateLeft_c (Nat.le_refl _)) (le_b mJ33_rotateLeft_s (Nat.le_refl _)) rfl (Cal.mono h ?_)
    rintro s7 v ⟨x8, rfl, h⟩ hx9
    have h := h hx9
    have x10 := hx9.x
    show G w mJ33_balanceDeletion (KR K) (rc) (rs) s7 275 [va_rf l0, va_rf l1, va_rf l2, va_rf l3, va_rf l4, va_rf l5, va_rf l6] [va_rf x8]
    refine G_astore_n 276 [va_rf x8, va_rf l1, va_rf l2, va_rf l3, va_rf l4, va_rf l5, va_rf l6] dJ33_balanceDeletion_275 (Nat.le_of_ble_eq_true rfl) rfl rfl ?_
    exact h
set_option maxHeartbeats 4000000 in
theorem bJ33_balanceDeletion_276 {w : Wt} {K : Sg → Option Nat → Prop} {rc rs : Nat} {σ : Sg} (l0 : Option Nat) (l1 : Option Nat) (l2 : Option Nat) (l3 : Option Nat) (l4 : Option Nat) (l5 : Option Nat) (l6 : Option Nat) (h : G w mJ33_balanceDeletion (KR K) (rc) (rs) σ 278 [va_rf l0, va_rf l0, va_rf l2, va_rf l3, va_rf l4, va_rf l5, va_rf l6] []) : G w mJ33_balanceDeletion (KR K) (rc) (rs) σ 276 [va_rf l0, va_rf l1, va_rf l2, va_rf l3, va_rf l4, va_rf l5, va_rf l6] [] := by
  refine G_aload_n 277 dJ33_balanceDeletion_276 rfl rfl ?_
  refine G_astore_n 278 [va_rf l0, va_rf l0, va_rf l2, va_rf l3, va_rf l4, va_rf l5, va_rf l6] dJ33_balanceDeletion_277 (Nat.le_of_ble_eq_true rfl) rfl rfl ?_
  exact h
set_option maxHeartbeats 4000000 in
theorem bJ33_balanceDeletion_278 {w : Wt} {K : Sg → Option Nat → Prop} {rc rs : Nat} {σ : Sg} (l0 : Option Nat) (l1 : Option Nat) (l2 : Option Nat) (l3 : Option Nat) (l4 : Option Nat) (l5 : Option Nat) (l6 : Option Nat) (h : G w mJ33_balanceDeletion (KR K) (rc) (rs) σ 0 [va_rf l0, va_rf l1, va_rf l2, va_rf l3, va_rf l4, va_rf l5, va_rf l6] []) : G w mJ33_balanceDeletion (KR K) (rc) (rs) σ 278 [va_rf l0, va_rf l1, va_rf l2, va_rf l3, va_rf l4, va_rf l5, va_rf l6] [] := by
  refine G_goto 0 dJ33_balanceDeletion_278 (by decide) ?_
  exact h
set_option maxHeartbeats 4000000 in
theorem bJ33_balanceDeletion_326 {w : Wt} {K : Sg → Option Nat → Prop} {rc rs : Nat} {σ : Sg} (l0 : Option Nat) (l1 : Option Nat) (l2 : Option Nat) (l3 : Option Nat) (v4 : Value) (v5 : Value) (v6 : Value) (h : ((¬ l3 = none → ∃ a2, l3 = some a2 ∧ kd σ a2 = 32 ∧ ((FR σ 91 a2 = none → G w mJ33_balanceDeletion (KR K) (rc) (rs) σ 360 [va_rf l0, va_rf l1, va_rf l2, va_rf l3, v4, va_rf (FR σ 91 a2), va_rf (FR σ 92 a2)] []) ∧ (¬ FR σ 91 a2 = none → ∃ a6, FR σ 91 a2 = some a6 ∧ kd σ a6 = 32 ∧ ((¬ FI σ 94 a6 = 0 → G w mJ33_balanceDeletion (KR K) (rc) (rs) σ 383 [va_rf l0, va_rf l1, va_rf l2, va_rf l3, v4, va_rf (FR σ 91 a2), va_rf (FR σ 92 a2)] []) ∧ (FI σ 94 a6 = 0 → G w mJ33_balanceDeletion (KR K) (rc) (rs) σ 360 [va_rf l0, va_rf l1, va_rf l2, va_rf l3, v4, va_rf (FR σ 91 a2), va_rf (FR σ 92 a2)] []))))) ∧ (l3 = none → G w mJ33_balanceDeletion (KR K) (rc) (rs) σ 0 [va_rf l0, va_rf l2, va_rf l2, va_rf l3, v4, v5, v6] []))) : G w mJ33_balanceDeletion (KR K) (rc) (rs) σ 326 [va_rf l0, va_rf l1, va_rf l2, va_rf l3, v4, v5, v6] [] := by
  refine G_aload_n 327 dJ33_balanceDeletion_326 rfl rfl ?_
  refine G_ifnonnull 335 330 dJ33_balanceDeletion_327 (by decide) rfl (fun u1 => ?_) (fun u1 => ?_)
  · have h := h.1 u1
    refine G_aload_n 336 dJ33_balanceDeletion_335 rfl rfl ?_
    obtain ⟨a2, e3, h⟩ := h
    obtain ⟨c4, h⟩ := h
    refine G_getR (f := 91) (a := a2) "" 339 dJ33_balanceDeletion_336 (Or.inl q1310) (Or.inl rfl) rfl e3 (hf91 c4) rfl ?_
    refine G_astore 341 [va_rf l0, va_rf l1, va_rf l2, va_rf l3, v4, va_rf (FR σ 91 a2), v6] dJ33_balanceDeletion_339 (Nat.le_of_ble_eq_true rfl) rfl rfl ?_
    refine G_aload_n 342 dJ33_balanceDeletion_341 rfl rfl ?_
    refine G_getR (f := 92) (a := a2) "" 345 dJ33_balanceDeletion_342 (Or.inl q1311) (Or.inl rfl) rfl e3 (hf92 c4) rfl ?_
    refine G_astore 347 [va_rf l0, va_rf l1, va_rf l2, va_rf l3, v4, va_rf (FR σ 91 a2), va_rf (FR σ 92 a2)] dJ33_balanceDeletion_345 (Nat.le_of_ble_eq_true rfl) rfl rfl ?_
    refine G_aload 349 dJ33_balanceDeletion_347 rfl rfl ?_
    refine G_ifnull 360 352 dJ33_balanceDeletion_349 (by decide) rfl (fun u5 => ?_) (fun u5 => ?_)
    · have h := h.1 u5
      exact h
    · have h := h.2 u5
      refine G_aload 354 dJ33_balanceDeletion_352 rfl rfl ?_
      obtain ⟨a6, e7, h⟩ := h
      obtain ⟨c8, h⟩ := h
      refine G_getI (f := 94) (a := a6) "" 357 dJ33_balanceDeletion_354 (Or.inl q1314) (Or.inl rfl) rfl e7 (hf94 c8) rfl ?_
      refine G_if_ne 383 360 dJ33_balanceDeletion_357 (by decide) rfl (fun u9 => ?_) (fun u9 => ?_)
      · have h := h.1 u9
        exact h
      · have h := h.2 u9
        exact h
  · have h := h.2 u1
    refine G_aload_n 331 dJ33_balanceDeletion_330 rfl rfl ?_
    refine G_astore_n 332 [va_rf l0, va_rf l2, va_rf l2, va_rf l3, v4, v5, v6] dJ33_balanceDeletion_331 (Nat.le_of_ble_eq_true rfl) rfl rfl ?_
    refine G_goto 0 dJ33_balanceDeletion_332 (by decide) ?_
    exact h
set_option maxHeartbeats 4000000 in
theorem bJ33_balanceDeletion_360 {w : Wt} {K : Sg → Option Nat → Prop} {rc rs : Nat} {σ : Sg} (l0 : Option Nat) (l1 : Option Nat) (l2 : Option Nat) (l3 : Option Nat) (v4 : Value) (l5 : Option Nat) (l6 : Option Nat) (h : ((l6 = none → G w mJ33_balanceDeletion (KR K) (rc) (rs) σ 373 [va_rf l0, va_rf l1, va_rf l2, va_rf l3, v4, va_rf l5, va_rf l6] []) ∧ (¬ l6 = none → ∃ a2, l6 = some a2 ∧ kd σ a2 = 32 ∧ ((¬ FI σ 94 a2 = 0 → G w mJ33_balanceDeletion (KR K) (rc) (rs) σ 383 [va_rf l0, va_rf l1, va_rf l2, va_rf l3, v4, va_rf l5, va_rf l6] []) ∧ (FI σ 94 a2 = 0 → G w mJ33_balanceDeletion (KR K) (rc) (rs) σ 373 [va_rf l0, va_rf l1, va_rf l2, va_rf l3, v4, va_rf l5, va_rf l6] []))))) : G w mJ33_balanceDeletion (KR K) (rc) (rs) σ 360 [va_rf l0, va_rf l1, va_rf l2, va_rf l3, v4, va_rf l5, va_rf l6] [] := by
  refine G_aload 362 dJ33_balanceDeletion_360 rfl rfl ?_
  refine G_ifnull 373 365 dJ33_balanceDeletion_362 (by decide) rfl (fun u1 => ?_) (fun u1 => ?_)
  · have h := h.1 u1
    exact h
  · have h := h.2 u1
    refine G_aload 367 dJ33_balanceDeletion_365 rfl rfl ?_
    obtain ⟨a2, e3, h⟩ := h
    obtain ⟨c4, h⟩ := h
    refine G_getI (f := 94) (a := a2) "" 370 dJ33_balanceDeletion_367 (Or.inl q1314) (Or.inl rfl) rfl e3 (hf94 c4) rfl ?_
    refine G_if_ne 383 373 dJ33_balanceDeletion_370 (by decide) rfl (fun u5 => ?_) (fun u5 => ?_)
    · have h := h.1 u5
      exact h
    · have h := h.2 u5
      exact h
set_option maxHeartbeats 4000000 in
theorem bJ33_balanceDeletion_373 {w : Wt} {K : Sg → Option Nat → Prop} {rc rs : Nat} {σ : Sg} (l0 : Option Nat) (l1 : Option Nat) (l2 : Option Nat) (l3 : Option Nat) (v4 : Value) (l5 : Option Nat) (l6 : Option Nat) (h : ∃ a1, l3 = some a1 ∧ kd σ a1 = 32 ∧ ∀ s4, s4 = sFI σ 94 a1 1 → G w mJ33_balanceDeletion (KR K) (rc) (rs) s4 489 [va_rf l0, va_rf l2, va_rf l2, va_rf l3, v4, va_rf l5, va_rf l6] []) : G w mJ33_balanceDeletion (KR K) (rc) (rs) σ 373 [va_rf l0, va_rf l1, va_rf l2, va_rf l3, v4, va_rf l5, va_rf l6] [] := by
  refine G_aload_n 374 dJ33_balanceDeletion_373 rfl rfl ?_
  refine G_iconst (v := 1) 375 dJ33_balanceDeletion_374 (by decide) rfl ?_
  obtain ⟨a1, e2, h⟩ := h
  obtain ⟨c3, h⟩ := h
  refine G_putI (f := 94) (a := a1) "" 378 dJ33_balanceDeletion_375 (Or.inl q1314) (Or.inl rfl) rfl e2 (hp94 c3) (nk94 c3) (Or.inl rfl) rfl rfl rfl ?_
  generalize hs4 : sFI σ 94 a1 1 = s4
  have x5 : ∀ a, ¬ kd σ a = 0 → kd s4 a = kd σ a := by subst hs4; exact fun a _ => congrFun kd_sFI a
  have h := h s4 hs4.symm
  refine G_aload_n 379 dJ33_balanceDeletion_378 rfl rfl ?_
  refine G_astore_n 380 [va_rf l0, va_rf l2, va_rf l2, va_rf l3, v4, va_rf l5, va_rf l6] dJ33_balanceDeletion_379 (Nat.le_of_ble_eq_true rfl) rfl rfl ?_
  refine G_goto 489 dJ33_balanceDeletion_380 (by decide) ?_
  exact h
set_option maxHeartbeats 4000000 in
theorem bJ33_balanceDeletion_383 {w : Wt} {K : Sg → Option Nat → Prop} {rc rs : Nat} {σ : Sg} (l0 : Option Nat) (l1 : Option Nat) (l2 : Option Nat) (l3 : Option Nat) (v4 : Value) (l5 : Option Nat) (l6 : Option Nat) (h : ((l5 = none → G w mJ33_balanceDeletion (KR K) (rc) (rs) σ 396 [va_rf l0, va_rf l1, va_rf l2, va_rf l3, v4, va_rf l5, va_rf l6] []) ∧ (¬ l5 = none → ∃ a2, l5 = some a2 ∧ kd σ a2 = 32 ∧ ((¬ FI σ 94 a2 = 0 → G w mJ33_balanceDeletion (KR K) (rc) (rs) σ 436 [va_rf l0, va_rf l1, va_rf l2, va_rf l3, v4, va_rf l5, va_rf l6] []) ∧ (FI σ 94 a2 = 0 → G w mJ33_balanceDeletion (KR K) (rc) (rs) σ 396 [va_rf l0, va_rf l1, va_rf l2, va_rf l3, v4, va_rf l5, va_rf l6] []))))) : G w mJ33_balanceDeletion (KR K) (rc) (rs) σ 383 [va_rf l0, va_rf l1, va_rf l2, va_rf l3, v4, va_rf l5, va_rf l6] [] := by
  refine G_aload 385 dJ33_balanceDeletion_383 rfl rfl ?_
  refine G_ifnull 396 388 dJ33_balanceDeletion_385 (by decide) rfl (fun u1 => ?_) (fun u1 => ?_)
  · have h := h.1 u1
    exact h
  · have h := h.2 u1
    refine G_aload 390 dJ33_balanceDeletion_388 rfl rfl ?_
    obtain ⟨a2, e3, h⟩ := h
    obtain ⟨c4, h⟩ := h
    refine G_getI (f := 94) (a := a2) "" 393 dJ33_balanceDeletion_390 (Or.inl q1314) (Or.inl rfl) rfl e3 (hf94 c4) rfl ?_
    refine G_if_ne 436 396 dJ33_balanceDeletion_393 (by decide) rfl (fun u5 => ?_) (fun u5 => ?_)
    · have h := h.1 u5
      exact h
    · have h := h.2 u5
      exact h
set_option maxHeartbeats 4000000 in
theorem bJ33_balanceDeletion_396 {w : Wt} {K : Sg → Option Nat → Prop} {rc rs : Nat} {σ : Sg} (l0 : Option Nat) (l1 : Option Nat) (l2 : Option Nat) (l3 : Option Nat) (v4 : Value) (l5 : Option Nat) (l6 : Option Nat) (h : ((l6 = none → G w mJ33_balanceDeletion (KR K) (rc) (rs) σ 407 [va_rf l0, va_rf l1, va_rf l2, va_rf l3, v4, va_rf l5, va_rf l6] []) ∧ (¬ l6 = none → ∃ a2, l6 = some a2 ∧ kd σ a2 = 32 ∧ ∀ s5, s5 = sFI σ 94 a2 0 → G w mJ33_balanceDeletion (KR K) (rc) (rs) s5 407 [va_rf l0, va_rf l1, va_rf l2, va_rf l3, v4, va_rf l5, va_rf l6] []))) : G w mJ33_balanceDeletion (KR K) (rc) (rs) σ 396 [va_rf l0, va_rf l1, va_rf l2, va_rf l3, v4, va_rf l5, va_rf l6] [] := by
  refine G_aload 398 dJ33_balanceDeletion_396 rfl rfl ?_
  refine G_ifnull 407 401 dJ33_balanceDeletion_398 (by decide) rfl (fun u1 => ?_) (fun u1 => ?_)
  · have h := h.1 u1
    exact h
  · have h := h.2 u1
    refine G_aload 403 dJ33_balanceDeletion_401 rfl rfl ?_
    refine G_iconst (v := 0) 404 dJ33_balanceDeletion_403 (by decide) rfl ?_
    obtain ⟨a2, e3, h⟩ := h
    obtain ⟨c4, h⟩ := h
    refine G_putI (f := 94) (a := a2) "" 407 dJ33_balanceDeletion_404 (Or.inl q1314) (Or.inl rfl) rfl e3 (hp94 c4) (nk94 c4) (Or.inl rfl) rfl rfl rfl ?_
    generalize hs5 : sFI σ 94 a2 0 = s5
    have x6 : ∀ a, ¬ kd σ a = 0 → kd s5 a = kd σ a := by subst hs5; exact fun a _ => congrFun kd_sFI a
    have h := h s5 hs5.symm
    exact h
set_option maxHeartbeats 4000000 in
theorem bJ33_balanceDeletion_407 {w : Wt} {K : Sg → Option Nat → Prop} {rc rs : Nat} {σ : Sg} (l0 : Option Nat) (l1 : Option Nat) (l2 : Option Nat) (l3 : Option Nat) (v4 : Value) (l5 : Option Nat) (l6 : Option Nat) (h : ∃ a1, l3 = some a1 ∧ kd σ a1 = 32 ∧ ∀ s4, s4 = sFI σ 94 a1 1 → CalR w mJ33_rotateLeft s4 [va_rf l0, va_rf l3] (fun s6 x7 => Ext s4 s6 → ∃ a10, l1 = some a10 ∧ kd s6 a10 = 32 ∧ ((¬ FR s6 90 a10 = none → ∃ a14, FR s6 90 a10 = some a14 ∧ kd s6 a14 = 32 ∧ G w mJ33_balanceDeletion (KR K) (rc) (rs) s6 436 [va_rf x7, va_rf l1, va_rf (FR s6 90 a10), va_rf (FR s6 91 a14), v4, va_rf l5, va_rf l6] []) ∧ (FR s6 90 a10 = none → G w mJ33_balanceDeletion (KR K) (rc) (rs) s6 436 [va_rf x7, va_rf l1, va_rf (FR s6 90 a10), va_rf none, v4, va_rf l5, va_rf l6] [])))) : G w mJ33_balanceDeletion (KR K) (rc) (rs) σ 407 [va_rf l0, va_rf l1, va_rf l2, va_rf l3, v4, va_rf l5, va_rf l6] [] := by
  refine G_aload_n 408 dJ33_balanceDeletion_407 rfl rfl ?_
  refine G_iconst (v := 1) 409 dJ33_balanceDeletion_408 (by decide) rfl ?_
  obtain ⟨a1, e2, h⟩ := h
  obtain ⟨c3, h⟩ := h
  refine G_putI (f := 94) (a := a1) "" 412 dJ33_balanceDeletion_409 (Or.inl q1314) (Or.inl rfl) rfl e2 (hp94 c3) (nk94 c3) (Or.inl rfl) rfl rfl rfl ?_
  generalize hs4 : sFI σ 94 a1 1 = s4
  have x5 : ∀ a, ¬ kd σ a = 0 → kd s4 a = kd σ a := by subst hs4; exact fun a _ => congrFun kd_sFI a
  have h := h s4 hs4.symm
  refine G_aload_n 413 dJ33_balanceDeletion_412 rfl rfl ?_
  refine G_aload_n 414 dJ33_balanceDeletion_413 rfl rfl ?_
  refine G_invS (N := mJ33_rotateLeft) (As := [va_rf l0, va_rf l3]) (st := []) (rc) (rs) "" 417 dJ33_balanceDeletion_414 (Or.inl q1227) q1228 q72 q1229 rfl mJ33_rotateLeft_args ⟨Nat.le_of_ble_eq_true rfl, Nat.le_of_ble_eq_true rfl⟩ rfl (Nat.zero_le _) (le_b mJ33_rotateLeft_c (Nat.le_refl _)) (le_b mJ33_rotateLeft_s (Nat.le_refl _)) rfl (Cal.mono h ?_)
  rintro s6 v ⟨x7, rfl, h⟩ hx8
  have h := h hx8
  have x9 := hx8.x
  show G w mJ33_balanceDeletion (KR K) (rc) (rs) s6 417 [va_rf l0, va_rf l1, va_rf l2, va_rf l3, v4, va_rf l5, va_rf l6] [va_rf x7]
  refine G_astore_n 418 [va_rf x7, va_rf l1, va_rf l2, va_rf l3, v4, va_rf l5, va_rf l6] dJ33_balanceDeletion_417 (Nat.le_of_ble_eq_true rfl) rfl rfl ?_
  refine G_aload_n 419 dJ33_balanceDeletion_418 rfl rfl ?_
  obtain ⟨a10, e11, h⟩ := h
  obtain ⟨c12, h⟩ := h
  refine G_getR (f := 90) (a := a10) "" 422 dJ33_balanceDeletion_419 (Or.inl q1309) (Or.inl rfl) rfl e11 (hf90 c12) rfl ?_
  refine G_dup 423 dJ33_balanceDeletion_422 (rf_cat _) rfl ?_
  refine G_astore_n 424 [va_rf x7, va_rf l1, va_rf (FR s6 90 a10), va_rf l3, v4, va_rf l5, va_rf l6] dJ33_balanceDeletion_423 (Nat.le_of_ble_eq_true rfl) rfl rfl ?_
  refine G_ifnonnull 431 427 dJ33_balanceDeletion_424 (by decide) rfl (fun u13 => ?_) (fun u13 => ?_)
  · have h := h.1 u13
    refine G_aload_n 432 dJ33_balanceDeletion_431 rfl rfl ?_
    obtain ⟨a14, e15, h⟩ := h
    obtain ⟨c16, h⟩ := h
    refine G_getR (f := 91) (a := a14) "" 435 dJ33_balanceDeletion_432 (Or.inl q1310) (Or.inl rfl) rfl e15 (hf91 c16) rfl ?_
    refine G_astore_n 436 [va_rf x7, va_rf l1, va_rf (FR s6 90 a10), va_rf (FR s6 91 a14), v4, va_rf l5, va_rf l6] dJ33_balanceDeletion_435 (Nat.le_of_ble_eq_true rfl) rfl rfl ?_
    exact h
  · have h := h.2 u13
    refine G_null 428 dJ33_balanceDeletion_427 rfl ?_
    refine G_goto 435 dJ33_balanceDeletion_428 (by decide) ?_
    refine G_astore_n 436 [va_rf x7, va_rf l1, va_rf (FR s6 90 a10), va_rf none, v4, va_rf l5, va_rf l6] dJ33_balanceDeletion_435 (Nat.le_of_ble_eq_true rfl) rfl rfl ?_
    exact h
set_option maxHeartbeats 4000000 in
theorem bJ33_balanceDeletion_436 {w : Wt} {K : Sg → Option Nat → Prop} {rc rs : Nat} {σ : Sg} (l0 : Option Nat) (l1 : Option Nat) (l2 : Option Nat) (l3 : Option Nat) (v4 : Value) (l5 : Option Nat) (l6 : Option Nat) (h : ((l3 = none → G w mJ33_balanceDeletion (KR K) (rc) (rs) σ 472 [va_rf l0, va_rf l1, va_rf l2, va_rf l3, v4, va_rf l5, va_rf l6] []) ∧ (¬ l3 = none → ((¬ l2 = none → ∃ a3, l2 = some a3 ∧ kd σ a3 = 32 ∧ ∃ a6, l3 = some a6 ∧ kd σ a6 = 32 ∧ (FI σ 94 a3 = 0 ∨ FI σ 94 a3 = 1) ∧ ∀ s10, s10 = sFI σ 94 a6 (FI σ 94 a3) → ((FR s10 91 a6 = none → G w mJ33_balanceDeletion (KR K) (rc) (rs) s10 472 [va_rf l0, va_rf l1, va_rf l2, va_rf l3, v4, va_rf (FR s10 91 a6), va_rf l6] []) ∧ (¬ FR s10 91 a6 = none → ∃ a13, FR s10 91 a6 = some a13 ∧ kd s10 a13 = 32 ∧ ∀ s16, s16 = sFI s10 94 a13 0 → G w mJ33_balanceDeletion (KR K) (rc) (rs) s16 472 [va_rf l0, va_rf l1, va_rf l2, va_rf l3, v4, va_rf (FR s10 91 a6), va_rf l6] []))) ∧ (l2 = none → ∃ a18, l3 = some a18 ∧ kd σ a18 = 32 ∧ ∀ s21, s21 = sFI σ 94 a18 0 → ((FR s21 91 a18 = none → G w mJ33_balanceDeletion (KR K) (rc) (rs) s21 472 [va_rf l0, va_rf l1, va_rf l2, va_rf l3, v4, va_rf (FR s21 91 a18), va_rf l6] []) ∧ (¬ FR s21 91 a18 = none → ∃ a24, FR s21 91 a18 = some a24 ∧ kd s21 a24 = 32 ∧ ∀ s27, s27 = sFI s21 94 a24 0 → G w mJ33_balanceDeletion (KR K) (rc) (rs) s27 472 [va_rf l0, va_rf l1, va_rf l2, va_rf l3, v4, va_rf (FR s21 91 a18), va_rf l6] []))))))) : G w mJ33_balanceDeletion (KR K) (rc) (rs) σ 436 [va_rf l0, va_rf l1, va_rf l2, va_rf l3, v4, va_rf l5, va_rf l6] [] := by
  refine G_aload_n 437 dJ33_balanceDeletion_436 rfl rfl ?_
  refine G_ifnull 472 440 dJ33_balanceDeletion_437 (by decide) rfl (fun u1 => ?_) (fun u1 => ?_)
  · have h := h.1 u1
    exact h
  · have h := h.2 u1
    refine G_aload_n 441 dJ33_balanceDeletion_440 rfl rfl ?_
    refine G_aload_n 442 dJ33_balanceDeletion_441 rfl rfl ?_
    refine G_ifnonnull 449 445 dJ33_balanceDeletion_442 (by decide) rfl (fun u2 => ?_) (fun u2 => ?_)
    · have h := h.1 u2
      refine G_aload_n 450 dJ33_balanceDeletion_449 rfl rfl ?_
      obtain ⟨a3, e4, h⟩ := h
      obtain ⟨c5, h⟩ := h
      refine G_getI (f := 94) (a := a3) "" 453 dJ33_balanceDeletion_450 (Or.inl q1314) (Or.inl rfl) rfl e4 (hf94 c5) rfl ?_
      obtain ⟨a6, e7, h⟩ := h
      obtain ⟨c8, h⟩ := h
      obtain ⟨c9, h⟩ := h
      refine G_putI (f := 94) (a := a6) "" 456 dJ33_balanceDeletion_453 (Or.inl q1314) (Or.inl rfl) rfl e7 (hp94 c8) (nk94 c8) (Or.inl rfl) (nar_bz c9).1 (nar_bz c9).2 rfl ?_
      generalize hs10 : sFI σ 94 a6 (FI σ 94 a3) = s10
      have x11 : ∀ a, ¬ kd σ a = 0 → kd s10 a = kd σ a := by subst hs10; exact fun a _ => congrFun kd_sFI a
      have h := h s10 hs10.symm
      refine G_aload_n 457 dJ33_balanceDeletion_456 rfl rfl ?_
      have c8 := kdE x11 c8 (by decide)
      refine G_getR (f := 91) (a := a6) "" 460 dJ33_balanceDeletion_457 (Or.inl q1310) (Or.inl rfl) rfl e7 (hf91 c8) rfl ?_
      refine G_dup 461 dJ33_balanceDeletion_460 (rf_cat _) rfl ?_
      refine G_astore 463 [va_rf l0, va_rf l1, va_rf l2, va_rf l3, v4, va_rf (FR s10 91 a6), va_rf l6] dJ33_balanceDeletion_461 (Nat.le_of_ble_eq_true rfl) rfl rfl ?_
      refine G_ifnull 472 466 dJ33_balanceDeletion_463 (by decide) rfl (fun u12 => ?_) (fun u12 => ?_)
      · have h := h.1 u12
        exact h
      · have h := h.2 u12
        refine G_aload 468 dJ33_balanceDeletion_466 rfl rfl ?_
        refine G_iconst (v := 0) 469 dJ33_balanceDeletion_468 (by decide) rfl ?_
        obtain ⟨a13, e14, h⟩ := h
        obtain ⟨c15, h⟩ := h
        refine G_putI (f := 94) (a := a13) "" 472 dJ33_balanceDeletion_469 (Or.inl q1314) (Or.inl rfl) rfl e14 (hp94 c15) (nk94 c15) (Or.inl rfl) rfl rfl rfl ?_
        generalize hs16 : sFI s10 94 a13 0 = s16
        have x17 : ∀ a, ¬ kd s10 a = 0 → kd s16 a = kd s10 a := by subst hs16; exact fun a _ => congrFun kd_sFI a
        have h := h s16 hs16.symm
        exact h
    · have h := h.2 u2
      refine G_iconst (v := 0) 446 dJ33_balanceDeletion_445 (by decide) rfl ?_
      refine G_goto 453 dJ33_balanceDeletion_446 (by decide) ?_
      obtain ⟨a18, e19, h⟩ := h
      obtain ⟨c20, h⟩ := h
      refine G_putI (f := 94) (a := a18) "" 456 dJ33_balanceDeletion_453 (Or.inl q1314) (Or.inl rfl) rfl e19 (hp94 c20) (nk94 c20) (Or.inl rfl) rfl rfl rfl ?_
      generalize hs21 : sFI σ 94 a18 0 = s21
      have x22 : ∀ a, ¬ kd σ a = 0 → kd s21 a = kd σ a := by subst hs21; exact fun a _ => congrFun kd_sFI a
      have h := h s21 hs21.symm
      refine G_aload_n 457 dJ33_balanceDeletion_456 rfl rfl ?_
      have c20 := kdE x22 c20 (by decide)
      refine G_getR (f := 91) (a := a18) "" 460 dJ33_balanceDeletion_457 (Or.inl q1310) (Or.inl rfl) rfl e19 (hf91 c20) rfl ?_
      refine G_dup 461 dJ33_balanceDeletion_460 (rf_cat _) rfl ?_
      refine G_astore 463 [va_rf l0, va_rf l1, va_rf l2, va_rf l3, v4, va_rf (FR s21 91 a18), va_rf l6] dJ33_balanceDeletion_461 (Nat.le_of_ble_eq_true rfl) rfl rfl ?_
      refine G_ifnull 472 466 dJ33_balanceDeletion_463 (by decide) rfl (fun u23 => ?_) (fun u23 => ?_)
      · have h := h.1 u23
        exact h
      · have h := h.2 u23
        refine G_aload 468 dJ33_balanceDeletion_466 rfl rfl ?_
        refine G_iconst (v := 0) 469 dJ33_balanceDeletion_468 (by decide) rfl ?_
        obtain ⟨a24, e25, h⟩ := h
        obtain ⟨c26, h⟩ := h
        refine G_putI (f := 94) (a := a24) "" 472 dJ33_balanceDeletion_469 (Or.inl q1314) (Or.inl rfl) rfl e25 (hp94 c26) (nk94 c26) (Or.inl rfl) rfl rfl rfl ?_
        generalize hs27 : sFI s21 94 a24 0 = s27
        have x28 : ∀ a, ¬ kd s21 a = 0 → kd s27 a = kd s21 a := by subst hs27; exact fun a _ => congrFun kd_sFI a
        have h := h s27 hs27.symm
        exact h
set_option maxHeartbeats 4000000 in
theorem bJ33_balanceDeletion_472 {w : Wt} {K : Sg → Option Nat → Prop} {rc rs : Nat} {σ : Sg} (l0 : Option Nat) (l1 : Option Nat) (l2 : Option Nat) (l3 : Option Nat) (v4 : Value) (l5 : Option Nat) (l6 : Option Nat) (h : ((l2 = none → G w mJ33_balanceDeletion (KR K) (rc) (rs) σ 487 [va_rf l0, va_rf l1, va_rf l2, va_rf l3, v4, va_rf l5, va_rf l6] []) ∧ (¬ l2 = none → ∃ a2, l2 = some a2 ∧ kd σ a2 = 32 ∧ ∀ s5, s5 = sFI σ 94 a2 0 → CalR w mJ33_rotateRight s5 [va_rf l0, va_rf l2] (fun s7 x8 => Ext s5 s7 → G w mJ33_balanceDeletion (KR K) (rc) (rs) s7 487 [va_rf x8, va_rf l1, va_rf l2, va_rf l3, v4, va_rf l5, va_rf l6] [])))) : G w mJ33_balanceDeletion (KR K) (rc) (rs) σ 472 [va_rf l0, va_rf l1, va_rf l2, va_rf l3, v4, va_rf l5, va_rf l6] [] := by
  refine G_aload_n 473 dJ33_balanceDeletion_472 rfl rfl ?_
  refine G_ifnull 487 476 dJ33_balanceDeletion_473 (by decide) rfl (fun u1 => ?_) (fun u1 => ?_)
  · have h := h.1 u1
    exact h
  · have h := h.2 u1
    refine G_aload_n 477 dJ33_balanceDeletion_476 rfl rfl ?_
    refine G_iconst (v := 0) 478 dJ33_balanceDeletion_477 (by decide) rfl ?_
    obtain ⟨a2, e3, h⟩ := h
    obtain ⟨c4, h⟩ := h
    refine G_putI (f := 94) (a := a2) "" 481 dJ33_balanceDeletion_478 (Or.inl q1314) (Or.inl rfl) rfl e3 (hp94 c4) (nk94 c4) (Or.inl rfl) rfl rfl rfl ?_
    generalize hs5 : sFI σ 94 a2 0 = s5
    have x6 : ∀ a, ¬ kd σ a = 0 → kd s5 a = kd σ a := by subst hs5; exact fun a _ => congrFun kd_sFI a
    have h := h s5 hs5.symm
    refine G_aload_n 482 dJ33_balanceDeletion_481 rfl rfl ?_
    refine G_aload_n 483 dJ33_balanceDeletion_482 rfl rfl ?_
    refine G_invS (N := mJ33_rotateRight) (As := [va_rf l0, va_rf l2]) (st := []) (rc) (rs) "" 486 dJ33_balanceDeletion_483 (Or.inl q1230) q1231 q72 q1232 rfl mJ33_rotateRight_args ⟨Nat.le_of_ble_eq_true rfl, Nat.le_of_ble_eq_true rfl⟩ rfl (Nat.zero_le _) (le_b mJ33_rotateRight_c (Nat.le_refl _)) (le_b mJ33_rotateRight_s (Nat.le_refl _)) rfl (Cal.mono h ?_)
    rintro s7 v ⟨x8, rfl, h⟩ hx9
    have h := h hx9
    have x10 := hx9.x
    show G w mJ33_balanceDeletion (KR K) (rc) (rs) s7 486 [va_rf l0, va_rf l1, va_rf l2, va_rf l3, v4, va_rf l5, va_rf l6] [va_rf x8]
    refine G_astore_n 487 [va_rf x8, va_rf l1, va_rf l2, va_rf l3, v4, va_rf l5, va_rf l6] dJ33_balanceDeletion_486 (Nat.le_of_ble_eq_true rfl) rfl rfl ?_
    exact h
set_option maxHeartbeats 4000000 in
theorem bJ33_balanceDeletion_487 {w : Wt} {K : Sg → Option Nat → Prop} {rc rs : Nat} {σ : Sg} (l0 : Option Nat) (l1 : Option Nat) (l2 : Option Nat) (l3 : Option Nat) (v4 : Value) (l5 : Option Nat) (l6 : Option Nat) (h : G w mJ33_balanceDeletion (KR K) (rc) (rs) σ 489 [va_rf l0, va_rf l0, va_rf l2, va_rf l3, v4, va_rf l5, va_rf l6] []) : G w mJ33_balanceDeletion (KR K) (rc) (rs) σ 487 [va_rf l0, va_rf l1, va_rf l2, va_rf l3, v4, va_rf l5, va_rf l6] [] := by
  refine G_aload_n 488 dJ33_balanceDeletion_487 rfl rfl ?_
  refine G_astore_n 489 [va_rf l0, va_rf l0, va_rf l2, va_rf l3, v4, va_rf l5, va_rf l6] dJ33_balanceDeletion_488 (Nat.le_of_ble_eq_true rfl) rfl rfl ?_
  exact h
set_option maxHeartbeats 4000000 in
theorem bJ33_balanceDeletion_489 {w : Wt} {K : Sg → Option Nat → Prop} {rc rs : Nat} {σ : Sg} (l0 : Option Nat) (l1 : Option Nat) (l2 : Option Nat) (l3 : Option Nat) (v4 : Value) (l5 : Option Nat) (l6 : Option Nat) (h : G w mJ33_balanceDeletion (KR K) (rc) (rs) σ 0 [va_rf l0, va_rf l1, va_rf l2, va_rf l3, v4, va_rf l5, va_rf l6] []) : G w mJ33_balanceDeletion (KR K) (rc) (rs) σ 489 [va_rf l0, va_rf l1, va_rf l2, va_rf l3, v4, va_rf l5, va_rf l6] [] := by
  refine G_goto 0 dJ33_balanceDeletion_489 (by decide) ?_
  exact h
theorem eJ33_balanceDeletion {w : Wt} {K : Sg → Option Nat → Prop} {σ : Sg} (l0 : Option Nat) (l1 : Option Nat) (h : G w mJ33_balanceDeletion (KR K) 0 0 σ 0 [va_rf l0, va_rf l1, U_, U_, U_, U_, U_] []) : CalR w mJ33_balanceDeletion σ [va_rf l0, va_rf l1] K :=
  Cal.start 5 mJ33_balanceDeletion_plain (catR (catR cat0)) (Nat.le_of_ble_eq_true rfl) rfl h
