/-! what a call leaves alone, and the shop's small classes -/
set_option maxRecDepth 100000
/-- the same at b -/
def Sm (σ σ' : Sg) (b : Nat) : Prop := kd σ' b = kd σ b ∧ ln σ' b = ln σ b ∧ (∀ g, FI σ' g b = FI σ g b) ∧ (∀ g, FR σ' g b = FR σ g b) ∧ AI σ' b = AI σ b ∧ AR σ' b = AR σ b
theorem Sm.rf {σ : Sg} {b : Nat} : Sm σ σ b := ⟨rfl, rfl, fun _ => rfl, fun _ => rfl, rfl, rfl⟩
theorem Sm.trans {σ τ υ : Sg} {b : Nat} (h : Sm σ τ b) (g : Sm τ υ b) : Sm σ υ b :=
  ⟨g.1.trans h.1, g.2.1.trans h.2.1, fun x => (g.2.2.1 x).trans (h.2.2.1 x), fun x => (g.2.2.2.1 x).trans (h.2.2.2.1 x), g.2.2.2.2.1.trans h.2.2.2.2.1, g.2.2.2.2.2.trans h.2.2.2.2.2⟩
/-- only what O holds, and what is new, is touched -/
def Fr (O : Nat → Prop) (σ σ' : Sg) : Prop := nx σ ≤ nx σ' ∧ ∀ b, b < nx σ → ¬ O b → Sm σ σ' b
/-- nothing stands from nx on -/
def Hp (σ : Sg) : Prop := ∀ a, nx σ ≤ a → kd σ a = 0
theorem Hp.lt {σ : Sg} {a k : Nat} (h : Hp σ) (e : kd σ a = k) (hk : k ≠ 0 := by decide) : a < nx σ := by
  rcases Nat.lt_or_ge a (nx σ) with q | q
  · exact q
  · exact absurd (e.symm.trans (h a q)) hk
theorem Ext.hp {σ σ' : Sg} (h : Ext σ σ') : Hp σ' := h.2.2
def No : Nat → Prop := fun _ => False
theorem Fr.rf {O : Nat → Prop} {σ : Sg} : Fr O σ σ := ⟨Nat.le_refl _, fun _ _ _ => Sm.rf⟩
theorem Fr.trans {O P : Nat → Prop} {σ τ υ : Sg} (h : Fr O σ τ) (g : Fr P τ υ) (hP : ∀ b, b < nx σ → P b → O b) : Fr O σ υ :=
  ⟨Nat.le_trans h.1 g.1, fun b hb hO => (h.2 b hb hO).trans (g.2 b (Nat.lt_of_lt_of_le hb h.1) (fun z => hO (hP b hb z)))⟩
theorem Fr.mono {O P : Nat → Prop} {σ τ : Sg} (h : Fr O σ τ) (hP : ∀ b, b < nx σ → O b → P b) : Fr P σ τ := ⟨h.1, fun b hb z => h.2 b hb (fun q => z (hP b hb q))⟩
section put
variable {σ τ : Sg} {O : Nat → Prop} {a : Nat}
theorem Fr.sFI (h : Fr O σ τ) (f : Nat) (v : Int32) (ha : O a ∨ nx σ ≤ a) : Fr O σ (sFI τ f a v) :=
  ⟨h.1, fun b hb z => (h.2 b hb z).trans ⟨rfl, rfl, fun g => by rw [FI_sFI, if_neg (fun q => by rcases ha with ha | ha; exact z (by rw [q.2]; exact ha); omega)], fun _ => rfl, rfl, rfl⟩⟩
theorem Fr.sFR (h : Fr O σ τ) (f : Nat) (v : Option Nat) (ha : O a ∨ nx σ ≤ a) : Fr O σ (sFR τ f a v) :=
  ⟨h.1, fun b hb z => (h.2 b hb z).trans ⟨rfl, rfl, fun _ => rfl, fun g => by rw [FR_sFR, if_neg (fun q => by rcases ha with ha | ha; exact z (by rw [q.2]; exact ha); omega)], rfl, rfl⟩⟩
theorem Fr.sAI (h : Fr O σ τ) (i : Nat) (v : Int32) (ha : O a ∨ nx σ ≤ a) : Fr O σ (sAI τ a i v) :=
  ⟨h.1, fun b hb z => (h.2 b hb z).trans ⟨rfl, rfl, fun _ => rfl, fun _ => rfl, by funext j; rw [AI_sAI, if_neg (fun q => by rcases ha with ha | ha; exact z (by rw [q.1]; exact ha); omega)], rfl⟩⟩
theorem Fr.sAR (h : Fr O σ τ) (i : Nat) (v : Option Nat) (ha : O a ∨ nx σ ≤ a) : Fr O σ (sAR τ a i v) :=
  ⟨h.1, fun b hb z => (h.2 b hb z).trans ⟨rfl, rfl, fun _ => rfl, fun _ => rfl, rfl, by funext j; rw [AR_sAR, if_neg (fun q => by rcases ha with ha | ha; exact z (by rw [q.1]; exact ha); omega)]⟩⟩
theorem Fr.sAIs (h : Fr O σ τ) (v : Nat → Int32) (ha : O a ∨ nx σ ≤ a) : Fr O σ (sAIs τ a v) :=
  ⟨h.1, fun b hb z => (h.2 b hb z).trans ⟨rfl, rfl, fun _ => rfl, fun _ => rfl, AI_ne (fun q => by rcases ha with ha | ha; exact z (by rw [q]; exact ha); omega), rfl⟩⟩
theorem Fr.sARs (h : Fr O σ τ) (v : Nat → Option Nat) (ha : O a ∨ nx σ ≤ a) : Fr O σ (sARs τ a v) :=
  ⟨h.1, fun b hb z => (h.2 b hb z).trans ⟨rfl, rfl, fun _ => rfl, fun _ => rfl, rfl, by rw [AR_sARs, if_neg (fun q => by rcases ha with ha | ha; exact z (by rw [q]; exact ha); omega)]⟩⟩
theorem Fr.nO (h : Fr O σ τ) (k : Nat) : Fr O σ (nO τ k) :=
  ⟨by rw [nx_nO]; exact Nat.le_succ_of_le h.1, fun b hb z => by
    have n : ¬ b = nx τ := by have := h.1; omega
    exact (h.2 b hb z).trans ⟨by rw [kd_nO, if_neg n], rfl, fun g => by rw [FI_nO, if_neg n], fun g => by rw [FR_nO, if_neg n], rfl, rfl⟩⟩
theorem Fr.nA (h : Fr O σ τ) (k N : Nat) : Fr O σ (nA τ k N) :=
  ⟨by rw [nx_nA]; exact Nat.le_succ_of_le h.1, fun b hb z => by
    have n : ¬ b = nx τ := by have := h.1; omega
    exact (h.2 b hb z).trans ⟨by rw [kd_nA, if_neg n], by rw [ln_nA, if_neg n], fun _ => rfl, fun _ => rfl, by rw [AI_nA, if_neg n], by rw [AR_nA, if_neg n]⟩⟩
end put
section leaf
variable {w : Wt} {σ : Sg} {a : Nat}
theorem i32_sub0 (x : Int32) : x - 0 = x := by grind
theorem i32_sub1 (x y : Int32) : x - (y + 1) = x - y - 1 := by grind
/-- a plate and its depths -/
def Pt (σ : Sg) (a d : Nat) : Prop := kd σ a = 15 ∧ FR σ 36 a = some d ∧ kd σ d = 1 ∧ ln σ d = 2
/-- the numbers of the plate p in a row -/
def PlR (σ : Sg) (a d : Nat) (f : Nat → Int32) (p : Nat) : Prop := FI σ 33 a = pl f p 0 ∧ FI σ 34 a = pl f p 1 ∧ FI σ 35 a = pl f p 2 ∧ AI σ d 0 = pl f p 3 ∧ AI σ d 1 = pl f p 4
theorem PlR.d {σ : Sg} {a d p s : Nat} {f : Nat → Int32} (h : PlR σ a d f p) (hs : s ≤ 1) : AI σ d s = pl f p (3 + s) := by
  have : s = 0 ∨ s = 1 := by omega
  rcases this with e | e <;> subst e
  · exact h.2.2.2.1
  · exact h.2.2.2.2
theorem vp2 {s : Nat} (hs : s ≤ 1) : vp_in (nI s) 2 := vpN (by omega) (by decide)
theorem c_thickW {d p s : Nat} {f : Nat → Int32} {S : Int32} {K : Sg → Int32 → Prop} (hp : Pt σ a d) (hf : PlR σ a d f p) (hS : S = nI s) (hs : s ≤ 1) (hK : K σ (pl f p 1 - pl f p (3 + s) - 1)) : CalI w mX5_thicknessWithout σ [va_rf (some a), .int S] K := by
  subst hS
  refine eX5_thicknessWithout _ _ (bX5_thicknessWithout_0 _ _ ?_)
  simp only [Option.some.injEq, exists_eq_left', exists_eq_left, forall_eq, forall_eq', List.mem_cons, List.not_mem_nil, or_false, or_true, true_or, true_and, and_true, eq_self, Nat.reduceEqDiff, reduceCtorEq, forall_const, true_implies, false_implies, implies_true, not_true_eq_false, not_false_eq_true, false_and, and_false, false_or, if_true, if_false, kd_sFI, ln_sFI, FI_sFI, FR_sFI, AI_sFI, AR_sFI, nx_sFI, kd_sFR, ln_sFR, FI_sFR, FR_sFR, AI_sFR, AR_sFR, nx_sFR, kd_sAI, ln_sAI, FI_sAI, FR_sAI, AI_sAI, AR_sAI, nx_sAI, kd_sAR, ln_sAR, FI_sAR, FR_sAR, AI_sAR, AR_sAR, nx_sAR, kd_sAIs, ln_sAIs, FI_sAIs, FR_sAIs, AR_sAIs, nx_sAIs, kd_sARs, ln_sARs, FI_sARs, FR_sARs, AI_sARs, nx_sARs, kd_nO, ln_nO, FI_nO, FR_nO, AI_nO, AR_nO, nx_nO, kd_nA, ln_nA, FI_nA, FR_nA, AI_nA, AR_nA, nx_nA, hp.1, hp.2.1, hp.2.2.1, hp.2.2.2, vp2 hs, nI_clamp (show s < 2 ^ 31 by omega), hf.d hs, hf.2.1]
  exact hK
theorem c_isReady5 {d p s : Nat} {f : Nat → Int32} {S dp : Int32} {K : Sg → Int32 → Prop} (hp : Pt σ a d) (hf : PlR σ a d f p) (hS : S = nI s) (hs : s ≤ 1) (hT : sOk f p s dp → K σ 1) (hF : ¬ sOk f p s dp → K σ 0) : CalI w mX5_isReady σ [va_rf (some a), .int S, .int dp] K := by
  subst hS
  refine eX5_isReady _ _ _ (bX5_isReady_0 _ _ _ ?_)
  have v2 := vp2 (show 1 - s ≤ 1 by omega)
  have d2 := hf.d (s := 1 - s) (by omega)
  unfold sOk lo at hT hF
  rw [i32_sub0] at hT hF
  simp only [Option.some.injEq, exists_eq_left', exists_eq_left, forall_eq, forall_eq', List.mem_cons, List.not_mem_nil, or_false, or_true, true_or, true_and, and_true, eq_self, Nat.reduceEqDiff, reduceCtorEq, forall_const, true_implies, false_implies, implies_true, not_true_eq_false, not_false_eq_true, false_and, and_false, false_or, if_true, if_false, kd_sFI, ln_sFI, FI_sFI, FR_sFI, AI_sFI, AR_sFI, nx_sFI, kd_sFR, ln_sFR, FI_sFR, FR_sFR, AI_sFR, AR_sFR, nx_sFR, kd_sAI, ln_sAI, FI_sAI, FR_sAI, AI_sAI, AR_sAI, nx_sAI, kd_sAR, ln_sAR, FI_sAR, FR_sAR, AI_sAR, AR_sAR, nx_sAR, kd_sAIs, ln_sAIs, FI_sAIs, FR_sAIs, AR_sAIs, nx_sAIs, kd_sARs, ln_sARs, FI_sARs, FR_sARs, AI_sARs, nx_sARs, kd_nO, ln_nO, FI_nO, FR_nO, AI_nO, AR_nO, nx_nO, kd_nA, ln_nA, FI_nA, FR_nA, AI_nA, AR_nA, nx_nA, hp.1, hp.2.1, hp.2.2.1, hp.2.2.2, vp2 hs, nI_clamp (show s < 2 ^ 31 by omega), hf.d hs, hf.2.1, one_s (rfl : nI s = nI s) hs, v2, nI_clamp (show 1 - s < 2 ^ 31 by omega), d2]
  exact ⟨fun h => hF (fun q => h q.1), fun h => ⟨fun h2 => hF (fun q => q.2 h2), fun h2 => hT ⟨h, h2⟩⟩⟩
theorem c_canBeG5 {d p s : Nat} {f : Nat → Int32} {S dp : Int32} {K : Sg → Int32 → Prop} (hp : Pt σ a d) (hf : PlR σ a d f p) (hS : S = nI s) (hs : s ≤ 1) (hT : gOk f p s dp → K σ 1) (hF : ¬ gOk f p s dp → K σ 0) : CalI w mX5_canBeGround σ [va_rf (some a), .int S, .int dp] K := by
  subst hS
  refine eX5_canBeGround _ _ _ (bX5_canBeGround_0 _ _ _ ?_)
  have v2 := vp2 (show 1 - s ≤ 1 by omega)
  have d2 := hf.d (s := 1 - s) (by omega)
  unfold gOk lo at hT hF
  rw [i32_sub1] at hT hF
  simp only [Option.some.injEq, exists_eq_left', exists_eq_left, forall_eq, forall_eq', List.mem_cons, List.not_mem_nil, or_false, or_true, true_or, true_and, and_true, eq_self, Nat.reduceEqDiff, reduceCtorEq, forall_const, true_implies, false_implies, implies_true, not_true_eq_false, not_false_eq_true, false_and, and_false, false_or, if_true, if_false, kd_sFI, ln_sFI, FI_sFI, FR_sFI, AI_sFI, AR_sFI, nx_sFI, kd_sFR, ln_sFR, FI_sFR, FR_sFR, AI_sFR, AR_sFR, nx_sFR, kd_sAI, ln_sAI, FI_sAI, FR_sAI, AI_sAI, AR_sAI, nx_sAI, kd_sAR, ln_sAR, FI_sAR, FR_sAR, AI_sAR, AR_sAR, nx_sAR, kd_sAIs, ln_sAIs, FI_sAIs, FR_sAIs, AR_sAIs, nx_sAIs, kd_sARs, ln_sARs, FI_sARs, FR_sARs, AI_sARs, nx_sARs, kd_nO, ln_nO, FI_nO, FR_nO, AI_nO, AR_nO, nx_nO, kd_nA, ln_nA, FI_nA, FR_nA, AI_nA, AR_nA, nx_nA, hp.1, hp.2.1, hp.2.2.1, hp.2.2.2, vp2 hs, nI_clamp (show s < 2 ^ 31 by omega), hf.d hs, one_s (rfl : nI s = nI s) hs, v2, nI_clamp (show 1 - s < 2 ^ 31 by omega)]
  refine ⟨fun h => hF (fun q => q.1 h), fun h => ?_⟩
  refine c_thickW hp hf rfl hs (fun _ => ?_)
  simp only [Option.some.injEq, exists_eq_left', exists_eq_left, forall_eq, forall_eq', List.mem_cons, List.not_mem_nil, or_false, or_true, true_or, true_and, and_true, eq_self, Nat.reduceEqDiff, reduceCtorEq, forall_const, true_implies, false_implies, implies_true, not_true_eq_false, not_false_eq_true, false_and, and_false, false_or, if_true, if_false, kd_sFI, ln_sFI, FI_sFI, FR_sFI, AI_sFI, AR_sFI, nx_sFI, kd_sFR, ln_sFR, FI_sFR, FR_sFR, AI_sFR, AR_sFR, nx_sFR, kd_sAI, ln_sAI, FI_sAI, FR_sAI, AI_sAI, AR_sAI, nx_sAI, kd_sAR, ln_sAR, FI_sAR, FR_sAR, AI_sAR, AR_sAR, nx_sAR, kd_sAIs, ln_sAIs, FI_sAIs, FR_sAIs, AR_sAIs, nx_sAIs, kd_sARs, ln_sARs, FI_sARs, FR_sARs, AI_sARs, nx_sARs, kd_nO, ln_nO, FI_nO, FR_nO, AI_nO, AR_nO, nx_nO, kd_nA, ln_nA, FI_nA, FR_nA, AI_nA, AR_nA, nx_nA, hp.1, hp.2.1, hp.2.2.1, hp.2.2.2, one_s (rfl : nI s = nI s) hs, v2, nI_clamp (show 1 - s < 2 ^ 31 by omega), d2]
  exact ⟨fun h2 => hF (fun q => q.2 h2), fun h2 => hT ⟨h, h2⟩⟩
/-- the side of a plate for a depth -/
noncomputable def sdO (f : Nat → Int32) (p : Nat) (dp : Int32) (g : Bool) : Option Nat := iteP (mTk f p 0 dp g) (some 0) (iteP (mTk f p 1 dp g) (some 1) none)
theorem c_side5 {d p : Nat} {f : Nat → Int32} {dp G' : Int32} {g : Bool} {K : Sg → Int32 → Prop} (hp : Pt σ a d) (hf : PlR σ a d f p) (hG : G' = b2i g) (hK : K σ (oI (sdO f p dp g))) : CalI w mX5_side σ [va_rf (some a), .int dp, .int G'] K := by
  subst hG
  refine eX5_side _ _ _ (bX5_side_0 _ _ _ ?_)
  have step : ∀ s, s ≤ 1 → (mTk f p s dp g → K σ (nI s)) → (¬ mTk f p s dp g → G w mX5_side (KI K) 0 0 σ 2 [va_rf (some a), .int dp, .int (b2i g), .int (nI (s + 1))] []) → G w mX5_side (KI K) 0 0 σ 2 [va_rf (some a), .int dp, .int (b2i g), .int (nI s)] [] := by
    intro s hs h1 h2
    refine bX5_side_2 _ _ _ _ ?_
    simp only [Option.some.injEq, exists_eq_left', exists_eq_left, forall_eq, forall_eq', List.mem_cons, List.not_mem_nil, or_false, or_true, true_or, true_and, and_true, eq_self, Nat.reduceEqDiff, reduceCtorEq, forall_const, true_implies, false_implies, implies_true, not_true_eq_false, not_false_eq_true, false_and, and_false, false_or, if_true, if_false, kd_sFI, ln_sFI, FI_sFI, FR_sFI, AI_sFI, AR_sFI, nx_sFI, kd_sFR, ln_sFR, FI_sFR, FR_sFR, AI_sFR, AR_sFR, nx_sFR, kd_sAI, ln_sAI, FI_sAI, FR_sAI, AI_sAI, AR_sAI, nx_sAI, kd_sAR, ln_sAR, FI_sAR, FR_sAR, AI_sAR, AR_sAR, nx_sAR, kd_sAIs, ln_sAIs, FI_sAIs, FR_sAIs, AR_sAIs, nx_sAIs, kd_sARs, ln_sARs, FI_sARs, FR_sARs, AI_sARs, nx_sARs, kd_nO, ln_nO, FI_nO, FR_nO, AI_nO, AR_nO, nx_nO, kd_nA, ln_nA, FI_nA, FR_nA, AI_nA, AR_nA, nx_nA, hp.1, hp.2.1, hp.2.2.1, hp.2.2.2]
    refine ⟨fun q => absurd q (nI_ge (by omega) (by decide)), fun _ => ?_⟩
    rw [nI_succ] at h2
    cases g
    · refine ⟨fun _ => ?_, fun q => absurd rfl q⟩
      exact c_isReady5 hp hf rfl hs (fun q _ => ⟨fun z => absurd z (by decide), fun _ => h1 q⟩) (fun q _ => ⟨fun _ => h2 q, fun z => absurd rfl z⟩)
    · refine ⟨fun q => absurd q (by decide), fun _ => ?_⟩
      exact c_canBeG5 hp hf rfl hs (fun q _ => ⟨fun z => absurd z (by decide), fun _ => h1 q⟩) (fun q _ => ⟨fun _ => h2 q, fun z => absurd rfl z⟩)
  unfold sdO at hK
  refine step 0 (by decide) (fun q => ?_) (fun q => step 1 (by decide) (fun q2 => ?_) (fun q2 => ?_))
  · rw [iteP_t q] at hK; exact hK
  · rw [iteP_f q, iteP_t q2] at hK; exact hK
  · rw [iteP_f q, iteP_f q2] at hK
    refine bX5_side_2 _ _ _ _ ?_
    simp only [Option.some.injEq, exists_eq_left', exists_eq_left, forall_eq, forall_eq', List.mem_cons, List.not_mem_nil, or_false, or_true, true_or, true_and, and_true, eq_self, Nat.reduceEqDiff, reduceCtorEq, forall_const, true_implies, false_implies, implies_true, not_true_eq_false, not_false_eq_true, false_and, and_false, false_or, if_true, if_false, kd_sFI, ln_sFI, FI_sFI, FR_sFI, AI_sFI, AR_sFI, nx_sFI, kd_sFR, ln_sFR, FI_sFR, FR_sFR, AI_sFR, AR_sFR, nx_sFR, kd_sAI, ln_sAI, FI_sAI, FR_sAI, AI_sAI, AR_sAI, nx_sAI, kd_sAR, ln_sAR, FI_sAR, FR_sAR, AI_sAR, AR_sAR, nx_sAR, kd_sAIs, ln_sAIs, FI_sAIs, FR_sAIs, AR_sAIs, nx_sAIs, kd_sARs, ln_sARs, FI_sARs, FR_sARs, AI_sARs, nx_sARs, kd_nO, ln_nO, FI_nO, FR_nO, AI_nO, AR_nO, nx_nO, kd_nA, ln_nA, FI_nA, FR_nA, AI_nA, AR_nA, nx_nA, hp.1, hp.2.1, hp.2.2.1, hp.2.2.2]
    exact ⟨fun _ => hK, fun z => absurd (nI_le (Nat.le_refl 2) (by decide)) z⟩
end leaf
