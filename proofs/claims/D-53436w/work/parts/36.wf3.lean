/-! what holds of a row between the calls, 3: tags, an order hurried -/
set_option maxRecDepth 100000
theorem upd_self {f : Nat → Int32} {i : Nat} : upd f i (f i) = f := by
  funext k
  by_cases e : k = i
  · subst e; exact pk_us
  · exact pk_un e
theorem tagd_un {f : Nat → Int32} : ∀ {n i : Nat}, (∀ k, k < n → i ≠ 153 + 19 * k + 18) → tagd f n i = f i
  | 0, _, _ => rfl
  | n + 1, i, h => by rw [tagd, pk_un (h n (by omega)), tagd_un (fun k hk => h k (by omega))]
theorem tagd_tag {f : Nat → Int32} : ∀ {n k : Nat}, k < n → od (tagd f n) k 18 = nI k
  | 0, _, h => absurd h (by omega)
  | n + 1, k, h => by
    unfold od
    rw [tagd]
    by_cases e : k = n
    · subst e; exact pk_us
    · rw [pk_un (by omega)]; exact tagd_tag (by omega)
theorem tagd_od {f : Nat → Int32} {n o k : Nat} (hk : k < 18) : od (tagd f n) o k = od f o k := tagd_un (fun j _ => by omega)
theorem tagd_pl {f : Nat → Int32} {n p k : Nat} (hp : p < 20) (hk : k ≤ 6) : pl (tagd f n) p k = pl f p k := tagd_un (fun j _ => by omega)
theorem tagd_lo {f : Nat → Int32} {n i : Nat} (hi : i < 153) : tagd f n i = f i := tagd_un (fun j _ => by omega)
theorem WfX.v {f g : Nat → Int32} {np no : Nat} (h : WfX f np no) (v : ∀ q k, q < np → k = 0 ∨ k = 2 ∨ k = 5 ∨ k = 6 → pl g q k = pl f q k) (e : ∀ o k, o < no → k < 2 → od g o k = od f o k) : WfX g np no := by
  intro o p ho hp e1 e2 e3
  rw [v p 2 hp (by decide)] at e1
  rw [v p 5 hp (by decide), e o 0 ho (by decide)] at e2
  rw [v p 6 hp (by decide), e o 1 ho (by decide)] at e3
  exact h o p ho hp e1 e2 e3
theorem Wf_tagd {f : Nat → Int32} {np no ns : Nat} (h : Wf f np no ns) : Wf (tagd f no) np no ns := by
  obtain ⟨hN, hP, hS, hO, hX, hW⟩ := h
  have h20 := hN.2.1
  have h3 := hN.2.2.2.2.2
  have v : ∀ q k, q < np → k = 0 ∨ k = 2 ∨ k = 5 ∨ k = 6 → pl (tagd f no) q k = pl f q k := fun q k hq hk => tagd_pl (by omega) (by omega)
  refine ⟨hN.c (tagd_lo (by decide)) (tagd_lo (by decide)) (tagd_lo (by decide)), hP.v v, hS.v v (fun s hs => tagd_lo (by omega)), ?_, hX.v v (fun o k _ hk => tagd_od (by omega)), ?_⟩
  · refine ⟨fun o ho => (hO.1 o ho).c (fun k hk => tagd_od hk), fun o q ho hq e1 e2 => ?_⟩
    rw [tagd_od (by decide), tagd_od (by decide)] at e1 e2
    exact hO.2 o q ho hq e1 e2
  · unfold WfW
    rw [tagd_lo (by decide), tagd_lo (by decide), tagd_lo (by decide), tagd_lo (by decide)]
    rcases hW with hW | ⟨o, p, s, l, w1, w2, w3, w4, w5, w6, w7, w8⟩
    · exact Or.inl hW
    · exact Or.inr ⟨o, p, s, l, w1, w2, w3, w4, w5, w6, by rw [tagd_pl (by omega) (by decide)]; exact w7, w8⟩
theorem tagd_rsh {f : Nat → Int32} {m : Nat} : ∀ {n : Nat}, rsh (tagd f m) n = rsh f n
  | 0 => rfl
  | n + 1 => by rw [rsh, rsh, tagd_rsh, tagd_od (by decide)]
/-- the tags are in the range -/
def WfT (f : Nat → Int32) (no : Nat) : Prop := ∀ o, o < no → inR (od f o 18) 10
theorem WfT_tagd {f : Nat → Int32} {no : Nat} (h : no ≤ 10) : WfT (tagd f no) no := fun o ho => ⟨o, by omega, tagd_tag ho⟩
-- ===== an order is put in =====
def uns (o q : Nat) : Nat := if q < o then q else q - 1
theorem pti_od {f g : Nat → Int32} {o N q k : Nat} (hq : q ≤ N) (ho : o ≤ N) (hk : k < 19) : od (pti f g o N) q k = if q = o then g k else od f (uns o q) k := by
  unfold od pti uns
  rw [if_neg (by omega), if_neg (by omega)]
  by_cases c : q = o
  · subst c; rw [if_pos (by omega), if_pos rfl, show 153 + 19 * q + k - (153 + 19 * q) = k by omega]
  · rw [if_neg (by omega), if_neg c]
    by_cases d : q < o
    · rw [if_neg (by omega), if_pos d]
    · rw [if_pos (by omega), if_neg d, show 153 + 19 * q + k - 19 = 153 + 19 * (q - 1) + k by omega]
theorem pti_pl {f g : Nat → Int32} {o N p k : Nat} (hp : p < 20) (hk : k ≤ 6) : pl (pti f g o N) p k = pl f p k := by
  unfold pl pti; rw [if_neg (by omega), if_neg (by omega), if_neg (by omega), if_neg (by omega)]
theorem pti_150 {f g : Nat → Int32} {o N i : Nat} (hi : i < 3) : pti f g o N (150 + i) = f (150 + i) := by
  unfold pti; rw [if_neg (by omega), if_neg (by omega), if_neg (by omega), if_neg (by omega)]
theorem pti_lo {f g : Nat → Int32} {o N i : Nat} (hi : i < 10) (h2 : i ≠ 2) (h3 : i ≠ 3) : pti f g o N i = f i := by
  unfold pti; rw [if_neg h3, if_neg h2, if_neg (by omega), if_neg (by omega)]
theorem pti_2 {f g : Nat → Int32} {o N : Nat} : pti f g o N 2 = nI (N + 1) := by
  unfold pti; rw [if_neg (by decide), if_pos rfl]
theorem pti_3 {f g : Nat → Int32} {o N : Nat} : pti f g o N 3 = if f 3 < nI o then f 3 + 0 else f 3 + 1 := by
  unfold pti; rw [if_pos rfl]
/-- where an order stood that stands at q once o was moved to R -/
def hix (o R q : Nat) : Nat := if q = R then o else skp o (uns R q)
theorem hix_lt {o R N q : Nat} (ho : o < N) (hR : R < N) (hq : q < N) : hix o R q < N := by
  unfold hix skp uns; split <;> (try split) <;> (try split) <;> omega
theorem hix_inj {o R q r : Nat} (h : hix o R q = hix o R r) : q = r := by
  unfold hix skp uns at h
  by_cases c : q = R <;> by_cases d : r = R
  · omega
  · rw [if_pos c, if_neg d] at h; split at h <;> split at h <;> omega
  · rw [if_neg c, if_pos d] at h; split at h <;> split at h <;> omega
  · rw [if_neg c, if_neg d] at h
    by_cases e1 : q < R <;> by_cases e2 : r < R
    · rw [if_pos e1, if_pos e2] at h; split at h <;> split at h <;> omega
    · rw [if_pos e1, if_neg e2] at h; split at h <;> split at h <;> omega
    · rw [if_neg e1, if_pos e2] at h; split at h <;> split at h <;> omega
    · rw [if_neg e1, if_neg e2] at h; split at h <;> split at h <;> omega
theorem hix_2 {o R q a b : Nat} (h : q ≠ R) (hb : uns R q = b) (ha : skp o b = a) : hix o R q = a := by
  unfold hix; rw [if_neg h, hb]; exact ha
theorem uns_a {R q : Nat} (h : q < R) : uns R q = q := if_pos h
theorem uns_b {R q : Nat} (h : ¬ q + 1 < R) : uns R (q + 1) = q := by unfold uns; rw [if_neg h]; omega
theorem skp_a {o q : Nat} (h : q < o) : skp o q = q := if_pos h
theorem skp_b {o q : Nat} (h : ¬ q < o) : skp o q = q + 1 := if_neg h
section hur
variable {f A : Nat → Int32} {o R N : Nat}
theorem hur_od {q k : Nat} (hq : q < N) (hR : R < N) (hk : k < 19) : od (hur f A o R N) q k = if q = R ∧ k = 4 then 1 else od f (hix o R q) k := by
  show od (upd (pti (tko f o N) (upd (cpl (fun k => od f o k) A 19) 4 1) R (N - 1)) 3 _) q k = _
  rw [od_upd (by decide), pti_od (by omega) (by omega) hk]
  unfold hix
  by_cases c : q = R
  · rw [if_pos c, if_pos c]
    by_cases d : k = 4
    · subst d; rw [pk_us, if_pos ⟨c, rfl⟩]
    · rw [pk_un d, if_neg (fun z => d z.2)]
      unfold cpl; rw [if_pos hk]
  · rw [if_neg c, if_neg c, if_neg (fun z => c z.1)]
    exact tko_od (by unfold uns; split <;> omega) hk
theorem hur_pl {p k : Nat} (hp : p < 20) (hk : k ≤ 6) : pl (hur f A o R N) p k = pl f p k := by
  show pl (upd _ 3 _) p k = _
  rw [pl_upd (by decide), pti_pl hp hk, tko_pl hp hk]
theorem hur_150 {i : Nat} (hi : i < 3) : hur f A o R N (150 + i) = f (150 + i) := by
  show upd _ 3 _ (150 + i) = _
  rw [pk_un (by omega), pti_150 hi, tko_150 hi]
theorem hur_lo {i : Nat} (hi : i < 10) (h2 : i ≠ 2) (h3 : i ≠ 3) : hur f A o R N i = f i := by
  show upd _ 3 _ i = _
  rw [pk_un h3, pti_lo hi h2 h3, tko_lo hi h2 h3]
theorem hur_2 (h : 0 < N) : hur f A o R N 2 = nI N := by
  show upd _ 3 _ 2 = _
  rw [pk_un (by decide), pti_2, Nat.sub_add_cancel h]
/-- where what is at work stands then -/
theorem hur_3 {a : Nat} (ha : f 3 = nI a) (hN : N ≤ 10) (haN : a < N) (ho : o < N) (hR : R < N) : ∃ b, hur f A o R N 3 = nI b ∧ b < N ∧ hix o R b = a := by
  show ∃ b, upd _ 3 (if f 3 = nI o then nI R else pti _ _ R (N - 1) 3) 3 = nI b ∧ _
  rw [pk_us]
  by_cases c : a = o
  · subst c; rw [if_pos ha]; exact ⟨R, rfl, hR, if_pos rfl⟩
  · have c2 : ¬ f 3 = nI o := fun z => c (nI_inj (ha.symm.trans z) (by omega) (by omega))
    rw [if_neg c2, pti_3, tko_3, ha]
    by_cases d : a < o
    · rw [if_pos (nI_le (by omega) (by omega)), show nI a - 0 = nI a from pk_sub (b := 0) (by omega)]
      by_cases e : a < R
      · rw [if_pos (nI_lt e (by omega))]
        exact ⟨a, nI_add a 0, haN, hix_2 (by omega) (uns_a e) (skp_a d)⟩
      · rw [if_neg (nI_nlt (by omega) (by omega)), nI_1]
        exact ⟨a + 1, rfl, by omega, hix_2 (by omega) (uns_b (by omega)) (skp_a d)⟩
    · rw [if_neg (nI_ge (by omega) (by omega)), show nI a - 1 = nI (a - 1) from pk_sub (b := 1) (by omega)]
      by_cases e : a - 1 < R
      · rw [if_pos (nI_lt e (by omega))]
        exact ⟨a - 1, nI_add (a - 1) 0, by omega, hix_2 (by omega) (uns_a e) (by rw [skp_b (by omega)]; omega)⟩
      · rw [if_neg (nI_nlt (by omega) (by omega)), nI_1]
        exact ⟨a - 1 + 1, rfl, by omega, hix_2 (by omega) (uns_b (by omega)) (by rw [skp_b (by omega)]; omega)⟩
theorem hur_39 (ha : f 3 = -9) (hN : N ≤ 10) (ho : o < N) (hR : R < N) : hur f A o R N 3 = -9 := by
  show upd _ 3 (if f 3 = nI o then nI R else pti _ _ R (N - 1) 3) 3 = _
  rw [pk_us, ha, if_neg (fun z => m9n (by omega) z.symm), pti_3, tko_3, ha]
  have h1 : ∀ n, n ≤ 10 → (-9 : Int32) ≤ nI n := fun n hn => Int32.le_trans (by decide) (nI_pos' (n := n) (by omega))
  have h2 : ∀ n, n ≤ 10 → (-9 : Int32) - 0 < nI n := fun n hn => Int32.lt_of_lt_of_le (by decide : (-9 : Int32) - 0 < 0) (nI_pos' (n := n) (by omega))
  rw [if_pos (h1 o (by omega)), if_pos (h2 R (by omega))]; rfl
end hur
theorem Wf_hur {f A : Nat → Int32} {np no ns o R : Nat} (h : Wf f np no ns) (ho : o < no) (hR : R < no) : Wf (hur f A o R no) np no ns := by
  obtain ⟨hN, hP, hS, hO, hX, hW⟩ := h
  have h20 := hN.2.1
  have h10 := hN.2.2.2.1
  have h3 := hN.2.2.2.2.2
  have v : ∀ q k, q < np → k = 0 ∨ k = 2 ∨ k = 5 ∨ k = 6 → pl (hur f A o R no) q k = pl f q k := fun q k hq hk => hur_pl (by omega) (by omega)
  have e : ∀ q k, q < no → k < 18 → k ≠ 4 → od (hur f A o R no) q k = od f (hix o R q) k := fun q k hq hk h4 => by
    rw [hur_od hq hR (by omega), if_neg (fun z => h4 z.2)]
  refine ⟨?_, hP.v v, hS.v v (fun s hs => hur_150 (by omega)), ⟨fun q hq => ?_, fun q r hq hr e1 e2 => ?_⟩, ?_, ?_⟩
  · unfold WfN
    rw [hur_lo (by decide) (by decide) (by decide), hur_lo (i := 0) (by decide) (by decide) (by decide), hur_2 (by omega)]
    exact ⟨hN.1, h20, rfl, h10, hN.2.2.2.2⟩
  · obtain ⟨z0, z1, z2, z3, z4, L, z5, z6, z7, z8⟩ := hO.1 (hix o R q) (hix_lt ho hR hq)
    refine ⟨by rw [e q 0 hq (by decide) (by decide)]; exact z0, by rw [e q 1 hq (by decide) (by decide)]; exact z1, by rw [e q 2 hq (by decide) (by decide)]; exact z2, by rw [e q 3 hq (by decide) (by decide)]; exact z3, ?_, L, by rw [e q 5 hq (by decide) (by decide)]; exact z5, z6, z7, fun k hk => by rw [e q (6 + k) hq (by omega) (by omega)]; exact z8 k hk⟩
    rw [hur_od hq hR (by decide)]
    by_cases c : q = R
    · rw [if_pos ⟨c, rfl⟩]; exact ⟨1, rfl, by decide, by decide⟩
    · rw [if_neg (fun w => c w.1)]; exact z4
  · rw [e q 0 hq (by decide) (by decide), e r 0 hr (by decide) (by decide)] at e1
    rw [e q 1 hq (by decide) (by decide), e r 1 hr (by decide) (by decide)] at e2
    exact hix_inj (hO.2 _ _ (hix_lt ho hR hq) (hix_lt ho hR hr) e1 e2)
  · intro q p hq hp e1 e2 e3
    rw [v p 2 hp (by decide)] at e1
    rw [v p 5 hp (by decide), e q 0 hq (by decide) (by decide)] at e2
    rw [v p 6 hp (by decide), e q 1 hq (by decide) (by decide)] at e3
    exact hX _ p (hix_lt ho hR hq) hp e1 e2 e3
  · unfold WfW
    rw [hur_lo (i := 5) (by decide) (by decide) (by decide), hur_lo (i := 6) (by decide) (by decide) (by decide), hur_lo (i := 4) (by decide) (by decide) (by decide)]
    rcases hW with hW | ⟨a, p, s, l, w1, w2, w3, w4, w5, w6, w7, w8⟩
    · exact Or.inl ⟨hur_39 hW.1 h10 ho hR, hW.2⟩
    · obtain ⟨b, b1, b2, _⟩ := hur_3 (A := A) w1 h10 w2 ho hR
      exact Or.inr ⟨b, p, s, l, b1, b2, w3, w4, w5, w6, by rw [v p 2 w4 (by decide)]; exact w7, w8⟩
theorem WfT_hur {f A : Nat → Int32} {no o R : Nat} (h : WfT f no) (ho : o < no) (hR : R < no) : WfT (hur f A o R no) no := by
  intro q hq
  rw [hur_od hq hR (by decide), if_neg (fun z => absurd z.2 (by decide))]
  exact h _ (hix_lt ho hR hq)
theorem gon_od {f : Nat → Int32} {o p s q k : Nat} {g : Bool} (hp : p < 20) (hs : s ≤ 1) : od (gon f o g p s) q k = od f q k := by
  unfold gon
  cases g
  · show od (upl _ p 2 1) q k = _
    rw [od_upl hp (by decide), od_upd (by decide), od_upd (by decide), od_upd (by decide), od_upd (by decide)]
  · show od (grd _ p s) q k = _
    rw [grd_od hp hs, od_upl hp (by decide), od_upd (by decide), od_upd (by decide), od_upd (by decide), od_upd (by decide)]
theorem goR_od {f h : Nat → Int32} {np no : Nat} (e : goR f np no = some h) (hn : np ≤ 20) (q k : Nat) : od h q k = od f q k := by
  unfold goR at e
  by_cases c : f 3 = -9
  · rw [if_pos c] at e
    cases z : fo f np no with
    | none => rw [z] at e; cases e
    | some z' =>
      rw [z] at e; cases e
      have h2 := fpl_lt (fo_of (g := z'.2.1) (p := z'.2.2) (o := z'.1) z).2
      exact gon_od (by omega) fsd_le
  · rw [if_neg c] at e; cases e; rfl
theorem finA_od {h : Nat → Int32} {np no ns q k : Nat} (hW : Wf h np no ns) (c : ¬ h 3 = -9) (hq : q < no - 1) (hk : k < 19) : od (finA h np no) q k = od h (skp (h 3).toNatClampNeg q) k := by
  obtain ⟨o, p, s, l, w1, w2, w3, w4, w5, w6, w7, _⟩ := hW.work c
  have h10 := hW.1.2.2.2.1
  have h20 := hW.1.2.1
  unfold finA
  rw [w1, w3, w5, nI_clamp (by omega), nI_clamp (by omega), nI_clamp (by omega)]
  show od (upd (tko (fin1 h o p s np) o no) 7 _) q k = _
  rw [od_upd (by decide), tko_od hq hk]
  show od (rst _) _ k = _
  rw [rst_od, fxr_od (by omega) h20, od_upl (by omega) (by omega)]
