/-! what holds of a row between the calls, 4: the other calls -/
set_option maxRecDepth 100000
/-- a plate that isn't at work gets the state st -/
theorem Wf_st {f : Nat → Int32} {np no ns p st : Nat} {v : Int32} (h : Wf f np no ns) (hp : p < np) (hv : v = nI st) (h3 : st ≤ 3) (h2 : st ≠ 2) (h1 : ¬ pl f p 2 = 1) : Wf (upl f p 2 v) np no ns := by
  subst hv
  obtain ⟨hN, hP, hS, hO, hX, hW⟩ := h
  have h20 := hN.2.1
  have vv : StP f (upl f p 2 (nI st)) p st := fun q k hk => pl_upl (by decide) (by omega)
  refine ⟨hN.c (upl_lo (by decide)) (upl_lo (by decide)) (upl_lo (by decide)), hP.st vv h3 h2, hS.st vv h3 h2 (fun s _ => upl_150 (by omega) (by decide)), hO.c (fun o k => od_upl (by omega) (by decide)), hX.st vv h3 h2 (fun o k => od_upl (by omega) (by decide)), ?_⟩
  unfold WfW
  rw [upl_lo (by decide), upl_lo (by decide), upl_lo (by decide), upl_lo (by decide)]
  rcases hW with hW | ⟨o, q, s, l, w1, w2, w3, w4, w5, w6, w7, w8⟩
  · exact Or.inl hW
  · refine Or.inr ⟨o, q, s, l, w1, w2, w3, w4, w5, w6, ?_, w8⟩
    rw [vv.ne (by decide) (fun z => h1 (by rw [← z.1]; exact w7))]; exact w7
/-- a side ground, a depth cut: nothing that counts here changes -/
theorem Wf_same {f g : Nat → Int32} {np no ns : Nat} (h : Wf f np no ns) (lo : ∀ i, i < 7 → g i = f i) (v : ∀ q k, q < np → k = 0 ∨ k = 2 ∨ k = 5 ∨ k = 6 → pl g q k = pl f q k) (e : ∀ s, s < ns → g (150 + s) = f (150 + s)) (eo : ∀ o k, od g o k = od f o k) : Wf g np no ns := by
  obtain ⟨hN, hP, hS, hO, hX, hW⟩ := h
  refine ⟨hN.c (lo 0 (by decide)) (lo 1 (by decide)) (lo 2 (by decide)), hP.v v, hS.v v e, hO.c eo, hX.v v (fun o k _ _ => eo o k), ?_⟩
  unfold WfW
  rw [lo 3 (by decide), lo 4 (by decide), lo 5 (by decide), lo 6 (by decide)]
  rcases hW with hW | ⟨o, q, s, l, w1, w2, w3, w4, w5, w6, w7, w8⟩
  · exact Or.inl hW
  · exact Or.inr ⟨o, q, s, l, w1, w2, w3, w4, w5, w6, by rw [v q 2 w4 (by decide)]; exact w7, w8⟩
theorem Wf_grd {f : Nat → Int32} {np no ns p s : Nat} (h : Wf f np no ns) (hp : p < np) (hs : s ≤ 1) : Wf (grd f p s) np no ns := by
  have h20 := h.1.2.1
  exact Wf_same h (fun i hi => grd_lo (by omega)) (fun q k _ hk => grd_pl hs hk) (fun i _ => grd_150 (by omega) hs) (fun o k => grd_od (by omega) hs)
theorem Wf_spoil {f : Nat → Int32} {np no ns : Nat} {x : Int32} (h : Wf f np no ns) : Wf (rRw (rSpoil f np x) f) np no ns := by
  unfold rSpoil
  by_cases c : inR x np
  · rw [iteP_t c]
    obtain ⟨p, hp, rfl⟩ := c
    have h20 := h.1.2.1
    rw [nI_clamp (by omega)]
    split
    · rename_i z
      exact Wf_st h hp (st := 3) rfl (by decide) (by decide) (by rw [z]; decide)
    · exact h
  · rw [iteP_f c]; exact h
theorem Wf_grind {f : Nat → Int32} {np no ns : Nat} {x y : Int32} (h : Wf f np no ns) : Wf (rRw (rGrind f np x y) f) np no ns := by
  unfold rGrind
  by_cases c : inR x np ∧ inR y 2
  · rw [iteP_t c]
    obtain ⟨⟨p, hp, rfl⟩, s, hs, rfl⟩ := c
    have h20 := h.1.2.1
    rw [nI_clamp (show p < 2 ^ 31 by omega), nI_clamp (show s < 2 ^ 31 by omega)]
    split
    · exact Wf_grd h hp (by omega)
    · exact h
  · rw [iteP_f c]; exact h
theorem Wf_take {f : Nat → Int32} {np no ns : Nat} {x y : Int32} (h : Wf f np no ns) : Wf (rRw (rTake f np ns x y) f) np no ns := by
  unfold rTake
  by_cases c : inR x ns ∧ 1 ≤ y ∧ y ≤ 999
  · rw [iteP_t c]
    cases e : pOn f x y np with
    | none => exact h
    | some p =>
      obtain ⟨h1, h2, h3⟩ := pOn_on e
      exact Wf_st h h1 (st := 0) rfl (by decide) (by decide) (by rw [h2.1]; decide)
  · rw [iteP_f c]; exact h
