/-! what holds of a row between the calls, 6: an order out -/
set_option maxRecDepth 100000
theorem Wf_tko {f : Nat → Int32} {np no ns o : Nat} (hN : WfN f np no ns) (hP : WfP f np ns) (hS : WfS f np ns) (hO : WfO f no ns) (hX : WfX f np no) (hW : WfW (tko f o no) np (no - 1)) : Wf (tko f o no) np (no - 1) ns := by
  have h20 := hN.2.1
  have h3 := hN.2.2.2.2.2
  have h10 := hN.2.2.2.1
  have v : ∀ q k, q < np → k = 0 ∨ k = 2 ∨ k = 5 ∨ k = 6 → pl (tko f o no) q k = pl f q k := fun q k hq hk => tko_pl (by omega) (by omega)
  refine ⟨⟨by rw [tko_lo (by decide) (by decide) (by decide)]; exact hN.1, h20, tko_2, by omega, by rw [tko_lo (by decide) (by decide) (by decide)]; exact hN.2.2.2.2.1, h3⟩, hP.v v, hS.v v (fun s hs => tko_150 (by omega)), hO.tko, (hX.o (o := o)).tko h20, hW⟩
theorem m9_le {o : Nat} (h : o ≤ 10) : (-9 : Int32) ≤ nI o := Int32.le_trans (by decide) (nI_pos' (n := o) (by omega))
theorem Wf_cancel {f : Nat → Int32} {np no ns o : Nat} (h : Wf f np no ns) (ho : o < no) : Wf (canR f o no) np (no - 1) ns := by
  obtain ⟨hN, hP, hS, hO, hX, hW⟩ := h
  have h20 := hN.2.1
  have h10 := hN.2.2.2.1
  unfold canR
  by_cases c : f 3 = nI o
  · rw [if_pos c]
    rcases hW with hW | ⟨o', p, s, l, w1, w2, w3, w4, w5, w6, w7, w8⟩
    · rw [c] at hW; exact absurd hW.1 (m9n (by omega))
    · rw [w3, nI_clamp (by omega)]
      have vv : StP f (rst (upl f p 2 0)) p 0 := fun q k hk => by rw [rst_pl]; exact pl_upl (by decide) (by omega)
      have eo : ∀ q k, od (rst (upl f p 2 0)) q k = od f q k := fun q k => by rw [rst_od, od_upl (by omega) (by decide)]
      have lo : ∀ i, i < 3 → rst (upl f p 2 0) i = f i := fun i hi => by rw [rst_lo (Or.inl hi), upl_lo (by omega)]
      refine Wf_tko (hN.c (lo 0 (by decide)) (lo 1 (by decide)) (lo 2 (by decide))) (hP.st vv (by decide) (by decide)) (hS.st vv (by decide) (by decide) (fun s hs => by rw [rst_lo (by omega), upl_150 (by omega) (by decide)])) (hO.c eo) (hX.st vv (by decide) (by decide) eo) (Or.inl ⟨?_, ?_⟩)
      · rw [tko_3, rst_3, if_pos (m9_le (by omega))]; rfl
      · rw [tko_lo (by decide) (by decide) (by decide)]; exact rst_5
  · rw [if_neg c]
    refine Wf_tko hN hP hS hO hX ?_
    unfold WfW
    rw [tko_3, tko_lo (by decide) (by decide) (by decide), tko_lo (by decide) (by decide) (by decide), tko_lo (by decide) (by decide) (by decide)]
    rcases hW with hW | ⟨a, p, s, l, w1, w2, w3, w4, w5, w6, w7, w8⟩
    · refine Or.inl ⟨?_, hW.2⟩
      rw [hW.1, if_pos (m9_le (by omega))]; rfl
    · have ao : a ≠ o := fun z => c (by rw [w1, z])
      have e7 : pl (tko f o no) p 2 = 1 := by rw [tko_pl (by omega) (by decide)]; exact w7
      by_cases d : a < o
      · refine Or.inr ⟨a, p, s, l, ?_, by omega, w3, w4, w5, w6, e7, w8⟩
        rw [w1, if_pos (nI_le (by omega) (by omega))]
        exact pk_sub (b := 0) (by omega)
      · refine Or.inr ⟨a - 1, p, s, l, ?_, by omega, w3, w4, w5, w6, e7, w8⟩
        rw [w1, if_neg (nI_ge (by omega) (by omega))]
        exact pk_sub (b := 1) (by omega)
