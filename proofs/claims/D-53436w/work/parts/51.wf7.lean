/-! what holds of a row between the calls, 7: a slip -/
set_option maxRecDepth 100000
theorem Wf_side {g : Nat → Int32} {np no ns s : Nat} (h : Wf g np no ns) (hs : s ≤ 1) : Wf (upd g 6 (nI s)) np no ns := by
  obtain ⟨hN, hP, hS, hO, hX, hW⟩ := h
  have v : ∀ q k, q < np → k = 0 ∨ k = 2 ∨ k = 5 ∨ k = 6 → pl (upd g 6 (nI s)) q k = pl g q k := fun q k _ _ => pl_upd (by decide)
  refine ⟨hN.c (pk_un (by decide)) (pk_un (by decide)) (pk_un (by decide)), hP.v v, hS.v v (fun s _ => pk_un (by omega)), hO.c (fun o k => od_upd (by decide)), hX.v v (fun o k _ _ => od_upd (by decide)), ?_⟩
  unfold WfW
  rw [pk_un (show 3 ≠ 6 by decide), pk_un (show 5 ≠ 6 by decide), pk_us, pk_un (show 4 ≠ 6 by decide)]
  rcases hW with hW | ⟨o, p, s', l, w1, w2, w3, w4, w5, w6, w7, w8⟩
  · exact Or.inl hW
  · exact Or.inr ⟨o, p, s, l, w1, w2, w3, w4, rfl, hs, by rw [v p 2 w4 (by decide)]; exact w7, w8⟩
theorem Wf_slip {f : Nat → Int32} {np no ns : Nat} (h : Wf f np no ns) : Wf (rRw (rSlip f) f) np no ns := by
  unfold rSlip
  by_cases c : f 3 = -9
  · rw [if_pos c]; exact h
  rw [if_neg c]
  show Wf (slpR f (f 3).toNatClampNeg (f 5).toNatClampNeg (f 6).toNatClampNeg).1 np no ns
  obtain ⟨o, p, s, l, w1, w2, w3, w4, w5, w6, w7, w8, w9, w10⟩ := h.work c
  have h20 := h.1.2.1
  have h10 := h.1.2.2.2.1
  obtain ⟨lE, e1, e2, e3⟩ := eff_b (h.2.2.2.1.1 o w2)
  rw [w1, w3, w5, nI_clamp (by omega), nI_clamp (by omega), nI_clamp (by omega)]
  have G : Wf (upd (upl f p (3 + s) (od f o 3)) 8 (f 8 + 1)) np no ns := by
    refine Wf_same h (fun i hi => by rw [pk_un (by omega), upl_lo (by omega)]) (fun q k _ hk => ?_) (fun i hi => by rw [pk_un (by omega), upl_150 (by omega) (by omega)]) (fun q k => by rw [od_upd (by decide), od_upl (by omega) (by omega)])
    rw [pl_upd (by decide), pl_upl (by omega) (by omega), if_neg (by omega)]
  have g7 : pl (upd (upl f p (3 + s) (od f o 3)) 8 (f 8 + 1)) p 2 = 1 := by
    rw [pl_upd (by decide), pl_upl (by omega) (by decide), if_neg (by omega)]; exact w7
  unfold slpR
  generalize upd (upl f p (3 + s) (od f o 3)) 8 (f 8 + 1) = g at G g7
  show Wf (iteP (sOk g p (1 - s) (od f o 3)) (upd (upd g 6 (nI (1 - s))) 4 (eff f o), (1 : Int32)) (iteP (gOk g p s (od f o 3)) (upd (grd g p s) 4 (eff f o + 10), 2) (rst (upl g p 2 3), 3))).1 np no ns
  by_cases q : sOk g p (1 - s) (od f o 3)
  · rw [iteP_t q]
    exact (Wf_side G (by omega)).left (Or.inr ⟨lE, e1, by omega, by omega⟩)
  · rw [iteP_f q]
    by_cases q2 : gOk g p s (od f o 3)
    · rw [iteP_t q2]
      exact (Wf_grd G w4 w6).left (Or.inr ⟨lE + 10, by rw [e1]; exact nI_add lE 10, by omega, by omega⟩)
    · rw [iteP_f q2]
      show Wf (rst (upl g p 2 3)) np no ns
      obtain ⟨hN, hP, hS, hO, hX, hW⟩ := G
      have vv : StP g (rst (upl g p 2 3)) p 3 := fun q k hk => by rw [rst_pl]; exact pl_upl (by decide) (by omega)
      have eo : ∀ q k, od (rst (upl g p 2 3)) q k = od g q k := fun q k => by rw [rst_od, od_upl (by omega) (by decide)]
      have lo : ∀ i, i < 3 → rst (upl g p 2 3) i = g i := fun i hi => by rw [rst_lo (Or.inl hi), upl_lo (by omega)]
      have h3 := hN.2.2.2.2.2
      exact ⟨hN.c (lo 0 (by decide)) (lo 1 (by decide)) (lo 2 (by decide)), hP.st vv (by decide) (by decide), hS.st vv (by decide) (by decide) (fun s hs => by rw [rst_lo (by omega), upl_150 (by omega) (by decide)]), hO.c eo, hX.st vv (by decide) (by decide) eo, Or.inl ⟨rst_3, rst_5⟩⟩
