/-! what holds of a row between the calls, 8: a plate more -/
set_option maxRecDepth 100000
theorem cutR_pl {f : Nat → Int32} {np q k : Nat} {x y : Int32} (hk : k ≤ 6) : pl (cutR f np x y) q k = if q = np then (if k = 1 then y else if k = 0 then x else 0) else pl f q k := by
  unfold cutR
  rw [pl_upl (by decide) hk, pl_upl (by decide) hk, pl_upl (by decide) hk, pl_upl (by decide) hk, pl_upl (by decide) hk, pl_upl (by decide) hk, pl_upl (by decide) hk, pl_upl (by decide) hk, pl_upl (by decide) hk, pl_upd (by decide)]
  by_cases c : q = np
  · simp only [c, true_and, if_true]
    have : k = 0 ∨ k = 1 ∨ k = 2 ∨ k = 3 ∨ k = 4 ∨ k = 5 ∨ k = 6 := by omega
    rcases this with e | e | e | e | e | e | e <;> (subst e; rfl)
  · simp only [c, false_and, if_false]
theorem cutR_un {f : Nat → Int32} {np i : Nat} {x y : Int32} (h1 : i ≠ 1) (h : i < 10 ∨ 150 ≤ i) (hn : np < 20) : cutR f np x y i = f i := by
  unfold cutR upl
  rw [pk_un (by omega), pk_un (by omega), pk_un (by omega), pk_un (by omega), pk_un (by omega), pk_un (by omega), pk_un (by omega), pk_un (by omega), pk_un (by omega), pk_un h1]
theorem cutR_1 {f : Nat → Int32} {np : Nat} {x y : Int32} (hn : np < 20) : cutR f np x y 1 = nI (np + 1) := by
  unfold cutR upl
  rw [pk_un (by omega), pk_un (by omega), pk_un (by omega), pk_un (by omega), pk_un (by omega), pk_un (by omega), pk_un (by omega), pk_un (by omega), pk_un (by omega), pk_us]
theorem Wf_cut {f : Nat → Int32} {np no ns : Nat} {x y : Int32} (h : Wf f np no ns) : ∃ np', Wf (rRw (rCut f np x y) f) np' no ns := by
  unfold rCut
  by_cases c : (10 ≤ x ∧ x ≤ 200) ∧ (5 ≤ y ∧ y ≤ 30)
  · rw [if_neg (fun z => z c)]
    by_cases d : np = 20
    · rw [if_pos d]; exact ⟨np, h⟩
    · rw [if_neg d]
      refine ⟨np + 1, ?_⟩
      show Wf (cutR f np x y) (np + 1) no ns
      obtain ⟨hN, hP, hS, hO, hX, hW⟩ := h
      have h20 : np < 20 := by have := hN.2.1; omega
      obtain ⟨j, hj, ej⟩ := nI_of2 (x := x) (M := 200) (n := 200) (by decide) (Int32.not_lt.mpr (Int32.le_trans (by decide) c.1.1)) c.1.2
      have hj2 : 10 ≤ j := by
        rcases Nat.lt_or_ge j 10 with z | z
        · exact absurd c.1.1 (by rw [ej]; exact nI_ge (b := 10) z (by decide))
        · exact z
      have old : ∀ q k, k ≤ 6 → q ≠ np → pl (cutR f np x y) q k = pl f q k := fun q k hk hq => by rw [cutR_pl hk, if_neg hq]
      have st0 : pl (cutR f np x y) np 2 = 0 := by rw [cutR_pl (by decide), if_pos rfl]; rfl
      have of2 : ∀ q, pl (cutR f np x y) q 2 = 2 → q ≠ np := fun q e z => by rw [z, st0] at e; exact absurd e (by decide)
      have eo : ∀ o k, od (cutR f np x y) o k = od f o k := fun o k => cutR_un (by omega) (by omega) h20
      refine ⟨⟨cutR_1 h20, by omega, by rw [cutR_un (by decide) (by decide) h20]; exact hN.2.2.1, hN.2.2.2.1, by rw [cutR_un (by decide) (by decide) h20]; exact hN.2.2.2.2.1, hN.2.2.2.2.2⟩, ⟨fun q hq => ?_, fun q r hq hr e1 e2 e3 e4 => ?_⟩, fun s hs => ?_, hO.c eo, fun o q ho hq e1 e2 e3 => ?_, ?_⟩
      · by_cases e : q = np
        · subst e
          refine ⟨by rw [cutR_pl (by decide), if_pos rfl]; exact ⟨j, ej, hj2, hj⟩, by rw [st0]; exact ⟨0, rfl, by decide, by decide⟩, fun z => absurd rfl (of2 q z)⟩
        · rw [old q 0 (by decide) e, old q 2 (by decide) e, old q 5 (by decide) e, old q 6 (by decide) e]
          exact hP.1 q (by omega)
      · have a := of2 q e1
        have b := of2 r e2
        rw [old q 2 (by decide) a] at e1
        rw [old r 2 (by decide) b] at e2
        rw [old q 5 (by decide) a, old r 5 (by decide) b] at e3
        rw [old q 6 (by decide) a, old r 6 (by decide) b] at e4
        exact hP.2 q r (by omega) (by omega) e1 e2 e3 e4
      · obtain ⟨cc, c1, c2, c3, c4⟩ := hS s hs
        refine ⟨cc, by rw [cutR_un (by omega) (by omega) h20]; exact c1, c2, c3, ?_⟩
        rw [cOn, if_neg (fun z => of2 np z.1 rfl)]
        have : cOn (cutR f np x y) (nI s) np = cOn f (nI s) np := cOn_eq (fun q hq => by
          unfold onS; rw [old q 2 (by decide) (by omega), old q 5 (by decide) (by omega)])
        rw [this]; exact c4
      · have a := of2 q e1
        rw [old q 2 (by decide) a] at e1
        rw [old q 5 (by decide) a, eo] at e2
        rw [old q 6 (by decide) a, eo] at e3
        exact hX o q ho (by omega) e1 e2 e3
      · unfold WfW
        rw [cutR_un (by decide) (by decide) h20, cutR_un (i := 5) (by decide) (by decide) h20, cutR_un (i := 6) (by decide) (by decide) h20, cutR_un (i := 4) (by decide) (by decide) h20]
        rcases hW with hW | ⟨o, q, s, l, w1, w2, w3, w4, w5, w6, w7, w8⟩
        · exact Or.inl hW
        · exact Or.inr ⟨o, q, s, l, w1, w2, w3, by omega, w5, w6, by rw [old q 2 (by decide) (by omega)]; exact w7, w8⟩
  · rw [if_pos c]; exact ⟨np, h⟩
