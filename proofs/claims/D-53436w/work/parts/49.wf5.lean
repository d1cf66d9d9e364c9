/-! what holds of a row between the calls, 5: a shield more -/
set_option maxRecDepth 100000
theorem cOn_0 {f : Nat → Int32} {sh : Int32} : ∀ {n : Nat}, (∀ p, p < n → ¬ onS f sh p) → cOn f sh n = 0
  | 0, _ => rfl
  | n + 1, h => by rw [cOn, if_neg (h n (by omega)), cOn_0 (fun p hp => h p (by omega))]
theorem inR_up {x : Int32} {n : Nat} (h : inR x n) : inR x (n + 1) := by
  obtain ⟨p, hp, e⟩ := h; exact ⟨p, by omega, e⟩
theorem Wf_addS {f : Nat → Int32} {np no ns : Nat} {x : Int32} (h : Wf f np no ns) : ∃ ns', Wf (rRw (rAddS f ns x) f) np no ns' := by
  unfold rAddS
  by_cases c : 2 ≤ x ∧ x ≤ 6
  · rw [if_neg (fun z => z c)]
    by_cases d : ns = 3
    · rw [if_pos d]; exact ⟨ns, h⟩
    · rw [if_neg d]
      refine ⟨ns + 1, ?_⟩
      show Wf (upd (upd f (150 + ns) x) 0 (nI (ns + 1))) np no (ns + 1)
      obtain ⟨hN, hP, hS, hO, hX, hW⟩ := h
      have h3 := hN.2.2.2.2.2
      have h20 := hN.2.1
      obtain ⟨j, hj, ej⟩ := nI_of2 (x := x) (M := 6) (n := 6) (by decide) (Int32.not_lt.mpr (Int32.le_trans (by decide) c.1)) c.2
      have hj2 : 2 ≤ j := by
        rcases Nat.lt_or_ge j 2 with z | z
        · exact absurd c.1 (by rw [ej]; exact nI_ge (b := 2) z (by decide))
        · exact z
      have lo : ∀ i, 0 < i → i < 150 → upd (upd f (150 + ns) x) 0 (nI (ns + 1)) i = f i := fun i h0 hi => by rw [pk_un (by omega), pk_un (by omega)]
      have v : ∀ q k, q < np → k = 0 ∨ k = 2 ∨ k = 5 ∨ k = 6 → pl (upd (upd f (150 + ns) x) 0 (nI (ns + 1))) q k = pl f q k := fun q k hq hk => lo _ (by omega) (by omega)
      have eo : ∀ o k, od (upd (upd f (150 + ns) x) 0 (nI (ns + 1))) o k = od f o k := fun o k => by
        unfold od; rw [pk_un (by omega), pk_un (by omega)]
      refine ⟨⟨by rw [lo 1 (by decide) (by decide)]; exact hN.1, h20, by rw [lo 2 (by decide) (by decide)]; exact hN.2.2.1, hN.2.2.2.1, pk_us, by omega⟩, ?_, ?_, ?_, hX.v v (fun o k _ _ => eo o k), ?_⟩
      · have := hP.v v
        exact ⟨fun p hp => ⟨(this.1 p hp).1, (this.1 p hp).2.1, fun e => ⟨inR_up ((this.1 p hp).2.2 e).1, ((this.1 p hp).2.2 e).2⟩⟩, this.2⟩
      · intro s hs
        by_cases e : s = ns
        · subst e
          refine ⟨j, by rw [pk_un (by omega), pk_us]; exact ej, hj2, hj, ?_⟩
          rw [cOn_0 (fun p hp z => ?_)]
          · omega
          · rw [onS_v v hp] at z
            obtain ⟨q, hq, eq⟩ := ((hP.1 p hp).2.2 z.1).1
            have := nI_inj (eq.symm.trans z.2) (by omega) (by omega)
            omega
        · obtain ⟨cc, c1, c2, c3, c4⟩ := hS s (by omega)
          exact ⟨cc, by rw [pk_un (by omega), pk_un (by omega)]; exact c1, c2, c3, by rw [cOn_eq (fun q hq => onS_v v hq)]; exact c4⟩
      · have := hO.c eo
        exact ⟨fun o ho => ⟨inR_up (this.1 o ho).1, (this.1 o ho).2⟩, this.2⟩
      · unfold WfW
        rw [lo 3 (by decide) (by decide), lo 4 (by decide) (by decide), lo 5 (by decide) (by decide), lo 6 (by decide) (by decide)]
        rcases hW with hW | ⟨o, q, s, l, w1, w2, w3, w4, w5, w6, w7, w8⟩
        · exact Or.inl hW
        · exact Or.inr ⟨o, q, s, l, w1, w2, w3, w4, w5, w6, by rw [v q 2 w4 (by decide)]; exact w7, w8⟩
  · rw [if_pos c]; exact ⟨ns, h⟩
