/-! what holds of a row between the calls, 2 -/
set_option maxRecDepth 100000
theorem tko_pl {f : Nat → Int32} {o N p k : Nat} (hp : p < 20) (hk : k ≤ 6) : pl (tko f o N) p k = pl f p k := by
  unfold pl tko; rw [if_neg (by omega), if_neg (by omega), if_neg (by omega)]
theorem tko_150 {f : Nat → Int32} {o N i : Nat} (hi : i < 3) : tko f o N (150 + i) = f (150 + i) := by
  unfold tko; rw [if_neg (by omega), if_neg (by omega), if_neg (by omega)]
theorem tko_lo {f : Nat → Int32} {o N i : Nat} (hi : i < 10) (h2 : i ≠ 2) (h3 : i ≠ 3) : tko f o N i = f i := by
  unfold tko; rw [if_neg h3, if_neg (by omega), if_neg h2]
theorem tko_2 {f : Nat → Int32} {o N : Nat} : tko f o N 2 = nI (N - 1) := by
  unfold tko; rw [if_neg (by decide), if_neg (by omega), if_pos rfl]
theorem tko_3 {f : Nat → Int32} {o N : Nat} : tko f o N 3 = if f 3 ≤ nI o then f 3 - 0 else f 3 - 1 := by
  unfold tko; rw [if_pos rfl]
/-- the order that stands at q once o is out -/
def skp (o q : Nat) : Nat := if q < o then q else q + 1
theorem skp_ne {o q : Nat} : skp o q ≠ o := by unfold skp; split <;> omega
theorem skp_lt {o q N : Nat} (h : q < N - 1) : skp o q < N := by unfold skp; split <;> omega
theorem skp_inj {o q r : Nat} (h : skp o q = skp o r) : q = r := by unfold skp at h; split at h <;> split at h <;> omega
theorem tko_od {f : Nat → Int32} {o N q k : Nat} (hq : q < N - 1) (hk : k < 19) : od (tko f o N) q k = od f (skp o q) k := by
  unfold od tko skp
  rw [if_neg (by omega)]
  by_cases c : q < o
  · rw [if_pos c, if_neg (by omega), if_neg (by omega)]
  · rw [if_neg c, if_pos (by omega), show 153 + 19 * q + k + 19 = 153 + 19 * (q + 1) + k by omega]
def WfXo (f : Nat → Int32) (np no o : Nat) : Prop := ∀ q p, q < no → q ≠ o → p < np → pl f p 2 = 2 → pl f p 5 = od f q 0 → pl f p 6 = od f q 1 → False
theorem WfP.v {f g : Nat → Int32} {np ns : Nat} (h : WfP f np ns) (v : ∀ q k, q < np → k = 0 ∨ k = 2 ∨ k = 5 ∨ k = 6 → pl g q k = pl f q k) : WfP g np ns := by
  refine ⟨fun q hq => ?_, fun q r hq hr => ?_⟩
  · rw [v q 0 hq (by decide), v q 2 hq (by decide), v q 5 hq (by decide), v q 6 hq (by decide)]; exact h.1 q hq
  · rw [v q 2 hq (by decide), v q 5 hq (by decide), v q 6 hq (by decide), v r 2 hr (by decide), v r 5 hr (by decide), v r 6 hr (by decide)]; exact h.2 q r hq hr
theorem onS_v {f g : Nat → Int32} {np q : Nat} {sh : Int32} (v : ∀ q k, q < np → k = 0 ∨ k = 2 ∨ k = 5 ∨ k = 6 → pl g q k = pl f q k) (hq : q < np) : onS g sh q ↔ onS f sh q := by
  unfold onS; rw [v q 2 hq (by decide), v q 5 hq (by decide)]
theorem WfS.v {f g : Nat → Int32} {np ns : Nat} (h : WfS f np ns) (v : ∀ q k, q < np → k = 0 ∨ k = 2 ∨ k = 5 ∨ k = 6 → pl g q k = pl f q k) (e : ∀ s, s < ns → g (150 + s) = f (150 + s)) : WfS g np ns := by
  intro s hs
  obtain ⟨c, h4, h5, h6, h7⟩ := h s hs
  exact ⟨c, by rw [e s hs]; exact h4, h5, h6, by rw [cOn_eq (fun q hq => onS_v v hq)]; exact h7⟩
theorem WfO.tko {f : Nat → Int32} {no ns o : Nat} (h : WfO f no ns) : WfO (tko f o no) (no - 1) ns := by
  refine ⟨fun q hq => (h.1 (skp o q) (skp_lt hq)).c (fun k hk => tko_od hq (by omega)), fun q r hq hr e1 e2 => ?_⟩
  rw [tko_od hq (by decide), tko_od hr (by decide)] at e1 e2
  exact skp_inj (h.2 _ _ (skp_lt hq) (skp_lt hr) e1 e2)
theorem WfXo.tko {f : Nat → Int32} {np no o : Nat} (h : WfXo f np no o) (hn : np ≤ 20) : WfX (tko f o no) np (no - 1) := by
  intro q p hq hp e1 e2 e3
  rw [tko_pl (by omega) (by decide)] at e1 e2 e3
  rw [tko_od hq (by decide)] at e2 e3
  exact h (skp o q) p (skp_lt hq) skp_ne hp e1 e2 e3
theorem WfX.o {f : Nat → Int32} {np no o : Nat} (h : WfX f np no) : WfXo f np no o := fun q p hq _ hp e1 e2 e3 => h q p hq hp e1 e2 e3
theorem pOn_on {f : Nat → Int32} {sh y : Int32} : ∀ {n q : Nat}, pOn f sh y n = some q → q < n ∧ onS f sh q ∧ pl f q 6 = y
  | 0, q, h => by cases h
  | n + 1, q, h => by
    rw [pOn] at h
    by_cases c : onS f sh n ∧ pl f n 6 = y
    · rw [if_pos c] at h; cases h; exact ⟨by omega, c.1, c.2⟩
    · rw [if_neg c] at h
      have := pOn_on h
      exact ⟨by omega, this.2⟩
theorem fx1_pl {f : Nat → Int32} {p q k : Nat} {sh y : Int32} (hk : k ≤ 6) : pl (fx1 f p sh y) q k = if q = p then (if k = 6 then y else if k = 5 then sh else if k = 2 then 2 else pl f q k) else pl f q k := by
  unfold fx1
  rw [pl_upl (by decide) hk, pl_upl (by decide) hk, pl_upl (by decide) hk]
  by_cases c : q = p
  · subst c; simp only [true_and, if_true]
  · simp only [c, false_and, if_false]
theorem fx1_150 {f : Nat → Int32} {p i : Nat} {sh y : Int32} (hp : p < 20) : fx1 f p sh y (150 + i) = f (150 + i) := by
  unfold fx1; rw [upl_150 hp (by decide), upl_150 hp (by decide), upl_150 hp (by decide)]
theorem fx1_od {f : Nat → Int32} {p o k : Nat} {sh y : Int32} (hp : p < 20) : od (fx1 f p sh y) o k = od f o k := by
  unfold fx1; rw [od_upl hp (by decide), od_upl hp (by decide), od_upl hp (by decide)]
theorem fxr_150 {f : Nat → Int32} {p i N : Nat} {sh y : Int32} (hp : p < 20) (hN : N ≤ 20) : fxr f p sh y N (150 + i) = f (150 + i) := by
  unfold fxr
  split
  · exact fx1_150 hp
  · cases e : pOn (fx1 f p sh y) sh (yOn (fx1 f p sh y) sh 1 N) N with
    | none => rw [Option.getD_none, upl_150 (by decide) (by decide)]; exact fx1_150 hp
    | some q => rw [Option.getD_some, upl_150 (by have := pOn_lt e; omega) (by decide)]; exact fx1_150 hp
theorem fxr_od {f : Nat → Int32} {p o k N : Nat} {sh y : Int32} (hp : p < 20) (hN : N ≤ 20) : od (fxr f p sh y N) o k = od f o k := by
  unfold fxr
  split
  · exact fx1_od hp
  · cases e : pOn (fx1 f p sh y) sh (yOn (fx1 f p sh y) sh 1 N) N with
    | none => rw [Option.getD_none, od_upl (by decide) (by decide)]; exact fx1_od hp
    | some q => rw [Option.getD_some, od_upl (by have := pOn_lt e; omega) (by decide)]; exact fx1_od hp
/-- the plate p, at work, is put on the shield of the order o -/
theorem Wf_fxr {f : Nat → Int32} {np no ns o p : Nat} (hN : WfN f np no ns) (hP : WfP f np ns) (hS : WfS f np ns) (hO : WfO f no ns) (hX : WfX f np no) (ho : o < no) (hp : p < np) (hp1 : pl f p 2 = 1) :
    WfP (fxr f p (od f o 0) (od f o 1) np) np ns ∧ WfS (fxr f p (od f o 0) (od f o 1) np) np ns ∧ WfXo (fxr f p (od f o 0) (od f o 1) np) np no o := by
  have h20 := hN.2.1
  obtain ⟨⟨a, ha, ea⟩, ⟨y, ey, y1, y2⟩, _⟩ := hO.1 o ho
  have n12 : ¬ (1 : Int32) = 2 := by decide
  have P1 : WfP (fx1 f p (od f o 0) (od f o 1)) np ns := by
    have key : ∀ q, q < np → q ≠ p → pl f q 2 = 2 → pl f q 5 = od f o 0 → pl f q 6 = od f o 1 → False := fun q hq _ e1 e2 e3 => hX o q ho hq e1 e2 e3
    refine ⟨fun q hq => ?_, fun q r hq hr e1 e2 e3 e4 => ?_⟩
    · rw [fx1_pl (by decide), fx1_pl (by decide), fx1_pl (by decide), fx1_pl (by decide)]
      by_cases c : q = p
      · rw [if_pos c, if_pos c, if_pos c, if_pos c]
        exact ⟨(hP.1 q hq).1, ⟨2, rfl, by decide, by decide⟩, fun _ => ⟨⟨a, ha, ea⟩, y, ey, y1, y2⟩⟩
      · rw [if_neg c, if_neg c, if_neg c, if_neg c]; exact hP.1 q hq
    · rw [fx1_pl (by decide)] at e1 e2
      rw [fx1_pl (by decide), fx1_pl (by decide)] at e3 e4
      by_cases c : q = p
      · by_cases d : r = p
        · rw [c, d]
        · rw [if_pos c, if_neg d] at e3 e4
          rw [if_neg d] at e2
          exact (key r hr d e2 e3.symm e4.symm).elim
      · by_cases d : r = p
        · rw [if_neg c, if_pos d] at e3 e4
          rw [if_neg c] at e1
          exact (key q hq c e1 e3 e4).elim
        · rw [if_neg c] at e1
          rw [if_neg d] at e2
          rw [if_neg c, if_neg d] at e3 e4
          exact hP.2 q r hq hr e1 e2 e3 e4
  have X1 : WfXo (fx1 f p (od f o 0) (od f o 1)) np no o := by
    intro q r hq hqo hr e1 e2 e3
    rw [fx1_pl (by decide)] at e1
    rw [fx1_pl (by decide), fx1_od (by omega)] at e2 e3
    by_cases c : r = p
    · rw [if_pos c] at e2 e3
      exact hqo (hO.2 q o hq ho e2.symm e3.symm)
    · rw [if_neg c] at e1 e2 e3
      exact hX q r hq hr e1 e2 e3
  have off : ∀ s, s < ns → s ≠ a → ∀ q, q < np → (onS (fx1 f p (od f o 0) (od f o 1)) (nI s) q ↔ onS f (nI s) q) := by
    intro s hs hsa q hq
    unfold onS
    rw [fx1_pl (by decide), fx1_pl (by decide)]
    by_cases c : q = p
    · rw [if_pos c, if_pos c]
      subst c
      constructor
      · rintro ⟨_, e⟩
        rw [if_neg (by decide), if_pos rfl, ea] at e
        have := hN.2.2.2.2.2
        exact (hsa (nI_inj e (by omega) (by omega)).symm).elim
      · rintro ⟨e, _⟩; rw [hp1] at e; exact (n12 e).elim
    · rw [if_neg c, if_neg c]
  obtain ⟨c, c1, c2, c3, c4⟩ := hS a ha
  have cnt : cOn (fx1 f p (od f o 0) (od f o 1)) (od f o 0) np ≤ c + 1 := by
    have : cOn (fx1 f p (od f o 0) (od f o 1)) (od f o 0) np ≤ cOn f (od f o 0) np + 1 := cOn_put (p := p) (fun q hq hqp e => by
      unfold onS at e ⊢
      rw [fx1_pl (by decide), fx1_pl (by decide), if_neg hqp, if_neg hqp] at e; exact e)
    rw [ea] at this ⊢; omega
  have S1 : cOn (fx1 f p (od f o 0) (od f o 1)) (od f o 0) np ≤ c → WfS (fx1 f p (od f o 0) (od f o 1)) np ns := by
    intro hc s hs
    by_cases e : s = a
    · subst e
      exact ⟨c, by rw [fx1_150 (by omega)]; exact c1, c2, c3, by rw [← ea]; exact hc⟩
    · obtain ⟨d, d1, d2, d3, d4⟩ := hS s hs
      exact ⟨d, by rw [fx1_150 (by omega)]; exact d1, d2, d3, by rw [cOn_eq (off s hs e)]; exact d4⟩
  have e150 : f (150 + (od f o 0).toNatClampNeg) = nI c := by rw [ea, nI_clamp (by have := hN.2.2.2.2.2; omega)]; exact c1
  have cle := cOn_le (f := fx1 f p (od f o 0) (od f o 1)) (sh := od f o 0) (n := np)
  unfold fxr
  rw [e150, cntO_eq]
  by_cases hc : cOn (fx1 f p (od f o 0) (od f o 1)) (od f o 0) np ≤ c
  · rw [if_pos (nI_le hc (by omega))]
    exact ⟨P1, S1 hc, X1⟩
  · rw [if_neg (nI_ge (by omega) (by omega))]
    have hex : ∃ q, q < np ∧ onS (fx1 f p (od f o 0) (od f o 1)) (od f o 0) q := by
      apply Classical.byContradiction
      intro z
      have := cntO_0 (f := fx1 f p (od f o 0) (od f o 1)) (sh := od f o 0) (n := np) (fun q hq w => z ⟨q, hq, w⟩)
      rw [cntO_eq] at this
      have := nI_inj (b := 0) this (by omega) (by decide)
      omega
    obtain ⟨q, h2, h3, h4⟩ := yOn_at (g := 1) hex
    obtain ⟨r, h5⟩ := pOn_some h2 h3 h4.symm
    obtain ⟨r1, r2, r3⟩ := pOn_on h5
    rw [h5, Option.getD_some]
    have v : StP (fx1 f p (od f o 0) (od f o 1)) (upl (fx1 f p (od f o 0) (od f o 1)) r 2 0) r 0 := by
      intro q k hk
      rw [pl_upl (by decide) (by omega)]; rfl
    refine ⟨P1.st v (by decide) (by decide), ?_, ?_⟩
    · intro s hs
      by_cases e : s = a
      · subst e
        refine ⟨c, by rw [upl_150 (by omega) (by decide), fx1_150 (by omega)]; exact c1, c2, c3, ?_⟩
        have := cOn_cut (f := fx1 f p (od f o 0) (od f o 1)) (g := upl (fx1 f p (od f o 0) (od f o 1)) r 2 0) (sh := od f o 0) r1 r2 (fun z => absurd (v.onS (by decide) (by decide) z).1 (fun w => w rfl)) (fun q _ z => (v.onS (by decide) (by decide) z).2)
        rw [← ea]; omega
      · obtain ⟨d, d1, d2, d3, d4⟩ := hS s hs
        refine ⟨d, by rw [upl_150 (by omega) (by decide), fx1_150 (by omega)]; exact d1, d2, d3, ?_⟩
        have := cOn_mono (f := fx1 f p (od f o 0) (od f o 1)) (g := upl (fx1 f p (od f o 0) (od f o 1)) r 2 0) (sh := nI s) (n := np) (fun q _ z => (v.onS (by decide) (by decide) z).2)
        rw [cOn_eq (off s hs e)] at this; omega
    · intro q t hq hqo ht e1 e2 e3
      have z := v.of2 (by decide) (by decide) e1
      rw [v.ne (k := 5) (by decide) (fun w => z.1 w.1), od_upl (by omega) (by decide)] at e2
      rw [v.ne (k := 6) (by decide) (fun w => z.1 w.1), od_upl (by omega) (by decide)] at e3
      exact X1 q t hq hqo ht z.2 e2 e3
theorem rst_lo {f : Nat → Int32} {i : Nat} (h : i < 3 ∨ 6 < i) : rst f i = f i := by
  unfold rst; rw [pk_un (by omega), pk_un (by omega), pk_un (by omega), pk_un (by omega)]
theorem rst_pl {f : Nat → Int32} {p k : Nat} : pl (rst f) p k = pl f p k := by unfold pl; exact rst_lo (by omega)
theorem rst_od {f : Nat → Int32} {o k : Nat} : od (rst f) o k = od f o k := by unfold od; exact rst_lo (by omega)
theorem rst_3 {f : Nat → Int32} : rst f 3 = -9 := by unfold rst; rw [pk_un (by decide), pk_un (by decide), pk_un (by decide), pk_us]
theorem rst_5 {f : Nat → Int32} : rst f 5 = -9 := by unfold rst; rw [pk_un (by decide), pk_us]
/-- the order at work is done -/
theorem Wf_fin {f : Nat → Int32} {np no ns o p s : Nat} (hN : WfN f np no ns) (hP : WfP f np ns) (hS : WfS f np ns) (hO : WfO f no ns) (hX : WfX f np no) (ho : o < no) (hp : p < np) (hs : s ≤ 1) (hp1 : pl f p 2 = 1) :
    Wf (fin f o p s np no) np (no - 1) ns := by
  have h20 := hN.2.1
  have h10 := hN.2.2.2.1
  have h3 := hN.2.2.2.2.2
  have v1 : ∀ q k, q < np → k = 0 ∨ k = 2 ∨ k = 5 ∨ k = 6 → pl (upl f p (3 + s) (od f o 3)) q k = pl f q k := fun q k _ hk => by
    rw [pl_upl (by omega) (by omega), if_neg (by omega)]
  have od1 : ∀ q k, od (upl f p (3 + s) (od f o 3)) q k = od f q k := fun q k => od_upl (by omega) (by omega)
  have lo1 : ∀ i, i < 10 → upl f p (3 + s) (od f o 3) i = f i := fun i hi => upl_lo hi
  have N1 : WfN (upl f p (3 + s) (od f o 3)) np no ns := hN.c (lo1 0 (by decide)) (lo1 1 (by decide)) (lo1 2 (by decide))
  have X1 : WfX (upl f p (3 + s) (od f o 3)) np no := fun q r hq hr e1 e2 e3 => hX q r hq hr ((v1 r 2 hr (by decide)).symm.trans e1) ((v1 r 5 hr (by decide)).symm.trans (e2.trans (od1 q 0))) ((v1 r 6 hr (by decide)).symm.trans (e3.trans (od1 q 1)))
  have F := Wf_fxr (o := o) (p := p) N1 (hP.v v1) (hS.v v1 (fun s hs => upl_150 (by omega) (by omega))) (hO.c od1) X1 ho hp (by rw [v1 p 2 hp (by decide)]; exact hp1)
  rw [od1, od1] at F
  have lo2 : ∀ i, i < 10 → i < 3 ∨ 6 < i → fin1 f o p s np i = f i := fun i hi h => fin1_lo hi h
  have vT : ∀ q k, q < np → k = 0 ∨ k = 2 ∨ k = 5 ∨ k = 6 → pl (upd (tko (fin1 f o p s np) o no) 7 (tko (fin1 f o p s np) o no 7 + 1)) q k = pl (fxr (upl f p (3 + s) (od f o 3)) p (od f o 0) (od f o 1) np) q k := fun q k hq hk => by
    rw [pl_upd (by decide), tko_pl (by omega) (by omega)]; exact rst_pl
  have odT : ∀ q k, od (upd (tko (fin1 f o p s np) o no) 7 (tko (fin1 f o p s np) o no 7 + 1)) q k = od (tko (fin1 f o p s np) o no) q k := fun q k => od_upd (by decide)
  have odF : ∀ q k, od (fin1 f o p s np) q k = od f q k := fun q k => by
    show od (rst _) q k = _
    rw [rst_od, fxr_od (by omega) h20, od1]
  have O1 : WfO (fin1 f o p s np) no ns := hO.c odF
  have Xo : WfXo (fin1 f o p s np) np no o := by
    intro q r hq hqo hr e1 e2 e3
    have e : ∀ q k, pl (fin1 f o p s np) q k = pl (fxr (upl f p (3 + s) (od f o 3)) p (od f o 0) (od f o 1) np) q k := fun q k => rst_pl
    rw [e] at e1 e2 e3
    rw [odF] at e2 e3
    refine F.2.2 q r hq hqo hr e1 ?_ ?_
    · rw [fxr_od (by omega) h20, od1]; exact e2
    · rw [fxr_od (by omega) h20, od1]; exact e3
  have XT := Xo.tko h20
  show Wf (upd (tko (fin1 f o p s np) o no) 7 (tko (fin1 f o p s np) o no 7 + 1)) np (no - 1) ns
  refine ⟨?_, F.1.v vT, F.2.1.v vT (fun i hi => ?_), O1.tko.c odT, ?_, Or.inl ⟨?_, ?_⟩⟩
  · refine ⟨?_, h20, ?_, by omega, ?_, h3⟩
    · rw [pk_un (by decide), tko_lo (by decide) (by decide) (by decide), lo2 1 (by decide) (by decide)]; exact hN.1
    · rw [pk_un (by decide), tko_2]
    · rw [pk_un (by decide), tko_lo (by decide) (by decide) (by decide), lo2 0 (by decide) (by decide)]; exact hN.2.2.2.2.1
  · rw [pk_un (by omega), tko_150 (by omega)]
    show rst _ (150 + i) = _
    exact rst_lo (by omega)
  · intro q r hq hr e1 e2 e3
    rw [odT, pl_upd (by decide)] at e2 e3
    rw [pl_upd (by decide)] at e1
    exact XT q r hq hr e1 e2 e3
  · have e : fin1 f o p s np 3 = -9 := rst_3
    rw [pk_un (by decide), tko_3, e, if_pos]
    · rfl
    · have := nI_pos' (n := o) (by omega)
      exact Int32.le_trans (by decide) this
  · rw [pk_un (by decide), tko_lo (by decide) (by decide) (by decide)]
    exact rst_5
