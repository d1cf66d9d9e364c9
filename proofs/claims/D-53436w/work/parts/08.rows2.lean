/-! THE ROWS, part 2: fields, arrays, objects -/
set_option maxRecDepth 100000
section spec
variable {w : Wt} {σ : Sg} {U : State} {H : Heap} {a c f k : Nat}
theorem Rep.obj (h : Rep w σ U H) (hk : kd σ a = c + 10) : wb w ≤ a ∧ va_at (wD w) vwCl (a, .inr (c, (lay c).map (fv σ a))) H := by
  have h1 := h.2.2 a
  unfold cellK at h1
  rw [hk] at h1
  rw [if_neg (by omega), if_neg (by omega), if_neg (by omega), if_neg (by omega), if_neg (by omega), if_neg (by omega), if_neg (by omega), if_neg (by omega), if_neg (by omega), Nat.add_sub_cancel] at h1
  exact h1.2
theorem Rep.a1 (h : Rep w σ U H) (hk : kd σ a = 1) : wb w ≤ a ∧ va_at (wD w) vwCl (a, .inl (wc w 1, ln σ a, .inl (AI σ a))) H := by
  have h1 := h.2.2 a
  rw [hk] at h1
  exact h1
theorem Rep.a2 (h : Rep w σ U H) (hk : kd σ a = 2) : wb w ≤ a ∧ va_at (wD w) vwCl (a, .inl (wc w 2, ln σ a, .inl (AI σ a))) H := by
  have h1 := h.2.2 a
  rw [hk] at h1
  exact h1
theorem Rep.a3 (h : Rep w σ U H) (hk : kd σ a = 3) : wb w ≤ a ∧ va_at (wD w) vwCl (a, .inl (wc w 3, ln σ a, .inr (.inr (.inr (.inr (AR σ a)))))) H := by
  have h1 := h.2.2 a
  rw [hk] at h1
  exact h1
theorem Rep.a4 (h : Rep w σ U H) (hk : kd σ a = 4) : wb w ≤ a ∧ va_at (wD w) vwCl (a, .inl (wc w 4, ln σ a, .inr (.inr (.inr (.inr (AR σ a)))))) H := by
  have h1 := h.2.2 a
  rw [hk] at h1
  exact h1
theorem Rep.a5 (h : Rep w σ U H) (hk : kd σ a = 5) : va_T .int a (ln σ a) (fun j => .int (AI σ a j)) (Aw w) U H := by
  have h1 := h.2.2 a
  rw [hk] at h1
  exact h1
theorem Rep.a6 (h : Rep w σ U H) (hk : kd σ a = 6) : va_O "java/lang/Integer" a (Aw w) U H ∧ va_OF "java/lang/Integer" "value" "I" (.int (FI σ 83 a)) a (Aw w) U H := by
  have h1 := h.2.2 a
  rw [hk] at h1
  exact h1
theorem Rep.a7 (h : Rep w σ U H) (hk : kd σ a = 7) : va_T (.object "java/lang/Object") a (ln σ a) (fun j => va_rf (AR σ a j)) (Aw w) U H := by
  have h1 := h.2.2 a
  rw [hk] at h1
  exact h1
theorem Rep.a8 (h : Rep w σ U H) (hk : kd σ a = 8) : va_T (.object "java/lang/Integer") a (ln σ a) (fun j => va_rf (AR σ a j)) (Aw w) U H := by
  have h1 := h.2.2 a
  rw [hk] at h1
  exact h1
theorem lay_out (h : 24 ≤ c) : lay c = [] := by
  unfold lay
  split <;> first | omega | rfl
theorem cl_in (h : c < 24) : ∃ q, vwCl[c]? = some q := by
  have : c < vwCl.length := h
  exact ⟨_, List.getElem?_eq_getElem this⟩
theorem hasF_spec (h : hasF f k = true) : (k = 6 ∧ f = 83) ∨ ∃ (c j : Nat) (q : vw_C), k = c + 10 ∧ (lay c)[j]? = some f ∧ vwCl[c]? = some q ∧ j < q.2.2 := by
  unfold hasF at h
  split at h
  · exact Or.inl ⟨‹_›, by simpa using h⟩
  · simp only [Bool.and_eq_true, decide_eq_true_eq] at h
    have hm : f ∈ lay (k - 10) := by simpa using h.2
    obtain ⟨j, hj⟩ := List.getElem?_of_mem hm
    have hc : k - 10 < 24 := by
      apply Nat.not_le.mp
      intro hle
      rw [lay_out hle] at hm
      cases hm
    obtain ⟨q, hq⟩ := cl_in hc
    refine Or.inr ⟨k - 10, j, q, by omega, hj, hq, ?_⟩
    rw [← (tb_ok _ _ hq).2.1]
    exact (List.getElem?_eq_some_iff.mp hj).1
theorem P1 {D : va_G} {q : Nat × va_E} (h : va_at D vwCl q H) : va_P D vwCl [q] H := by
  intro k x hx
  cases k with
  | zero => cases hx; exact h
  | succ k => simp at hx
theorem fvI (σ : Sg) (a : Nat) {f : Nat} (h : fk f = 0) : fv σ a f = .int (FI σ f a) := by simp [fv, h]
theorem fvR (σ : Sg) (a : Nat) {f : Nat} (h : fk f = 1) : fv σ a f = va_rf (FR σ f a) := by simp [fv, h]
end spec
section rows2
variable {w : Wt} {M : Mt} {K : Sg → Option Value → Prop} {rc rs rc' rs' : Nat} {σ σ' : Sg} {pc : Nat} {L st : List Value}
theorem same_ok {s : State} {args : Array Value} {ref o n d : String} (hts : ∀ w ∈ lw_all, w.before args s = true) (hs : ref = o ∨ Cond.sameField ref o n d ∈ lw_all) : ∀ x, s.fieldFound? o n d = some x → s.fieldFound? ref n d = some x := by
  intro x hx
  rcases hs with rfl | q
  · exact hx
  · exact u_same (hts _ q) x hx
/-- getfield, by a link of the class's own or of a nest mate -/
theorem G_get {f idx : Nat} {ref host : String} {t : Option Nat} {a : Nat} (pc' : Nat) (hd : decode (Mc M) pc = .ok (.getfield idx, 3)) (hl : Cond.fieldLink (My M).cls idx ref (fN f).2.1 (fN f).2.2.1 ∈ lw_all ∨ Cond.fieldLinkNest (My M).cls idx ref (fN f).2.1 (fN f).2.2.1 host ∈ lw_tbl) (hs : ref = (fN f).1 ∨ Cond.sameField ref (fN f).1 (fN f).2.1 (fN f).2.2.1 ∈ lw_all) (hp : pc + 3 = pc') (ht : t = some a) (hk : hasF f (kd σ a) = true) (k : G w M K rc rs σ pc' L (fv σ a f :: st)) : G w M K rc rs σ pc L (va_rf t :: st) := by
  subst hp; subst ht
  intro σ0 hE p l e s m args below meth c C H locs cells slots ls h1 h2 hS hR hl'
  have kk := k σ0 hE p l e s m args below meth c C H locs cells slots ls h1 h2 hS hR hl'
  obtain ⟨hx, hb, hr, hml, hts, hown, hlk, hnm, hW, hSt⟩ := C
  have hsame := same_ok hts hs
  rcases hasF_spec hk with ⟨h6, rfl⟩ | ⟨cc, j, q, hkk, hj, hq, hjq⟩
  · obtain ⟨-, cf, kc, i, f0, cell, r1, r2, r3, r4, r5, -⟩ := hR.a6 h6
    rcases hl with hl | hl
    · exact W.getf hx hb hown (hts _ hl) (hsame _ r1) r2 r3 r4 r5 rfl rfl hd kk
    · exact va_Wgetf hx hb hown (va_Nw.use rfl (hW.2.1 _ hl rfl)) (hsame _ r1) r2 r3 r4 r5 rfl rfl hd kk
  · obtain ⟨-, hat⟩ := hR.obj hkk
    obtain ⟨t1, t2, t3, t4, ty, t5, t6, t7⟩ := tb_ok cc q hq
    have hT := t4 j f hj
    obtain ⟨C0, T0, N0⟩ := q
    have hv : ((lay cc).map (fv σ a))[j]? = some (fv σ a f) := by rw [List.getElem?_map, hj]; rfl
    rcases hl with hl | hl
    · exact va_get (D := wD w) (cl := vwCl) (ref := ref) (T := T0) (C := C0) (N := N0) (index := idx) hx hb hts t1 hown hW.1 (P1 hat) 0 rfl hq j hjq (by rw [show T0 j = _ from hT]; exact hts _ hl) (by rw [show T0 j = _ from hT]; exact hsame) hv hd kk
    · exact va_getN (D := wD w) (cl := vwCl) (ref := ref) (host := host) (T := T0) (C := C0) (N := N0) (index := idx) hx hb hts t1 hown hW.1 (P1 hat) 0 rfl hq j hjq (by rw [show T0 j = _ from hT]; exact va_Nw.use rfl (hW.2.1 _ hl rfl)) (by rw [show T0 j = _ from hT]; exact hsame) hv hd kk
theorem G_getI {f idx : Nat} {ref : String} (host : String) {t : Option Nat} {a : Nat} (pc' : Nat) (hd : decode (Mc M) pc = .ok (.getfield idx, 3)) (hl : Cond.fieldLink (My M).cls idx ref (fN f).2.1 (fN f).2.2.1 ∈ lw_all ∨ Cond.fieldLinkNest (My M).cls idx ref (fN f).2.1 (fN f).2.2.1 host ∈ lw_tbl) (hs : ref = (fN f).1 ∨ Cond.sameField ref (fN f).1 (fN f).2.1 (fN f).2.2.1 ∈ lw_all) (hp : pc + 3 = pc') (ht : t = some a) (hk : hasF f (kd σ a) = true) (hf : fk f = 0) (k : G w M K rc rs σ pc' L (.int (FI σ f a) :: st)) : G w M K rc rs σ pc L (va_rf t :: st) :=
  G_get (host := host) pc' hd hl hs hp ht hk (by rw [fvI _ _ hf]; exact k)
theorem G_getR {f idx : Nat} {ref : String} (host : String) {t : Option Nat} {a : Nat} (pc' : Nat) (hd : decode (Mc M) pc = .ok (.getfield idx, 3)) (hl : Cond.fieldLink (My M).cls idx ref (fN f).2.1 (fN f).2.2.1 ∈ lw_all ∨ Cond.fieldLinkNest (My M).cls idx ref (fN f).2.1 (fN f).2.2.1 host ∈ lw_tbl) (hs : ref = (fN f).1 ∨ Cond.sameField ref (fN f).1 (fN f).2.1 (fN f).2.2.1 ∈ lw_all) (hp : pc + 3 = pc') (ht : t = some a) (hk : hasF f (kd σ a) = true) (hf : fk f = 1) (k : G w M K rc rs σ pc' L (va_rf (FR σ f a) :: st)) : G w M K rc rs σ pc L (va_rf t :: st) :=
  G_get (host := host) pc' hd hl hs hp ht hk (by rw [fvR _ _ hf]; exact k)
/-- the heap behind a write of one object's field -/
theorem Rep.putF {c j f a : Nat} {q : vw_C} {v : Value} {s : State} {H H' : Heap} {cell : Cell} {args : Array Value} {own : String} (hts : ∀ w ∈ lw_all, w.before args s = true) (hW : Wld w s) (hR : Rep w σ s H) (hkk : kd σ a = c + 10) (hj : (lay c)[j]? = some f) (hq : vwCl[c]? = some q) (hjq : j < q.2.2)
    (h1 : H[a]? = some cell) (h2 : cell.cls = (wD w).1 c) (h3 : cell.vm = .none) (h4 : ∀ i, i < q.2.2 → cell.slots[(wD w).2 c i]? = some (vp_V ((lay c).map (fv σ a)) i)) (e1 : H'[a]? = some (cell.setSlot ((wD w).2 c j) v)) (e2 : H'.size = H.size) (e3 : ∀ b, b ≠ a → H'[b]? = H[b]?)
    (g1 : kd σ' = kd σ) (g2 : ln σ' = ln σ) (g3 : AI σ' = AI σ) (g4 : AR σ' = AR σ) (g5 : nx σ' = nx σ) (g6 : fv σ' a f = v) (g7 : ∀ b g, ¬ (g = f ∧ b = a) → fv σ' b g = fv σ b g) : Rep w σ' s H' := by
  refine ⟨by rw [g5, e2]; exact hR.1, by rw [e2]; exact hR.2.1, fun b => ?_⟩
  rw [g1]
  obtain ⟨t1, t2, t3, t4, ty, t5, t6, t7⟩ := tb_ok c q hq
  by_cases hb : b = a
  · subst hb
    have hap := va_apart (own := own) hts t1 ty t5 t6 hW.1 hq
    have key : va_at (wD w) vwCl (b, .inr (c, (lay c).map (fv σ' b))) H' := by
      refine ⟨q, hq, t_OB.to (V := updV (vp_V ((lay c).map (fv σ b))) j v) ⟨_, e1, h2, h3, t_set h4 hap hjq v⟩ (fun i hi => ?_)⟩
      have hil : i < (lay c).length := by rw [t2]; exact hi
      have hr : ∀ τ : Sg, vp_V ((lay c).map (fv τ b)) i = fv τ b (lay c)[i] := by
        intro τ
        simp [vp_V, List.getD_eq_getElem?_getD, List.getElem?_eq_getElem hil]
      rw [hr]
      unfold updV
      by_cases hij : i = j
      · subst hij
        rw [if_pos rfl]
        have : (lay c)[i] = f := Option.some.inj ((List.getElem?_eq_getElem hil).symm.trans hj)
        rw [this, g6]
      · rw [if_neg hij, hr, g7]
        rintro ⟨q1, -⟩
        have hjl := (List.getElem?_eq_some_iff.mp hj).1
        have h5 : (lay c)[j] = f := Option.some.inj ((List.getElem?_eq_getElem hjl).symm.trans hj)
        exact hij ((List.getElem_inj t3).mp (q1.trans h5.symm))
    have := hR.obj hkk
    unfold cellK
    rw [hkk]
    rw [if_neg (by omega), if_neg (by omega), if_neg (by omega), if_neg (by omega), if_neg (by omega), if_neg (by omega), if_neg (by omega), if_neg (by omega), if_neg (by omega), Nat.add_sub_cancel]
    exact ⟨by omega, this.1, key⟩
  · exact (hR.2.2 b).congr (e3 b hb) (by rw [g2]) (by rw [g3]) (by rw [g4]) (fun g => g7 b g (fun z => hb z.2))
theorem G_putC {f idx : Nat} {ref host : String} {t : Option Nat} {a : Nat} {v : Value} (pc' : Nat) (hd : decode (Mc M) pc = .ok (.putfield idx, 3)) (hl : Cond.fieldLink (My M).cls idx ref (fN f).2.1 (fN f).2.2.1 ∈ lw_all ∨ (Cond.fieldLinkNest (My M).cls idx ref (fN f).2.1 (fN f).2.2.1 host ∈ lw_tbl ∧ (fN f).2.2.2.2.2 = false)) (hs : ref = (fN f).1 ∨ Cond.sameField ref (fN f).1 (fN f).2.1 (fN f).2.2.1 ∈ lw_all) (hp : pc + 3 = pc') (ht : t = some a) (hk : hasF f (kd σ a) = true) (hk6 : ¬ kd σ a = 6) (hfin : (fN f).2.2.2.2.2 = false ∨ ((fN f).2.2.2.2.2 = true ∧ (My M).name = "<init>" ∧ (fN f).1 = (My M).cls)) (hn : narrow (fT f) v = v) (hfit : fits (fT f) v = true)
    (g1 : kd σ' = kd σ) (g2 : ln σ' = ln σ) (g3 : AI σ' = AI σ) (g4 : AR σ' = AR σ) (g5 : nx σ' = nx σ) (g6 : fv σ' a f = v) (g7 : ∀ b g, ¬ (g = f ∧ b = a) → fv σ' b g = fv σ b g) (k : G w M K rc rs σ' pc' L st) : G w M K rc rs σ pc L (v :: va_rf t :: st) := by
  subst hp; subst ht
  intro σ0 hE p l e s m args below meth c C H locs cells slots ls h1 h2 hS hR hl'
  have C0 := C
  obtain ⟨hx, hb, hr, hml, hts, hown, hlk, hnm, hW, hSt⟩ := C
  have hsame := same_ok hts hs
  rcases hasF_spec hk with ⟨h6, -⟩ | ⟨cc, j, q, hkk, hj, hq, hjq⟩
  · exact absurd h6 hk6
  · obtain ⟨hba, hat⟩ := hR.obj hkk
    obtain ⟨t1, t2, t3, t4, ty, t5, t6, t7⟩ := tb_ok cc q hq
    have hT := t4 j f hj
    obtain ⟨r, hr1, cell, q1, q2, q3, q4⟩ := hat
    have hrq : r = q := Option.some.inj (hr1.symm.trans hq)
    subst hrq
    obtain ⟨hSl, hfc, kC, hkC, hkind⟩ := hW.1.1 cc _ hq
    obtain ⟨cf, kf, fi, f0, hi, hsl⟩ := hSl j hjq
    have hst := (u_facts hfc hkC (u_lays hts t1 hjq) hi).1
    have hlay := hts _ (t1 _ (u_in_lay hjq))
    unfold u_lay at hlay
    have hd7 := t7 j f hj
    have hd5 := t5 j hjq
    rw [hT] at hi hlay hd5
    have hty : parseFieldDescriptor (fN f).2.2.1 = some (fT f) := by rw [← hd7.1]; exact hd5
    have fin : ∀ (H' : Heap) (x : Nat), H'[a]? = some (cell.setSlot ((wD w).2 cc j) v) → H'.size = H.size → (∀ b, b ≠ a → H'[b]? = H[b]?) → W p l e (Mm M) s m args below meth c H' (locs ++ [⟨a, x⟩]) cells slots (MQ below (Qk w σ0 K) args s (Mm M).cells (Mm M).slots (Aw w)) (F0 m (pc + 3) ls st) := by
      intro H' x e1 e2 e3
      exact k σ0 (hE.trans (Ext.put (fun a ha => hR.new ha) g1 g2 g5)) p l e s m args below meth c C0 H' _ cells slots ls h1 h2 (hS.put e2 e3 hba) (Rep.putF (own := (My M).cls) hts hW hR hkk hj hq hjq q1 q2 q3 q4 e1 e2 e3 g1 g2 g3 g4 g5 g6 g7) hl'
    rcases hfin with hfin | ⟨hfin, hin2, hdecl⟩
    · rw [if_neg (by rw [hfin]; decide)] at hlay
      have h6 := u_store hfc hkC hkind hlay hi hty hn hfit
      rcases hl with hl | ⟨hl, -⟩
      · refine W.putK hx hb (f := f0) (index := idx) ⟨hown, hts _ hl, ⟨_, _, _, hsame _ hi⟩, hst⟩ (by rw [q2]; exact h6) q1 q3 (by rw [hsl]; exact k2_hasslot (q4 j hjq)) rfl rfl hd fun H' e1 e2 e3 => ?_
        rw [hsl] at e1
        exact fin H' _ e1 e2 e3
      · refine va_WputK hx hb (f := f0) (index := idx) hown (va_Nw.use rfl (hW.2.1 _ hl rfl)) (hsame _ hi) hst (by rw [q2]; exact h6) q1 q3 (by rw [hsl]; exact k2_hasslot (q4 j hjq)) rfl rfl hd fun H' e1 e2 e3 => ?_
        rw [hsl] at e1
        exact fin H' _ e1 e2 e3
    · rw [if_pos hfin] at hlay
      have hcf : m.cls = cf := by
        obtain ⟨_, _, c', _, _, _, -, -, hf', -, -, -, hown2, -⟩ := Cond.laysFinal_spec hlay
        have e1 : c' = cf := by have := hi.symm.trans hf'; simp at this; exact this.1.symm
        rw [hdecl] at hown2
        rw [← e1]; exact Option.some.inj (hown.symm.trans hown2)
      have h6 := u_fits hfc hkC hkind (Or.inr hlay) hi hty hn hfit
      rcases hl with hl | ⟨-, hl⟩
      · refine W.putFinK hx hb hown (hts _ hl) (hsame _ hi) hst hcf (hnm.trans hin2) (by rw [q2]; exact h6) q1 q3 (by rw [hsl]; exact k2_hasslot (q4 j hjq)) rfl rfl hd fun H' e1 e2 e3 => ?_
        rw [hsl] at e1
        exact fin H' _ e1 e2 e3
      · rw [hfin] at hl; cases hl
theorem fv_sFI {f a b g : Nat} {x : Int32} (h : ¬ (g = f ∧ b = a)) : fv (sFI σ f a x) b g = fv σ b g := by
  unfold fv
  rw [FI_sFI, FR_sFI, if_neg h]
theorem fv_sFR {f a b g : Nat} {x : Option Nat} (h : ¬ (g = f ∧ b = a)) : fv (sFR σ f a x) b g = fv σ b g := by
  unfold fv
  rw [FR_sFR, FI_sFR, if_neg h]
theorem G_putI {f idx : Nat} {ref : String} (host : String) {t : Option Nat} {a : Nat} {x : Int32} (pc' : Nat) (hd : decode (Mc M) pc = .ok (.putfield idx, 3)) (hl : Cond.fieldLink (My M).cls idx ref (fN f).2.1 (fN f).2.2.1 ∈ lw_all ∨ (Cond.fieldLinkNest (My M).cls idx ref (fN f).2.1 (fN f).2.2.1 host ∈ lw_tbl ∧ (fN f).2.2.2.2.2 = false)) (hs : ref = (fN f).1 ∨ Cond.sameField ref (fN f).1 (fN f).2.1 (fN f).2.2.1 ∈ lw_all) (hp : pc + 3 = pc') (ht : t = some a) (hk : hasF f (kd σ a) = true) (hk6 : ¬ kd σ a = 6) (hfin : (fN f).2.2.2.2.2 = false ∨ ((fN f).2.2.2.2.2 = true ∧ (My M).name = "<init>" ∧ (fN f).1 = (My M).cls)) (hn : narrow (fT f) (.int x) = .int x) (hfit : fits (fT f) (.int x) = true) (hf : fk f = 0)
    (k : G w M K rc rs (sFI σ f a x) pc' L st) : G w M K rc rs σ pc L (.int x :: va_rf t :: st) :=
  G_putC (σ' := sFI σ f a x) (host := host) pc' hd hl hs hp ht hk hk6 hfin hn hfit rfl rfl rfl rfl rfl (by rw [fvI _ _ hf, FI_sFI, if_pos ⟨rfl, rfl⟩]) (fun _ _ h => fv_sFI h) k
theorem G_putR {f idx : Nat} {ref : String} (host : String) {t : Option Nat} {a : Nat} {x : Option Nat} (pc' : Nat) (hd : decode (Mc M) pc = .ok (.putfield idx, 3)) (hl : Cond.fieldLink (My M).cls idx ref (fN f).2.1 (fN f).2.2.1 ∈ lw_all ∨ (Cond.fieldLinkNest (My M).cls idx ref (fN f).2.1 (fN f).2.2.1 host ∈ lw_tbl ∧ (fN f).2.2.2.2.2 = false)) (hs : ref = (fN f).1 ∨ Cond.sameField ref (fN f).1 (fN f).2.1 (fN f).2.2.1 ∈ lw_all) (hp : pc + 3 = pc') (ht : t = some a) (hk : hasF f (kd σ a) = true) (hk6 : ¬ kd σ a = 6) (hfin : (fN f).2.2.2.2.2 = false ∨ ((fN f).2.2.2.2.2 = true ∧ (My M).name = "<init>" ∧ (fN f).1 = (My M).cls)) (hn : ∀ y, narrow (fT f) (va_rf y) = va_rf y) (hfit : ∀ y, fits (fT f) (va_rf y) = true) (hf : fk f = 1)
    (k : G w M K rc rs (sFR σ f a x) pc' L st) : G w M K rc rs σ pc L (va_rf x :: va_rf t :: st) :=
  G_putC (σ' := sFR σ f a x) (host := host) pc' hd hl hs hp ht hk hk6 hfin (hn x) (hfit x) rfl rfl rfl rfl rfl (by rw [fvR _ _ hf, FR_sFR, if_pos ⟨rfl, rfl⟩]) (fun _ _ h => fv_sFR h) k
theorem G_putF {f idx : Nat} {ref : String} (host : String) {t : Option Nat} {a : Nat} {x : UInt32} (pc' : Nat) (hd : decode (Mc M) pc = .ok (.putfield idx, 3)) (hl : Cond.fieldLink (My M).cls idx ref (fN f).2.1 (fN f).2.2.1 ∈ lw_all ∨ (Cond.fieldLinkNest (My M).cls idx ref (fN f).2.1 (fN f).2.2.1 host ∈ lw_tbl ∧ (fN f).2.2.2.2.2 = false)) (hs : ref = (fN f).1 ∨ Cond.sameField ref (fN f).1 (fN f).2.1 (fN f).2.2.1 ∈ lw_all) (hp : pc + 3 = pc') (ht : t = some a) (hk : hasF f (kd σ a) = true) (hk6 : ¬ kd σ a = 6) (hfin : (fN f).2.2.2.2.2 = false ∨ ((fN f).2.2.2.2.2 = true ∧ (My M).name = "<init>" ∧ (fN f).1 = (My M).cls)) (hn : narrow (fT f) (.float x) = .float x) (hfit : fits (fT f) (.float x) = true) (hf : fk f = 2)
    (k : G w M K rc rs (sFI σ f a x.toInt32) pc' L st) : G w M K rc rs σ pc L (.float x :: va_rf t :: st) :=
  G_putC (σ' := sFI σ f a x.toInt32) (host := host) pc' hd hl hs hp ht hk hk6 hfin hn hfit rfl rfl rfl rfl rfl (by simp [fv, hf, FI_sFI]) (fun _ _ h => fv_sFI h) k
/-- new -/
theorem G_new {cc idx kn : Nat} {q : vw_C} (rc' rs' : Nat) (pc' : Nat) (hd : decode (Mc M) pc = .ok (.new idx, 3)) (hq : vwCl[cc]? = some q) (q1 : Cond.classLink (My M).cls idx q.1 ∈ lw_all) (q2 : Cond.instantiable q.1 q.2.2 ∈ lw_all) (q3 : Cond.initialized q.1 ∈ lw_all) (hkn : cc + 10 = kn) (hp : pc + 3 = pc') (hrc : rc' + 1 ≤ rc) (hrs : rs' + q.2.2 ≤ rs) (k : kd σ (nx σ) = 0 → G w M K rc' rs' (nO σ kn) pc' L (va_rf (some (nx σ)) :: st)) : G w M K rc rs σ pc L st := by
  subst hp; subst hkn
  intro σ0 hE p l e s m args below meth c C H locs cells slots ls h1 h2 hS hR hl'
  have kk := k (hR.new (Nat.le_refl _)) σ0 (hE.trans (Ext.nO (fun a ha => hR.new ha))) p l e s m args below meth c C
  obtain ⟨hx, hb, hr, hml, hts, hown, hlk, hnm, hW, hSt⟩ := C
  have hKn := hW.1.1 cc _ hq
  have hnx := hR.1
  refine W.newcK hx hb hown (hts _ q1) (hts _ q2) (hts _ q3) rfl hd (by omega) (by omega) hKn.2.1 rfl fun H1 kC hkC e1 z1 o1 => ?_
  rw [← hnx]
  refine kk H1 locs _ _ ls (by omega) (by omega) ⟨Nat.le_trans hS.1 (by omega), fun x g1 g2 => (o1 x (Nat.lt_of_lt_of_le g1 hS.1)).trans (hS.2.1 x g1 g2), hS.2.2⟩ ⟨by rw [nx_nO, z1, hnx], by have := hR.2.1; omega, fun b => ?_⟩ hl'
  obtain ⟨t1, t2, t3, t4, ty, t5, t6, t7⟩ := tb_ok cc q hq
  rw [kd_nO]
  by_cases hbn : b = nx σ
  · rw [if_pos hbn]
    subst hbn
    have key : va_at (wD w) vwCl (nx σ, .inr (cc, (lay cc).map (fv (nO σ (cc + 10)) (nx σ)))) H1 := by
      rw [← hnx] at e1
      refine ⟨q, hq, (u_born ty hts t1 hKn hkC e1 t5).to (fun j hj => ?_)⟩
      have hjl : j < (lay cc).length := by rw [t2]; exact hj
      have e := List.getElem?_eq_getElem hjl
      rw [(t7 j _ e).2]
      simp only [vp_V, List.getD_eq_getElem?_getD, List.getElem?_map, e, Option.map_some, Option.getD_some]
      unfold fv dflt
      rw [FI_nO, FR_nO, if_pos rfl, if_pos rfl]
      rfl
    unfold cellK
    rw [if_neg (by omega), if_neg (by omega), if_neg (by omega), if_neg (by omega), if_neg (by omega), if_neg (by omega), if_neg (by omega), if_neg (by omega), if_neg (by omega), Nat.add_sub_cancel]
    exact ⟨by omega, by rw [hnx]; exact hR.2.1, key⟩
  · rw [if_neg hbn]
    by_cases hz : kd σ b = 0
    · rw [hz]; trivial
    · have hlt := (hR.2.2 b).lt hz
      refine (hR.2.2 b).congr (o1 b hlt) rfl rfl rfl (fun g => ?_)
      unfold fv
      rw [FI_nO, FR_nO, if_neg hbn, if_neg hbn]
/-- an array: a new cell at the end -/
theorem Rep.newA {kn n : Nat} {s : State} {H H1 : Heap} (hR : Rep w σ s H) (z1 : H1.size = H.size + 1) (o1 : ∀ b, b < H.size → H1[b]? = H[b]?) (hc : cellK w kn (nA σ kn n) s H1 (nx σ)) : Rep w (nA σ kn n) s H1 := by
  have hnx := hR.1
  refine ⟨by rw [nx_nA, z1, hnx], by have := hR.2.1; omega, fun b => ?_⟩
  rw [kd_nA]
  by_cases hbn : b = nx σ
  · rw [if_pos hbn, hbn]; exact hc
  · rw [if_neg hbn]
    by_cases hz : kd σ b = 0
    · rw [hz]; trivial
    · have hlt := (hR.2.2 b).lt hz
      refine (hR.2.2 b).congr (o1 b hlt) ?_ ?_ ?_ (fun g => rfl)
      · rw [ln_nA, if_neg hbn]
      · rw [AI_nA, if_neg hbn]
      · rw [AR_nA, if_neg hbn]
theorem G_newI {n : Int32} {N : Nat} (rc' rs' : Nat) (pc' : Nat) (hd : decode (Mc M) pc = .ok (.newarray .int, 2)) (hn : n = nI N) (hN : N ≤ 65536) (hp : pc + 2 = pc') (hrc : rc' + 1 ≤ rc) (hrs : rs' + N ≤ rs) (hq : Cond.arrayClass .int ∈ lw_all) (k : kd σ (nx σ) = 0 → G w M K rc' rs' (nA σ 1 N) pc' L (va_rf (some (nx σ)) :: st)) : G w M K rc rs σ pc L (.int n :: st) := by
  subst hp; subst hn
  intro σ0 hE p l e s m args below meth c C H locs cells slots ls h1 h2 hS hR hl'
  have kk := k (hR.new (Nat.le_refl _)) σ0 (hE.trans (Ext.nA (fun a ha => hR.new ha))) p l e s m args below meth c C
  obtain ⟨hx, hb, hr, hml, hts, hown, hlk, hnm, hW, hSt⟩ := C
  have hnx := hR.1
  refine va_newaK (atype := .int) (N := N) hx hb (hts _ hq) rfl hd rfl (nI_pos (by omega)) (nI_clamp (by omega)) (by show N * 4 ≤ _; omega) (by omega) (by omega) rfl fun H1 cA e1 z1 o1 hAr hNm => ?_
  have hcA : cA = wc w 1 := Option.some.inj (hNm.symm.trans (hW.1.2 0 _ rfl).2)
  subst hcA
  rw [← hnx]
  refine kk H1 locs _ _ ls (by omega) (by omega) ⟨Nat.le_trans hS.1 (by omega), fun x g1 g2 => (o1 x (Nat.lt_of_lt_of_le g1 hS.1)).trans (hS.2.1 x g1 g2), hS.2.2⟩ (hR.newA (by rw [z1]) o1 ?_) hl'
  refine ⟨by rw [hnx]; exact hR.2.1, ?_⟩
  show H1[nx σ]? = some (vp_cell _ _)
  rw [ln_nA, if_pos rfl, AI_nA, if_pos rfl, hnx]
  exact e1
theorem G_newB {n : Int32} {N : Nat} (rc' rs' : Nat) (pc' : Nat) (hd : decode (Mc M) pc = .ok (.newarray .byte, 2)) (hn : n = nI N) (hN : N ≤ 65536) (hp : pc + 2 = pc') (hrc : rc' + 1 ≤ rc) (hrs : rs' + N ≤ rs) (hq : Cond.arrayClass .byte ∈ lw_all) (k : kd σ (nx σ) = 0 → G w M K rc' rs' (nA σ 2 N) pc' L (va_rf (some (nx σ)) :: st)) : G w M K rc rs σ pc L (.int n :: st) := by
  subst hp; subst hn
  intro σ0 hE p l e s m args below meth c C H locs cells slots ls h1 h2 hS hR hl'
  have kk := k (hR.new (Nat.le_refl _)) σ0 (hE.trans (Ext.nA (fun a ha => hR.new ha))) p l e s m args below meth c C
  obtain ⟨hx, hb, hr, hml, hts, hown, hlk, hnm, hW, hSt⟩ := C
  have hnx := hR.1
  refine va_newaK (atype := .byte) (N := N) hx hb (hts _ hq) rfl hd rfl (nI_pos (by omega)) (nI_clamp (by omega)) (by show N * 1 ≤ _; omega) (by omega) (by omega) rfl fun H1 cA e1 z1 o1 hAr hNm => ?_
  have hcA : cA = wc w 2 := Option.some.inj (hNm.symm.trans (hW.1.2 1 _ rfl).2)
  subst hcA
  rw [← hnx]
  refine kk H1 locs _ _ ls (by omega) (by omega) ⟨Nat.le_trans hS.1 (by omega), fun x g1 g2 => (o1 x (Nat.lt_of_lt_of_le g1 hS.1)).trans (hS.2.1 x g1 g2), hS.2.2⟩ (hR.newA (by rw [z1]) o1 ?_) hl'
  refine ⟨by rw [hnx]; exact hR.2.1, ?_⟩
  show H1[nx σ]? = some (vp_cell _ _)
  rw [ln_nA, if_pos rfl, AI_nA, if_pos rfl, hnx]
  exact e1
/-- anewarray: of Object (kind 3) or of HashMap$Node (kind 4) -/
theorem G_newR {E : String} {idx kn : Nat} {n : Int32} {N : Nat} (rc' rs' : Nat) (pc' : Nat) (hd : decode (Mc M) pc = .ok (.anewarray idx, 3)) (hEk : (kn = 3 ∧ E = "java/lang/Object") ∨ (kn = 4 ∧ E = "java/util/HashMap$Node")) (q1 : Cond.classLink (My M).cls idx E ∈ lw_all) (q2 : Cond.arrayOver (.object E) ∈ lw_tbl) (hn : n = nI N) (hN : N ≤ 65536) (hp : pc + 3 = pc') (hrc : rc' + 1 ≤ rc) (hrs : rs' + N ≤ rs) (k : kd σ (nx σ) = 0 → G w M K rc' rs' (nA σ kn N) pc' L (va_rf (some (nx σ)) :: st)) : G w M K rc rs σ pc L (.int n :: st) := by
  subst hp; subst hn
  intro σ0 hE p l e s m args below meth c C H locs cells slots ls h1 h2 hS hR hl'
  have kk := k (hR.new (Nat.le_refl _)) σ0 (hE.trans (Ext.nA (fun a ha => hR.new ha))) p l e s m args below meth c C
  obtain ⟨hx, hb, hr, hml, hts, hown, hlk, hnm, hW, hSt⟩ := C
  have hnx := hR.1
  have hcl := nI_clamp (show N < 2 ^ 31 by omega)
  refine W.anew hx hb hown (hts _ q1) (va_AO.use (show va_AO E s from hW.2.1 _ q2 rfl)) rfl hd rfl (nI_pos (by omega)) (by rw [hcl]; omega) (by omega) (by rw [hcl]; omega) fun cA kA comp f1 f2 f3 f4 => ?_
  rw [hcl]
  generalize hH1 : H.push ({ cls := cA, slots := Array.replicate N .null, vm := .none } : Cell) = H1
  have z1 : H1.size = H.size + 1 := by rw [← hH1, Array.size_push]
  have e1 : H1[H.size]? = some (arrV cA N (fun _ => .null)) := by rw [← hH1, Array.getElem?_push_size, ← arrV_new]
  have o1 : ∀ q : Nat, q < H.size → H1[q]? = H[q]? := fun q hq => by rw [← hH1, Array.getElem?_push, if_neg (Nat.ne_of_lt hq)]
  rw [← hnx]
  refine kk H1 locs _ _ ls (by omega) (by omega) ⟨Nat.le_trans hS.1 (by omega), fun x g1 g2 => (o1 x (Nat.lt_of_lt_of_le g1 hS.1)).trans (hS.2.1 x g1 g2), hS.2.2⟩ (hR.newA (by rw [z1]) o1 ?_) hl'
  rcases hEk with ⟨rfl, rfl⟩ | ⟨rfl, rfl⟩
  · have hcA : cA = wc w 3 := Option.some.inj (f1.symm.trans (hW.1.2 2 _ rfl).2.choose_spec.choose_spec.2.2.2)
    subst hcA
    refine ⟨by rw [hnx]; exact hR.2.1, ?_⟩
    show H1[nx σ]? = some (vp_cell _ _)
    rw [ln_nA, if_pos rfl, AR_nA, if_pos rfl, hnx, e1]
    rfl
  · have hcA : cA = wc w 4 := Option.some.inj (f1.symm.trans (hW.1.2 3 _ rfl).2.choose_spec.choose_spec.2.2.2)
    subst hcA
    refine ⟨by rw [hnx]; exact hR.2.1, ?_⟩
    show H1[nx σ]? = some (vp_cell _ _)
    rw [ln_nA, if_pos rfl, AR_nA, if_pos rfl, hnx, e1]
    rfl
end rows2
