/-! THE ROWS, part 5: System.arraycopy, class objects, the method's start -/
set_option maxRecDepth 100000
section rows5
variable {w : Wt} {M N : Mt} {K K' : Sg → Option Value → Prop} {rc rs rc' rs' : Nat} {σ σ' : Sg} {pc : Nat} {L st st0 As : List Value}
theorem lg_len (As : List Value) (h : ∀ v ∈ As, v.category = 1) : (lg_sl As).length = As.length := by
  induction As with
  | nil => rfl
  | cons a l ih =>
    have h1 := h a List.mem_cons_self
    have h2 := ih (fun v hv => h v (List.mem_cons_of_mem _ hv))
    unfold lg_sl at h2 ⊢
    rw [List.flatMap_cons, if_neg (by omega), List.length_append, h2]
    simp
    omega
theorem Cal.start {L : List Value} (kx : Nat) (hy : plainFor (My M) = true) (hc : ∀ v ∈ As, v.category = 1) (hlen : As.length ≤ Mn M) (hL : As ++ List.replicate kx U_ = L) (k : G w M K (Mm M).cells (Mm M).slots σ 0 L []) : Cal w M σ As K :=
  Cal.of kx hy hc (by rw [lg_len As hc]; exact hlen) hL k
theorem cat0 : ∀ v ∈ ([] : List Value), v.category = 1 := fun _ h => absurd h List.not_mem_nil
theorem catR {x : Option Nat} (h : ∀ v ∈ As, v.category = 1) : ∀ v ∈ va_rf x :: As, v.category = 1 := List.forall_mem_cons.mpr ⟨rf_cat x, h⟩
theorem catI {x : Int32} (h : ∀ v ∈ As, v.category = 1) : ∀ v ∈ Value.int x :: As, v.category = 1 := List.forall_mem_cons.mpr ⟨rfl, h⟩
theorem kdNx {k : Nat} (z : kd σ (nx σ) = 0) : ∀ a, ¬ kd σ a = 0 → kd (nO σ k) a = kd σ a := fun a ha => by rw [kd_nO, if_neg (fun e => ha (by rw [e]; exact z))]
theorem kdAx {k n : Nat} (z : kd σ (nx σ) = 0) : ∀ a, ¬ kd σ a = 0 → kd (nA σ k n) a = kd σ a := fun a ha => by rw [kd_nA, if_neg (fun e => ha (by rw [e]; exact z))]
theorem kdO_self {k : Nat} : kd (nO σ k) (nx σ) = k := if_pos rfl
theorem kdA_self {k n : Nat} : kd (nA σ k n) (nx σ) = k := if_pos rfl
theorem kdE {a n : Nat} (x : ∀ a, ¬ kd σ a = 0 → kd σ' a = kd σ a) (c : kd σ a = n) (hn : ¬ n = 0) : kd σ' a = n := by rw [x a (by rw [c]; exact hn)]; exact c
theorem kdM {a : Nat} {l : List Nat} (x : ∀ a, ¬ kd σ a = 0 → kd σ' a = kd σ a) (c : kd σ a ∈ l) (hn : 0 ∉ l) : kd σ' a ∈ l := by rw [x a (fun e => hn (by rw [← e]; exact c))]; exact c
theorem memE {k n : Nat} {l : List Nat} (c : k = n) (h : n ∈ l) : k ∈ l := by rw [c]; exact h
theorem Ext.x (h : Ext σ σ') : ∀ a, ¬ kd σ a = 0 → kd σ' a = kd σ a := fun a ha => (h.2.1 a ha).1
theorem nn_toInt {N : Nat} (h : N < 2 ^ 31) : (nI N).toInt = (N : Int) := nI_toInt h
def elT (kn : Nat) : FieldType := if kn = 1 then .int else .byte
/-- System.arraycopy between int arrays or between byte arrays -/
theorem G_copyI {idx kn : Nat} {ts td : Option Nat} {a b : Nat} {sp dp n : Int32} (sN dN nN : Nat) (pc' : Nat) (hd : decode (Mc M) pc = .ok (.invokestatic idx, 3)) (q1 : Cond.methodLink (My M).cls idx arraycopyName ∈ lw_all) (q2 : Cond.native arraycopyName ∈ lw_all) (q3 : Cond.static arraycopyName ∈ lw_all) (q4 : Cond.initialized "java/lang/System" ∈ lw_all) (hp : pc + 3 = pc') (hts : ts = some a) (htd : td = some b) (ka : kd σ a = kn) (kb : kd σ b = kn) (hkn : kn = 1 ∨ kn = 2) (e1 : sp = nI sN) (e2 : dp = nI dN) (e3 : n = nI nN) (g1 : sN + nN ≤ ln σ a) (g2 : dN + nN ≤ ln σ b) (g3 : ln σ a < 2 ^ 31) (g4 : ln σ b < 2 ^ 31) (hfit : ∀ i, i < nN → fits (elT kn) (.int (AI σ a (sN + i))) = true) (hw : (st.map fun v => v.category).sum ≤ 8) (hf : 1 ≤ (Mm M).frames) (hlo : 60 ≤ (Mm M).locals) (k : G w M K rc rs (sAIs σ b (va_cpy (AI σ a) (AI σ b) sN dN nN)) pc' L st) : G w M K rc rs σ pc L (.int n :: .int dp :: va_rf td :: .int sp :: va_rf ts :: st) := by
  subst hp; subst hts; subst htd; subst e1; subst e2; subst e3
  intro σ0 hE p l e s m args below meth c C H locs cells slots ls h1 h2 hS hR hl'
  have kk := k σ0 (hE.trans (Ext.put (fun a ha => hR.new ha) rfl rfl rfl)) p l e s m args below meth c C
  obtain ⟨hx, hb, hr, hml, hts, hown, hlk, hnm, hW, hSt⟩ := C
  obtain ⟨t0, ht0, hba, hsrc, hdst⟩ : ∃ t0 : Nat, (tysW w)[t0]? = some (wc w kn, elT kn) ∧ wb w ≤ b ∧ H[a]? = some (vp_cell (wc w kn) (ln σ a, .inl (AI σ a))) ∧ H[b]? = some (vp_cell (wc w kn) (ln σ b, .inl (AI σ b))) := by
    rcases hkn with rfl | rfl
    · exact ⟨0, rfl, (hR.a1 kb).1, (hR.a1 ka).2, (hR.a1 kb).2⟩
    · exact ⟨1, rfl, (hR.a2 kb).1, (hR.a2 ka).2, (hR.a2 kb).2⟩
  have hprim : refKind (elT kn) = false := by rcases hkn with rfl | rfl <;> rfl
  intro T hT X
  obtain ⟨-, k0, hk0, cm0, hkk0⟩ := (hW.1.2 t0 _ ht0).1 (ln σ a) (fun j => .int (AI σ a j))
  obtain ⟨-, k1, hk1, cm1, hkk1⟩ := (hW.1.2 t0 _ ht0).1 (ln σ b) (fun j => .int (AI σ b j))
  have c1 : (nI sN).toNatClampNeg = sN := nI_clamp (by omega)
  have c2 : (nI dN).toNatClampNeg = dN := nI_clamp (by omega)
  have c3 : (nI nN).toNatClampNeg = nN := nI_clamp (by omega)
  obtain ⟨vm', X', step⟩ := X.arraycopy hx hown (hts _ q1) (hts _ q2) (hts _ q3) (hts _ q4) (src := a) (dst := b) (cs := vp_cell (wc w kn) (ln σ a, .inl (AI σ a))) (cd := vp_cell (wc w kn) (ln σ b, .inl (AI σ b))) (srcPos := nI sN) (destPos := nI dN) (n := nI nN) (by rw [hT]; exact hsrc) (by rw [hT]; exact hdst)
    (fun _ h => by cases h) (fun _ h => by cases h) (fun h => by cases h) (fun h => by cases h) hk0 hk1 hkk0 hkk1 (by simp [hprim]) (nI_pos (by omega)) (nI_pos (by omega)) (nI_pos (by omega))
    (by rw [nn_toInt (by omega), nn_toInt (by omega)]; show ¬ _ > ((arrV _ (ln σ a) (fun j => .int (AI σ a j))).slots.size : Int); rw [arrV_size]; omega)
    (by rw [nn_toInt (by omega), nn_toInt (by omega)]; show ¬ _ > ((arrV _ (ln σ b) (fun j => .int (AI σ b j))).slots.size : Int); rw [arrV_size]; omega)
    (fun vm₁ _ i hi => by
      rw [c1]
      rw [c3] at hi
      have e : (vp_cell (wc w kn) (ln σ a, .inl (AI σ a))).slots.getD (sN + i) .null = .int (AI σ a (sN + i)) := by
        show (arrV _ (ln σ a) (fun j => .int (AI σ a j))).slots.getD _ _ = _
        rw [Array.getD_eq_getD_getElem?, arrV_read _ _ (by omega)]
        rfl
      rw [e]
      exact ⟨hfit i hi, trivial⟩)
    (g := F0 m pc ls _) rfl (by rw [hml]; exact hl'.size) (rest := st) rfl (by rw [hb]; exact hd) hf (by show 2 * 0 + _ + (nativeFrameWords "java/lang/System" "arraycopy" 5 + 11) ≤ _; have hw5 : nativeFrameWords "java/lang/System" "arraycopy" 5 ≤ 30 := (by decide); omega)
  have ec : copied (vp_cell (wc w kn) (ln σ a, .inl (AI σ a))) (vp_cell (wc w kn) (ln σ b, .inl (AI σ b))) (nI sN) (nI dN) (nI nN) = vp_cell (wc w kn) (ln σ b, .inl (va_cpy (AI σ a) (AI σ b) sN dN nN)) := by
    have := va_copied (n0 := ln σ a) (n1 := ln σ b) (fun z => Value.int z) (wc w kn) (wc w kn) (AI σ a) (AI σ b) (dp := dN) g1
    rw [vp_cell_i, vp_cell_i, vp_cell_i, ← this]
    unfold copied
    rw [c1, c2, c3]
  rw [ec] at X' step
  have hlb : b < H.size := (Array.getElem?_eq_some_iff.mp hdst).1
  have hheap : ((T.setVm vm').setCell b (vp_cell (wc w kn) (ln σ b, .inl (va_cpy (AI σ a) (AI σ b) sN dN nN)))).heap = H.setIfInBounds b (vp_cell (wc w kn) (ln σ b, .inl (va_cpy (AI σ a) (AI σ b) sN dN nN))) := by rw [← hT]; rfl
  have oq : ∀ q : Nat, q ≠ b → (H.setIfInBounds b (vp_cell (wc w kn) (ln σ b, .inl (va_cpy (AI σ a) (AI σ b) sN dN nN))))[q]? = H[q]? := fun q hq => by simp [Array.getElem?_setIfInBounds, Ne.symm hq]
  have eb : (H.setIfInBounds b (vp_cell (wc w kn) (ln σ b, .inl (va_cpy (AI σ a) (AI σ b) sN dN nN))))[b]? = some (vp_cell (wc w kn) (ln σ b, .inl (va_cpy (AI σ a) (AI σ b) sN dN nN))) := by simp [Array.getElem?_setIfInBounds, hlb]
  have hR1 : Rep w (sAIs σ b (va_cpy (AI σ a) (AI σ b) sN dN nN)) s (H.setIfInBounds b (vp_cell (wc w kn) (ln σ b, .inl (va_cpy (AI σ a) (AI σ b) sN dN nN)))) := by
    refine ⟨by rw [nx_sAIs]; simp; exact hR.1, by simp; exact hR.2.1, fun q => ?_⟩
    rw [kd_sAIs]
    by_cases hq : q = b
    · subst hq
      have hA : AI (sAIs σ q (va_cpy (AI σ a) (AI σ q) sN dN nN)) q = va_cpy (AI σ a) (AI σ q) sN dN nN := by rw [AI_sAIs, if_pos rfl]
      rw [kb]
      rcases hkn with rfl | rfl
      · refine ⟨hba, ?_⟩
        show _ = some (vp_cell _ (ln σ q, .inl (AI (sAIs σ q _) q)))
        rw [hA]; exact eb
      · refine ⟨hba, ?_⟩
        show _ = some (vp_cell _ (ln σ q, .inl (AI (sAIs σ q _) q)))
        rw [hA]; exact eb
    · refine (hR.2.2 q).congr (oq q hq) rfl ?_ rfl (fun g => rfl)
      rw [AI_sAIs, if_neg hq]
  obtain ⟨t, a1, b1⟩ := kk _ _ _ _ ls h1 h2 ⟨by simp; exact hS.1, fun q g1 g2 => by
      rw [oq q (fun e => g2 (by rw [e]; exact hba))]
      exact hS.2.1 q g1 g2, fun q hq => by
      rcases List.mem_append.mp hq with h | h
      · exact hS.2.2 q h
      · obtain ⟨z, -, hz⟩ := List.mem_map.mp h
        rw [← hz]
        exact hba⟩ hR1 hl' _ hheap X'
  exact ⟨t, step t a1, b1⟩
/-- System.arraycopy between arrays of Object -/
theorem G_copyR {idx : Nat} {ts td : Option Nat} {a b : Nat} {sp dp n : Int32} (sN dN nN : Nat) (pc' : Nat) (hd : decode (Mc M) pc = .ok (.invokestatic idx, 3)) (q1 : Cond.methodLink (My M).cls idx arraycopyName ∈ lw_all) (q2 : Cond.native arraycopyName ∈ lw_all) (q3 : Cond.static arraycopyName ∈ lw_all) (q4 : Cond.initialized "java/lang/System" ∈ lw_all) (hp : pc + 3 = pc') (hts : ts = some a) (htd : td = some b) (ka : kd σ a = 3) (kb : kd σ b = 3) (e1 : sp = nI sN) (e2 : dp = nI dN) (e3 : n = nI nN) (g1 : sN + nN ≤ ln σ a) (g2 : dN + nN ≤ ln σ b) (g3 : ln σ a < 2 ^ 31) (g4 : ln σ b < 2 ^ 31) (hel : ∀ i, i < nN → ∀ y, AR σ a (sN + i) = some y → eltOk 3 (kd σ y)) (hw : (st.map fun v => v.category).sum ≤ 8) (hf : 1 ≤ (Mm M).frames) (hlo : 60 ≤ (Mm M).locals) (k : G w M K rc rs (sARs σ b (va_cpy (AR σ a) (AR σ b) sN dN nN)) pc' L st) : G w M K rc rs σ pc L (.int n :: .int dp :: va_rf td :: .int sp :: va_rf ts :: st) := by
  subst hp; subst hts; subst htd; subst e1; subst e2; subst e3
  intro σ0 hE p l e s m args below meth c C H locs cells slots ls h1 h2 hS hR hl'
  have kk := k σ0 (hE.trans (Ext.put (fun a ha => hR.new ha) rfl rfl rfl)) p l e s m args below meth c C
  obtain ⟨hx, hb, hr, hml, hts, hown, hlk, hnm, hW, hSt⟩ := C
  have hba := (hR.a3 kb).1
  have hsrc : H[a]? = some (vp_cell (wc w 3) (ln σ a, .inr (.inr (.inr (.inr (AR σ a)))))) := (hR.a3 ka).2
  have hdst : H[b]? = some (vp_cell (wc w 3) (ln σ b, .inr (.inr (.inr (.inr (AR σ b)))))) := (hR.a3 kb).2
  intro T hT X
  obtain ⟨-, k0, hk0, cm0, hkk0⟩ := (hW.1.2 2 _ rfl).1 (ln σ a) (fun j => va_rf (AR σ a j))
  obtain ⟨-, k1, hk1, cm1, hkk1⟩ := (hW.1.2 2 _ rfl).1 (ln σ b) (fun j => va_rf (AR σ b j))
  have c1 : (nI sN).toNatClampNeg = sN := nI_clamp (by omega)
  have c2 : (nI dN).toNatClampNeg = dN := nI_clamp (by omega)
  have c3 : (nI nN).toNatClampNeg = nN := nI_clamp (by omega)
  obtain ⟨vm', X', step⟩ := X.arraycopy hx hown (hts _ q1) (hts _ q2) (hts _ q3) (hts _ q4) (src := a) (dst := b) (cs := vp_cell (wc w 3) (ln σ a, .inr (.inr (.inr (.inr (AR σ a)))))) (cd := vp_cell (wc w 3) (ln σ b, .inr (.inr (.inr (.inr (AR σ b)))))) (srcPos := nI sN) (destPos := nI dN) (n := nI nN) (by rw [hT]; exact hsrc) (by rw [hT]; exact hdst)
    (fun _ h => by cases h) (fun _ h => by cases h) (fun h => by cases h) (fun h => by cases h) hk0 hk1 hkk0 hkk1 rfl (nI_pos (by omega)) (nI_pos (by omega)) (nI_pos (by omega))
    (by rw [nn_toInt (by omega), nn_toInt (by omega)]; show ¬ _ > ((arrV _ (ln σ a) (fun j => va_rf (AR σ a j))).slots.size : Int); rw [arrV_size]; omega)
    (by rw [nn_toInt (by omega), nn_toInt (by omega)]; show ¬ _ > ((arrV _ (ln σ b) (fun j => va_rf (AR σ b j))).slots.size : Int); rw [arrV_size]; omega)
    (fun vm₁ hal i hi => by
      rw [c1]
      rw [c3] at hi
      have e : (vp_cell (wc w 3) (ln σ a, .inr (.inr (.inr (.inr (AR σ a)))))).slots.getD (sN + i) .null = va_rf (AR σ a (sN + i)) := by
        show (arrV _ (ln σ a) (fun j => va_rf (AR σ a j))).slots.getD _ _ = _
        rw [Array.getD_eq_getD_getElem?, arrV_read _ _ (by omega)]
        rfl
      rw [e]
      cases hy : AR σ a (sN + i) with
      | none => exact ⟨rfl, trivial⟩
      | some y =>
        obtain ⟨cc, q, z1, z2, z3⟩ := hel i hi y hy
        obtain ⟨cellV, r1, r2, r3⟩ := recv_ok hW hR z1 z2
        have hcas : q.1 = "java/lang/Object" ∨ va_Nw (.castable q.1 "java/lang/Object") s := by
          rcases z3 with ⟨-, z3⟩ | ⟨z3, -⟩
          · exact Or.inr (hW.2.1 _ z3 rfl)
          · exact absurd z3 (by decide)
        obtain ⟨kA, comp, w1, w2, w3, -⟩ := (hW.1.2 2 _ rfl).2
        cases hk1.symm.trans w1
        cases hkk1.symm.trans w2
        obtain ⟨kC, hkC, -⟩ := Vm.findClass_spec r3
        obtain ⟨kE, hkE, -⟩ := Vm.findClass_spec w3
        obtain ⟨kC', hkC', -⟩ := hal.2.2 _ _ hkC
        obtain ⟨kE', hkE', -⟩ := hal.2.2 _ _ hkE
        refine ⟨rfl, cellV, (show T.heap[y]? = some cellV by rw [hT]; exact r1), (fun q h => by rw [h] at r2; cases r2), ⟨kC', hkC'⟩, ?_, ?_⟩
        · exact ⟨kE', hkE'⟩
        · show vm₁.assignable _ _ = true
          rw [hal.assignable]
          exact asg_of hcas ⟨_, (hW.1.1 cc _ z2).2⟩ w3 r3)
    (g := F0 m pc ls _) rfl (by rw [hml]; exact hl'.size) (rest := st) rfl (by rw [hb]; exact hd) hf (by show 2 * 0 + _ + (nativeFrameWords "java/lang/System" "arraycopy" 5 + 11) ≤ _; have hw5 : nativeFrameWords "java/lang/System" "arraycopy" 5 ≤ 30 := (by decide); omega)
  have ec : copied (vp_cell (wc w 3) (ln σ a, .inr (.inr (.inr (.inr (AR σ a)))))) (vp_cell (wc w 3) (ln σ b, .inr (.inr (.inr (.inr (AR σ b)))))) (nI sN) (nI dN) (nI nN) = vp_cell (wc w 3) (ln σ b, .inr (.inr (.inr (.inr (va_cpy (AR σ a) (AR σ b) sN dN nN))))) := by
    have := va_copied (n0 := ln σ a) (n1 := ln σ b) (fun z => va_rf z) (wc w 3) (wc w 3) (AR σ a) (AR σ b) (dp := dN) g1
    rw [vp_cell_q, vp_cell_q, vp_cell_q, ← this]
    unfold copied
    rw [c1, c2, c3]
  rw [ec] at X' step
  generalize hcell : vp_cell (wc w 3) (ln σ b, .inr (.inr (.inr (.inr (va_cpy (AR σ a) (AR σ b) sN dN nN))))) = cell1 at X' step
  have hlb : b < H.size := (Array.getElem?_eq_some_iff.mp hdst).1
  have hheap : ((T.setVm vm').setCell b cell1).heap = H.setIfInBounds b cell1 := by rw [← hT]; rfl
  have oq : ∀ q : Nat, q ≠ b → (H.setIfInBounds b cell1)[q]? = H[q]? := fun q hq => by simp [Array.getElem?_setIfInBounds, Ne.symm hq]
  have eb : (H.setIfInBounds b cell1)[b]? = some cell1 := by simp [Array.getElem?_setIfInBounds, hlb]
  have hR1 : Rep w (sARs σ b (va_cpy (AR σ a) (AR σ b) sN dN nN)) s (H.setIfInBounds b cell1) := by
    refine ⟨by rw [nx_sARs]; simp; exact hR.1, by simp; exact hR.2.1, fun q => ?_⟩
    rw [kd_sARs]
    by_cases hq : q = b
    · subst hq
      have hA : AR (sARs σ q (va_cpy (AR σ a) (AR σ q) sN dN nN)) q = va_cpy (AR σ a) (AR σ q) sN dN nN := by rw [AR_sARs, if_pos rfl]
      rw [kb]
      refine ⟨hba, ?_⟩
      show _ = some (vp_cell _ (ln σ q, .inr (.inr (.inr (.inr (AR (sARs σ q _) q))))))
      rw [hA, hcell]; exact eb
    · refine (hR.2.2 q).congr (oq q hq) rfl rfl ?_ (fun g => rfl)
      rw [AR_sARs, if_neg hq]
  obtain ⟨t, a1, b1⟩ := kk _ _ _ _ ls h1 h2 ⟨by simp; exact hS.1, fun q g1 g2 => by
      rw [oq q (fun e => g2 (by rw [e]; exact hba))]
      exact hS.2.1 q g1 g2, fun q hq => by
      rcases List.mem_append.mp hq with h | h
      · exact hS.2.2 q h
      · obtain ⟨z, -, hz⟩ := List.mem_map.mp h
        rw [← hz]
        exact hba⟩ hR1 hl' _ hheap X'
  exact ⟨t, step t a1, b1⟩
/-- a nest mate's private method -/
theorem G_invN {idx n : Nat} {C host : String} {t : Option Nat} {b : Nat} (rc' rs' : Nat) (pc' : Nat) (hd : decode (Mc M) pc = .ok (.invokevirtual idx, 3)) (q1 : Cond.methodLinkNest (My M).cls idx (My N) host ∈ lw_tbl) (q2 : Cond.instanceMethod (My N) ∈ lw_all) (q3 : Cond.selects C (My N) (My N) ∈ lw_all) (q4 : Cond.initialized (My N).cls ∈ lw_all) (q5 : Cond.code (My N) (Mc N) (Mn N) (Mr N) ∈ lw_all) (hn : As.length = n) (hdd : argsOk (My N) n) (hroom : roomOk M N) (hst : st0 = As.reverse ++ va_rf t :: st) (hw : (st.map fun v => v.category).sum ≤ 8) (ht : t = some b) (hkb : recvK C (kd σ b)) (hb1 : rc' + (Mm N).cells ≤ rc) (hb2 : rs' + (Mm N).slots ≤ rs) (hp : pc + 3 = pc') (k : Cal w N σ (va_rf t :: As) (fun σ' v => Ext σ σ' → G w M K rc' rs' σ' pc' L (v.toList ++ st))) : G w M K rc rs σ pc L st0 := by
  subst hp; subst hst; subst ht
  intro σ0 hE p l e s m args below meth c C H locs cells slots ls h1 h2 hS hR hl'
  have C0 := C
  obtain ⟨hx, hb, hr, hml, hts, hown, hlk, hnm, hW, hSt⟩ := C
  refine W_run (va_runVN (b := b) (As := As) (rest := st) ⟨hx, hb, hml, hown, hts⟩ (k l) ⟨va_cnB n hts (lw_meth q5) rfl rfl rfl (hW.2.1 _ q1 rfl) (hts _ q4) hdd hroom, hts _ q2, hts _ q3⟩ ⟨Pk.blind, (hkb.ok hW hR).1, Pk.at hW hSt hS hR⟩ rfl hn hl'.size rfl (lv_room hw) hd ⟨by omega, by omega⟩) hS ?_
  exact fun σ' v H1 locs1 hk hR1 hS1 => hk.1 hk.2 σ0 (hE.trans hk.2) p l e s m args below meth c C0 H1 locs1 _ _ ls (by omega) (by omega) hS1 hR1 hl'
/-- the class object of Object[] -/
theorem G_ldcO {idx : Nat} (pc' : Nat) (hd : decode (Mc M) pc = .ok (.ldc idx, 2)) (q1 : Cond.classLink (My M).cls idx "[Ljava/lang/Object;" ∈ lw_all) (hp : pc + 2 = pc') (k : G w M K rc rs σ pc' L (va_rf (some (wa w 4)) :: st)) : G w M K rc rs σ pc L st := by
  subst hp
  intro σ0 hE p l e s m args below meth c C H locs cells slots ls h1 h2 hS hR hl'
  have kk := k σ0 hE p l e s m args below meth c C H locs cells slots ls h1 h2 hS hR hl'
  obtain ⟨hx, hb, hr, hml, hts, hown, hlk, hnm, hW, hSt⟩ := C
  exact va_ldcM hx hb hown (hts _ q1) hW.2.2.2.1 hd kk
theorem G_getClass {idx : Nat} {t : Option Nat} {a : Nat} (pc' : Nat) (hd : decode (Mc M) pc = .ok (.invokevirtual idx, 3)) (q1 : Cond.methodLink (My M).cls idx ⟨"java/lang/Object", "getClass", "()Ljava/lang/Class;"⟩ ∈ lw_all) (q2 : Cond.selects "[Ljava/lang/Object;" ⟨"java/lang/Object", "getClass", "()Ljava/lang/Class;"⟩ ⟨"java/lang/Object", "getClass", "()Ljava/lang/Class;"⟩ ∈ lw_all) (q3 : Cond.instanceMethod ⟨"java/lang/Object", "getClass", "()Ljava/lang/Class;"⟩ ∈ lw_all) (q4 : Cond.native ⟨"java/lang/Object", "getClass", "()Ljava/lang/Class;"⟩ ∈ lw_all) (hp : pc + 3 = pc') (ht : t = some a) (hk : kd σ a = 3) (hw : (st.map fun v => v.category).sum ≤ 8) (hf : 1 ≤ (Mm M).frames) (hlo : 60 ≤ (Mm M).locals) (k : G w M K rc rs σ pc' L (va_rf (some (wa w 4)) :: st)) : G w M K rc rs σ pc L (va_rf t :: st) := by
  subst hp; subst ht
  intro σ0 hE p l e s m args below meth c C H locs cells slots ls h1 h2 hS hR hl'
  have kk := k σ0 hE p l e s m args below meth c C H locs cells slots ls h1 h2 hS hR hl'
  obtain ⟨hx, hb, hr, hml, hts, hown, hlk, hnm, hW, hSt⟩ := C
  have hfc := va_nmO (nm := "[Ljava/lang/Object;") (hW.1.2 2 _ rfl).2 rfl
  exact va_getC hx hb (by rw [hml]; exact hl'.size.symm) hown (hts _ q1) (va_Dc.use hW.2.2.2.2) (hts _ q2) (hts _ q3) (hts _ q4) hW.2.2.2.1 ⟨_, (hR.a3 hk).2, rfl, hfc⟩ hf (by omega) hd kk
end rows5
