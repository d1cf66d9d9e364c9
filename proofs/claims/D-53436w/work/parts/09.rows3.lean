/-! THE ROWS, part 3: array reads and writes, casts, statics -/
set_option maxRecDepth 100000
section rows3
variable {w : Wt} {M : Mt} {K : Sg → Option Value → Prop} {rc rs rc' rs' : Nat} {σ σ' : Sg} {pc : Nat} {L st : List Value}
theorem G_iald {i : Int32} {t : Option Nat} {a : Nat} (pc' : Nat) (hd : decode (Mc M) pc = .ok (.iaload, 1)) (hp : pc + 1 = pc') (ht : t = some a) (hk : kd σ a ∈ [1, 5]) (hin : vp_in i (ln σ a)) (k : G w M K rc rs σ pc' L (.int (AI σ a i.toNatClampNeg) :: st)) : G w M K rc rs σ pc L (.int i :: va_rf t :: st) := by
  subst hp; subst ht
  intro σ0 hE p l e s m args below meth c C H locs cells slots ls h1 h2 hS hR hl'
  have kk := k σ0 hE p l e s m args below meth c C H locs cells slots ls h1 h2 hS hR hl'
  simp only [List.mem_cons, List.not_mem_nil, or_false] at hk
  rcases hk with hk | hk
  · exact va_iald C.1 C.2.1 C.2.2.2.2.2.2.2.2.1.1 (P1 (hR.a1 hk).2) 0 0 rfl rfl hin hd kk
  · obtain ⟨cell, q1, q2, q3, q4, q5, q6, q7⟩ := hR.a5 hk
    have hlt : i.toNatClampNeg < ln σ a := Nat.not_le.mp fun q => hin (Or.inr q)
    exact W.iald (v := .int (AI σ a i.toNatClampNeg)) C.1 C.2.1 q1 q2 q3 (fun q => by rcases q with q | q; exact hin (Or.inl q); omega) (q6 _ hlt) rfl rfl hd kk
theorem G_bald {i : Int32} {t : Option Nat} {a : Nat} (pc' : Nat) (hd : decode (Mc M) pc = .ok (.baload, 1)) (hp : pc + 1 = pc') (ht : t = some a) (hk : kd σ a = 2) (hin : vp_in i (ln σ a)) (k : G w M K rc rs σ pc' L (.int (AI σ a i.toNatClampNeg) :: st)) : G w M K rc rs σ pc L (.int i :: va_rf t :: st) := by
  subst hp; subst ht
  intro σ0 hE p l e s m args below meth c C H locs cells slots ls h1 h2 hS hR hl'
  have kk := k σ0 hE p l e s m args below meth c C H locs cells slots ls h1 h2 hS hR hl'
  exact va_bald C.1 C.2.1 C.2.2.2.2.2.2.2.2.1.1 (P1 (hR.a2 hk).2) 0 1 rfl rfl hin hd kk
theorem G_aald {i : Int32} {t : Option Nat} {a : Nat} (pc' : Nat) (hd : decode (Mc M) pc = .ok (.aaload, 1)) (hp : pc + 1 = pc') (ht : t = some a) (hk : kd σ a ∈ [3, 4, 7, 8]) (hin : vp_in i (ln σ a)) (k : G w M K rc rs σ pc' L (va_rf (AR σ a i.toNatClampNeg) :: st)) : G w M K rc rs σ pc L (.int i :: va_rf t :: st) := by
  subst hp; subst ht
  intro σ0 hE p l e s m args below meth c C H locs cells slots ls h1 h2 hS hR hl'
  have kk := k σ0 hE p l e s m args below meth c C H locs cells slots ls h1 h2 hS hR hl'
  have hlt : i.toNatClampNeg < ln σ a := Nat.not_le.mp fun q => hin (Or.inr q)
  simp only [List.mem_cons, List.not_mem_nil, or_false] at hk
  rcases hk with hk | hk | hk | hk
  · exact va_aldq C.1 C.2.1 C.2.2.2.2.2.2.2.2.1.1 (P1 (hR.a3 hk).2) 0 2 rfl rfl hin hd kk
  · exact va_aldq C.1 C.2.1 C.2.2.2.2.2.2.2.2.1.1 (P1 (hR.a4 hk).2) 0 3 rfl rfl hin hd kk
  · obtain ⟨cell, q1, q2, q3, q4, q5, q6, q7⟩ := hR.a7 hk
    exact W.aald (v := va_rf (AR σ a i.toNatClampNeg)) (ty := .object "java/lang/Object") C.1 C.2.1 q1 q2 rfl q3 (fun q => by rcases q with q | q; exact hin (Or.inl q); omega) (q6 _ hlt) rfl rfl hd kk
  · obtain ⟨cell, q1, q2, q3, q4, q5, q6, q7⟩ := hR.a8 hk
    exact W.aald (v := va_rf (AR σ a i.toNatClampNeg)) (ty := .object "java/lang/Integer") C.1 C.2.1 q1 q2 rfl q3 (fun q => by rcases q with q | q; exact hin (Or.inl q); omega) (q6 _ hlt) rfl rfl hd kk
theorem G_alen {t : Option Nat} {a : Nat} (pc' : Nat) (hd : decode (Mc M) pc = .ok (.arraylength, 1)) (hp : pc + 1 = pc') (ht : t = some a) (hk : kd σ a ∈ [1, 2, 3, 4, 5, 7, 8]) (k : G w M K rc rs σ pc' L (.int (nI (ln σ a)) :: st)) : G w M K rc rs σ pc L (va_rf t :: st) := by
  subst hp; subst ht
  intro σ0 hE p l e s m args below meth c C H locs cells slots ls h1 h2 hS hR hl'
  have kk := k σ0 hE p l e s m args below meth c C H locs cells slots ls h1 h2 hS hR hl'
  have hK := C.2.2.2.2.2.2.2.2.1.1
  have hT : ∀ {ty : FieldType} {f : Nat → Value}, va_T ty a (ln σ a) f (Aw w) s H → W p l e (Mm M) s m args below meth c H locs cells slots (MQ below (Qk w σ0 K) args s (Mm M).cells (Mm M).slots (Aw w)) (F0 m pc ls (va_rf (some a) :: st)) := by
    rintro ty f ⟨cell, q1, q2, q3, q4, q5, q6⟩
    exact W.alen (n := nI (ln σ a)) C.1 C.2.1 q1 q2 q5 rfl rfl hd kk
  simp only [List.mem_cons, List.not_mem_nil, or_false] at hk
  rcases hk with hk | hk | hk | hk | hk | hk | hk
  · exact va_alen C.1 C.2.1 hK (P1 (hR.a1 hk).2) 0 0 rfl rfl rfl hd kk
  · exact va_alen C.1 C.2.1 hK (P1 (hR.a2 hk).2) 0 1 rfl rfl rfl hd kk
  · exact va_alen C.1 C.2.1 hK (P1 (hR.a3 hk).2) 0 2 rfl rfl rfl hd kk
  · exact va_alen C.1 C.2.1 hK (P1 (hR.a4 hk).2) 0 3 rfl rfl rfl hd kk
  · exact hT (hR.a5 hk)
  · exact hT (hR.a7 hk)
  · exact hT (hR.a8 hk)
/-- the heap behind a write into an int or byte array -/
theorem Rep.putA {kn a j : Nat} {v : Int32} {s : State} {H H' : Heap} (hR : Rep w σ s H) (hk : kd σ a = kn) (hkn : kn = 1 ∨ kn = 2) (hba : wb w ≤ a) (e1 : H'[a]? = some (vp_cell (wc w kn) (ln σ a, .inl (upd (AI σ a) j v)))) (e2 : H'.size = H.size) (e3 : ∀ b, b ≠ a → H'[b]? = H[b]?) : Rep w (sAI σ a j v) s H' := by
  refine ⟨by rw [nx_sAI, e2]; exact hR.1, by rw [e2]; exact hR.2.1, fun b => ?_⟩
  rw [kd_sAI]
  by_cases hb : b = a
  · subst hb
    have hA : AI (sAI σ b j v) b = upd (AI σ b) j v := by
      funext i
      rw [AI_sAI]
      simp [upd]
    rw [hk]
    rcases hkn with rfl | rfl
    · refine ⟨hba, ?_⟩
      show H'[b]? = some (vp_cell _ (ln σ b, .inl (AI (sAI σ b j v) b)))
      rw [hA]; exact e1
    · refine ⟨hba, ?_⟩
      show H'[b]? = some (vp_cell _ (ln σ b, .inl (AI (sAI σ b j v) b)))
      rw [hA]; exact e1
  · refine (hR.2.2 b).congr (e3 b hb) rfl ?_ rfl (fun g => rfl)
    funext i
    rw [AI_sAI, if_neg (fun z => hb z.1)]
theorem Rep.putQ {kn a j : Nat} {v : Option Nat} {s : State} {H H' : Heap} (hR : Rep w σ s H) (hk : kd σ a = kn) (hkn : kn = 3 ∨ kn = 4) (hba : wb w ≤ a) (e1 : H'[a]? = some (vp_cell (wc w kn) (ln σ a, .inr (.inr (.inr (.inr (va_up (AR σ a) j v))))))) (e2 : H'.size = H.size) (e3 : ∀ b, b ≠ a → H'[b]? = H[b]?) : Rep w (sAR σ a j v) s H' := by
  refine ⟨by rw [nx_sAR, e2]; exact hR.1, by rw [e2]; exact hR.2.1, fun b => ?_⟩
  rw [kd_sAR]
  by_cases hb : b = a
  · subst hb
    have hA : AR (sAR σ b j v) b = va_up (AR σ b) j v := by
      funext i
      rw [AR_sAR]
      simp [va_up]
    rw [hk]
    rcases hkn with rfl | rfl
    · refine ⟨hba, ?_⟩
      show H'[b]? = some (vp_cell _ (ln σ b, .inr (.inr (.inr (.inr (AR (sAR σ b j v) b))))))
      rw [hA]; exact e1
    · refine ⟨hba, ?_⟩
      show H'[b]? = some (vp_cell _ (ln σ b, .inr (.inr (.inr (.inr (AR (sAR σ b j v) b))))))
      rw [hA]; exact e1
  · refine (hR.2.2 b).congr (e3 b hb) rfl rfl ?_ (fun g => rfl)
    funext i
    rw [AR_sAR, if_neg (fun z => hb z.1)]
theorem G_iast {i x : Int32} {t : Option Nat} {a : Nat} (pc' : Nat) (hd : decode (Mc M) pc = .ok (.iastore, 1)) (hp : pc + 1 = pc') (ht : t = some a) (hk : kd σ a = 1) (hin : vp_in i (ln σ a)) (k : G w M K rc rs (sAI σ a i.toNatClampNeg x) pc' L st) : G w M K rc rs σ pc L (.int x :: .int i :: va_rf t :: st) := by
  subst hp; subst ht
  intro σ0 hE p l e s m args below meth c C H locs cells slots ls h1 h2 hS hR hl'
  have hK := C.2.2.2.2.2.2.2.2.1.1
  obtain ⟨hba, hat⟩ := hR.a1 hk
  refine W.iast C.1 C.2.1 hat ((hK.2 0 _ rfl).1 (ln σ a) (fun j => .int (AI σ a j))) (fun q => by cases q) (by show ¬ (i < 0 ∨ (arrV _ _ _).slots.size ≤ _); rw [arrV_size]; exact hin) rfl rfl hd fun H1 e1 z oq => ?_
  refine k σ0 (hE.trans (Ext.put (fun a ha => hR.new ha) rfl rfl rfl)) p l e s m args below meth c C H1 _ cells slots ls h1 h2 (hS.put z oq hba) (hR.putA hk (Or.inl rfl) hba ?_ z oq) hl'
  rw [e1]
  rw [vp_cell_i, vp_cell_i, arrV_store]
  congr 2
  funext q
  by_cases hq : q = i.toNatClampNeg
  · subst hq; simp [updV, upd]
  · simp [updV, upd, hq]
theorem G_bast {i x : Int32} {t : Option Nat} {a : Nat} (pc' : Nat) (hd : decode (Mc M) pc = .ok (.bastore, 1)) (hp : pc + 1 = pc') (ht : t = some a) (hk : kd σ a = 2) (hin : vp_in i (ln σ a)) (k : G w M K rc rs (sAI σ a i.toNatClampNeg (vp_nar .byte x)) pc' L st) : G w M K rc rs σ pc L (.int x :: .int i :: va_rf t :: st) := by
  subst hp; subst ht
  intro σ0 hE p l e s m args below meth c C H locs cells slots ls h1 h2 hS hR hl'
  have hK := C.2.2.2.2.2.2.2.2.1.1
  obtain ⟨hba, hat⟩ := hR.a2 hk
  refine W.bast C.1 C.2.1 hat ((hK.2 1 _ rfl).1 (ln σ a) (fun j => .int (AI σ a j))) (fun q => by cases q) (by show ¬ (i < 0 ∨ (arrV _ _ _).slots.size ≤ _); rw [arrV_size]; exact hin) rfl rfl hd fun H1 e1 z oq => ?_
  refine k σ0 (hE.trans (Ext.put (fun a ha => hR.new ha) rfl rfl rfl)) p l e s m args below meth c C H1 _ cells slots ls h1 h2 (hS.put z oq hba) (hR.putA hk (Or.inr rfl) hba ?_ z oq) hl'
  rw [e1]
  rw [vp_cell_i, vp_cell_i, arrV_store]
  congr 2
  funext q
  by_cases hq : q = i.toNatClampNeg
  · subst hq
    simp [updV, upd, vp_nar]
    try rfl
  · simp [updV, upd, hq]
/-- the kinds that may be cast to (or stored as) the class named nm -/
def castOk (nm : String) (k : Nat) : Prop := (∃ (c : Nat) (q : vw_C), k = c + 10 ∧ vwCl[c]? = some q ∧ (q.1 = nm ∨ Cond.castable q.1 nm ∈ lw_tbl)) ∨ (k = 6 ∧ nm = "java/lang/Integer") ∨ (k = 2 ∧ nm = "[B") ∨ (k = 3 ∧ nm = "[Ljava/lang/Object;")
/-- the kinds that aren't of the class named nm -/
def castNo (nm : String) (k : Nat) : Prop := ∃ (c : Nat) (q : vw_C), k = c + 10 ∧ vwCl[c]? = some q ∧ (q.1, nm) ∈ ncL
theorem recv_ok {c : Nat} {q : vw_C} {a : Nat} {s : State} {H : Heap} (hW : Wld w s) (hR : Rep w σ s H) (hk : kd σ a = c + 10) (hq : vwCl[c]? = some q) : ∃ cell : Cell, H[a]? = some cell ∧ cell.vm.isStatics = false ∧ s.vm.findClass q.1 = some cell.cls :=
  va_recv hW.1 (P1 (hR.obj hk).2) hq (q0 := 0) rfl
theorem G_cast {nm : String} {idx : Nat} {t : Option Nat} (pc' : Nat) (hd : decode (Mc M) pc = .ok (.checkcast idx, 3)) (q1 : Cond.classLink (My M).cls idx nm ∈ lw_all) (hp : pc + 3 = pc') (hk : t = none ∨ ∃ a, t = some a ∧ castOk nm (kd σ a)) (k : G w M K rc rs σ pc' L (va_rf t :: st)) : G w M K rc rs σ pc L (va_rf t :: st) := by
  subst hp
  intro σ0 hE p l e s m args below meth c C H locs cells slots ls h1 h2 hS hR hl'
  have kk := k σ0 hE p l e s m args below meth c C H locs cells slots ls h1 h2 hS hR hl'
  obtain ⟨hx, hb, hr, hml, hts, hown, hlk, hnm, hW, hSt⟩ := C
  rcases hk with rfl | ⟨a, rfl, hk⟩
  · exact lv_castN hx hb hd kk
  rcases hk with ⟨cc, q, hkk, hq, hn⟩ | ⟨h6, rfl⟩ | ⟨h6, rfl⟩ | ⟨h6, rfl⟩
  · have hrv := recv_ok hW hR hkk hq
    rcases hn with rfl | hn
    · exact va_castS hx hb hown (hts _ q1) (hW.1.1 cc _ hq).2 hrv hd kk
    · exact va_castY hx hb hown (hts _ q1) (hW.2.1 _ hn rfl) hrv hd kk
  · obtain ⟨cell, r1, r2, r3, -⟩ := (hR.a6 h6).1
    exact va_castS hx hb hown (hts _ q1) (hW.1.1 19 _ rfl).2 ⟨cell, r1, r2, r3⟩ hd kk
  · exact va_castA hx hb hown (hts _ q1) (P1 (hR.a2 h6).2) 0 rfl (hW.1.2 1 _ rfl).2 hd kk
  · have hfc := va_nmO (nm := "[Ljava/lang/Object;") (hW.1.2 2 _ rfl).2 rfl
    exact va_castA hx hb hown (hts _ q1) (P1 (hR.a3 h6).2) 0 rfl hfc hd kk
theorem G_instY {nm : String} {idx : Nat} {t : Option Nat} {a : Nat} (pc' : Nat) (hd : decode (Mc M) pc = .ok (.instanceof idx, 3)) (q1 : Cond.classLink (My M).cls idx nm ∈ lw_all) (hp : pc + 3 = pc') (ht : t = some a) (hk : ∃ (c : Nat) (q : vw_C), kd σ a = c + 10 ∧ vwCl[c]? = some q ∧ (q.1 = nm ∨ Cond.castable q.1 nm ∈ lw_tbl)) (k : G w M K rc rs σ pc' L (.int 1 :: st)) : G w M K rc rs σ pc L (va_rf t :: st) := by
  subst hp; subst ht
  intro σ0 hE p l e s m args below meth c C H locs cells slots ls h1 h2 hS hR hl'
  have kk := k σ0 hE p l e s m args below meth c C H locs cells slots ls h1 h2 hS hR hl'
  obtain ⟨hx, hb, hr, hml, hts, hown, hlk, hnm, hW, hSt⟩ := C
  obtain ⟨cc, q, hkk, hq, hn⟩ := hk
  have hrv := recv_ok hW hR hkk hq
  rcases hn with rfl | hn
  · exact va_instS hx hb hown (hts _ q1) (hW.1.1 cc _ hq).2 hrv hd kk
  · exact va_instY hx hb hown (hts _ q1) (hW.2.1 _ hn rfl) hrv hd kk
theorem G_instN {nm : String} {idx : Nat} {t : Option Nat} (pc' : Nat) (hd : decode (Mc M) pc = .ok (.instanceof idx, 3)) (q1 : Cond.classLink (My M).cls idx nm ∈ lw_all) (hp : pc + 3 = pc') (hk : t = none ∨ ∃ a, t = some a ∧ castNo nm (kd σ a)) (k : G w M K rc rs σ pc' L (.int 0 :: st)) : G w M K rc rs σ pc L (va_rf t :: st) := by
  subst hp
  intro σ0 hE p l e s m args below meth c C H locs cells slots ls h1 h2 hS hR hl'
  have kk := k σ0 hE p l e s m args below meth c C H locs cells slots ls h1 h2 hS hR hl'
  obtain ⟨hx, hb, hr, hml, hts, hown, hlk, hnm, hW, hSt⟩ := C
  rcases hk with rfl | ⟨a, rfl, cc, q, hkk, hq, hn⟩
  · exact lv_instN hx hb hd kk
  · exact va_instNo hx hb hown (hts _ q1) (hW.2.2.1 _ hn) (recv_ok hW hR hkk hq) hd kk
/-- what may be stored in an array of kind kn -/
def eltOk (kn k : Nat) : Prop := ∃ (c : Nat) (q : vw_C), k = c + 10 ∧ vwCl[c]? = some q ∧ ((kn = 3 ∧ Cond.castable q.1 "java/lang/Object" ∈ lw_tbl) ∨ (kn = 4 ∧ (q.1 = "java/util/HashMap$Node" ∨ Cond.castable q.1 "java/util/HashMap$Node" ∈ lw_tbl)))
theorem asg_of {C E : String} {s : State} (h : C = E ∨ va_Nw (.castable C E) s) (hat : ∃ cC, ClassAt s C cC) {comp c0 : ClassId} (h1 : s.vm.findClass E = some comp) (h2 : s.vm.findClass C = some c0) : s.vm.assignable c0 comp = true := by
  rcases h with rfl | h
  · obtain ⟨cC, hat⟩ := hat
    have e1 : cC = c0 := Option.some.inj (hat.1.symm.trans h2)
    have e2 : cC = comp := Option.some.inj (hat.1.symm.trans h1)
    rw [← e1, ← e2]
    exact va_assign hat
  · exact vb_asgC h comp c0 h1 h2
theorem G_aast {kn : Nat} {i : Int32} {t v : Option Nat} {a : Nat} (pc' : Nat) (hd : decode (Mc M) pc = .ok (.aastore, 1)) (hp : pc + 1 = pc') (ht : t = some a) (hk : kd σ a = kn) (hkn : kn = 3 ∨ kn = 4) (hin : vp_in i (ln σ a)) (hv : v = none ∨ ∃ b, v = some b ∧ eltOk kn (kd σ b)) (k : G w M K rc rs (sAR σ a i.toNatClampNeg v) pc' L st) : G w M K rc rs σ pc L (va_rf v :: .int i :: va_rf t :: st) := by
  subst hp; subst ht
  intro σ0 hE p l e s m args below meth c C H locs cells slots ls h1 h2 hS hR hl'
  have C0 := C
  obtain ⟨hx, hb, hr, hml, hts, hown, hlk, hnm, hW, hSt⟩ := C
  have hlt : i.toNatClampNeg < ln σ a := Nat.not_le.mp fun q => hin (Or.inr q)
  have h0 : ¬ i < 0 := fun q => hin (Or.inl q)
  obtain ⟨E, hEt, hba, hat⟩ : ∃ E : String, (∃ t0, (tysW w)[t0]? = some (wc w kn, FieldType.object E)) ∧ wb w ≤ a ∧ H[a]? = some (vp_cell (wc w kn) (ln σ a, .inr (.inr (.inr (.inr (AR σ a)))))) ∧ (∀ b, eltOk kn (kd σ b) → ∃ (cc : Nat) (q : vw_C), kd σ b = cc + 10 ∧ vwCl[cc]? = some q ∧ (q.1 = E ∨ va_Nw (.castable q.1 E) s)) := by
    rcases hkn with rfl | rfl
    · refine ⟨"java/lang/Object", ⟨2, rfl⟩, (hR.a3 hk).1, (hR.a3 hk).2, fun b hb => ?_⟩
      obtain ⟨cc, q, q1, q2, q3⟩ := hb
      refine ⟨cc, q, q1, q2, Or.inr ?_⟩
      rcases q3 with ⟨-, q3⟩ | ⟨q3, -⟩
      · exact hW.2.1 _ q3 rfl
      · exact absurd q3 (by decide)
    · refine ⟨"java/util/HashMap$Node", ⟨3, rfl⟩, (hR.a4 hk).1, (hR.a4 hk).2, fun b hb => ?_⟩
      obtain ⟨cc, q, q1, q2, q3⟩ := hb
      refine ⟨cc, q, q1, q2, ?_⟩
      rcases q3 with ⟨q3, -⟩ | ⟨-, q3⟩
      · exact absurd q3 (by decide)
      · rcases q3 with q3 | q3
        · exact Or.inl q3
        · exact Or.inr (hW.2.1 _ q3 rfl)
  obtain ⟨t0, ht0⟩ := hEt
  obtain ⟨hat, hel⟩ := hat
  have fin : ∀ (H1 : Heap) (x : Nat), H1[a]? = some ((vp_cell (wc w kn) (ln σ a, .inr (.inr (.inr (.inr (AR σ a)))))).setSlot i.toNatClampNeg (va_rf v)) → H1.size = H.size → (∀ b, b ≠ a → H1[b]? = H[b]?) → W p l e (Mm M) s m args below meth c H1 (locs ++ [⟨a, x⟩]) cells slots (MQ below (Qk w σ0 K) args s (Mm M).cells (Mm M).slots (Aw w)) (F0 m (pc + 1) ls st) := by
    intro H1 x e1 z oq
    refine k σ0 (hE.trans (Ext.put (fun a ha => hR.new ha) rfl rfl rfl)) p l e s m args below meth c C0 H1 _ cells slots ls h1 h2 (hS.put z oq hba) (hR.putQ hk hkn hba ?_ z oq) hl'
    rw [e1]
    rw [vp_cell_q, vp_cell_q, arrV_store]
    congr 2
    funext q
    by_cases hq : q = i.toNatClampNeg
    · subst hq; simp [updV, va_up]
    · simp [updV, va_up, hq]
  rcases hv with rfl | ⟨b, rfl, hv⟩
  · exact va_WaastN (C := E) hx hb hat ((hW.1.2 t0 _ ht0).1 (ln σ a) (fun j => va_rf (AR σ a j))) (fun h => by cases h) (by show ¬ (i < 0 ∨ (arrV _ _ _).slots.size ≤ _); rw [arrV_size]; exact hin) rfl rfl hd fun H1 e1 z oq => fin H1 _ e1 z oq
  · obtain ⟨cc, q, hkk, hq, hcas⟩ := hel b hv
    obtain ⟨cellV, g1, g2, g3⟩ := recv_ok hW hR hkk hq
    obtain ⟨kA, comp, k1, k2, k3, -⟩ := (hW.1.2 t0 _ ht0).2
    obtain ⟨kE, hkE, -⟩ := Vm.findClass_spec k3
    obtain ⟨kC, hkC, -⟩ := Vm.findClass_spec g3
    exact W.aast hx hb hat (fun q h => by cases h) (fun h => by cases h) k1 k2 rfl hkE ⟨h0, by show _ < (arrV _ _ _).slots.size; rw [arrV_size]; exact hlt⟩ g1 (fun q h => by rw [h] at g2; cases g2) hkC (asg_of hcas ⟨_, (hW.1.1 cc _ hq).2⟩ k3 g3) rfl rfl hd fun H1 e1 z oq => fin H1 _ e1 z oq
/-- a static that nobody writes -/
theorem G_getS {C n d ref host : String} {idx : Nat} {v : Value} (pc' : Nat) (hd : decode (Mc M) pc = .ok (.getstatic idx, 3)) (hl : Cond.fieldLink (My M).cls idx ref n d ∈ lw_all ∨ Cond.fieldLinkNest (My M).cls idx ref n d host ∈ lw_tbl) (hs : ref = C ∨ Cond.sameField ref C n d ∈ lw_all) (hp : pc + 3 = pc') (hq : (C, n, d, v) ∈ sttL w) (k : G w M K rc rs σ pc' L (v :: st)) : G w M K rc rs σ pc L st := by
  subst hp
  intro σ0 hE p l e s m args below meth c C0 H locs cells slots ls h1 h2 hS hR hl'
  have kk := k σ0 hE p l e s m args below meth c C0 H locs cells slots ls h1 h2 hS hR hl'
  obtain ⟨hx, hb, hr, hml, hts, hown, hlk, hnm, hW, hSt⟩ := C0
  rcases hl with hl | hl
  · exact va_gets hx hb (hSt _ hq) hS hown (hts _ hl) (same_ok hts hs) hd kk
  · exact va_getsN hx hb (hSt _ hq) hS hown (va_Nw.use rfl (hW.2.1 _ hl rfl)) (same_ok hts hs) hd kk
end rows3
