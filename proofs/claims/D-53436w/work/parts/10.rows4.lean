/-! THE ROWS, part 4: calls -/
set_option maxRecDepth 100000
section carry2
variable {w : Wt} {σ : Sg} {s u U : State} {H : Heap}
theorem extW_warm {c : Cond} (hc : extW c = true) (hW : s.WarmedH U.vm) (h : va_Nw c s) : va_Nw c U := by
  have tr : ∀ {c : Cond}, c.onTables = true → c.before #[] (s.setVm U.vm) = true → va_Nw c U := fun hc h => va_tabs hc (rfl : (s.setVm U.vm).vm = U.vm) h
  have hvm := hW.alike
  cases c with
  | fieldLinkNest a i b n d h0 => exact va_Nw.warmF hW h
  | methodLinkNest a i x h0 => exact va_Nw.warmM hW h
  | castable C T => exact va_Nw.warmC hW h
  | declares x => exact va_Nw.warmD hW h
  | interfaceMethod a b n d =>
    simp only [extW, decide_eq_true_eq] at hc
    obtain ⟨rfl, hx⟩ := hc
    obtain ⟨cL, kL, r1, hcL, hkL, hiL, hfoundL, hn1⟩ := Cond.interfaceMethod_spec h
    exact tr rfl (by rw [Cond.interfaceMethod_setVm hvm (r := r1) hn1 hx]; exact h)
  | publicMethod x => exact tr rfl (by rw [Cond.publicMethod_setVm hvm]; exact h)
  | unhidden C n d => exact tr rfl (by rw [Cond.unhidden_setVm hvm]; exact h)
  | arrayOver t =>
    cases t with
    | object C => exact va_AO.moved hvm h
    | _ => cases hc
  | _ => cases hc
theorem Wld.warm (hW : s.WarmedH U.vm) (h : Wld w s) : Wld w U :=
  ⟨va_K.moved hW.alike h.1, fun c hc he => extW_warm he hW (h.2.1 c hc he), fun q hq => va_Nc.moved hW.alike (h.2.2.1 q hq), va_Mi.moved hW.alike h.2.2.2.1, va_Dc.moved hW.alike h.2.2.2.2⟩
theorem Wld.same (hv : u.vm = U.vm) (h : Wld w u) : Wld w U := by
  have hA : u.vm.Alike U.vm := by rw [hv]; exact Vm.Alike.refl _
  refine ⟨va_K.moved hA h.1, fun c hc he => ?_, fun q hq => va_Nc.moved hA (h.2.2.1 q hq), va_Mi.moved hA h.2.2.2.1, va_Dc.moved hA h.2.2.2.2⟩
  have h1 := h.2.1 c hc he
  by_cases ht : c.onTables = true
  · exact va_Nw.same ht hv h1
  · cases c with
    | arrayOver t =>
      cases t with
      | object C => exact va_AO.moved hA h1
      | _ => cases he
    | _ => first | exact absurd rfl ht | cases he
theorem Stt.moved (hA : u.vm.Alike U.vm) (h : Stt w u H) : Stt w U H := fun q hq => va_Z.moved hA (h q hq)
theorem Stt.kept {H1 : Heap} (h : Stt w U H) (hk : ∀ a : Nat, a < H.size → ¬ Aw w a → H1[a]? = H[a]?) : Stt w U H1 := fun q hq => (h q hq).kept hk
theorem Pk.blind {As : List Value} : FrameBlind (Pk w σ As) := by
  intro a U g mk h
  obtain ⟨h0, h1, h2, h3⟩ := h
  exact ⟨h0, Wld.same (u := U) rfl h1, Stt.moved (u := U) (Vm.Alike.refl U.vm) h2, Rep.moved (u := U) h3 (Vm.Alike.refl U.vm)⟩
theorem Pk.at {As : List Value} {locs : List Loc} (hWl : Wld w s) (hSt : Stt w s s.heap) (hS : va_S (Aw w) s.heap H locs) (hR : Rep w σ s H) : ∀ U : State, U.heap = H → s.WarmedH U.vm → Pk w σ As As.toArray U := by
  intro U hU hW
  refine ⟨rfl, Wld.warm hW hWl, ?_, ?_⟩
  · rw [hU]
    exact Stt.moved hW.alike (hSt.kept hS.2.1)
  · rw [hU]
    exact hR.moved hW.alike
end carry2
section calls
variable {w : Wt} {M N : Mt} {K K' : Sg → Option Value → Prop} {rc rs rc' rs' : Nat} {σ σ' : Sg} {pc : Nat} {L st st0 As : List Value}
variable {p : Program} {l : Launch} {e : Env} {R : Room} {s : State} {m : MethodId} {args : Array Value} {below : List Frame} {meth : Method} {c : Code} {H : Heap} {locs : List Loc} {cells slots : Nat} {Q : State → Prop} {ls : Array Slot} {mc ms : Nat} {a : Array Value}
theorem W_back {v : Option Value} {st₀ t T' : State} {L : List Loc} (h0 : st₀.heap = H) (X' : Stand p l e R s m args below meth c T' (locs ++ L) (cells + mc) (slots + ms)) (hL : ∀ q ∈ L, Aw w q.base) (e1 : T'.heap = t.heap) (e2 : T'.vm = t.vm) (hq : Qk w σ K' a st₀ (.returned v) t) (hS : va_S (Aw w) s.heap H locs) : K' = K' ∧ ∃ σ', (K' σ' v ∧ Ext σ σ') ∧ Rep w σ' s T'.heap ∧ va_S (Aw w) s.heap T'.heap (locs ++ L) := by
  obtain ⟨⟨σ', v', hv, hp, hEx, hb⟩, hz, hk⟩ := hq
  cases hv
  rw [h0] at hz hk
  have hal : s.vm.Alike t.vm := by rw [← e2]; exact X'.warmed.alike
  refine ⟨rfl, σ', ⟨hp, hEx⟩, by rw [e1]; exact hb.moved hal.symm, Nat.le_trans hS.1 (by rw [e1]; exact hz), fun q h1 h2 => ?_, fun q hq => ?_⟩
  · rw [e1, hk q (Nat.lt_of_lt_of_le h1 hS.1) h2]
    exact hS.2.1 q h1 h2
  · rcases List.mem_append.mp hq with h | h
    · exact hS.2.2 q h
    · exact hL q h
theorem W_run {pc : Nat} {rest : List Value} (hr : va_Run p l e R s m args below meth c H locs cells slots mc ms (F0 m pc ls st0) rest (Qk w σ K' a) (Aw w)) (hS : va_S (Aw w) s.heap H locs)
    (kk : ∀ (σ' : Sg) (v : Option Value) (H1 : Heap) (locs1 : List Loc), K' σ' v ∧ Ext σ σ' → Rep w σ' s H1 → va_S (Aw w) s.heap H1 locs1 → W p l e R s m args below meth c H1 locs1 (cells + mc) (slots + ms) Q (F0 m (pc + 3) ls (v.toList ++ rest))) : W p l e R s m args below meth c H locs cells slots Q (F0 m pc ls st0) := by
  intro T hT X
  obtain ⟨v, st₀, t, T', L, h0, X', hL, e1, e2, hq, st⟩ := hr T hT X
  obtain ⟨-, σ', g1, g2, g3⟩ := W_back h0 X' hL e1 e2 hq hS
  obtain ⟨t2, a1, b1⟩ := kk σ' v T'.heap (locs ++ L) g1 g2 g3 T' rfl X'
  exact ⟨t2, st t2 a1, b1⟩
theorem W_run5 {pc : Nat} {rest : List Value} (hr : va_Run5 p l e R s m args below meth c H locs cells slots mc ms (F0 m pc ls st0) rest (Qk w σ K' a) (Aw w)) (hS : va_S (Aw w) s.heap H locs)
    (kk : ∀ (σ' : Sg) (v : Option Value) (H1 : Heap) (locs1 : List Loc), K' σ' v ∧ Ext σ σ' → Rep w σ' s H1 → va_S (Aw w) s.heap H1 locs1 → W p l e R s m args below meth c H1 locs1 (cells + mc) (slots + ms) Q (F0 m (pc + 5) ls (v.toList ++ rest))) : W p l e R s m args below meth c H locs cells slots Q (F0 m pc ls st0) := by
  intro T hT X
  obtain ⟨v, st₀, t, T', L, h0, X', hL, e1, e2, hq, st⟩ := hr T hT X
  obtain ⟨-, σ', g1, g2, g3⟩ := W_back h0 X' hL e1 e2 hq hS
  obtain ⟨t2, a1, b1⟩ := kk σ' v T'.heap (locs ++ L) g1 g2 g3 T' rfl X'
  exact ⟨t2, st t2 a1, b1⟩
/-- what of the callee fits into the caller -/
def roomOk (M N : Mt) : Prop := (Mm N).frames + 1 ≤ (Mm M).frames ∧ 8 + (Mn N + 11) + (Mm N).locals ≤ (Mm M).locals
def argsOk (y : MethodName) (n : Nat) : Prop := y.cls ≠ "java/lang/invoke/MethodHandle" ∧ y.cls ≠ "java/lang/invoke/VarHandle" ∧ (parseMethodDescriptor y.desc).map (fun d => d.parameters.length) = some n
/-- a receiver of class C -/
def recvK (C : String) (k : Nat) : Prop := (∃ (c : Nat) (q : vw_C), k = c + 10 ∧ vwCl[c]? = some q ∧ q.1 = C) ∨ (k = 6 ∧ C = "java/lang/Integer")
theorem recvK.ok {C : String} {b : Nat} (hW : Wld w s) (hR : Rep w σ s H) (h : recvK C (kd σ b)) : (∃ cell : Cell, H[b]? = some cell ∧ cell.vm.isStatics = false ∧ s.vm.findClass C = some cell.cls) ∧ ∃ cC, ClassAt s C cC := by
  rcases h with ⟨cc, q, h1, h2, rfl⟩ | ⟨h1, rfl⟩
  · exact ⟨recv_ok hW hR h1 h2, _, (hW.1.1 cc _ h2).2⟩
  · obtain ⟨cell, r1, r2, r3, -⟩ := (hR.a6 h1).1
    exact ⟨⟨cell, r1, r2, r3⟩, _, (hW.1.1 19 _ rfl).2⟩
/-- invokestatic; by a link of the class's own or a nest mate's -/
theorem G_invS {idx n : Nat} (rc' rs' : Nat) (host : String) (pc' : Nat) (hd : decode (Mc M) pc = .ok (.invokestatic idx, 3)) (q1 : Cond.methodLink (My M).cls idx (My N) ∈ lw_all ∨ Cond.methodLinkNest (My M).cls idx (My N) host ∈ lw_tbl) (q2 : Cond.static (My N) ∈ lw_all) (q3 : Cond.initialized (My N).cls ∈ lw_all) (q5 : Cond.code (My N) (Mc N) (Mn N) (Mr N) ∈ lw_all) (hn : As.length = n) (hdd : argsOk (My N) n) (hroom : roomOk M N) (hst : st0 = As.reverse ++ st) (hw : (st.map fun v => v.category).sum ≤ 8) (hb1 : rc' + (Mm N).cells ≤ rc) (hb2 : rs' + (Mm N).slots ≤ rs) (hp : pc + 3 = pc') (k : Cal w N σ As (fun σ' v => Ext σ σ' → G w M K rc' rs' σ' pc' L (v.toList ++ st))) : G w M K rc rs σ pc L st0 := by
  subst hp; subst hst
  intro σ0 hE p l e s m args below meth c C H locs cells slots ls h1 h2 hS hR hl'
  have C0 := C
  obtain ⟨hx, hb, hr, hml, hts, hown, hlk, hnm, hW, hSt⟩ := C
  have kk : ∀ (σ' : Sg) (v : Option Value) (H1 : Heap) (locs1 : List Loc), ((Ext σ σ' → G w M K rc' rs' σ' (pc + 3) L (v.toList ++ st)) ∧ Ext σ σ') → Rep w σ' s H1 → va_S (Aw w) s.heap H1 locs1 → W p l e (Mm M) s m args below meth c H1 locs1 (cells + (Mm N).cells) (slots + (Mm N).slots) (MQ below (Qk w σ0 K) args s (Mm M).cells (Mm M).slots (Aw w)) (F0 m (pc + 3) ls (v.toList ++ st)) :=
    fun σ' v H1 locs1 hk hR1 hS1 => hk.1 hk.2 σ0 (hE.trans hk.2) p l e s m args below meth c C0 H1 locs1 _ _ ls (by omega) (by omega) hS1 hR1 hl'
  rcases q1 with q1 | q1
  · exact W_run (va_runS (As := As) (rest := st) ⟨hx, hb, hml, hown, hts⟩ (k l) (va_cwS n hts (lw_S q1 q2 q3 q5) rfl rfl rfl hdd hroom) ⟨Pk.blind, Pk.at hW hSt hS hR⟩ rfl hn hl'.size rfl (lv_room hw) hd ⟨by omega, by omega⟩) hS kk
  · exact W_run (va_runSN (As := As) (rest := st) ⟨hx, hb, hml, hown, hts⟩ (k l) ⟨va_cnB n hts (lw_meth q5) rfl rfl rfl (hW.2.1 _ q1 rfl) (hts _ q3) hdd hroom, hts _ q2, trivial⟩ ⟨Pk.blind, Pk.at hW hSt hS hR⟩ rfl hn hl'.size rfl (lv_room hw) hd ⟨by omega, by omega⟩) hS kk
/-- a constructor -/
theorem G_invI {idx n : Nat} {t : Option Nat} {b : Nat} (rc' rs' : Nat) (host : String) (pc' : Nat) (hd : decode (Mc M) pc = .ok (.invokespecial idx, 3)) (q1 : Cond.methodLink (My M).cls idx (My N) ∈ lw_all ∨ Cond.methodLinkNest (My M).cls idx (My N) host ∈ lw_tbl) (q2 : Cond.instanceMethod (My N) ∈ lw_all) (q3 : Cond.initialized (My N).cls ∈ lw_all) (q5 : Cond.code (My N) (Mc N) (Mn N) none ∈ lw_all) (hrN : Mr N = none) (hnm : (My N).name = "<init>") (hn : As.length = n) (hdd : argsOk (My N) n) (hroom : roomOk M N) (ht : t = some b) (hst : st0 = As.reverse ++ va_rf t :: st) (hw : (st.map fun v => v.category).sum ≤ 8) (hb1 : rc' + (Mm N).cells ≤ rc) (hb2 : rs' + (Mm N).slots ≤ rs) (hp : pc + 3 = pc') (k : Cal w N σ (va_rf t :: As) (fun σ' v => Ext σ σ' → G w M K rc' rs' σ' pc' L (v.toList ++ st))) : G w M K rc rs σ pc L st0 := by
  subst hp; subst hst; subst ht
  obtain ⟨yN, cN, nN, rN, mN⟩ := N
  cases hrN
  have eA : (Mm (yN, cN, nN, none, mN)).cells = mN.cells := rfl
  have eB : (Mm (yN, cN, nN, none, mN)).slots = mN.slots := rfl
  intro σ0 hE p l e s m args below meth c C H locs cells slots ls h1 h2 hS hR hl'
  have C0 := C
  obtain ⟨hx, hb, hr, hml, hts, hown, hlk, hnm0, hW, hSt⟩ := C
  have kk : ∀ (σ' : Sg) (v : Option Value) (H1 : Heap) (locs1 : List Loc), ((Ext σ σ' → G w M K rc' rs' σ' (pc + 3) L (v.toList ++ st)) ∧ Ext σ σ') → Rep w σ' s H1 → va_S (Aw w) s.heap H1 locs1 → W p l e (Mm M) s m args below meth c H1 locs1 (cells + mN.cells) (slots + mN.slots) (MQ below (Qk w σ0 K) args s (Mm M).cells (Mm M).slots (Aw w)) (F0 m (pc + 3) ls (v.toList ++ st)) :=
    fun σ' v H1 locs1 hk hR1 hS1 => hk.1 hk.2 σ0 (hE.trans hk.2) p l e s m args below meth c C0 H1 locs1 _ _ ls (by omega) (by omega) hS1 hR1 hl'
  rcases q1 with q1 | q1
  · exact W_run (va_runI (b := b) (As := As) (rest := st) ⟨hx, hb, hml, hown, hts⟩ (k l) (cwI n hts (lw_meth q5) rfl rfl rfl (hts _ q3) (hts _ q1) (hts _ q2) hnm hdd hroom) ⟨Pk.blind, Pk.at hW hSt hS hR⟩ rfl hn hl'.size rfl (lv_room hw) hd ⟨by omega, by omega⟩) hS kk
  · exact W_run (va_runIN (b := b) (As := As) (rest := st) ⟨hx, hb, hml, hown, hts⟩ (k l) ⟨va_cnB n hts (lw_meth q5) rfl rfl rfl (hW.2.1 _ q1 rfl) (hts _ q3) hdd hroom, hnm, hts _ q2⟩ ⟨Pk.blind, Pk.at hW hSt hS hR⟩ rfl hn hl'.size rfl (lv_room hw) hd ⟨by omega, by omega⟩) hS kk
/-- invokevirtual, the method that the reference names, on an object of its class -/
theorem G_invV {idx n : Nat} {C : String} {t : Option Nat} {b : Nat} (rc' rs' : Nat) (pc' : Nat) (hd : decode (Mc M) pc = .ok (.invokevirtual idx, 3)) (q1 : Cond.methodLink (My M).cls idx (My N) ∈ lw_all) (q2 : Cond.instanceMethod (My N) ∈ lw_all) (q3 : Cond.selects C (My N) (My N) ∈ lw_all) (q4 : Cond.initialized C ∈ lw_all) (q5 : Cond.code (My N) (Mc N) (Mn N) (Mr N) ∈ lw_all) (hn : As.length = n) (hC : (My N).cls = C) (hdd : argsOk (My N) n) (hroom : roomOk M N) (hst : st0 = As.reverse ++ va_rf t :: st) (hw : (st.map fun v => v.category).sum ≤ 8) (ht : t = some b) (hkb : recvK C (kd σ b)) (hb1 : rc' + (Mm N).cells ≤ rc) (hb2 : rs' + (Mm N).slots ≤ rs) (hp : pc + 3 = pc') (k : Cal w N σ (va_rf t :: As) (fun σ' v => Ext σ σ' → G w M K rc' rs' σ' pc' L (v.toList ++ st))) : G w M K rc rs σ pc L st0 := by
  subst hp; subst hst; subst ht
  intro σ0 hE p l e s m args below meth c C H locs cells slots ls h1 h2 hS hR hl'
  have C0 := C
  obtain ⟨hx, hb, hr, hml, hts, hown, hlk, hnm, hW, hSt⟩ := C
  refine W_run (va_runV (b := b) (As := As) (rest := st) ⟨hx, hb, hml, hown, hts⟩ (k l) (cwV n hts (lw_V q1 q2 q3 q4 q5) rfl rfl rfl ⟨hC, hdd⟩ hroom) ⟨Pk.blind, (hkb.ok hW hR).1, Pk.at hW hSt hS hR⟩ rfl hn hl'.size rfl (lv_room hw) hd ⟨by omega, by omega⟩) hS ?_
  exact fun σ' v H1 locs1 hk hR1 hS1 => hk.1 hk.2 σ0 (hE.trans hk.2) p l e s m args below meth c C0 H1 locs1 _ _ ls (by omega) (by omega) hS1 hR1 hl'
/-- invokevirtual, by whatever road the method is found (x: what the reference names, declared by owner; N: what is run) -/
theorem G_invU {idx n : Nat} {C owner : String} {x : MethodName} {t : Option Nat} {b : Nat} (rc' rs' : Nat) (pc' : Nat) (hd : decode (Mc M) pc = .ok (.invokevirtual idx, 3)) (q1 : Cond.methodLink (My M).cls idx x ∈ lw_all) (q6 : Cond.sameMethod x.cls owner x.name x.desc ∈ lw_all) (q3 : Cond.selects C x (My N) ∈ lw_all) (q2 : Cond.instanceMethod (My N) ∈ lw_all) (q4 : Cond.initialized (My N).cls ∈ lw_all) (q5 : Cond.code (My N) (Mc N) (Mn N) (Mr N) ∈ lw_all)
    (q7 : My N = ⟨owner, x.name, x.desc⟩ ∨ (Cond.instanceMethod ⟨owner, x.name, x.desc⟩ ∈ lw_all ∧ ∃ b0 m0 r0, Cond.code ⟨owner, x.name, x.desc⟩ b0 m0 r0 ∈ lw_all) ∨ Cond.declares ⟨owner, x.name, x.desc⟩ ∈ lw_tbl) (hn : As.length = n) (hdd : owner ≠ "java/lang/invoke/MethodHandle" ∧ owner ≠ "java/lang/invoke/VarHandle" ∧ (parseMethodDescriptor x.desc).map (fun d => d.parameters.length) = some n) (hroom : roomOk M N) (hst : st0 = As.reverse ++ va_rf t :: st) (hw : (st.map fun v => v.category).sum ≤ 8) (ht : t = some b) (hkb : recvK C (kd σ b)) (hb1 : rc' + (Mm N).cells ≤ rc) (hb2 : rs' + (Mm N).slots ≤ rs) (hp : pc + 3 = pc') (k : Cal w N σ (va_rf t :: As) (fun σ' v => Ext σ σ' → G w M K rc' rs' σ' pc' L (v.toList ++ st))) : G w M K rc rs σ pc L st0 := by
  subst hp; subst hst; subst ht
  intro σ0 hE p l e s m args below meth c C H locs cells slots ls h1 h2 hS hR hl'
  have C0 := C
  obtain ⟨hx, hb, hr, hml, hts, hown, hlk, hnm, hW, hSt⟩ := C
  have hU : ∀ w0 ∈ ([.methodLink (My M).cls idx x, .sameMethod x.cls owner x.name x.desc, .selects C x (My N), .instanceMethod (My N), .initialized (My N).cls] : List Cond), w0 ∈ lw_all := by
    intro w0 h0
    simp only [List.mem_cons, List.not_mem_nil, or_false] at h0
    rcases h0 with e | e | e | e | e <;> rw [e] <;> assumption
  have cw : va_CU (Mm M) s args (My M).cls C owner idx x (My N) (Mc N) (Mn N) (Mr N) (Mw N) (Mm N) (Mm N).cells (Mm N).slots n := by
    rcases q7 with q7 | ⟨q7, b0, m0, r0, q8⟩ | q7
    · exact va_cwU n hts (lw_app hU (lw_meth q5)) rfl rfl rfl q7 hdd hroom
    · refine va_cwO n hts (lw_app (fun w0 h0 => ?_) (lw_meth q5)) rfl rfl rfl q8 hdd hroom
      simp only [List.mem_cons, List.not_mem_nil, or_false] at h0
      rcases h0 with e | e | e | e | e | e <;> rw [e] <;> assumption
    · exact va_cwA n hts (lw_app hU (lw_meth q5)) rfl rfl rfl (hW.2.1 _ q7 rfl) hdd hroom
  refine W_run (va_runU (b := b) (As := As) (rest := st) ⟨hx, hb, hml, hown, hts⟩ (k l) cw ⟨Pk.blind, (hkb.ok hW hR).1, Pk.at hW hSt hS hR⟩ rfl hn hl'.size rfl (lv_room hw) hd ⟨by omega, by omega⟩) hS ?_
  exact fun σ' v H1 locs1 hk hR1 hS1 => hk.1 hk.2 σ0 (hE.trans hk.2) p l e s m args below meth c C0 H1 locs1 _ _ ls (by omega) (by omega) hS1 hR1 hl'
/-- invokeinterface -/
theorem G_invF {idx cnt n : Nat} {C : String} {x : MethodName} {t : Option Nat} {b : Nat} (rc' rs' : Nat) (pc' : Nat) (hd : decode (Mc M) pc = .ok (.invokeinterface idx cnt, 5)) (q1 : Cond.methodLink (My M).cls idx x ∈ lw_all) (q3 : Cond.selects C x (My N) ∈ lw_all) (q2 : Cond.instanceMethod (My N) ∈ lw_all) (q4 : Cond.initialized (My N).cls ∈ lw_all) (q5 : Cond.code (My N) (Mc N) (Mn N) (Mr N) ∈ lw_all)
    (e1 : Cond.declares x ∈ lw_tbl) (e2 : Cond.interfaceMethod x.cls x.cls x.name x.desc ∈ lw_tbl) (e3 : Cond.publicMethod (My N) ∈ lw_tbl) (e4 : Cond.unhidden C x.name x.desc ∈ lw_tbl) (e5 : Cond.castable C x.cls ∈ lw_tbl) (hn : As.length = n) (hdd : argsOk x n) (hroom : roomOk M N) (hst : st0 = As.reverse ++ va_rf t :: st) (hw : (st.map fun v => v.category).sum ≤ 8) (ht : t = some b) (hkb : recvK C (kd σ b)) (hb1 : rc' + (Mm N).cells ≤ rc) (hb2 : rs' + (Mm N).slots ≤ rs) (hp : pc + 5 = pc') (k : Cal w N σ (va_rf t :: As) (fun σ' v => Ext σ σ' → G w M K rc' rs' σ' pc' L (v.toList ++ st))) : G w M K rc rs σ pc L st0 := by
  subst hp; subst hst; subst ht
  intro σ0 hE p l e s m args below meth c C H locs cells slots ls h1 h2 hS hR hl'
  have C0 := C
  obtain ⟨hx, hb, hr, hml, hts, hown, hlk, hnm, hW, hSt⟩ := C
  obtain ⟨hrv, cC, hat⟩ := hkb.ok hW hR
  have hF : va_Fw _ x (My N) s := ⟨hW.2.1 _ e1 rfl, hW.2.1 _ e2 (by simp only [extW, decide_eq_true_eq]; exact ⟨trivial, hdd.1, hdd.2.1⟩), hW.2.1 _ e3 rfl, hW.2.1 _ e4 rfl, hW.2.1 _ e5 rfl⟩
  refine W_run5 (va_runF hat (b := b) (As := As) (rest := st) ⟨hx, hb, hml, hown, hts⟩ (k l) (va_cwF n hts (lw_app (fun w0 h0 => ?_) (lw_meth q5)) rfl rfl rfl hF hdd hroom) ⟨Pk.blind, hrv, Pk.at hW hSt hS hR⟩ rfl hn hl'.size rfl (lv_room hw) hd ⟨by omega, by omega⟩) hS ?_
  · simp only [List.mem_cons, List.not_mem_nil, or_false] at h0
    rcases h0 with e | e | e | e <;> rw [e] <;> assumption
  · exact fun σ' v H1 locs1 hk hR1 hS1 => hk.1 hk.2 σ0 (hE.trans hk.2) p l e s m args below meth c C0 H1 locs1 _ _ ls (by omega) (by omega) hS1 hR1 hl'
/-- super.m(..) -/
theorem G_invP {idx n : Nat} {C : String} {t : Option Nat} {b : Nat} (rc' rs' : Nat) (pc' : Nat) (hd : decode (Mc M) pc = .ok (.invokespecial idx, 3)) (q1 : Cond.methodLink (My M).cls idx (My N) ∈ lw_all) (q6 : Cond.sameMethod (My N).cls (My N).cls (My N).name (My N).desc ∈ lw_all) (q7 : Cond.superclass (My M).cls (My N).cls ∈ lw_all) (q2 : Cond.instanceMethod (My N) ∈ lw_all) (q4 : Cond.initialized (My N).cls ∈ lw_all) (q5 : Cond.code (My N) (Mc N) (Mn N) (Mr N) ∈ lw_all) (hnm : (My N).name ≠ "<init>") (hn : As.length = n) (hdd : (parseMethodDescriptor (My N).desc).map (fun d => d.parameters.length) = some n) (hroom : roomOk M N) (hst : st0 = As.reverse ++ va_rf t :: st) (hw : (st.map fun v => v.category).sum ≤ 8) (ht : t = some b) (hkb : recvK C (kd σ b)) (hb1 : rc' + (Mm N).cells ≤ rc) (hb2 : rs' + (Mm N).slots ≤ rs) (hp : pc + 3 = pc') (k : Cal w N σ (va_rf t :: As) (fun σ' v => Ext σ σ' → G w M K rc' rs' σ' pc' L (v.toList ++ st))) : G w M K rc rs σ pc L st0 := by
  subst hp; subst hst; subst ht
  intro σ0 hE p l e s m args below meth c C H locs cells slots ls h1 h2 hS hR hl'
  have C0 := C
  obtain ⟨hx, hb, hr, hml, hts, hown, hlk, hnm0, hW, hSt⟩ := C
  obtain ⟨hrv, cC, hat⟩ := hkb.ok hW hR
  refine W_run (va_runSU hat (b := b) (As := As) (rest := st) ⟨hx, hb, hml, hown, hts⟩ (k l) (va_cwSU n hts (lw_app (fun w0 h0 => ?_) (lw_meth q5)) rfl rfl rfl ⟨hnm, hdd⟩ hroom) ⟨Pk.blind, hrv, Pk.at hW hSt hS hR⟩ rfl hn hl'.size rfl (lv_room hw) hd ⟨by omega, by omega⟩) hS ?_
  · simp only [List.mem_cons, List.not_mem_nil, or_false] at h0
    rcases h0 with e | e | e | e | e <;> rw [e] <;> assumption
  · exact fun σ' v H1 locs1 hk hR1 hS1 => hk.1 hk.2 σ0 (hE.trans hk.2) p l e s m args below meth c C0 H1 locs1 _ _ ls (by omega) (by omega) hS1 hR1 hl'
/-- Object() -/
theorem G_objInit {idx : Nat} {t : Option Nat} {b : Nat} (pc' : Nat) (hd : decode (Mc M) pc = .ok (.invokespecial idx, 3)) (q1 : Cond.methodLink (My M).cls idx Lib.objectInit ∈ lw_all) (q2 : Cond.instanceMethod Lib.objectInit ∈ lw_all) (q3 : Cond.code Lib.objectInit ⟨#[0xb1]⟩ 1 none ∈ lw_all) (hp : pc + 3 = pc') (ht : t = some b) (hw : (st.map fun v => v.category).sum ≤ 8) (hf : 1 ≤ (Mm M).frames) (hlo : 20 ≤ (Mm M).locals) (k : G w M K rc rs σ pc' L st) : G w M K rc rs σ pc L (va_rf t :: st) := by
  subst hp; subst ht
  intro σ0 hE p l e s m args below meth c C H locs cells slots ls h1 h2 hS hR hl'
  have kk := k σ0 hE p l e s m args below meth c C H locs cells slots ls h1 h2 hS hR hl'
  obtain ⟨hx, hb, hr, hml, hts, hown, hlk, hnm0, hW, hSt⟩ := C
  exact W.objInit hx hb hown (hts _ q1) (hts _ q2) (hts _ q3) rfl (by rw [hml]; exact hl'.1) rfl hd hf (by show 2 * 0 + _ + 12 ≤ _; omega) kk
/-- the method as a whole -/
theorem Cal.of {L : List Value} (kx : Nat) (hy : plainFor (My M) = true) (hc : ∀ v ∈ As, v.category = 1) (hlen : (lg_sl As).length ≤ Mn M) (hL : As ++ List.replicate kx U_ = L) (k : G w M K (Mm M).cells (Mm M).slots σ 0 L []) : Cal w M σ As K := by
  intro l
  refine va_MetF (cc := Mc M) (maxL := Mn M) (ret := Mr M) hy rfl ?_
  intro p e s m args below meth c s₁ B hml hv
  obtain ⟨rfl, hW, hSt, hR⟩ := hv
  have hts := atoms_spec (ws := Mw M) B.pre
  have hts : ∀ w ∈ lw_all, w.before _ s = true := fun w h => hts w (List.mem_cons_of_mem _ h)
  have hl := (Lv.entry hc hlen).more kx hL
  rw [lg_entry_eq]
  exact k σ (Ext.rf (fun a ha => hR.new ha)) p l e s m _ below meth c ⟨B.exec, B.bytes, B.returns, hml, hts, findClass_of_methodNamed B.named, B.notSynchronized, (name_of_methodNamed B.named B.method).1, hW, hSt⟩ s.heap [] 0 0 _ (by show 0 + (Mm M).cells ≤ _; omega) (by show 0 + (Mm M).slots ≤ _; omega) va_S.rf hR hl
end calls
