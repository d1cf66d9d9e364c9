/-! THE ROWS, part 1: stack, locals, arithmetic, branches -/
set_option maxRecDepth 100000
-- ===== what stays, what is carried =====
section carry
variable {w : Wt} {k : Nat} {σ σ' : Sg} {u U : State} {H H' : Heap} {a b : Nat}
theorem cellK.congr (h : cellK w k σ U H b) (hH : H'[b]? = H[b]?) (h1 : ln σ' b = ln σ b) (h2 : AI σ' b = AI σ b) (h3 : AR σ' b = AR σ b) (h4 : ∀ g, fv σ' b g = fv σ b g) : cellK w k σ' U H' b := by
  have e4 : fv σ' b = fv σ b := funext h4
  have e5 : FI σ' 83 b = FI σ 83 b := by
    have h83 := h4 83
    have e0 : fk 83 = 0 := rfl
    unfold fv at h83
    rw [if_pos e0, if_pos e0] at h83
    exact Value.int.inj h83
  have hT : ∀ {ty : FieldType} {n : Nat} {f : Nat → Value}, va_T ty b n f (Aw w) U H → va_T ty b n f (Aw w) U H' := by
    rintro ty n f ⟨cell, q1, q2⟩
    exact ⟨cell, by rw [hH]; exact q1, q2⟩
  unfold cellK at h ⊢
  rw [h1, h2, h3, e4, e5]
  by_cases k0 : k = 0
  · rw [if_pos k0]; trivial
  rw [if_neg k0] at h ⊢
  by_cases k1 : k = 1
  · rw [if_pos k1] at h ⊢; exact ⟨h.1, h.2.kept hH⟩
  rw [if_neg k1] at h ⊢
  by_cases k2 : k = 2
  · rw [if_pos k2] at h ⊢; exact ⟨h.1, h.2.kept hH⟩
  rw [if_neg k2] at h ⊢
  by_cases k3 : k = 3
  · rw [if_pos k3] at h ⊢; exact ⟨h.1, h.2.kept hH⟩
  rw [if_neg k3] at h ⊢
  by_cases k4 : k = 4
  · rw [if_pos k4] at h ⊢; exact ⟨h.1, h.2.kept hH⟩
  rw [if_neg k4] at h ⊢
  by_cases k5 : k = 5
  · rw [if_pos k5] at h ⊢; exact hT h
  rw [if_neg k5] at h ⊢
  by_cases k6 : k = 6
  · rw [if_pos k6] at h ⊢
    obtain ⟨⟨cell, q1, q2⟩, cf, kc, i, f, cell2, r1, r2, r3, r4⟩ := h
    exact ⟨⟨cell, by rw [hH]; exact q1, q2⟩, cf, kc, i, f, cell2, r1, r2, by rw [hH]; exact r3, r4⟩
  rw [if_neg k6] at h ⊢
  by_cases k7 : k = 7
  · rw [if_pos k7] at h ⊢; exact hT h
  rw [if_neg k7] at h ⊢
  by_cases k8 : k = 8
  · rw [if_pos k8] at h ⊢; exact hT h
  rw [if_neg k8] at h ⊢
  exact ⟨h.1, h.2.1, h.2.2.kept hH⟩
theorem cellK.moved (hvm : u.vm.Alike U.vm) (h : cellK w k σ u H a) : cellK w k σ U H a := by
  unfold cellK at h ⊢
  by_cases k0 : k = 0
  · rw [if_pos k0]; trivial
  rw [if_neg k0] at h ⊢
  by_cases k1 : k = 1
  · rw [if_pos k1] at h ⊢; exact h
  rw [if_neg k1] at h ⊢
  by_cases k2 : k = 2
  · rw [if_pos k2] at h ⊢; exact h
  rw [if_neg k2] at h ⊢
  by_cases k3 : k = 3
  · rw [if_pos k3] at h ⊢; exact h
  rw [if_neg k3] at h ⊢
  by_cases k4 : k = 4
  · rw [if_pos k4] at h ⊢; exact h
  rw [if_neg k4] at h ⊢
  by_cases k5 : k = 5
  · rw [if_pos k5] at h ⊢; exact va_T.moved hvm h
  rw [if_neg k5] at h ⊢
  by_cases k6 : k = 6
  · rw [if_pos k6] at h ⊢; exact ⟨va_O.moved hvm h.1, va_OF.moved hvm h.2⟩
  rw [if_neg k6] at h ⊢
  by_cases k7 : k = 7
  · rw [if_pos k7] at h ⊢; exact va_T.moved hvm h
  rw [if_neg k7] at h ⊢
  by_cases k8 : k = 8
  · rw [if_pos k8] at h ⊢; exact va_T.moved hvm h
  rw [if_neg k8] at h ⊢
  exact h
theorem cellK.lt (h : cellK w k σ U H a) (hk : ¬ k = 0) : a < H.size := by
  have hT : ∀ {ty : FieldType} {n : Nat} {f : Nat → Value}, va_T ty a n f (Aw w) U H → a < H.size := by
    rintro ty n f ⟨cell, q1, q2⟩
    exact (Array.getElem?_eq_some_iff.mp q1).1
  unfold cellK at h
  rw [if_neg hk] at h
  split at h
  · exact h.2.lt
  split at h
  · exact h.2.lt
  split at h
  · exact h.2.lt
  split at h
  · exact h.2.lt
  split at h
  · exact hT h
  split at h
  · obtain ⟨⟨cell, q1, q2⟩, -⟩ := h
    exact (Array.getElem?_eq_some_iff.mp q1).1
  split at h
  · exact hT h
  split at h
  · exact hT h
  exact h.2.2.lt
theorem Rep.moved (h : Rep w σ u H) (hvm : u.vm.Alike U.vm) : Rep w σ U H := ⟨h.1, h.2.1, fun a => (h.2.2 a).moved hvm⟩
end carry
section rows1
variable {w : Wt} {M : Mt} {K : Sg → Option Value → Prop} {rc rs : Nat} {σ : Sg} {pc : Nat} {L st : List Value}
theorem Lv.size {ls : Array Slot} {nL : Nat} {L : List Value} (h : Lv ls nL L) : ls.size = nL := h.1
theorem G_iconst {n : Int} {v : Int32} (pc' : Nat) (hd : decode (Mc M) pc = .ok (.iconst n, 1)) (hv : Int32.ofInt n = v) (hp : pc + 1 = pc') (k : G w M K rc rs σ pc' L (.int v :: st)) : G w M K rc rs σ pc L (st) := by
  subst hp
  exact fun σ0 hE p l e s m args below meth c C H locs cells slots ls h1 h2 hS hR hl => lv_iconst C.1 C.2.1 hd hv (k σ0 hE p l e s m args below meth c C H locs cells slots ls h1 h2 hS hR hl)
theorem G_bipush {n : Int} {v : Int32} (pc' : Nat) (hd : decode (Mc M) pc = .ok (.bipush n, 2)) (hv : (Int8.ofInt n).toInt32 = v) (hp : pc + 2 = pc') (k : G w M K rc rs σ pc' L (.int v :: st)) : G w M K rc rs σ pc L (st) := by
  subst hp
  exact fun σ0 hE p l e s m args below meth c C H locs cells slots ls h1 h2 hS hR hl => lv_bipush C.1 C.2.1 hd hv (k σ0 hE p l e s m args below meth c C H locs cells slots ls h1 h2 hS hR hl)
theorem G_sipush {n : Int} {v : Int32} (pc' : Nat) (hd : decode (Mc M) pc = .ok (.sipush n, 3)) (hv : (Int16.ofInt n).toInt32 = v) (hp : pc + 3 = pc') (k : G w M K rc rs σ pc' L (.int v :: st)) : G w M K rc rs σ pc L (st) := by
  subst hp
  exact fun σ0 hE p l e s m args below meth c C H locs cells slots ls h1 h2 hS hR hl => lv_sipush C.1 C.2.1 hd hv (k σ0 hE p l e s m args below meth c C H locs cells slots ls h1 h2 hS hR hl)
theorem G_ldc {i : Nat} {v : Int32} (pc' : Nat) (hd : decode (Mc M) pc = .ok (.ldc i, 2)) (hq : Cond.constant (My M).cls i v ∈ lw_all) (hp : pc + 2 = pc') (k : G w M K rc rs σ pc' L (.int v :: st)) : G w M K rc rs σ pc L (st) := by
  subst hp
  exact fun σ0 hE p l e s m args below meth c C H locs cells slots ls h1 h2 hS hR hl => lv_ldc C.1 C.2.1 C.2.2.2.2.2.1 (C.2.2.2.2.1 _ hq) hd (k σ0 hE p l e s m args below meth c C H locs cells slots ls h1 h2 hS hR hl)
theorem G_ldcw {i : Nat} {v : Int32} (pc' : Nat) (hd : decode (Mc M) pc = .ok (.ldc_w i, 3)) (hq : Cond.constant (My M).cls i v ∈ lw_all) (hp : pc + 3 = pc') (k : G w M K rc rs σ pc' L (.int v :: st)) : G w M K rc rs σ pc L (st) := by
  subst hp
  exact fun σ0 hE p l e s m args below meth c C H locs cells slots ls h1 h2 hS hR hl => lv_ldcw C.1 C.2.1 C.2.2.2.2.2.1 (C.2.2.2.2.1 _ hq) hd (k σ0 hE p l e s m args below meth c C H locs cells slots ls h1 h2 hS hR hl)
theorem G_ldcf {i : Nat} {v : UInt32} (pc' : Nat) (hd : decode (Mc M) pc = .ok (.ldc i, 2)) (hq : Cond.constantFloat (My M).cls i v ∈ lw_all) (hp : pc + 2 = pc') (k : G w M K rc rs σ pc' L (.float v :: st)) : G w M K rc rs σ pc L (st) := by
  subst hp
  exact fun σ0 hE p l e s m args below meth c C H locs cells slots ls h1 h2 hS hR hl => lv_ldcf C.1 C.2.1 C.2.2.2.2.2.1 (C.2.2.2.2.1 _ hq) hd (k σ0 hE p l e s m args below meth c C H locs cells slots ls h1 h2 hS hR hl)
theorem G_iload_n {i : Fin 4} {x : Int32} (pc' : Nat) (hd : decode (Mc M) pc = .ok (.iload_n i, 1)) (hi : L[(i : Nat)]? = some (.int x)) (hp : pc + 1 = pc') (k : G w M K rc rs σ pc' L (.int x :: st)) : G w M K rc rs σ pc L (st) := by
  subst hp
  exact fun σ0 hE p l e s m args below meth c C H locs cells slots ls h1 h2 hS hR hl => lv_iload_n C.1 C.2.1 hd rfl (hl.at hi rfl) (k σ0 hE p l e s m args below meth c C H locs cells slots ls h1 h2 hS hR hl)
theorem G_iload {i : Nat} {x : Int32} (pc' : Nat) (hd : decode (Mc M) pc = .ok (.iload i, 2)) (hi : L[i]? = some (.int x)) (hp : pc + 2 = pc') (k : G w M K rc rs σ pc' L (.int x :: st)) : G w M K rc rs σ pc L (st) := by
  subst hp
  exact fun σ0 hE p l e s m args below meth c C H locs cells slots ls h1 h2 hS hR hl => lv_iload C.1 C.2.1 hd (hl.at hi rfl) (k σ0 hE p l e s m args below meth c C H locs cells slots ls h1 h2 hS hR hl)
theorem G_aload_n {i : Fin 4} {t : Option Nat} (pc' : Nat) (hd : decode (Mc M) pc = .ok (.aload_n i, 1)) (hi : L[(i : Nat)]? = some (va_rf t)) (hp : pc + 1 = pc') (k : G w M K rc rs σ pc' L (va_rf t :: st)) : G w M K rc rs σ pc L st := by
  subst hp
  intro σ0 hE p l e s m args below meth c C H locs cells slots ls h1 h2 hS hR hl
  cases t with
  | none => exact lv_aload_nN C.1 C.2.1 hd rfl (hl.at hi rfl) (k σ0 hE p l e s m args below meth c C H locs cells slots ls h1 h2 hS hR hl)
  | some a => exact lv_aload_n C.1 C.2.1 hd rfl (hl.at hi rfl) (k σ0 hE p l e s m args below meth c C H locs cells slots ls h1 h2 hS hR hl)
theorem G_aload {i : Nat} {t : Option Nat} (pc' : Nat) (hd : decode (Mc M) pc = .ok (.aload i, 2)) (hi : L[i]? = some (va_rf t)) (hp : pc + 2 = pc') (k : G w M K rc rs σ pc' L (va_rf t :: st)) : G w M K rc rs σ pc L st := by
  subst hp
  intro σ0 hE p l e s m args below meth c C H locs cells slots ls h1 h2 hS hR hl
  cases t with
  | none => exact lv_aloadN C.1 C.2.1 hd (hl.at hi rfl) (k σ0 hE p l e s m args below meth c C H locs cells slots ls h1 h2 hS hR hl)
  | some a => exact lv_aload C.1 C.2.1 hd (hl.at hi rfl) (k σ0 hE p l e s m args below meth c C H locs cells slots ls h1 h2 hS hR hl)
theorem G_istore_n {i : Fin 4} {x : Int32} (pc' : Nat) (L' : List Value) (hd : decode (Mc M) pc = .ok (.istore_n i, 1)) (hn : (i : Nat) < Mn M) (hL : L.set (i : Nat) (.int x) = L') (hp : pc + 1 = pc') (k : G w M K rc rs σ pc' L' st) : G w M K rc rs σ pc L (.int x :: st) := by
  subst hp; subst hL
  exact fun σ0 hE p l e s m args below meth c C H locs cells slots ls h1 h2 hS hR hl => lv_istore_n C.1 C.2.1 hd rfl hl hn rfl (fun ls' hl' => k σ0 hE p l e s m args below meth c C H locs cells slots ls' h1 h2 hS hR (Lv.put hl'))
theorem G_istore {i : Nat} {x : Int32} (pc' : Nat) (L' : List Value) (hd : decode (Mc M) pc = .ok (.istore i, 2)) (hn : i < Mn M) (hL : L.set i (.int x) = L') (hp : pc + 2 = pc') (k : G w M K rc rs σ pc' L' st) : G w M K rc rs σ pc L (.int x :: st) := by
  subst hp; subst hL
  exact fun σ0 hE p l e s m args below meth c C H locs cells slots ls h1 h2 hS hR hl => lv_istore C.1 C.2.1 hd hl hn rfl (fun ls' hl' => k σ0 hE p l e s m args below meth c C H locs cells slots ls' h1 h2 hS hR (Lv.put hl'))
theorem G_astore_n {i : Fin 4} {t : Option Nat} (pc' : Nat) (L' : List Value) (hd : decode (Mc M) pc = .ok (.astore_n i, 1)) (hn : (i : Nat) < Mn M) (hL : L.set (i : Nat) (va_rf t) = L') (hp : pc + 1 = pc') (k : G w M K rc rs σ pc' L' st) : G w M K rc rs σ pc L (va_rf t :: st) := by
  subst hp; subst hL
  intro σ0 hE p l e s m args below meth c C H locs cells slots ls h1 h2 hS hR hl
  cases t with
  | none => exact lv_astore_nN C.1 C.2.1 hd rfl hl hn rfl (fun ls' hl' => k σ0 hE p l e s m args below meth c C H locs cells slots ls' h1 h2 hS hR (Lv.put hl'))
  | some a => exact lv_astore_n C.1 C.2.1 hd rfl hl hn rfl (fun ls' hl' => k σ0 hE p l e s m args below meth c C H locs cells slots ls' h1 h2 hS hR (Lv.put hl'))
theorem G_astore {i : Nat} {t : Option Nat} (pc' : Nat) (L' : List Value) (hd : decode (Mc M) pc = .ok (.astore i, 2)) (hn : i < Mn M) (hL : L.set i (va_rf t) = L') (hp : pc + 2 = pc') (k : G w M K rc rs σ pc' L' st) : G w M K rc rs σ pc L (va_rf t :: st) := by
  subst hp; subst hL
  intro σ0 hE p l e s m args below meth c C H locs cells slots ls h1 h2 hS hR hl
  cases t with
  | none => exact lv_astoreN C.1 C.2.1 hd hl hn rfl (fun ls' hl' => k σ0 hE p l e s m args below meth c C H locs cells slots ls' h1 h2 hS hR (Lv.put hl'))
  | some a => exact lv_astore C.1 C.2.1 hd hl hn rfl (fun ls' hl' => k σ0 hE p l e s m args below meth c C H locs cells slots ls' h1 h2 hS hR (Lv.put hl'))
theorem G_iinc {i : Nat} {n : Int} {x v : Int32} (pc' : Nat) (L' : List Value) (hd : decode (Mc M) pc = .ok (.iinc i n, 3)) (hi : L[i]? = some (.int x)) (hv : x + Int32.ofInt n = v) (hn : i < Mn M) (hL : L.set i (.int v) = L') (hp : pc + 3 = pc') (k : G w M K rc rs σ pc' L' st) : G w M K rc rs σ pc L st := by
  subst hp; subst hL
  intro σ0 hE p l e s m args below meth c C H locs cells slots ls h1 h2 hS hR hl
  obtain ⟨k0, hk0⟩ := List.getElem?_of_mem (mem_lvl.mpr ⟨hi, rfl⟩)
  exact lv_iinc C.1 C.2.1 hd hl hk0 hv hn rfl (fun ls' hl' => k σ0 hE p l e s m args below meth c C H locs cells slots ls' h1 h2 hS hR (Lv.put hl'))
theorem G_iadd {x y : Int32} (pc' : Nat) (hd : decode (Mc M) pc = .ok (.iadd, 1)) (hp : pc + 1 = pc') (k : G w M K rc rs σ pc' L (.int (x + y) :: st)) : G w M K rc rs σ pc L (.int y :: .int x :: st) := by
  subst hp
  exact fun σ0 hE p l e s m args below meth c C H locs cells slots ls h1 h2 hS hR hl => lv_iadd C.1 C.2.1 hd (k σ0 hE p l e s m args below meth c C H locs cells slots ls h1 h2 hS hR hl)
theorem G_isub {x y : Int32} (pc' : Nat) (hd : decode (Mc M) pc = .ok (.isub, 1)) (hp : pc + 1 = pc') (k : G w M K rc rs σ pc' L (.int (x - y) :: st)) : G w M K rc rs σ pc L (.int y :: .int x :: st) := by
  subst hp
  exact fun σ0 hE p l e s m args below meth c C H locs cells slots ls h1 h2 hS hR hl => lv_isub C.1 C.2.1 hd (k σ0 hE p l e s m args below meth c C H locs cells slots ls h1 h2 hS hR hl)
theorem G_imul {x y : Int32} (pc' : Nat) (hd : decode (Mc M) pc = .ok (.imul, 1)) (hp : pc + 1 = pc') (k : G w M K rc rs σ pc' L (.int (x * y) :: st)) : G w M K rc rs σ pc L (.int y :: .int x :: st) := by
  subst hp
  exact fun σ0 hE p l e s m args below meth c C H locs cells slots ls h1 h2 hS hR hl => lv_imul C.1 C.2.1 hd (k σ0 hE p l e s m args below meth c C H locs cells slots ls h1 h2 hS hR hl)
theorem G_iand {x y : Int32} (pc' : Nat) (hd : decode (Mc M) pc = .ok (.iand, 1)) (hp : pc + 1 = pc') (k : G w M K rc rs σ pc' L (.int (x &&& y) :: st)) : G w M K rc rs σ pc L (.int y :: .int x :: st) := by
  subst hp
  exact fun σ0 hE p l e s m args below meth c C H locs cells slots ls h1 h2 hS hR hl => lv_iand C.1 C.2.1 hd (k σ0 hE p l e s m args below meth c C H locs cells slots ls h1 h2 hS hR hl)
theorem G_ior {x y : Int32} (pc' : Nat) (hd : decode (Mc M) pc = .ok (.ior, 1)) (hp : pc + 1 = pc') (k : G w M K rc rs σ pc' L (.int (x ||| y) :: st)) : G w M K rc rs σ pc L (.int y :: .int x :: st) := by
  subst hp
  exact fun σ0 hE p l e s m args below meth c C H locs cells slots ls h1 h2 hS hR hl => lv_ior C.1 C.2.1 hd (k σ0 hE p l e s m args below meth c C H locs cells slots ls h1 h2 hS hR hl)
theorem G_ixor {x y : Int32} (pc' : Nat) (hd : decode (Mc M) pc = .ok (.ixor, 1)) (hp : pc + 1 = pc') (k : G w M K rc rs σ pc' L (.int (x ^^^ y) :: st)) : G w M K rc rs σ pc L (.int y :: .int x :: st) := by
  subst hp
  exact fun σ0 hE p l e s m args below meth c C H locs cells slots ls h1 h2 hS hR hl => lv_ixor C.1 C.2.1 hd (k σ0 hE p l e s m args below meth c C H locs cells slots ls h1 h2 hS hR hl)
theorem G_ineg {x : Int32} (pc' : Nat) (hd : decode (Mc M) pc = .ok (.ineg, 1)) (hp : pc + 1 = pc') (k : G w M K rc rs σ pc' L (.int (-x) :: st)) : G w M K rc rs σ pc L (.int x :: st) := by
  subst hp
  exact fun σ0 hE p l e s m args below meth c C H locs cells slots ls h1 h2 hS hR hl => lv_ineg C.1 C.2.1 hd (k σ0 hE p l e s m args below meth c C H locs cells slots ls h1 h2 hS hR hl)
theorem G_ishl {x y : Int32} (pc' : Nat) (hd : decode (Mc M) pc = .ok (.ishl, 1)) (hp : pc + 1 = pc') (k : G w M K rc rs σ pc' L (.int (x <<< (y &&& 31)) :: st)) : G w M K rc rs σ pc L (.int y :: .int x :: st) := by
  subst hp
  exact fun σ0 hE p l e s m args below meth c C H locs cells slots ls h1 h2 hS hR hl => lv_ishl C.1 C.2.1 hd (k σ0 hE p l e s m args below meth c C H locs cells slots ls h1 h2 hS hR hl)
theorem G_ishr {x y : Int32} (pc' : Nat) (hd : decode (Mc M) pc = .ok (.ishr, 1)) (hp : pc + 1 = pc') (k : G w M K rc rs σ pc' L (.int (x >>> (y &&& 31)) :: st)) : G w M K rc rs σ pc L (.int y :: .int x :: st) := by
  subst hp
  exact fun σ0 hE p l e s m args below meth c C H locs cells slots ls h1 h2 hS hR hl => lv_ishr C.1 C.2.1 hd (k σ0 hE p l e s m args below meth c C H locs cells slots ls h1 h2 hS hR hl)
theorem G_iushr {x y : Int32} (pc' : Nat) (hd : decode (Mc M) pc = .ok (.iushr, 1)) (hp : pc + 1 = pc') (k : G w M K rc rs σ pc' L (.int ((x.toUInt32 >>> (y.toUInt32 &&& Int32.toUInt32 31)).toInt32) :: st)) : G w M K rc rs σ pc L (.int y :: .int x :: st) := by
  subst hp
  exact fun σ0 hE p l e s m args below meth c C H locs cells slots ls h1 h2 hS hR hl => lv_iushr C.1 C.2.1 hd rfl (k σ0 hE p l e s m args below meth c C H locs cells slots ls h1 h2 hS hR hl)
theorem G_i2b {x : Int32} (pc' : Nat) (hd : decode (Mc M) pc = .ok (.i2b, 1)) (hp : pc + 1 = pc') (k : G w M K rc rs σ pc' L (.int (x.toInt8.toInt32) :: st)) : G w M K rc rs σ pc L (.int x :: st) := by
  subst hp
  exact fun σ0 hE p l e s m args below meth c C H locs cells slots ls h1 h2 hS hR hl => lv_i2b C.1 C.2.1 hd rfl (k σ0 hE p l e s m args below meth c C H locs cells slots ls h1 h2 hS hR hl)
theorem G_i2c {x : Int32} (pc' : Nat) (hd : decode (Mc M) pc = .ok (.i2c, 1)) (hp : pc + 1 = pc') (k : G w M K rc rs σ pc' L (.int ((x.toUInt32 % 65536).toInt32) :: st)) : G w M K rc rs σ pc L (.int x :: st) := by
  subst hp
  exact fun σ0 hE p l e s m args below meth c C H locs cells slots ls h1 h2 hS hR hl => lv_i2c C.1 C.2.1 hd rfl (k σ0 hE p l e s m args below meth c C H locs cells slots ls h1 h2 hS hR hl)
theorem G_dup {v : Value} (pc' : Nat) (hd : decode (Mc M) pc = .ok (.dup, 1)) (hc : v.category = 1) (hp : pc + 1 = pc') (k : G w M K rc rs σ pc' L (v :: v :: st)) : G w M K rc rs σ pc L (v :: st) := by
  subst hp
  exact fun σ0 hE p l e s m args below meth c C H locs cells slots ls h1 h2 hS hR hl => lv_dup C.1 C.2.1 hd hc (k σ0 hE p l e s m args below meth c C H locs cells slots ls h1 h2 hS hR hl)
theorem G_pop {v : Value} (pc' : Nat) (hd : decode (Mc M) pc = .ok (.pop, 1)) (hc : v.category = 1) (hp : pc + 1 = pc') (k : G w M K rc rs σ pc' L (st)) : G w M K rc rs σ pc L (v :: st) := by
  subst hp
  exact fun σ0 hE p l e s m args below meth c C H locs cells slots ls h1 h2 hS hR hl => lv_pop C.1 C.2.1 hd hc (k σ0 hE p l e s m args below meth c C H locs cells slots ls h1 h2 hS hR hl)
theorem G_dup_x1 {v u : Value} (pc' : Nat) (hd : decode (Mc M) pc = .ok (.dup_x1, 1)) (hc : v.category = 1) (hc2 : u.category = 1) (hp : pc + 1 = pc') (k : G w M K rc rs σ pc' L (v :: u :: v :: st)) : G w M K rc rs σ pc L (v :: u :: st) := by
  subst hp
  exact fun σ0 hE p l e s m args below meth c C H locs cells slots ls h1 h2 hS hR hl => lv_dup_x1 C.1 C.2.1 hd hc hc2 (k σ0 hE p l e s m args below meth c C H locs cells slots ls h1 h2 hS hR hl)
theorem G_dup_x2 {v u z : Value} (pc' : Nat) (hd : decode (Mc M) pc = .ok (.dup_x2, 1)) (hc : v.category = 1) (hc2 : u.category = 1) (hc3 : z.category = 1) (hp : pc + 1 = pc') (k : G w M K rc rs σ pc' L (v :: u :: z :: v :: st)) : G w M K rc rs σ pc L (v :: u :: z :: st) := by
  subst hp
  exact fun σ0 hE p l e s m args below meth c C H locs cells slots ls h1 h2 hS hR hl => lv_dup_x2 C.1 C.2.1 hd hc hc2 hc3 (k σ0 hE p l e s m args below meth c C H locs cells slots ls h1 h2 hS hR hl)
theorem G_dup2 {v u : Value} (pc' : Nat) (hd : decode (Mc M) pc = .ok (.dup2, 1)) (hc : v.category = 1) (hc2 : u.category = 1) (hp : pc + 1 = pc') (k : G w M K rc rs σ pc' L (v :: u :: v :: u :: st)) : G w M K rc rs σ pc L (v :: u :: st) := by
  subst hp
  exact fun σ0 hE p l e s m args below meth c C H locs cells slots ls h1 h2 hS hR hl => lv_dup2_11 C.1 C.2.1 hd hc hc2 (k σ0 hE p l e s m args below meth c C H locs cells slots ls h1 h2 hS hR hl)
theorem G_null  (pc' : Nat) (hd : decode (Mc M) pc = .ok (.aconst_null, 1)) (hp : pc + 1 = pc') (k : G w M K rc rs σ pc' L (va_rf none :: st)) : G w M K rc rs σ pc L (st) := by
  subst hp
  exact fun σ0 hE p l e s m args below meth c C H locs cells slots ls h1 h2 hS hR hl => lv_null C.1 C.2.1 hd (k σ0 hE p l e s m args below meth c C H locs cells slots ls h1 h2 hS hR hl)
theorem G_goto {off : Int} (tgt : Nat) (hd : decode (Mc M) pc = .ok (.goto off, 3)) (ht : (pc : Int) + off = (tgt : Int)) (k : G w M K rc rs σ tgt L st) : G w M K rc rs σ pc L st :=
  fun σ0 hE p l e s m args below meth c C H locs cells slots ls h1 h2 hS hR hl => lv_goto C.1 C.2.1 hd ht (k σ0 hE p l e s m args below meth c C H locs cells slots ls h1 h2 hS hR hl)
theorem G_if_eq {x : Int32} {off : Int} (tgt pc' : Nat) (hd : decode (Mc M) pc = .ok (.ifCond .eq off, 3)) (ht : (pc : Int) + off = (tgt : Int)) (hp : pc + 3 = pc') (kt : x = 0 → G w M K rc rs σ tgt L st) (kf : ¬ x = 0 → G w M K rc rs σ pc' L st) : G w M K rc rs σ pc L (.int x :: st) := by
  subst hp
  exact fun σ0 hE p l e s m args below meth c C H locs cells slots ls h1 h2 hS hR hl => lv_if_eq C.1 C.2.1 hd ht (fun q => kt q σ0 hE p l e s m args below meth c C H locs cells slots ls h1 h2 hS hR hl) (fun q => kf q σ0 hE p l e s m args below meth c C H locs cells slots ls h1 h2 hS hR hl)
theorem G_icmp_eq {x y : Int32} {off : Int} (tgt pc' : Nat) (hd : decode (Mc M) pc = .ok (.if_icmp .eq off, 3)) (ht : (pc : Int) + off = (tgt : Int)) (hp : pc + 3 = pc') (kt : x = y → G w M K rc rs σ tgt L st) (kf : ¬ x = y → G w M K rc rs σ pc' L st) : G w M K rc rs σ pc L (.int y :: .int x :: st) := by
  subst hp
  exact fun σ0 hE p l e s m args below meth c C H locs cells slots ls h1 h2 hS hR hl => lv_icmp_eq C.1 C.2.1 hd ht (fun q => kt q σ0 hE p l e s m args below meth c C H locs cells slots ls h1 h2 hS hR hl) (fun q => kf q σ0 hE p l e s m args below meth c C H locs cells slots ls h1 h2 hS hR hl)
theorem G_if_ne {x : Int32} {off : Int} (tgt pc' : Nat) (hd : decode (Mc M) pc = .ok (.ifCond .ne off, 3)) (ht : (pc : Int) + off = (tgt : Int)) (hp : pc + 3 = pc') (kt : ¬ x = 0 → G w M K rc rs σ tgt L st) (kf : x = 0 → G w M K rc rs σ pc' L st) : G w M K rc rs σ pc L (.int x :: st) := by
  subst hp
  exact fun σ0 hE p l e s m args below meth c C H locs cells slots ls h1 h2 hS hR hl => lv_if_ne C.1 C.2.1 hd ht (fun q => kt q σ0 hE p l e s m args below meth c C H locs cells slots ls h1 h2 hS hR hl) (fun q => kf q σ0 hE p l e s m args below meth c C H locs cells slots ls h1 h2 hS hR hl)
theorem G_icmp_ne {x y : Int32} {off : Int} (tgt pc' : Nat) (hd : decode (Mc M) pc = .ok (.if_icmp .ne off, 3)) (ht : (pc : Int) + off = (tgt : Int)) (hp : pc + 3 = pc') (kt : ¬ x = y → G w M K rc rs σ tgt L st) (kf : x = y → G w M K rc rs σ pc' L st) : G w M K rc rs σ pc L (.int y :: .int x :: st) := by
  subst hp
  exact fun σ0 hE p l e s m args below meth c C H locs cells slots ls h1 h2 hS hR hl => lv_icmp_ne C.1 C.2.1 hd ht (fun q => kt q σ0 hE p l e s m args below meth c C H locs cells slots ls h1 h2 hS hR hl) (fun q => kf q σ0 hE p l e s m args below meth c C H locs cells slots ls h1 h2 hS hR hl)
theorem G_if_lt {x : Int32} {off : Int} (tgt pc' : Nat) (hd : decode (Mc M) pc = .ok (.ifCond .lt off, 3)) (ht : (pc : Int) + off = (tgt : Int)) (hp : pc + 3 = pc') (kt : x < 0 → G w M K rc rs σ tgt L st) (kf : ¬ x < 0 → G w M K rc rs σ pc' L st) : G w M K rc rs σ pc L (.int x :: st) := by
  subst hp
  exact fun σ0 hE p l e s m args below meth c C H locs cells slots ls h1 h2 hS hR hl => lv_if_lt C.1 C.2.1 hd ht (fun q => kt q σ0 hE p l e s m args below meth c C H locs cells slots ls h1 h2 hS hR hl) (fun q => kf q σ0 hE p l e s m args below meth c C H locs cells slots ls h1 h2 hS hR hl)
theorem G_icmp_lt {x y : Int32} {off : Int} (tgt pc' : Nat) (hd : decode (Mc M) pc = .ok (.if_icmp .lt off, 3)) (ht : (pc : Int) + off = (tgt : Int)) (hp : pc + 3 = pc') (kt : x < y → G w M K rc rs σ tgt L st) (kf : ¬ x < y → G w M K rc rs σ pc' L st) : G w M K rc rs σ pc L (.int y :: .int x :: st) := by
  subst hp
  exact fun σ0 hE p l e s m args below meth c C H locs cells slots ls h1 h2 hS hR hl => lv_icmp_lt C.1 C.2.1 hd ht (fun q => kt q σ0 hE p l e s m args below meth c C H locs cells slots ls h1 h2 hS hR hl) (fun q => kf q σ0 hE p l e s m args below meth c C H locs cells slots ls h1 h2 hS hR hl)
theorem G_if_ge {x : Int32} {off : Int} (tgt pc' : Nat) (hd : decode (Mc M) pc = .ok (.ifCond .ge off, 3)) (ht : (pc : Int) + off = (tgt : Int)) (hp : pc + 3 = pc') (kt : 0 ≤ x → G w M K rc rs σ tgt L st) (kf : ¬ 0 ≤ x → G w M K rc rs σ pc' L st) : G w M K rc rs σ pc L (.int x :: st) := by
  subst hp
  exact fun σ0 hE p l e s m args below meth c C H locs cells slots ls h1 h2 hS hR hl => lv_if_ge C.1 C.2.1 hd ht (fun q => kt q σ0 hE p l e s m args below meth c C H locs cells slots ls h1 h2 hS hR hl) (fun q => kf q σ0 hE p l e s m args below meth c C H locs cells slots ls h1 h2 hS hR hl)
theorem G_icmp_ge {x y : Int32} {off : Int} (tgt pc' : Nat) (hd : decode (Mc M) pc = .ok (.if_icmp .ge off, 3)) (ht : (pc : Int) + off = (tgt : Int)) (hp : pc + 3 = pc') (kt : y ≤ x → G w M K rc rs σ tgt L st) (kf : ¬ y ≤ x → G w M K rc rs σ pc' L st) : G w M K rc rs σ pc L (.int y :: .int x :: st) := by
  subst hp
  exact fun σ0 hE p l e s m args below meth c C H locs cells slots ls h1 h2 hS hR hl => lv_icmp_ge C.1 C.2.1 hd ht (fun q => kt q σ0 hE p l e s m args below meth c C H locs cells slots ls h1 h2 hS hR hl) (fun q => kf q σ0 hE p l e s m args below meth c C H locs cells slots ls h1 h2 hS hR hl)
theorem G_if_gt {x : Int32} {off : Int} (tgt pc' : Nat) (hd : decode (Mc M) pc = .ok (.ifCond .gt off, 3)) (ht : (pc : Int) + off = (tgt : Int)) (hp : pc + 3 = pc') (kt : 0 < x → G w M K rc rs σ tgt L st) (kf : ¬ 0 < x → G w M K rc rs σ pc' L st) : G w M K rc rs σ pc L (.int x :: st) := by
  subst hp
  exact fun σ0 hE p l e s m args below meth c C H locs cells slots ls h1 h2 hS hR hl => lv_if_gt C.1 C.2.1 hd ht (fun q => kt q σ0 hE p l e s m args below meth c C H locs cells slots ls h1 h2 hS hR hl) (fun q => kf q σ0 hE p l e s m args below meth c C H locs cells slots ls h1 h2 hS hR hl)
theorem G_icmp_gt {x y : Int32} {off : Int} (tgt pc' : Nat) (hd : decode (Mc M) pc = .ok (.if_icmp .gt off, 3)) (ht : (pc : Int) + off = (tgt : Int)) (hp : pc + 3 = pc') (kt : y < x → G w M K rc rs σ tgt L st) (kf : ¬ y < x → G w M K rc rs σ pc' L st) : G w M K rc rs σ pc L (.int y :: .int x :: st) := by
  subst hp
  exact fun σ0 hE p l e s m args below meth c C H locs cells slots ls h1 h2 hS hR hl => lv_icmp_gt C.1 C.2.1 hd ht (fun q => kt q σ0 hE p l e s m args below meth c C H locs cells slots ls h1 h2 hS hR hl) (fun q => kf q σ0 hE p l e s m args below meth c C H locs cells slots ls h1 h2 hS hR hl)
theorem G_if_le {x : Int32} {off : Int} (tgt pc' : Nat) (hd : decode (Mc M) pc = .ok (.ifCond .le off, 3)) (ht : (pc : Int) + off = (tgt : Int)) (hp : pc + 3 = pc') (kt : x ≤ 0 → G w M K rc rs σ tgt L st) (kf : ¬ x ≤ 0 → G w M K rc rs σ pc' L st) : G w M K rc rs σ pc L (.int x :: st) := by
  subst hp
  exact fun σ0 hE p l e s m args below meth c C H locs cells slots ls h1 h2 hS hR hl => lv_if_le C.1 C.2.1 hd ht (fun q => kt q σ0 hE p l e s m args below meth c C H locs cells slots ls h1 h2 hS hR hl) (fun q => kf q σ0 hE p l e s m args below meth c C H locs cells slots ls h1 h2 hS hR hl)
theorem G_icmp_le {x y : Int32} {off : Int} (tgt pc' : Nat) (hd : decode (Mc M) pc = .ok (.if_icmp .le off, 3)) (ht : (pc : Int) + off = (tgt : Int)) (hp : pc + 3 = pc') (kt : x ≤ y → G w M K rc rs σ tgt L st) (kf : ¬ x ≤ y → G w M K rc rs σ pc' L st) : G w M K rc rs σ pc L (.int y :: .int x :: st) := by
  subst hp
  exact fun σ0 hE p l e s m args below meth c C H locs cells slots ls h1 h2 hS hR hl => lv_icmp_le C.1 C.2.1 hd ht (fun q => kt q σ0 hE p l e s m args below meth c C H locs cells slots ls h1 h2 hS hR hl) (fun q => kf q σ0 hE p l e s m args below meth c C H locs cells slots ls h1 h2 hS hR hl)
theorem G_acmp_eq {x y : Option Nat} {off : Int} (tgt pc' : Nat) (hd : decode (Mc M) pc = .ok (.if_acmp .eq off, 3)) (ht : (pc : Int) + off = (tgt : Int)) (hp : pc + 3 = pc') (kt : x = y → G w M K rc rs σ tgt L st) (kf : ¬ x = y → G w M K rc rs σ pc' L st) : G w M K rc rs σ pc L (va_rf y :: va_rf x :: st) := by
  subst hp
  exact fun σ0 hE p l e s m args below meth c C H locs cells slots ls h1 h2 hS hR hl => lv_acmp_eq C.1 C.2.1 hd ht (fun q => kt q σ0 hE p l e s m args below meth c C H locs cells slots ls h1 h2 hS hR hl) (fun q => kf q σ0 hE p l e s m args below meth c C H locs cells slots ls h1 h2 hS hR hl)
theorem G_acmp_ne {x y : Option Nat} {off : Int} (tgt pc' : Nat) (hd : decode (Mc M) pc = .ok (.if_acmp .ne off, 3)) (ht : (pc : Int) + off = (tgt : Int)) (hp : pc + 3 = pc') (kt : ¬ x = y → G w M K rc rs σ tgt L st) (kf : x = y → G w M K rc rs σ pc' L st) : G w M K rc rs σ pc L (va_rf y :: va_rf x :: st) := by
  subst hp
  exact fun σ0 hE p l e s m args below meth c C H locs cells slots ls h1 h2 hS hR hl => lv_acmp_ne C.1 C.2.1 hd ht (fun q => kt q σ0 hE p l e s m args below meth c C H locs cells slots ls h1 h2 hS hR hl) (fun q => kf q σ0 hE p l e s m args below meth c C H locs cells slots ls h1 h2 hS hR hl)
theorem G_ifnull {x : Option Nat} {off : Int} (tgt pc' : Nat) (hd : decode (Mc M) pc = .ok (.ifnull off, 3)) (ht : (pc : Int) + off = (tgt : Int)) (hp : pc + 3 = pc') (kt : x = none → G w M K rc rs σ tgt L st) (kf : ¬ x = none → G w M K rc rs σ pc' L st) : G w M K rc rs σ pc L (va_rf x :: st) := by
  subst hp
  intro σ0 hE p l e s m args below meth c C H locs cells slots ls h1 h2 hS hR hl
  cases x with
  | none => exact lv_ifnullN C.1 C.2.1 hd ht (kt rfl σ0 hE p l e s m args below meth c C H locs cells slots ls h1 h2 hS hR hl)
  | some a => exact lv_ifnull C.1 C.2.1 hd (kf (fun h => by cases h) σ0 hE p l e s m args below meth c C H locs cells slots ls h1 h2 hS hR hl)
theorem G_ifnonnull {x : Option Nat} {off : Int} (tgt pc' : Nat) (hd : decode (Mc M) pc = .ok (.ifnonnull off, 3)) (ht : (pc : Int) + off = (tgt : Int)) (hp : pc + 3 = pc') (kt : ¬ x = none → G w M K rc rs σ tgt L st) (kf : x = none → G w M K rc rs σ pc' L st) : G w M K rc rs σ pc L (va_rf x :: st) := by
  subst hp
  intro σ0 hE p l e s m args below meth c C H locs cells slots ls h1 h2 hS hR hl
  cases x with
  | none => exact lv_ifnonnullN C.1 C.2.1 hd (kf rfl σ0 hE p l e s m args below meth c C H locs cells slots ls h1 h2 hS hR hl)
  | some a => exact lv_ifnonnull C.1 C.2.1 hd ht (kt (fun h => by cases h) σ0 hE p l e s m args below meth c C H locs cells slots ls h1 h2 hS hR hl)
theorem G_tableOut {dflt lo hi : Int} {offs : Array Int} {len : Nat} {x : Int32} (tgt : Nat) (hd : decode (Mc M) pc = .ok (.tableswitch dflt lo hi offs, len)) (h : x.toInt < lo ∨ hi < x.toInt) (ht : (pc : Int) + dflt = (tgt : Int)) (k : G w M K rc rs σ tgt L st) : G w M K rc rs σ pc L (.int x :: st) :=
  fun σ0 hE p l e s m args below meth c C H locs cells slots ls h1 h2 hS hR hl => lv_tableOut C.1 C.2.1 hd h ht (k σ0 hE p l e s m args below meth c C H locs cells slots ls h1 h2 hS hR hl)
theorem G_tableIn {dflt lo hi : Int} {offs : Array Int} {len : Nat} {x : Int32} {off : Int} (tgt : Nat) (hd : decode (Mc M) pc = .ok (.tableswitch dflt lo hi offs, len)) (g1 : ¬ x.toInt < lo) (g2 : ¬ hi < x.toInt) (ho : offs[(x.toInt - lo).toNat]? = some off) (ht : (pc : Int) + off = (tgt : Int)) (k : G w M K rc rs σ tgt L st) : G w M K rc rs σ pc L (.int x :: st) :=
  fun σ0 hE p l e s m args below meth c C H locs cells slots ls h1 h2 hS hR hl => lv_tableIn C.1 C.2.1 hd g1 g2 ho ht (k σ0 hE p l e s m args below meth c C H locs cells slots ls h1 h2 hS hR hl)
theorem G_lookup {dflt : Int} {ps : Array (Int × Int)} {len : Nat} {x : Int32} {off : Int} (tgt : Nat) (hd : decode (Mc M) pc = .ok (.lookupswitch dflt ps, len)) (hq : (ps.toList.zip (ps.toList.drop 1)).all (fun (a, next) => a.1 < next.1) = true) (ho : Op.lookupswitch.offset ps.toList dflt x.toInt = off) (ht : (pc : Int) + off = (tgt : Int)) (k : G w M K rc rs σ tgt L st) : G w M K rc rs σ pc L (.int x :: st) :=
  fun σ0 hE p l e s m args below meth c C H locs cells slots ls h1 h2 hS hR hl => lv_lookup C.1 C.2.1 hd hq ho ht (k σ0 hE p l e s m args below meth c C H locs cells slots ls h1 h2 hS hR hl)
theorem G_iret {x : Int32} (hd : decode (Mc M) pc = .ok (.ireturn, 1)) (hr : Mr M = some .int) (hk : K σ (some (.int x))) : G w M K rc rs σ pc L [.int x] :=
  fun σ0 hE p l e s m args below meth c C H locs cells slots ls h1 h2 hS hR hl => W.widen (Nat.le_trans (Nat.le_add_right _ _) h1) (Nat.le_trans (Nat.le_add_right _ _) h2) (W.iret C.1 C.2.1 (C.2.2.1.trans hr) (fun t ht hW => ⟨⟨σ, _, rfl, hk, hE, by rw [ht]; exact hR.moved hW.alike⟩, hS.F ht⟩) hS.2.2 hd C.2.2.2.2.2.2.1)
theorem G_zret {x : Int32} {ty : FieldType} (hd : decode (Mc M) pc = .ok (.ireturn, 1)) (hr : Mr M = some ty) (hn : narrow ty (.int x) = .int x) (hk : K σ (some (.int x))) : G w M K rc rs σ pc L [.int x] :=
  fun σ0 hE p l e s m args below meth c C H locs cells slots ls h1 h2 hS hR hl => W.widen (Nat.le_trans (Nat.le_add_right _ _) h1) (Nat.le_trans (Nat.le_add_right _ _) h2) (W.zret C.1 C.2.1 (C.2.2.1.trans hr) hn (fun t ht hW => ⟨⟨σ, _, rfl, hk, hE, by rw [ht]; exact hR.moved hW.alike⟩, hS.F ht⟩) hS.2.2 hd C.2.2.2.2.2.2.1)
theorem G_aret {x : Option Nat} {rt : FieldType} (hd : decode (Mc M) pc = .ok (.areturn, 1)) (hr : Mr M = some rt) (hrt : (∃ n, rt = .object n) ∨ ∃ t, rt = .array t) (hk : K σ (some (va_rf x))) : G w M K rc rs σ pc L [va_rf x] :=
  fun σ0 hE p l e s m args below meth c C H locs cells slots ls h1 h2 hS hR hl => W.widen (Nat.le_trans (Nat.le_add_right _ _) h1) (Nat.le_trans (Nat.le_add_right _ _) h2) (W.aret C.1 C.2.1 (C.2.2.1.trans hr) hrt (rf_cases x) (fun t ht hW => ⟨⟨σ, _, rfl, hk, hE, by rw [ht]; exact hR.moved hW.alike⟩, hS.F ht⟩) hS.2.2 hd C.2.2.2.2.2.2.1)
theorem G_ret (hd : decode (Mc M) pc = .ok (.return_, 1)) (hr : Mr M = none) (hk : K σ none) : G w M K rc rs σ pc L [] :=
  fun σ0 hE p l e s m args below meth c C H locs cells slots ls h1 h2 hS hR hl => W.widen (Nat.le_trans (Nat.le_add_right _ _) h1) (Nat.le_trans (Nat.le_add_right _ _) h2) (W.vret C.1 C.2.1 (C.2.2.1.trans hr) (fun t ht hW => ⟨⟨σ, _, rfl, hk, hE, by rw [ht]; exact hR.moved hW.alike⟩, hS.F ht⟩) hS.2.2 hd C.2.2.2.2.2.2.1)
/-- less may be left than there is -/
theorem G.less {rc' rs' : Nat} (h1 : rc' ≤ rc) (h2 : rs' ≤ rs) (k : G w M K rc' rs' σ pc L st) : G w M K rc rs σ pc L st :=
  fun σ0 hE p l e s m args below meth c C H locs cells slots ls g1 g2 hS hR hl => k σ0 hE p l e s m args below meth c C H locs cells slots ls (by omega) (by omega) hS hR hl
/-- what isn't there is nothing: an address from nx on -/
theorem Rep.new {σ : Sg} {U : State} {H : Heap} (h : Rep w σ U H) {a : Nat} (ha : nx σ ≤ a) : kd σ a = 0 := by
  apply Classical.byContradiction
  intro hk
  have := (h.2.2 a).lt hk
  have := h.1
  omega
theorem G.wf (k : (∀ a, nx σ ≤ a → kd σ a = 0) → wb w ≤ nx σ → G w M K rc rs σ pc L st) : G w M K rc rs σ pc L st :=
  fun σ0 hE p l e s m args below meth c C H locs cells slots ls h1 h2 hS hR hl => k (fun a ha => hR.new ha) (by rw [hR.1]; exact hR.2.1) σ0 hE p l e s m args below meth c C H locs cells slots ls h1 h2 hS hR hl
end rows1
