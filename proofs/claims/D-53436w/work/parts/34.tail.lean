/-! what lies behind an array's end may be taken as one likes -/
set_option maxRecDepth 100000
theorem arrV_congr {cI : ClassId} {N : Nat} {f g : Nat → Value} (h : ∀ j, j < N → f j = g j) : arrV cI N f = arrV cI N g := by
  have : (fun j : Fin N => f j.val) = (fun j : Fin N => g j.val) := by funext j; exact h j.val j.isLt
  unfold arrV; rw [this]
section tail
variable {w : Wt} {σ : Sg} {M : Mt} {K : Sg → Option Value → Prop} {rc rs pc a : Nat} {L st : List Value} {g : Nat → Int32}
theorem Rep.tail {U : State} {H : Heap} (h : Rep w σ U H) (hk : kd σ a = 1) (hg : ∀ i, i < ln σ a → g i = AI σ a i) : Rep w (sAIs σ a g) U H := by
  refine ⟨h.1, h.2.1, fun b => ?_⟩
  rw [kd_sAIs]
  by_cases hb : b = a
  · subst hb
    obtain ⟨h1, h2⟩ := h.a1 hk
    rw [hk]
    refine ⟨h1, ?_⟩
    show H[b]? = some (vp_cell (wc w 1) (ln σ b, .inl (AI (sAIs σ b g) b)))
    rw [AI_self]
    have h2 : H[b]? = some (vp_cell (wc w 1) (ln σ b, .inl (AI σ b))) := h2
    rw [h2, vp_cell_i, vp_cell_i]
    have : arrV (wc w 1) (ln σ b) (fun j => Value.int (AI σ b j)) = arrV (wc w 1) (ln σ b) (fun j => Value.int (g j)) := arrV_congr (fun j hj => by rw [hg j hj])
    rw [this]
  · refine (h.2.2 b).congr rfl rfl ?_ rfl (fun g => rfl)
    rw [AI_ne hb]
theorem G.tail (hk : kd σ a = 1) (hg : ∀ i, i < ln σ a → g i = AI σ a i) (k : G w M K rc rs (sAIs σ a g) pc L st) : G w M K rc rs σ pc L st :=
  fun σ0 hE p l e s m args below meth c C H locs cells slots ls h1 h2 hS hR hl =>
    k σ0 (hE.trans (Ext.put (fun a ha => hR.new ha) rfl rfl rfl)) p l e s m args below meth c C H locs cells slots ls h1 h2 hS (hR.tail hk hg) hl
end tail
