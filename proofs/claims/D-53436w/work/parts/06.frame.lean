/-! THE FRAME: an abstract heap (kinds, fields, arrays), the judgement G over it, contracts Cal -/
set_option maxRecDepth 100000
abbrev Sg : Type := (Nat → Nat) × (Nat → Nat) × (Nat → Nat → Int32) × (Nat → Nat → Option Nat) × (Nat → Nat → Int32) × (Nat → Nat → Option Nat) × Nat
def kd (σ : Sg) : Nat → Nat := σ.1
def ln (σ : Sg) : Nat → Nat := σ.2.1
def FI (σ : Sg) : Nat → Nat → Int32 := σ.2.2.1
def FR (σ : Sg) : Nat → Nat → Option Nat := σ.2.2.2.1
def AI (σ : Sg) : Nat → Nat → Int32 := σ.2.2.2.2.1
def AR (σ : Sg) : Nat → Nat → Option Nat := σ.2.2.2.2.2.1
def nx (σ : Sg) : Nat := σ.2.2.2.2.2.2
def sFI (σ : Sg) (f a : Nat) (v : Int32) : Sg := (kd σ, ln σ, (fun g b => if g = f ∧ b = a then v else FI σ g b), FR σ, AI σ, AR σ, nx σ)
def sFR (σ : Sg) (f a : Nat) (v : Option Nat) : Sg := (kd σ, ln σ, FI σ, (fun g b => if g = f ∧ b = a then v else FR σ g b), AI σ, AR σ, nx σ)
def sAI (σ : Sg) (a i : Nat) (v : Int32) : Sg := (kd σ, ln σ, FI σ, FR σ, (fun b j => if b = a ∧ j = i then v else AI σ b j), AR σ, nx σ)
def sAR (σ : Sg) (a i : Nat) (v : Option Nat) : Sg := (kd σ, ln σ, FI σ, FR σ, AI σ, (fun b j => if b = a ∧ j = i then v else AR σ b j), nx σ)
/-- a whole array's contents -/
def sAIs (σ : Sg) (a : Nat) (v : Nat → Int32) : Sg := (kd σ, ln σ, FI σ, FR σ, (fun b => if b = a then v else AI σ b), AR σ, nx σ)
def sARs (σ : Sg) (a : Nat) (v : Nat → Option Nat) : Sg := (kd σ, ln σ, FI σ, FR σ, AI σ, (fun b => if b = a then v else AR σ b), nx σ)
/-- a new object of kind k -/
def nO (σ : Sg) (k : Nat) : Sg := ((fun b => if b = nx σ then k else kd σ b), ln σ, (fun g b => if b = nx σ then 0 else FI σ g b), (fun g b => if b = nx σ then none else FR σ g b), AI σ, AR σ, nx σ + 1)
/-- a new array of kind k, length n -/
def nA (σ : Sg) (k n : Nat) : Sg := ((fun b => if b = nx σ then k else kd σ b), (fun b => if b = nx σ then n else ln σ b), FI σ, FR σ, (fun b => if b = nx σ then fun _ => 0 else AI σ b), (fun b => if b = nx σ then fun _ => none else AR σ b), nx σ + 1)
section simps
variable {σ : Sg} {f a g b i j k n : Nat} {v : Int32} {r : Option Nat} {vs : Nat → Int32} {rs : Nat → Option Nat}
theorem kd_sFI : kd (sFI σ f a v) = kd σ := rfl
theorem kd_sFR : kd (sFR σ f a r) = kd σ := rfl
theorem kd_sAI : kd (sAI σ a i v) = kd σ := rfl
theorem kd_sAR : kd (sAR σ a i r) = kd σ := rfl
theorem kd_sAIs : kd (sAIs σ a vs) = kd σ := rfl
theorem kd_sARs : kd (sARs σ a rs) = kd σ := rfl
theorem kd_nO : kd (nO σ k) b = if b = nx σ then k else kd σ b := rfl
theorem kd_nA : kd (nA σ k n) b = if b = nx σ then k else kd σ b := rfl
theorem ln_sFI : ln (sFI σ f a v) = ln σ := rfl
theorem ln_sFR : ln (sFR σ f a r) = ln σ := rfl
theorem ln_sAI : ln (sAI σ a i v) = ln σ := rfl
theorem ln_sAR : ln (sAR σ a i r) = ln σ := rfl
theorem ln_sAIs : ln (sAIs σ a vs) = ln σ := rfl
theorem ln_sARs : ln (sARs σ a rs) = ln σ := rfl
theorem ln_nO : ln (nO σ k) = ln σ := rfl
theorem ln_nA : ln (nA σ k n) b = if b = nx σ then n else ln σ b := rfl
theorem FI_sFI : FI (sFI σ f a v) g b = if g = f ∧ b = a then v else FI σ g b := rfl
theorem FI_sFR : FI (sFR σ f a r) = FI σ := rfl
theorem FI_sAI : FI (sAI σ a i v) = FI σ := rfl
theorem FI_sAR : FI (sAR σ a i r) = FI σ := rfl
theorem FI_sAIs : FI (sAIs σ a vs) = FI σ := rfl
theorem FI_sARs : FI (sARs σ a rs) = FI σ := rfl
theorem FI_nO : FI (nO σ k) g b = if b = nx σ then 0 else FI σ g b := rfl
theorem FI_nA : FI (nA σ k n) = FI σ := rfl
theorem FR_sFI : FR (sFI σ f a v) = FR σ := rfl
theorem FR_sFR : FR (sFR σ f a r) g b = if g = f ∧ b = a then r else FR σ g b := rfl
theorem FR_sAI : FR (sAI σ a i v) = FR σ := rfl
theorem FR_sAR : FR (sAR σ a i r) = FR σ := rfl
theorem FR_sAIs : FR (sAIs σ a vs) = FR σ := rfl
theorem FR_sARs : FR (sARs σ a rs) = FR σ := rfl
theorem FR_nO : FR (nO σ k) g b = if b = nx σ then none else FR σ g b := rfl
theorem FR_nA : FR (nA σ k n) = FR σ := rfl
theorem AI_sFI : AI (sFI σ f a v) = AI σ := rfl
theorem AI_sFR : AI (sFR σ f a r) = AI σ := rfl
theorem AI_sAI : AI (sAI σ a i v) b j = if b = a ∧ j = i then v else AI σ b j := rfl
theorem AI_sAR : AI (sAR σ a i r) = AI σ := rfl
theorem AI_sAIs : AI (sAIs σ a vs) b = if b = a then vs else AI σ b := rfl
theorem AI_sARs : AI (sARs σ a rs) = AI σ := rfl
theorem AI_nO : AI (nO σ k) = AI σ := rfl
theorem AI_nA : AI (nA σ k n) b = if b = nx σ then fun _ => 0 else AI σ b := rfl
theorem AR_sFI : AR (sFI σ f a v) = AR σ := rfl
theorem AR_sFR : AR (sFR σ f a r) = AR σ := rfl
theorem AR_sAI : AR (sAI σ a i v) = AR σ := rfl
theorem AR_sAR : AR (sAR σ a i r) b j = if b = a ∧ j = i then r else AR σ b j := rfl
theorem AR_sAIs : AR (sAIs σ a vs) = AR σ := rfl
theorem AR_sARs : AR (sARs σ a rs) b = if b = a then rs else AR σ b := rfl
theorem AR_nO : AR (nO σ k) = AR σ := rfl
theorem AR_nA : AR (nA σ k n) b = if b = nx σ then fun _ => none else AR σ b := rfl
theorem nx_sFI : nx (sFI σ f a v) = nx σ := rfl
theorem nx_sFR : nx (sFR σ f a r) = nx σ := rfl
theorem nx_sAI : nx (sAI σ a i v) = nx σ := rfl
theorem nx_sAR : nx (sAR σ a i r) = nx σ := rfl
theorem nx_sAIs : nx (sAIs σ a vs) = nx σ := rfl
theorem nx_sARs : nx (sARs σ a rs) = nx σ := rfl
theorem nx_nO : nx (nO σ k) = nx σ + 1 := rfl
theorem nx_nA : nx (nA σ k n) = nx σ + 1 := rfl
end simps
/-- the value of a field -/
def fv (σ : Sg) (a f : Nat) : Value := if fk f = 0 then .int (FI σ f a) else if fk f = 1 then va_rf (FR σ f a) else .float (FI σ f a).toUInt32
/-- which kinds have the field f -/
def hasF (f k : Nat) : Bool := if k = 6 then f == 83 else decide (10 ≤ k) && (lay (k - 10)).contains f
/-- the world's fixed parts: class ids and slots, array classes by kind, the first own address, the statics' addresses, the formatter -/
abbrev Wt : Type := va_G × (Nat → ClassId) × Nat × (Nat → Nat) × Option Nat
abbrev wD (w : Wt) : va_G := w.1
abbrev wc (w : Wt) : Nat → ClassId := w.2.1
abbrev wb (w : Wt) : Nat := w.2.2.1
abbrev wa (w : Wt) : Nat → Nat := w.2.2.2.1
abbrev wo (w : Wt) : Option Nat := w.2.2.2.2
def Aw (w : Wt) : Nat → Prop := fun q => wb w ≤ q
def tysW (w : Wt) : List (ClassId × FieldType) := [(wc w 1, .int), (wc w 2, .byte), (wc w 3, .object "java/lang/Object"), (wc w 4, .object "java/util/HashMap$Node")]
/-- the words of the tables that ride in no list -/
def extW : Cond → Bool
  | .fieldLinkNest .. => true
  | .methodLinkNest .. => true
  | .castable .. => true
  | .declares .. => true
  | .interfaceMethod a b _ _ => decide (a = b ∧ a ≠ "java/lang/invoke/MethodHandle" ∧ a ≠ "java/lang/invoke/VarHandle")
  | .publicMethod .. => true
  | .unhidden .. => true
  | .arrayOver (.object _) => true
  | _ => false
def Tw (U : State) : Prop := ∀ c ∈ lw_tbl, extW c = true → va_Nw c U
def ncL : List (String × String) := [("java/util/LinkedHashMap$Entry", "java/util/HashMap$TreeNode"), ("java/util/HashMap$Node", "java/util/HashMap$TreeNode")]
def Wld (w : Wt) (U : State) : Prop := va_K (wD w) vwCl (tysW w) U ∧ Tw U ∧ (∀ q ∈ ncL, va_Nc q.1 q.2 U) ∧ va_Mi "[Ljava/lang/Object;" (wa w 4) U ∧ va_Dc U
def sttL (w : Wt) : List (String × String × String × Value) := [("TrophyPlates", "WIDTHS", "[I", .ref (wa w 0)), ("java/util/ArrayList", "DEFAULTCAPACITY_EMPTY_ELEMENTDATA", "[Ljava/lang/Object;", .ref (wa w 1)), ("java/util/HashSet", "PRESENT", "Ljava/lang/Object;", .ref (wa w 2)), ("java/lang/Integer$IntegerCache", "cache", "[Ljava/lang/Integer;", .ref (wa w 3)), ("java/lang/Integer$IntegerCache", "high", "I", .int 127), ("java/lang/String", "COMPACT_STRINGS", "Z", .int 1), ("java/util/HashMap$TreeNode", "$assertionsDisabled", "Z", .int 1), ("jdk/internal/util/Preconditions", "SIOOBE_FORMATTER", "Ljava/util/function/BiFunction;", va_rf (wo w))]
def Stt (w : Wt) (U : State) (H : Heap) : Prop := ∀ q ∈ sttL w, va_Z q.1 q.2.1 q.2.2.1 q.2.2.2 (Aw w) U H
/-- what stands at the address a, of kind k -/
def cellK (w : Wt) (k : Nat) (σ : Sg) (U : State) (H : Heap) (a : Nat) : Prop :=
  if k = 0 then True
  else if k = 1 then wb w ≤ a ∧ va_at (wD w) vwCl (a, .inl (wc w 1, ln σ a, .inl (AI σ a))) H
  else if k = 2 then wb w ≤ a ∧ va_at (wD w) vwCl (a, .inl (wc w 2, ln σ a, .inl (AI σ a))) H
  else if k = 3 then wb w ≤ a ∧ va_at (wD w) vwCl (a, .inl (wc w 3, ln σ a, .inr (.inr (.inr (.inr (AR σ a)))))) H
  else if k = 4 then wb w ≤ a ∧ va_at (wD w) vwCl (a, .inl (wc w 4, ln σ a, .inr (.inr (.inr (.inr (AR σ a)))))) H
  else if k = 5 then va_T .int a (ln σ a) (fun j => .int (AI σ a j)) (Aw w) U H
  else if k = 6 then va_O "java/lang/Integer" a (Aw w) U H ∧ va_OF "java/lang/Integer" "value" "I" (.int (FI σ 83 a)) a (Aw w) U H
  else if k = 7 then va_T (.object "java/lang/Object") a (ln σ a) (fun j => va_rf (AR σ a j)) (Aw w) U H
  else if k = 8 then va_T (.object "java/lang/Integer") a (ln σ a) (fun j => va_rf (AR σ a j)) (Aw w) U H
  else 10 ≤ k ∧ wb w ≤ a ∧ va_at (wD w) vwCl (a, .inr (k - 10, (lay (k - 10)).map (fv σ a))) H
def Rep (w : Wt) (σ : Sg) (U : State) (H : Heap) : Prop := nx σ = H.size ∧ wb w ≤ H.size ∧ ∀ a, cellK w (kd σ a) σ U H a
/-- a method: name, code, locals, answer, room -/
abbrev Mt : Type := MethodName × ByteArray × Nat × Option FieldType × Room
abbrev My (M : Mt) : MethodName := M.1
abbrev Mc (M : Mt) : ByteArray := M.2.1
abbrev Mn (M : Mt) : Nat := M.2.2.1
abbrev Mr (M : Mt) : Option FieldType := M.2.2.2.1
abbrev Mm (M : Mt) : Room := M.2.2.2.2
abbrev Mw (M : Mt) : List Cond := ws_ (My M) (Mc M) (Mn M) (Mr M)
def Cx (w : Wt) (M : Mt) (p : Program) (s : State) (m : MethodId) (args : Array Value) (meth : Method) (c : Code) : Prop :=
  p.tables.exec = Jvm.exec ∧ c.code = Mc M ∧ meth.sig.returnType = Mr M ∧ c.maxLocals = Mn M ∧ (∀ w ∈ lw_all, w.before args s = true) ∧ s.vm.findClass (My M).cls = some m.cls ∧ meth.locks = false ∧ meth.name = (My M).name ∧ Wld w s ∧ Stt w s s.heap
abbrev U_ : Value := .long 0
def lvl (L : List Value) : List (Nat × Value) := (L.zipIdx.map (fun p => (p.2, p.1))).filter (fun q => q.2.category == 1)
def Lv (ls : Array Slot) (nL : Nat) (L : List Value) : Prop := lv_has ls nL (lvl L)
/-- what is there stays there, of its kind and length; what is new lies behind -/
def Ext (σ σ' : Sg) : Prop := nx σ ≤ nx σ' ∧ (∀ a, ¬ kd σ a = 0 → kd σ' a = kd σ a ∧ ln σ' a = ln σ a) ∧ ∀ a, nx σ' ≤ a → kd σ' a = 0
theorem Ext.trans {a b c : Sg} (h : Ext a b) (g : Ext b c) : Ext a c :=
  ⟨Nat.le_trans h.1 g.1, fun x hx => by
    have h1 := h.2.1 x hx
    have h2 := g.2.1 x (by rw [h1.1]; exact hx)
    exact ⟨h2.1.trans h1.1, h2.2.trans h1.2⟩, g.2.2⟩
theorem Ext.put {σ σ' : Sg} (hw : ∀ a, nx σ ≤ a → kd σ a = 0) (g1 : kd σ' = kd σ) (g2 : ln σ' = ln σ) (g5 : nx σ' = nx σ) : Ext σ σ' :=
  ⟨by rw [g5]; exact Nat.le_refl _, fun a _ => by rw [g1, g2]; exact ⟨rfl, rfl⟩, fun a ha => by rw [g1]; rw [g5] at ha; exact hw a ha⟩
theorem Ext.rf {σ : Sg} (hw : ∀ a, nx σ ≤ a → kd σ a = 0) : Ext σ σ := Ext.put hw rfl rfl rfl
theorem Ext.nO {σ : Sg} {k : Nat} (hw : ∀ a, nx σ ≤ a → kd σ a = 0) : Ext σ (nO σ k) := by
  refine ⟨by rw [nx_nO]; omega, fun a ha => ?_, fun a ha => ?_⟩
  · have : ¬ a = nx σ := fun e => ha (hw a (by omega))
    rw [kd_nO, if_neg this]
    exact ⟨rfl, rfl⟩
  · rw [nx_nO] at ha
    rw [kd_nO, if_neg (by omega)]
    exact hw a (by omega)
theorem Ext.nA {σ : Sg} {k n : Nat} (hw : ∀ a, nx σ ≤ a → kd σ a = 0) : Ext σ (nA σ k n) := by
  refine ⟨by rw [nx_nA]; omega, fun a ha => ?_, fun a ha => ?_⟩
  · have : ¬ a = nx σ := fun e => ha (hw a (by omega))
    rw [kd_nA, if_neg this, ln_nA, if_neg this]
    exact ⟨rfl, rfl⟩
  · rw [nx_nA] at ha
    rw [kd_nA, if_neg (by omega)]
    exact hw a (by omega)
def Qk (w : Wt) (σ0 : Sg) (K : Sg → Option Value → Prop) : Array Value → State → Outcome → State → Prop := fun _ st o t => (∃ (σ : Sg) (v : Option Value), o = .returned v ∧ K σ v ∧ Ext σ0 σ ∧ Rep w σ t t.heap) ∧ va_F (Aw w) st t
def Pk (w : Wt) (σ : Sg) (As : List Value) : Array Value → State → Prop := va_Pc As (fun U => Wld w U ∧ Stt w U U.heap ∧ Rep w σ U U.heap)
/-- from this point of the method M, with rc cells and rs slots left to make, the method comes to its end with K -/
def G (w : Wt) (M : Mt) (K : Sg → Option Value → Prop) (rc rs : Nat) (σ : Sg) (pc : Nat) (L st : List Value) : Prop :=
  ∀ (σ0 : Sg), Ext σ0 σ → ∀ (p : Program) (l : Launch) (e : Env) (s : State) (m : MethodId) (args : Array Value) (below : List Frame) (meth : Method) (c : Code), Cx w M p s m args meth c →
  ∀ (H : Heap) (locs : List Loc) (cells slots : Nat) (ls : Array Slot), cells + rc ≤ (Mm M).cells → slots + rs ≤ (Mm M).slots → va_S (Aw w) s.heap H locs → Rep w σ s H → Lv ls (Mn M) L →
  W p l e (Mm M) s m args below meth c H locs cells slots (MQ below (Qk w σ0 K) args s (Mm M).cells (Mm M).slots (Aw w)) (F0 m pc ls st)
/-- the method M, called at σ with As, comes back with K -/
def Cal (w : Wt) (M : Mt) (σ : Sg) (As : List Value) (K : Sg → Option Value → Prop) : Prop := ∀ l, Met l (My M) (Mw M) (Mm M) (Pk w σ As) (Qk w σ K) (Mm M).cells (Mm M).slots (Aw w)
def KI (K : Sg → Int32 → Prop) : Sg → Option Value → Prop := fun σ v => ∃ x, v = some (.int x) ∧ K σ x
def KR (K : Sg → Option Nat → Prop) : Sg → Option Value → Prop := fun σ v => ∃ x, v = some (va_rf x) ∧ K σ x
def KV (K : Sg → Prop) : Sg → Option Value → Prop := fun σ v => v = none ∧ K σ
def CalI (w : Wt) (M : Mt) (σ : Sg) (As : List Value) (K : Sg → Int32 → Prop) : Prop := Cal w M σ As (KI K)
def CalR (w : Wt) (M : Mt) (σ : Sg) (As : List Value) (K : Sg → Option Nat → Prop) : Prop := Cal w M σ As (KR K)
def CalV (w : Wt) (M : Mt) (σ : Sg) (As : List Value) (K : Sg → Prop) : Prop := Cal w M σ As (KV K)
theorem Cal.mono {w : Wt} {M : Mt} {σ : Sg} {As : List Value} {K K' : Sg → Option Value → Prop} (h : Cal w M σ As K) (hK : ∀ σ v, K σ v → K' σ v) : Cal w M σ As K' := by
  intro l
  refine MetFree.mono (h l) (fun _ _ h => h) (fun _ _ _ _ _ h => h) (fun a s o t _ q => ?_)
  obtain ⟨⟨⟨σ', v, h1, h2, h3, h3'⟩, h4⟩, h5⟩ := q
  exact ⟨⟨⟨σ', v, h1, hK _ _ h2, h3, h3'⟩, h4⟩, h5⟩
theorem CalI.mono {w : Wt} {M : Mt} {σ : Sg} {As : List Value} {K K' : Sg → Int32 → Prop} (h : CalI w M σ As K) (hK : ∀ σ v, K σ v → K' σ v) : CalI w M σ As K' :=
  Cal.mono h (fun σ v ⟨x, e, q⟩ => ⟨x, e, hK _ _ q⟩)
theorem CalR.mono {w : Wt} {M : Mt} {σ : Sg} {As : List Value} {K K' : Sg → Option Nat → Prop} (h : CalR w M σ As K) (hK : ∀ σ v, K σ v → K' σ v) : CalR w M σ As K' :=
  Cal.mono h (fun σ v ⟨x, e, q⟩ => ⟨x, e, hK _ _ q⟩)
theorem CalV.mono {w : Wt} {M : Mt} {σ : Sg} {As : List Value} {K K' : Sg → Prop} (h : CalV w M σ As K) (hK : ∀ σ, K σ → K' σ) : CalV w M σ As K' :=
  Cal.mono h (fun σ v ⟨e, q⟩ => ⟨e, hK _ q⟩)
-- ===== locals =====
theorem mem_lvl {L : List Value} {i : Nat} {v : Value} : (i, v) ∈ lvl L ↔ L[i]? = some v ∧ v.category = 1 := by
  unfold lvl
  rw [List.mem_filter, List.mem_map]
  constructor
  · rintro ⟨⟨q, h1, h2⟩, h3⟩
    cases h2
    exact ⟨List.mem_zipIdx_iff_getElem?.mp h1, by simpa using h3⟩
  · rintro ⟨h1, h2⟩
    exact ⟨⟨(v, i), List.mem_zipIdx_iff_getElem?.mpr h1, rfl⟩, by simpa using h2⟩
theorem Lv.at {ls : Array Slot} {nL : Nat} {L : List Value} (h : Lv ls nL L) {i : Nat} {v : Value} (hi : L[i]? = some v) (hc : v.category = 1) : ls[i]? = some (.val v) := h.2.2 (i, v) (mem_lvl.mpr ⟨hi, hc⟩)
theorem Lv.put {ls : Array Slot} {nL : Nat} {L : List Value} {i : Nat} {v : Value} (h : lv_has ls nL ((i, v) :: (lvl L).filter (fun q => !(q.1 == i) && !(q.1 + 1 == i && q.2.category == 2)))) : Lv ls nL (L.set i v) := by
  refine ⟨h.1, h.2.1, fun q hq => ?_⟩
  obtain ⟨j, u⟩ := q
  obtain ⟨h1, h2⟩ := mem_lvl.mp hq
  apply h.2.2
  by_cases hj : i = j
  · subst hj
    rw [List.getElem?_set] at h1
    split at h1
    · split at h1
      · cases h1; exact List.mem_cons_self
      · cases h1
    · exact absurd rfl ‹_›
  · rw [List.getElem?_set_ne hj] at h1
    refine List.mem_cons_of_mem _ (List.mem_filter.mpr ⟨mem_lvl.mpr ⟨h1, h2⟩, ?_⟩)
    have hne : (j == i) = false := by simp; exact Ne.symm hj
    simp [hne, h2]
theorem Lv.entry {As : List Value} {n : Nat} (hc : ∀ v ∈ As, v.category = 1) (h : (lg_sl As).length ≤ n) : Lv ((lg_sl As ++ List.replicate (n - (lg_sl As).length) Slot.unset).toArray) n As := by
  have h0 := lv_entry As h
  have key : ∀ (vs : List Value) (k i : Nat) (v : Value), (∀ v ∈ vs, v.category = 1) → vs[i]? = some v → (k + i, v) ∈ lv_args k vs := by
    intro vs
    induction vs with
    | nil => intro k i v _ h; simp at h
    | cons a l ih =>
      intro k i v hc h
      have ha := hc a List.mem_cons_self
      unfold lv_args
      cases i with
      | zero => simp at h; subst h; exact List.mem_cons_self
      | succ i =>
        rw [List.getElem?_cons_succ] at h
        have := ih (k + 1) i v (fun v hv => hc v (List.mem_cons_of_mem _ hv)) h
        rw [if_neg (by omega)]
        refine List.mem_cons_of_mem _ ?_
        rw [show k + (i + 1) = k + 1 + i by omega]
        exact this
  refine ⟨h0.1, h0.2.1, fun q hq => ?_⟩
  obtain ⟨i, v⟩ := q
  obtain ⟨h1, h2⟩ := mem_lvl.mp hq
  have := key As 0 i v hc h1
  rw [Nat.zero_add] at this
  exact h0.2.2 _ this
theorem Lv.more {ls : Array Slot} {nL : Nat} {L L' : List Value} (h : Lv ls nL L) (k : Nat) (e : L ++ List.replicate k U_ = L') : Lv ls nL L' := by
  refine ⟨h.1, h.2.1, fun q hq => ?_⟩
  obtain ⟨i, v⟩ := q
  obtain ⟨h1, h2⟩ := mem_lvl.mp hq
  subst e
  by_cases hi : i < L.length
  · rw [List.getElem?_append_left hi] at h1
    exact h.2.2 (i, v) (mem_lvl.mpr ⟨h1, h2⟩)
  · rw [List.getElem?_append_right (by omega), List.getElem?_replicate] at h1
    split at h1
    · cases h1; cases h2
    · cases h1
theorem rf_cat (t : Option Nat) : (va_rf t).category = 1 := by cases t <;> rfl
theorem rf_cases (t : Option Nat) : va_rf t = .null ∨ ∃ a, va_rf t = .ref a := by
  cases t with
  | none => exact Or.inl rfl
  | some a => exact Or.inr ⟨a, rfl⟩
