/-! THE JX LAYER. A heap as a partial map; method bodies as functions over it; the machine follows them. -/
abbrev jx_Hp : Type := Nat → Option va_E
/-- the heap's size, the slots used, the cells that are known -/
abbrev jx_S : Type := Nat × Nat × jx_Hp
/-- the classes' numbers and slots; the array classes; the first address of the law's own; the heap at the law's entry -/
abbrev jx_V : Type := va_G × (Nat → ClassId) × Nat × Heap
def jx_tr (cA : Nat → ClassId) (o : va_E) : va_E := match o with
  | .inl x => .inl (cA x.1, x.2)
  | .inr x => .inr x
def jx_up (hp : jx_Hp) (a : Nat) (o : va_E) : jx_Hp := fun q => if q = a then some o else hp q
def jx_le (h h1 : jx_S) : Prop := h.1 ≤ h1.1 ∧ h.2.1 ≤ h1.2.1
theorem jx_le.rf (h : jx_S) : jx_le h h := ⟨Nat.le_refl _, Nat.le_refl _⟩
theorem jx_le.tr {a b c : jx_S} (h : jx_le a b) (h1 : jx_le b c) : jx_le a c := ⟨Nat.le_trans h.1 h1.1, Nat.le_trans h.2 h1.2⟩
def jx_R (V : jx_V) (h : jx_S) (H : Heap) (locs : List Loc) : Prop :=
  H.size = h.1 ∧ V.2.2.1 ≤ h.1 ∧ (∀ q : Nat, q < V.2.2.1 → H[q]? = V.2.2.2[q]?) ∧ (∀ (q : Nat) (c : Cell), V.2.2.1 ≤ q → H[q]? = some c → c.vm.isStatics = false) ∧ (∀ (a : Nat) (o : va_E), h.2.2 a = some o → V.2.2.1 ≤ a ∧ va_at V.1 jx_cl (a, jx_tr V.2.1 o) H) ∧ ∀ q ∈ locs, V.2.2.1 ≤ q.base
def jx_tys (V : jx_V) : List (ClassId × FieldType) := [(V.2.1 0, .int), (V.2.1 1, .long), (V.2.1 2, .boolean), (V.2.1 3, .object "ExtentShelf$Disk"), (V.2.1 4, .object "ExtentShelf$Volume")]
def jx_K (V : jx_V) (s : State) : Prop := va_K V.1 jx_cl (jx_tys V) s
def jx_L (ls : Array Slot) (L : List Value) (n : Nat) : Prop := ls.size = n ∧ lv_wf ls ∧ ∀ (i : Nat) (v : Value), L[i]? = some v → v.category = 1 → ls[i]? = some (.val v)
def jx_wt (st : List Value) : Nat := (st.map fun v => v.category).sum
theorem jx_wt_app (a b : List Value) : jx_wt (a ++ b) = jx_wt a + jx_wt b := by simp [jx_wt]
/-- own class, method's name, bytes, locals, what it returns, frames and words that it needs -/
abbrev jx_Z : Type := String × String × ByteArray × Nat × Option FieldType × Nat × Nat
/-- the statics of Throwable, at every state whose old cells are those of the law's entry -/
def jx_xw : List Cond := [.isRef (.static "java/lang/Throwable" "UNASSIGNED_STACK" "[Ljava/lang/StackTraceElement;"), .isRef (.static "java/lang/Throwable" "SUPPRESSED_SENTINEL" "Ljava/util/List;"), .laysStatic "java/lang/Throwable" "UNASSIGNED_STACK" "[Ljava/lang/StackTraceElement;", .laysStatic "java/lang/Throwable" "SUPPRESSED_SENTINEL" "Ljava/util/List;"]
def jx_X (V : jx_V) (s : State) : Prop := ∀ (U : State) (a : Array Value), s.vm.Alike U.vm → (∀ q : Nat, q < V.2.2.1 → U.heap[q]? = V.2.2.2[q]?) → ∀ w ∈ jx_xw, w.before a U = true
theorem jx_X.moved {V : jx_V} {s U : State} (hvm : s.vm.Alike U.vm) (h : jx_X V s) : jx_X V U := fun U' a h1 h2 => h U' a (hvm.trans h1) h2
/-- the tables' words at a state -/
def jx_T (s : State) : Prop := (∀ w ∈ jx_tbl, ∀ a : Array Value, w.before a s = true) ∧ (∀ a i b n d h, Cond.fieldLinkNest a i b n d h ∈ lw_tbl → va_Nw (.fieldLinkNest a i b n d h) s) ∧ (∀ a i x h, Cond.methodLinkNest a i x h ∈ lw_tbl → va_Nw (.methodLinkNest a i x h) s) ∧ (∀ x, Cond.declares x ∈ lw_tbl → va_Nw (.declares x) s) ∧ (∀ C T, Cond.castable C T ∈ lw_tbl → va_Nw (.castable C T) s) ∧ (∀ C, Cond.arrayOver (.object C) ∈ lw_tbl → va_AO C s) ∧ ∀ (own : String) (k : Nat) (tx : String), Cond.stringRef own k tx ∈ lw_tbl → ∃ q : Nat, vk_R own k tx q s
theorem jx_T.warm {s U : State} (hW : s.WarmedH U.vm) (h : jx_T s) : jx_T U := by
  obtain ⟨h1, h2, h3, h4, h5, h6, h7⟩ := h
  refine ⟨fun w hw a => word_at hW (jx_good hw) (h1 w hw a), fun a i b n d z hw => va_Nw.warmF hW (h2 _ _ _ _ _ _ hw), fun a i x z hw => va_Nw.warmM hW (h3 _ _ _ _ hw), fun x hw => va_Nw.warmD hW (h4 _ hw), fun C T hw => va_Nw.warmC hW (h5 _ _ hw), fun C hw => va_AO.moved hW.alike (h6 _ hw), fun own k tx hq => ?_⟩
  obtain ⟨q, hq⟩ := h7 own k tx hq
  exact ⟨q, hq.warm hW⟩
section JX1
variable (p : Program) (l : Launch) (e : Env) (R : Room) (s : State) (m : MethodId) (args : Array Value) (below : List Frame) (meth : Method) (c : Code) (V : jx_V)
/-- what every method's walk leans on, but its handlers -/
def jx_C (Z : jx_Z) : Prop :=
  p.tables.exec = Jvm.exec ∧ c.code = Z.2.2.1 ∧ c.maxLocals = Z.2.2.2.1 ∧ s.vm.findClass Z.1 = some m.cls ∧ jx_T s ∧ jx_K V s ∧ meth.locks = false ∧ meth.sig.returnType = Z.2.2.2.2.1 ∧ meth.name = Z.2.1 ∧ jx_X V s ∧ e.platform.stackTraces = false ∧ Z.2.2.2.2.2.1 ≤ R.frames ∧ Z.2.2.2.2.2.2 ≤ R.locals ∧ (∀ q : Nat, q < V.2.2.1 → s.heap[q]? = V.2.2.2[q]?) ∧ c.exceptionTable.toList = []
def jx_Q (u : Nat) (o : Outcome) (h' : jx_S) : State → Prop := fun t =>
  t.status = .running ∧ Ended t below o ∧ s.WarmedH t.vm ∧ ∃ L, jx_R V h' t.heap L ∧ s.sameButNew ({ t with vm := s.vm } : State) L (h'.1 - s.heap.size) (h'.2.1 - u)
/-- room in the heap for what is made -/
def jx_fit (u : Nat) (h' : jx_S) : Prop := h'.1 - s.heap.size ≤ R.cells ∧ h'.2.1 - u ≤ R.slots
def jx_G (u : Nat) (o : Outcome) (h' : jx_S) (pc : Nat) (L st : List Value) (h : jx_S) : Prop :=
  ∀ (H : Heap) (ls : Array Slot) (locs : List Loc), jx_R V h H locs → jx_L ls L c.maxLocals → W p l e R s m args below meth c H locs (h.1 - s.heap.size) (h.2.1 - u) (jx_Q s below V u o h') (F0 m pc ls st)
end JX1
abbrev jx_M (α : Type) : Type := Option ((α × jx_S) ⊕ (Nat × jx_S))
abbrev jx_Ex : Type := List Value → jx_S → jx_M Value
abbrev jx_Cx : Type := List Value → jx_S → jx_M Bool
abbrev jx_Bk : Type := List Value → jx_S → Option (Outcome × jx_S)
abbrev jx_Mt : Type := List Value → jx_S → Option (Outcome × jx_S)
abbrev jx_St : Type := jx_Bk → jx_Bk
def jx_ok {α : Type} (a : α) (h : jx_S) : jx_M α := some (.inl (a, h))
def jx_b {α β : Type} (x : jx_M α) (f : α → jx_S → jx_M β) : jx_M β := match x with
  | some (.inl (a, h)) => f a h
  | some (.inr y) => some (.inr y)
  | none => none
def jx_kb {α : Type} (x : jx_M α) (f : α → jx_S → Option (Outcome × jx_S)) : Option (Outcome × jx_S) := match x with
  | some (.inl (a, h)) => f a h
  | some (.inr (y, h)) => some (.threw y, h)
  | none => none
theorem jx_b_ok {α β : Type} (a : α) (h : jx_S) (f : α → jx_S → jx_M β) : jx_b (jx_ok a h) f = f a h := rfl
theorem jx_b_inl {α β : Type} (a : α) (h : jx_S) (f : α → jx_S → jx_M β) : jx_b (some (.inl (a, h))) f = f a h := rfl
theorem jx_kb_ok {α : Type} (a : α) (h : jx_S) (f : α → jx_S → Option (Outcome × jx_S)) : jx_kb (jx_ok a h) f = f a h := rfl
theorem jx_kb_inl {α : Type} (a : α) (h : jx_S) (f : α → jx_S → Option (Outcome × jx_S)) : jx_kb (some (.inl (a, h))) f = f a h := rfl
theorem jx_kb_inr {α : Type} (a : Nat) (h : jx_S) (f : α → jx_S → Option (Outcome × jx_S)) : jx_kb (some (.inr (a, h)) : jx_M α) f = some (.threw a, h) := rfl
theorem jx_b_inr {α β : Type} (y : Nat × jx_S) (f : α → jx_S → jx_M β) : jx_b (some (.inr y) : jx_M α) f = some (.inr y) := rfl
/-- the heap behind a piece -/
def jx_at {α : Type} (r : (α × jx_S) ⊕ (Nat × jx_S)) : jx_S := match r with
  | .inl x => x.2
  | .inr x => x.2
/-- THE MACHINE FOLLOWS A PIECE: from pc with 'pre' on the stack, to one of the places that T names for what the piece gives, with what T says on the stack; or out by a throw -/
def jx_Sim (Z : jx_Z) (k pc : Nat) (pre : List Value) {α : Type} (x : List Value → jx_S → jx_M α) (T : α → List (Nat × List Value)) : Prop :=
  ∀ (L : List Value) (h : jx_S) (r : (α × jx_S) ⊕ (Nat × jx_S)), x L h = some r → jx_le h (jx_at r) ∧
    ∀ p l e R s m args below meth c V u o h', jx_C p e R s m meth c V Z → jx_fit R s u h' → s.heap.size ≤ h.1 → u ≤ h.2.1 → jx_le (jx_at r) h' → ∀ st : List Value, jx_wt st ≤ k →
      (∀ a h1, r = .inl (a, h1) → ∀ t ∈ T a, jx_G p l e R s m args below meth c V u o h' t.1 L (t.2 ++ st) h1) → (∀ y h1, r = .inr (y, h1) → o = .threw y ∧ h' = h1) → jx_G p l e R s m args below meth c V u o h' pc L (pre ++ st) h
/-- THE MACHINE FOLLOWS A BLOCK to the method's end -/
def jx_B (Z : jx_Z) (pc : Nat) (pre : List Value) (k : jx_Bk) : Prop :=
  ∀ (L : List Value) (h : jx_S) (o : Outcome) (h' : jx_S), k L h = some (o, h') → jx_le h h' ∧
    ∀ p l e R s m args below meth c V u, jx_C p e R s m meth c V Z → jx_fit R s u h' → s.heap.size ≤ h.1 → u ≤ h.2.1 → jx_G p l e R s m args below meth c V u o h' pc L pre h
theorem jx_Sim.bind {Z : jx_Z} {k pc : Nat} {pre : List Value} {α β : Type} {x : List Value → jx_S → jx_M α} {T1 : α → List (Nat × List Value)} {f : α → List Value → jx_S → jx_M β} {T2 : β → List (Nat × List Value)} (hx : jx_Sim Z k pc pre x T1) (hf : ∀ a, ∃ t ∈ T1 a, jx_Sim Z k t.1 t.2 (f a) T2) (ha : ∀ a, ∀ t ∈ T1 a, jx_Sim Z k t.1 t.2 (f a) T2) :
    jx_Sim Z k pc pre (fun L h => jx_b (x L h) fun a h1 => f a L h1) T2 := by
  intro L h r hr
  dsimp only at hr
  cases hxe : x L h with
  | none => rw [hxe] at hr; cases hr
  | some q =>
    rw [hxe] at hr
    obtain ⟨hle, hsim⟩ := hx L h q hxe
    cases q with
    | inr y =>
      cases hr
      refine ⟨hle, fun p l e R s m args below meth c V u o h' hC hfit hs hu hle' st hst hT hthr => ?_⟩
      exact hsim p l e R s m args below meth c V u o h' hC hfit hs hu hle' st hst (fun a h1 q => by cases q) (fun y' h1 q => by cases q; exact hthr _ _ rfl)
    | inl ah =>
      obtain ⟨a, h1⟩ := ah
      have hr' : f a L h1 = some r := hr
      obtain ⟨t0, ht0, hs0⟩ := hf a
      have hle1 : jx_le h1 (jx_at r) := (hs0 L h1 r hr').1
      have hle : jx_le h h1 := hle
      refine ⟨hle.tr hle1, fun p l e R s m args below meth c V u o h' hC hfit hs hu hle' st hst hT hthr => ?_⟩
      refine hsim p l e R s m args below meth c V u o h' hC hfit hs hu (hle1.tr hle') st hst (fun a' h1' q t ht => ?_) (fun y' h1 q => by cases q)
      cases q
      exact (ha a t ht L h1 r hr').2 p l e R s m args below meth c V u o h' hC hfit (Nat.le_trans hs hle.1) (Nat.le_trans hu hle.2) hle' st hst hT hthr
theorem jx_B.bind {Z : jx_Z} {k pc : Nat} {pre : List Value} {α : Type} {x : List Value → jx_S → jx_M α} {T1 : α → List (Nat × List Value)} {f : α → jx_Bk} (hx : jx_Sim Z k pc pre x T1) (hf : ∀ a, ∃ t ∈ T1 a, jx_B Z t.1 t.2 (f a)) (ha : ∀ a, ∀ t ∈ T1 a, jx_B Z t.1 t.2 (f a)) :
    jx_B Z pc pre (fun L h => jx_kb (x L h) fun a h1 => f a L h1) := by
  intro L h o h' hr
  dsimp only at hr
  cases hxe : x L h with
  | none => rw [hxe] at hr; cases hr
  | some q =>
    rw [hxe] at hr
    obtain ⟨hle, hsim⟩ := hx L h q hxe
    cases q with
    | inr y =>
      obtain ⟨y, hy⟩ := y
      cases hr
      refine ⟨hle, fun p l e R s m args below meth c V u hC hfit hs hu => ?_⟩
      have := hsim p l e R s m args below meth c V u _ _ hC hfit hs hu (jx_le.rf _) [] (by simp [jx_wt]) (fun a h1 q => by cases q) (fun y' h1 q => by cases q; exact ⟨rfl, rfl⟩)
      rwa [List.append_nil] at this
    | inl ah =>
      obtain ⟨a, h1⟩ := ah
      have hr' : f a L h1 = some (o, h') := hr
      obtain ⟨t0, ht0, hs0⟩ := hf a
      have hle1 : jx_le h1 h' := (hs0 L h1 o h' hr').1
      have hle : jx_le h h1 := hle
      refine ⟨hle.tr hle1, fun p l e R s m args below meth c V u hC hfit hs hu => ?_⟩
      have := hsim p l e R s m args below meth c V u o h' hC hfit hs hu hle1 [] (by simp [jx_wt]) (fun a' h1' q t ht => by
        cases q
        rw [List.append_nil]
        exact (ha a t ht L h1 o h' hr').2 p l e R s m args below meth c V u hC hfit (Nat.le_trans hs hle.1) (Nat.le_trans hu hle.2)) (fun y' h1 q => by cases q)
      rwa [List.append_nil] at this
/-- the usual case: one place -/
theorem jx_Sim.b1 {Z : jx_Z} {k pc q : Nat} {pre : List Value} {α β : Type} {x : List Value → jx_S → jx_M α} {pu : α → List Value} {f : α → List Value → jx_S → jx_M β} {T2 : β → List (Nat × List Value)} (hx : jx_Sim Z k pc pre x (fun a => [(q, pu a)])) (hf : ∀ a, jx_Sim Z k q (pu a) (f a) T2) :
    jx_Sim Z k pc pre (fun L h => jx_b (x L h) fun a h1 => f a L h1) T2 :=
  hx.bind (fun a => ⟨_, List.mem_singleton.mpr rfl, hf a⟩) (fun a t ht => by rw [List.mem_singleton.mp ht]; exact hf a)
theorem jx_B.b1 {Z : jx_Z} {k pc q : Nat} {pre : List Value} {α : Type} {x : List Value → jx_S → jx_M α} {pu : α → List Value} {f : α → jx_Bk} (hx : jx_Sim Z k pc pre x (fun a => [(q, pu a)])) (hf : ∀ a, jx_B Z q (pu a) (f a)) :
    jx_B Z pc pre (fun L h => jx_kb (x L h) fun a h1 => f a L h1) :=
  jx_B.bind hx (fun a => ⟨_, List.mem_singleton.mpr rfl, hf a⟩) (fun a t ht => by rw [List.mem_singleton.mp ht]; exact hf a)
/-- more on the stack below -/
theorem jx_Sim.under {Z : jx_Z} {k pc : Nat} {pre : List Value} {α : Type} {x : List Value → jx_S → jx_M α} {T : α → List (Nat × List Value)} (w : List Value) (hx : jx_Sim Z (k + jx_wt w) pc pre x T) : jx_Sim Z k pc (pre ++ w) x (fun a => (T a).map fun t => (t.1, t.2 ++ w)) := by
  intro L h r hr
  obtain ⟨hle, hsim⟩ := hx L h r hr
  refine ⟨hle, fun p l e R s m args below meth c V u o h' hC hfit hs hu hle' st hst hT hthr => ?_⟩
  rw [List.append_assoc]
  refine hsim p l e R s m args below meth c V u o h' hC hfit hs hu hle' (w ++ st) (by rw [jx_wt_app]; omega) (fun a h1 q t ht => ?_) hthr
  have := hT a h1 q (t.1, t.2 ++ w) (List.mem_map.mpr ⟨t, ht, rfl⟩)
  rwa [List.append_assoc] at this
theorem jx_Sim.un1 {Z : jx_Z} {k pc q : Nat} {pre : List Value} {α : Type} {x : List Value → jx_S → jx_M α} {pu : α → List Value} (w : List Value) (hx : jx_Sim Z (k + jx_wt w) pc pre x (fun a => [(q, pu a)])) : jx_Sim Z k pc (pre ++ w) x (fun a => [(q, pu a ++ w)]) := hx.under w
theorem jx_Sim.mono {Z : jx_Z} {k k' pc : Nat} {pre : List Value} {α : Type} {x : List Value → jx_S → jx_M α} {T : α → List (Nat × List Value)} (hx : jx_Sim Z k pc pre x T) (hk : k' ≤ k) : jx_Sim Z k' pc pre x T := by
  intro L h r hr
  obtain ⟨hle, hsim⟩ := hx L h r hr
  exact ⟨hle, fun p l e R s m args below meth c V u o h' hC hfit hs hu hle' st hst hT hthr => hsim p l e R s m args below meth c V u o h' hC hfit hs hu hle' st (Nat.le_trans hst hk) hT hthr⟩
/-- a step that leaves locals and heap: from a law of W -/
theorem jx_Sim.step {Z : jx_Z} {k pc q : Nat} {pre : List Value} {α : Type} {x : List Value → jx_S → jx_M α} {pu : α → List Value}
    (h1 : ∀ L h r, x L h = some r → ∃ a, r = .inl (a, h) ∧ ∀ p l e R s m args below meth c V u o h', jx_C p e R s m meth c V Z → ∀ (H : Heap) (ls : Array Slot) (locs : List Loc) (st : List Value), jx_R V h H locs → jx_L ls L c.maxLocals → W p l e R s m args below meth c H locs (h.1 - s.heap.size) (h.2.1 - u) (jx_Q s below V u o h') (F0 m q ls (pu a ++ st)) → W p l e R s m args below meth c H locs (h.1 - s.heap.size) (h.2.1 - u) (jx_Q s below V u o h') (F0 m pc ls (pre ++ st))) :
    jx_Sim Z k pc pre x (fun a => [(q, pu a)]) := by
  intro L h r hr
  obtain ⟨a, rfl, hw⟩ := h1 L h r hr
  refine ⟨jx_le.rf _, fun p l e R s m args below meth c V u o h' hC hfit hs hu hle' st hst hT hthr H ls locs hR hL => ?_⟩
  exact hw p l e R s m args below meth c V u o h' hC H ls locs st hR hL (hT a h rfl (q, pu a) (List.mem_singleton.mpr rfl) H ls locs hR hL)
