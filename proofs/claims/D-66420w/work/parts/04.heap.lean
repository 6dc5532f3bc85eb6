/-! ROWS OF THE HEAP: fields, arrays, new -/
theorem jx_C.x {p : Program} {e : Env} {R : Room} {s : State} {m : MethodId} {meth : Method} {c : Code} {V : jx_V} {Z : jx_Z} (h : jx_C p e R s m meth c V Z) : p.tables.exec = Jvm.exec := h.1
theorem jx_C.b {p : Program} {e : Env} {R : Room} {s : State} {m : MethodId} {meth : Method} {c : Code} {V : jx_V} {Z : jx_Z} (h : jx_C p e R s m meth c V Z) : c.code = Z.2.2.1 := h.2.1
theorem jx_C.ml {p : Program} {e : Env} {R : Room} {s : State} {m : MethodId} {meth : Method} {c : Code} {V : jx_V} {Z : jx_Z} (h : jx_C p e R s m meth c V Z) : c.maxLocals = Z.2.2.2.1 := h.2.2.1
theorem jx_C.own {p : Program} {e : Env} {R : Room} {s : State} {m : MethodId} {meth : Method} {c : Code} {V : jx_V} {Z : jx_Z} (h : jx_C p e R s m meth c V Z) : s.vm.findClass Z.1 = some m.cls := h.2.2.2.1
theorem jx_C.t {p : Program} {e : Env} {R : Room} {s : State} {m : MethodId} {meth : Method} {c : Code} {V : jx_V} {Z : jx_Z} (h : jx_C p e R s m meth c V Z) : jx_T s := h.2.2.2.2.1
theorem jx_C.k {p : Program} {e : Env} {R : Room} {s : State} {m : MethodId} {meth : Method} {c : Code} {V : jx_V} {Z : jx_Z} (h : jx_C p e R s m meth c V Z) : jx_K V s := h.2.2.2.2.2.1
theorem jx_C.locks {p : Program} {e : Env} {R : Room} {s : State} {m : MethodId} {meth : Method} {c : Code} {V : jx_V} {Z : jx_Z} (h : jx_C p e R s m meth c V Z) : meth.locks = false := h.2.2.2.2.2.2.1
theorem jx_C.ret {p : Program} {e : Env} {R : Room} {s : State} {m : MethodId} {meth : Method} {c : Code} {V : jx_V} {Z : jx_Z} (h : jx_C p e R s m meth c V Z) : meth.sig.returnType = Z.2.2.2.2.1 := h.2.2.2.2.2.2.2.1
theorem jx_C.nm {p : Program} {e : Env} {R : Room} {s : State} {m : MethodId} {meth : Method} {c : Code} {V : jx_V} {Z : jx_Z} (h : jx_C p e R s m meth c V Z) : meth.name = Z.2.1 := h.2.2.2.2.2.2.2.2.1
theorem jx_C.xx {p : Program} {e : Env} {R : Room} {s : State} {m : MethodId} {meth : Method} {c : Code} {V : jx_V} {Z : jx_Z} (h : jx_C p e R s m meth c V Z) : jx_X V s := h.2.2.2.2.2.2.2.2.2.1
theorem jx_C.tr {p : Program} {e : Env} {R : Room} {s : State} {m : MethodId} {meth : Method} {c : Code} {V : jx_V} {Z : jx_Z} (h : jx_C p e R s m meth c V Z) : e.platform.stackTraces = false := h.2.2.2.2.2.2.2.2.2.2.1
theorem jx_C.fr {p : Program} {e : Env} {R : Room} {s : State} {m : MethodId} {meth : Method} {c : Code} {V : jx_V} {Z : jx_Z} (h : jx_C p e R s m meth c V Z) : Z.2.2.2.2.2.1 ≤ R.frames := h.2.2.2.2.2.2.2.2.2.2.2.1
theorem jx_C.lo {p : Program} {e : Env} {R : Room} {s : State} {m : MethodId} {meth : Method} {c : Code} {V : jx_V} {Z : jx_Z} (h : jx_C p e R s m meth c V Z) : Z.2.2.2.2.2.2 ≤ R.locals := h.2.2.2.2.2.2.2.2.2.2.2.2.1
theorem jx_C.old {p : Program} {e : Env} {R : Room} {s : State} {m : MethodId} {meth : Method} {c : Code} {V : jx_V} {Z : jx_Z} (h : jx_C p e R s m meth c V Z) : ∀ q : Nat, q < V.2.2.1 → s.heap[q]? = V.2.2.2[q]? := h.2.2.2.2.2.2.2.2.2.2.2.2.2.1
theorem jx_C.nh {p : Program} {e : Env} {R : Room} {s : State} {m : MethodId} {meth : Method} {c : Code} {V : jx_V} {Z : jx_Z} (h : jx_C p e R s m meth c V Z) : c.exceptionTable.toList = [] := h.2.2.2.2.2.2.2.2.2.2.2.2.2.2
theorem jx_at_ns {D : va_G} {cl : List vw_C} {a : Nat} {e : va_E} {H : Heap} (h : va_at D cl (a, e) H) {c : Cell} (hc : H[a]? = some c) : c.vm.isStatics = false := by
  cases e with
  | inl x =>
    have h1 : H[a]? = some (vp_cell x.1 x.2) := h
    have e1 : c = vp_cell x.1 x.2 := Option.some.inj (hc.symm.trans h1)
    subst e1
    obtain ⟨x1, n, x2⟩ := x
    rcases x2 with f | f | f | f | f <;> rfl
  | inr o =>
    obtain ⟨r, h1, cell, q1, q2, q3, q4⟩ := h
    have e1 : c = cell := Option.some.inj (hc.symm.trans q1)
    subst e1
    rw [q3]
    rfl
theorem jx_R.one {V : jx_V} {h : jx_S} {H : Heap} {locs : List Loc} (hR : jx_R V h H locs) {a : Nat} {o : va_E} (ha : h.2.2 a = some o) : va_P V.1 jx_cl [(a, jx_tr V.2.1 o)] H := by
  intro k q hk
  have hz : k < 1 := (List.getElem?_eq_some_iff.mp hk).1
  have h0 : k = 0 := by omega
  subst h0
  cases hk
  exact (hR.2.2.2.2.1 a o ha).2
theorem jx_R.put {V : jx_V} {h : jx_S} {H : Heap} {locs : List Loc} (hR : jx_R V h H locs) {a : Nat} {o0 : va_E} (ha : h.2.2 a = some o0) {o : va_E} {H1 : Heap} (hat : va_at V.1 jx_cl (a, jx_tr V.2.1 o) H1) (z : H1.size = H.size) (oq : ∀ q : Nat, q ≠ a → H1[q]? = H[q]?) (L : List Loc) (hL : ∀ q ∈ L, q.base = a) : jx_R V (h.1, h.2.1, jx_up h.2.2 a o) H1 (locs ++ L) := by
  obtain ⟨r1, r2, r3, r4, r5, r6⟩ := hR
  obtain ⟨ba, -⟩ := r5 a o0 ha
  refine ⟨z.trans r1, r2, fun q hq => ?_, fun q c hq hc => ?_, fun a' o' h' => ?_, fun q hq => ?_⟩
  · rw [oq q (by omega)]
    exact r3 q hq
  · by_cases e : q = a
    · subst e
      exact jx_at_ns hat hc
    · rw [oq q e] at hc
      exact r4 q c hq hc
  · by_cases e : a' = a
    · subst e
      have : o = o' := by simpa [jx_up] using h'
      subst this
      exact ⟨ba, hat⟩
    · have h2 : h.2.2 a' = some o' := by simpa [jx_up, e] using h'
      exact ⟨(r5 a' o' h2).1, (r5 a' o' h2).2.kept (oq a' e)⟩
  · rcases List.mem_append.mp hq with h1 | h1
    · exact r6 q h1
    · rw [hL q h1]
      exact ba
theorem jx_R.new {V : jx_V} {h : jx_S} {H : Heap} {locs : List Loc} (hR : jx_R V h H locs) {o : va_E} {H1 : Heap} (hat : va_at V.1 jx_cl (h.1, jx_tr V.2.1 o) H1) (z : H1.size = h.1 + 1) (oq : ∀ q : Nat, q < h.1 → H1[q]? = H[q]?) (n : Nat) : jx_R V (h.1 + 1, h.2.1 + n, jx_up h.2.2 h.1 o) H1 locs := by
  obtain ⟨r1, r2, r3, r4, r5, r6⟩ := hR
  refine ⟨z, by show _ ≤ h.1 + 1; omega, fun q hq => ?_, fun q c hq hc => ?_, fun a' o' h' => ?_, r6⟩
  · rw [oq q (by omega)]
    exact r3 q hq
  · by_cases e : q = h.1
    · subst e
      exact jx_at_ns hat hc
    · have hl : q < H1.size := (Array.getElem?_eq_some_iff.mp hc).1
      rw [oq q (by omega)] at hc
      exact r4 q c hq hc
  · by_cases e : a' = h.1
    · subst e
      have : o = o' := by simpa [jx_up] using h'
      subst this
      exact ⟨r2, hat⟩
    · have h2 : h.2.2 a' = some o' := by simpa [jx_up, e] using h'
      have hl := (r5 a' o' h2).2.lt
      exact ⟨(r5 a' o' h2).1, (r5 a' o' h2).2.kept (oq a' (by rw [← r1]; exact hl))⟩
/-- what the class tables give of each class -/
theorem jx_cls : ∀ (ci : Nat) (C : String) (T : u_T) (N : Nat), jx_cl[ci]? = some (C, T, N) → (∀ w ∈ u_ws C T N, w ∈ jx_tbl) ∧ (∃ ty0 : Nat → FieldType, ∀ k, k < N → parseFieldDescriptor (T k).2.2.1 = some (ty0 k)) ∧ ∀ a, a < N → ∀ b, b < N → a ≠ b → (T a).2.1 ≠ (T b).2.1 := by
  intro ci C T N h
  match ci, h with
  | 0, h => cases h; exact ⟨by decide +kernel, ⟨t_Shelf, t_Shelf_ok⟩, n_Shelf⟩
  | 1, h => cases h; exact ⟨by decide +kernel, ⟨t_Disk, t_Disk_ok⟩, n_Disk⟩
  | 2, h => cases h; exact ⟨by decide +kernel, ⟨t_Pen, t_Pen_ok⟩, n_Pen⟩
  | 3, h => cases h; exact ⟨by decide +kernel, ⟨t_Table, t_Table_ok⟩, n_Table⟩
  | 4, h => cases h; exact ⟨by decide +kernel, ⟨t_Move, t_Move_ok⟩, n_Move⟩
  | 5, h => cases h; exact ⟨by decide +kernel, ⟨t_Linear, t_Linear_ok⟩, n_Linear⟩
  | 6, h => cases h; exact ⟨by decide +kernel, ⟨t_Striped, t_Striped_ok⟩, n_Striped⟩
  | 7, h => cases h; exact ⟨by decide +kernel, ⟨t_Twinned, t_Twinned_ok⟩, n_Twinned⟩
  | 8, h => cases h; exact ⟨by decide +kernel, ⟨t_Model, t_Model_ok⟩, n_Model⟩
  | 9, h => cases h; exact ⟨by decide +kernel, ⟨fun _ => .int, fun k hk => absurd hk (Nat.not_lt_zero k)⟩, fun a ha => absurd ha (Nat.not_lt_zero a)⟩
  | 10, h => cases h; exact ⟨by decide +kernel, ⟨fun _ => .int, fun k hk => absurd hk (Nat.not_lt_zero k)⟩, fun a ha => absurd ha (Nat.not_lt_zero a)⟩
  | 11, h => cases h; exact ⟨by decide +kernel, ⟨fun _ => .int, fun k hk => absurd hk (Nat.not_lt_zero k)⟩, fun a ha => absurd ha (Nat.not_lt_zero a)⟩
  | 12, h => cases h; exact ⟨by decide +kernel, ⟨fun _ => .int, fun k hk => absurd hk (Nat.not_lt_zero k)⟩, fun a ha => absurd ha (Nat.not_lt_zero a)⟩
  | 13, h => cases h; exact ⟨by decide +kernel, ⟨fun _ => .int, fun k hk => absurd hk (Nat.not_lt_zero k)⟩, fun a ha => absurd ha (Nat.not_lt_zero a)⟩
  | n + 14, h => simp at h
/-- a field that an instruction names: its place i in the classes cs, whether it is final, its type -/
def jx_fi (own : String) (idx : Nat) (cs : List Nat) (i : Nat) (fin : Bool) (ty : FieldType) : Prop :=
  ∃ ref nm ds : String, (Cond.fieldLink own idx ref nm ds ∈ jx_tbl ∨ ∃ host, Cond.fieldLinkNest own idx ref nm ds host ∈ lw_tbl) ∧ parseFieldDescriptor ds = some ty ∧ ∀ ci ∈ cs, ∃ C T N, jx_cl[ci]? = some (C, T, N) ∧ i < N ∧ (T i).2.1 = nm ∧ (T i).2.2.1 = ds ∧ (T i).2.2.2 = fin ∧ (ref = (T i).1 ∨ Cond.sameField ref (T i).1 nm ds ∈ jx_tbl)
def jx_gf (cs : List Nat) (i : Nat) (v : Value) : jx_Ex := fun _ h => match v with
  | .ref a => (match h.2.2 a with
    | some (.inr (ci, fs)) => if ci ∈ cs then (match fs[i]? with
      | some w => jx_ok w h
      | none => none) else none
    | _ => none)
  | _ => none
def eGf (cs : List Nat) (i : Nat) (o : jx_Ex) : jx_Ex := fun L h => jx_b (o L h) fun v h1 => jx_gf cs i v L h1
theorem jx_hsame {s : State} (ht : jx_T s) {ref own nm ds : String} (h : ref = own ∨ Cond.sameField ref own nm ds ∈ jx_tbl) : ∀ x, s.fieldFound? own nm ds = some x → s.fieldFound? ref nm ds = some x := by
  rcases h with h | h
  · subst h
    exact fun x q => q
  · exact fun x q => u_same (args := #[]) (ht.1 _ h #[]) x q
theorem jx_gf_spec {cs : List Nat} {i : Nat} {v : Value} {L : List Value} {h : jx_S} {r : (Value × jx_S) ⊕ (Nat × jx_S)} (hr : jx_gf cs i v L h = some r) : ∃ (a ci : Nat) (fs : List Value) (w : Value), v = .ref a ∧ h.2.2 a = some (.inr (ci, fs)) ∧ ci ∈ cs ∧ fs[i]? = some w ∧ r = .inl (w, h) := by
  unfold jx_gf at hr
  split at hr
  · rename_i a
    split at hr
    · rename_i ci fs hq
      split at hr
      · rename_i hc
        split at hr
        · rename_i w hw
          cases hr
          exact ⟨a, ci, fs, w, rfl, hq, hc, hw, rfl⟩
        · cases hr
      · cases hr
    · cases hr
  · cases hr
theorem s_gf {Z : jx_Z} {pc idx i : Nat} {cs : List Nat} {fin : Bool} {ty : FieldType} (hf : jx_fi Z.1 idx cs i fin ty) (d : decode Z.2.2.1 pc = .ok (.getfield idx, 3)) (k : Nat) (v : Value) : jx_Sim Z k pc [v] (jx_gf cs i v) (fun w => [(pc + 3, [w])]) :=
  jx_Sim.step fun L h r hr => by
    obtain ⟨a, ci, fs, w, rfl, hq, hc, hw, rfl⟩ := jx_gf_spec hr
    refine ⟨_, rfl, fun p l e R s m args below meth c V u o h' hC H ls locs st hR hL kk => ?_⟩
    obtain ⟨ref, nm, ds, hlk, hty, hcs⟩ := hf
    obtain ⟨C, T, N, h1, h2, h3, h4, h5, h6⟩ := hcs ci hc
    have ht := hC.t
    have hsame := jx_hsame ht h6
    subst h3
    subst h4
    rcases hlk with hlk | ⟨host, hlk⟩
    · exact va_get (C := C) (T := T) (N := N) (Ts := jx_tbl) hC.x hC.b (fun w hw => ht.1 w hw _) (jx_cls ci C T N h1).1 hC.own hC.k (hR.one hq) 0 rfl h1 i h2 (ht.1 _ hlk _) hsame hw d kk
    · exact va_getN (C := C) (T := T) (N := N) (Ts := jx_tbl) hC.x hC.b (fun w hw => ht.1 w hw _) (jx_cls ci C T N h1).1 hC.own hC.k (hR.one hq) 0 rfl h1 i h2 (va_Nw.use rfl (ht.2.1 _ _ _ _ _ _ hlk)) hsame hw d kk
theorem s_getf {Z : jx_Z} {k pc idx i q : Nat} {cs : List Nat} {fin : Bool} {ty : FieldType} {x : jx_Ex} (hx : jx_E Z k pc x q) (hf : jx_fi Z.1 idx cs i fin ty) (d : decode Z.2.2.1 q = .ok (.getfield idx, 3)) : jx_E Z k pc (eGf cs i x) (q + 3) :=
  jx_Sim.b1 hx fun v => s_gf hf d k v
/-- a step that moves the heap -/
theorem jx_Sim.hstep {Z : jx_Z} {k pc q : Nat} {pre : List Value} {α : Type} {x : List Value → jx_S → jx_M α} {pu : α → List Value}
    (hh : ∀ L h r, x L h = some r → ∃ a h1, r = .inl (a, h1) ∧ jx_le h h1 ∧ ∀ p l e R s m args below meth c V u o h', jx_C p e R s m meth c V Z → jx_fit R s u h' → s.heap.size ≤ h.1 → u ≤ h.2.1 → jx_le h1 h' → ∀ (H : Heap) (ls : Array Slot) (locs : List Loc) (st : List Value), jx_wt st ≤ k → jx_R V h H locs → jx_L ls L c.maxLocals → (∀ (H1 : Heap) (locs1 : List Loc), jx_R V h1 H1 locs1 → W p l e R s m args below meth c H1 locs1 (h1.1 - s.heap.size) (h1.2.1 - u) (jx_Q s below V u o h') (F0 m q ls (pu a ++ st))) → W p l e R s m args below meth c H locs (h.1 - s.heap.size) (h.2.1 - u) (jx_Q s below V u o h') (F0 m pc ls (pre ++ st))) :
    jx_Sim Z k pc pre x (fun a => [(q, pu a)]) := by
  intro L h r hr
  obtain ⟨a, h1, rfl, hle, hw⟩ := hh L h r hr
  refine ⟨hle, fun p l e R s m args below meth c V u o h' hC hfit hs hu hle' st hst hT hthr H ls locs hR hL => ?_⟩
  exact hw p l e R s m args below meth c V u o h' hC hfit hs hu hle' H ls locs st hst hR hL (fun H1 locs1 hR1 => hT a h1 rfl (q, pu a) (List.mem_singleton.mpr rfl) H1 ls locs1 hR1 hL)
/-- what a field of a kind takes: 0 an int, 1 a boolean, 2 a reference -/
def jx_ft (b : Nat) (w : Value) : Bool := match b, w with
  | 0, .int _ => true
  | 1, .int x => decide (x = 0) || decide (x = 1)
  | 2, .ref _ => true
  | 2, .null => true
  | _, _ => false
def jx_kd : FieldType → Nat
  | .int => 0
  | .boolean => 1
  | .object _ => 2
  | .array _ => 2
  | _ => 3
theorem jx_ft_ok {ty : FieldType} {w : Value} (h : jx_ft (jx_kd ty) w = true) : narrow ty w = w ∧ fits ty w = true := by
  cases ty <;> cases w <;> first
    | (exact ⟨rfl, rfl⟩)
    | (exact Bool.noConfusion (show false = true from h))
    | (rename_i x
       simp only [jx_ft, jx_kd, Bool.or_eq_true, decide_eq_true_eq] at h
       rcases h with h | h <;> subst h <;> exact ⟨by decide, by decide⟩)
def jx_pf (cs : List Nat) (i b : Nat) (v w : Value) : List Value → jx_S → jx_M Unit := fun _ h => match v with
  | .ref a => (match h.2.2 a with
    | some (.inr (ci, fs)) => if ci ∈ cs ∧ i < fs.length ∧ jx_ft b w = true then jx_ok () (h.1, h.2.1, jx_up h.2.2 a (.inr (ci, fs.set i w))) else none
    | _ => none)
  | _ => none
theorem jx_pf_spec {cs : List Nat} {i b : Nat} {v w : Value} {L : List Value} {h : jx_S} {r : (Unit × jx_S) ⊕ (Nat × jx_S)} (hr : jx_pf cs i b v w L h = some r) : ∃ (a ci : Nat) (fs : List Value), v = .ref a ∧ h.2.2 a = some (.inr (ci, fs)) ∧ ci ∈ cs ∧ i < fs.length ∧ jx_ft b w = true ∧ r = .inl ((), (h.1, h.2.1, jx_up h.2.2 a (.inr (ci, fs.set i w)))) := by
  unfold jx_pf at hr
  split at hr
  · rename_i a
    split at hr
    · rename_i ci fs hq
      split at hr
      · rename_i hc
        cases hr
        exact ⟨a, ci, fs, rfl, hq, hc.1, hc.2.1, hc.2.2, rfl⟩
      · cases hr
    · cases hr
  · cases hr
/-- putfield of a field that is not final, or in the class's own constructor -/
theorem s_pf {Z : jx_Z} {pc idx i b : Nat} {cs : List Nat} {fin : Bool} {ty : FieldType} (hf : jx_fi Z.1 idx cs i fin ty) (hb : jx_kd ty = b) (hfin : fin = false ∨ (Z.2.1 = "<init>" ∧ ∀ ci ∈ cs, ∀ C T N, jx_cl[ci]? = some (C, T, N) → (T i).1 = Z.1)) (d : decode Z.2.2.1 pc = .ok (.putfield idx, 3)) (k : Nat) (v w : Value) : jx_Sim Z k pc [w, v] (jx_pf cs i b v w) (fun _ => [(pc + 3, [])]) :=
  jx_Sim.hstep fun L h r hr => by
    subst hb
    obtain ⟨a, ci, fs, rfl, hq, hc, hl, hft, rfl⟩ := jx_pf_spec hr
    refine ⟨(), _, rfl, jx_le.rf _, fun p l e R s m args below meth c V u o h' hC hfit hs hu hle H ls locs st hst hR hL kk => ?_⟩
    obtain ⟨ref, nm, ds, hlk, hty, hcs⟩ := hf
    obtain ⟨C, T, N, h1, h2, h3, h4, h5, h6⟩ := hcs ci hc
    have ht := hC.t
    have hsame := jx_hsame ht h6
    obtain ⟨hin, ⟨ty0, hty0⟩, hnm⟩ := jx_cls ci C T N h1
    obtain ⟨hn, hfi⟩ := jx_ft_ok hft
    subst h3
    subst h4
    have hts : ∀ w ∈ jx_tbl, w.before args s = true := fun w hw => ht.1 w hw _
    have hK := hC.k
    have hap := va_apart (own := Z.1) hts hin ty0 hty0 hnm hK h1
    obtain ⟨r, e1, cell, q1, q2, q3, q4⟩ := hR.one hq 0 _ rfl
    have hr : r = (C, T, N) := Option.some.inj (e1.symm.trans h1)
    subst hr
    obtain ⟨hS, hfc, kC, hkC, hkind⟩ := hK.1 ci _ h1
    obtain ⟨cf, kf, fi, f, hi, hsl⟩ := hS i h2
    have hst2 := (u_facts hfc hkC (u_lays hts hin h2) hi).1
    have fin' : ∀ H' : Heap, H'[a]? = some (cell.setSlot f.slot w) → H'.size = H.size → (∀ q, q ≠ a → H'[q]? = H[q]?) → jx_R V (h.1, h.2.1, jx_up h.2.2 a (.inr (ci, fs.set i w))) H' (locs ++ [⟨a, f.slot⟩]) := by
      intro H' g1 g2 g3
      rw [hsl] at g1
      exact hR.put (o := .inr (ci, fs.set i w)) (H1 := H') hq ⟨_, h1, t_OB.to (V := updV (vp_V fs) i w) ⟨_, g1, q2, q3, t_set q4 hap h2 w⟩ (fun j _ => vp_updV_set hl w j)⟩ g2 g3 _ (fun q hq => by rw [List.mem_singleton.mp hq])
    cases hfb : (T i).2.2.2 with
    | false =>
      have hlay := hts _ (hin _ (u_in_lay h2))
      unfold u_lay at hlay
      rw [if_neg (by rw [hfb]; decide)] at hlay
      have h6 := u_store hfc hkC hkind hlay hi hty hn hfi
      rcases hlk with hlk | ⟨host, hlk⟩
      · exact W.putK hC.x hC.b (f := f) ⟨hC.own, ht.1 _ hlk _, ⟨_, _, _, hsame _ hi⟩, hst2⟩ (by rw [q2]; exact h6) q1 q3 (by rw [hsl]; exact k2_hasslot (q4 i h2)) rfl rfl d fun H' g1 g2 g3 => kk H' _ (fin' H' g1 g2 g3)
      · exact va_WputK hC.x hC.b (f := f) hC.own (va_Nw.use rfl (ht.2.1 _ _ _ _ _ _ hlk)) (hsame _ hi) hst2 (by rw [q2]; exact h6) q1 q3 (by rw [hsl]; exact k2_hasslot (q4 i h2)) rfl rfl d fun H' g1 g2 g3 => kk H' _ (fin' H' g1 g2 g3)
    | true =>
      rcases hfin with hfin | ⟨hin2, hdecl⟩
      · rw [hfb] at h5
        subst h5
        cases hfin
      · have hlay := hts _ (hin _ (u_in_lay h2))
        unfold u_lay at hlay
        rw [if_pos hfb] at hlay
        have hcf : m.cls = cf := by
          obtain ⟨_, _, c', _, _, _, -, -, hf', -, -, -, hown2, -⟩ := Cond.laysFinal_spec hlay
          have e1 : c' = cf := by have := hi.symm.trans hf'; simp at this; exact this.1.symm
          rw [hdecl ci hc C T N h1] at hown2
          rw [← e1]; exact Option.some.inj (hC.own.symm.trans hown2)
        have h6 := u_fits hfc hkC hkind (Or.inr hlay) hi hty hn hfi
        rcases hlk with hlk | ⟨host, hlk⟩
        · exact W.putFinK hC.x hC.b hC.own (ht.1 _ hlk _) (hsame _ hi) hst2 hcf (hC.nm.trans hin2) (by rw [q2]; exact h6) q1 q3 (by rw [hsl]; exact k2_hasslot (q4 i h2)) rfl rfl d fun H' g1 g2 g3 => kk H' _ (fin' H' g1 g2 g3)
        · have ha : a < H.size := (Array.getElem?_eq_some_iff.mp q1).1
          refine va_Wputf hC.x hC.b hC.own (va_Nw.use rfl (ht.2.1 _ _ _ _ _ _ hlk)) (hsame _ hi) hst2 (Or.inr ⟨hcf, hC.nm.trans hin2⟩) q1 (by rw [q3]; exact fun h => by cases h) (by rw [hsl]; exact k2_hasslot (q4 i h2)) h6.1 (by rw [q3, q2]; exact h6.2) rfl rfl d ?_
          refine kk _ _ (fin' _ ?_ ?_ ?_)
          · simp [Array.getElem?_setIfInBounds, ha]
          · simp
          · intro q hq
            simp [Array.getElem?_setIfInBounds, Ne.symm hq]
