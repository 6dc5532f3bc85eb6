/-! THE LAW's CLASS: methods with handlers -/
section JX25
variable (p : Program) (l : Launch) (e : Env) (R : Room) (s : State) (m : MethodId) (args : Array Value) (below : List Frame) (meth : Method) (c : Code) (V : jx_V)
/-- what a method's walk leans on, whatever its handlers -/
def jx_C0 (Z : jx_Z) : Prop :=
  p.tables.exec = Jvm.exec ∧ c.code = Z.2.2.1 ∧ c.maxLocals = Z.2.2.2.1 ∧ s.vm.findClass Z.1 = some m.cls ∧ jx_T s ∧ jx_K V s ∧ meth.locks = false ∧ meth.sig.returnType = Z.2.2.2.2.1 ∧ meth.name = Z.2.1 ∧ jx_X V s ∧ e.platform.stackTraces = false ∧ Z.2.2.2.2.2.1 ≤ R.frames ∧ Z.2.2.2.2.2.2 ≤ R.locals ∧ (∀ q : Nat, q < V.2.2.1 → s.heap[q]? = V.2.2.2[q]?)
end JX25
section JX25a
variable {p : Program} {l : Launch} {e : Env} {R : Room} {s : State} {m : MethodId} {args : Array Value} {below : List Frame} {meth : Method} {c : Code} {V : jx_V} {Z : jx_Z}
theorem jx_C.c0 (h : jx_C p e R s m meth c V Z) : jx_C0 p e R s m meth c V Z := ⟨h.1, h.2.1, h.2.2.1, h.2.2.2.1, h.2.2.2.2.1, h.2.2.2.2.2.1, h.2.2.2.2.2.2.1, h.2.2.2.2.2.2.2.1, h.2.2.2.2.2.2.2.2.1, h.2.2.2.2.2.2.2.2.2.1, h.2.2.2.2.2.2.2.2.2.2.1, h.2.2.2.2.2.2.2.2.2.2.2.1, h.2.2.2.2.2.2.2.2.2.2.2.2.1, h.2.2.2.2.2.2.2.2.2.2.2.2.2.1⟩
theorem jx_C0.x (h : jx_C0 p e R s m meth c V Z) : p.tables.exec = Jvm.exec := h.1
theorem jx_C0.b (h : jx_C0 p e R s m meth c V Z) : c.code = Z.2.2.1 := h.2.1
theorem jx_C0.ml (h : jx_C0 p e R s m meth c V Z) : c.maxLocals = Z.2.2.2.1 := h.2.2.1
theorem jx_C0.own (h : jx_C0 p e R s m meth c V Z) : s.vm.findClass Z.1 = some m.cls := h.2.2.2.1
theorem jx_C0.t (h : jx_C0 p e R s m meth c V Z) : jx_T s := h.2.2.2.2.1
theorem jx_C0.k (h : jx_C0 p e R s m meth c V Z) : jx_K V s := h.2.2.2.2.2.1
theorem jx_C0.locks (h : jx_C0 p e R s m meth c V Z) : meth.locks = false := h.2.2.2.2.2.2.1
theorem jx_C0.ret (h : jx_C0 p e R s m meth c V Z) : meth.sig.returnType = Z.2.2.2.2.1 := h.2.2.2.2.2.2.2.1
theorem jx_C0.xx (h : jx_C0 p e R s m meth c V Z) : jx_X V s := h.2.2.2.2.2.2.2.2.2.1
theorem jx_C0.tr (h : jx_C0 p e R s m meth c V Z) : e.platform.stackTraces = false := h.2.2.2.2.2.2.2.2.2.2.1
theorem jx_C0.fr (h : jx_C0 p e R s m meth c V Z) : Z.2.2.2.2.2.1 ≤ R.frames := h.2.2.2.2.2.2.2.2.2.2.2.1
theorem jx_C0.lo (h : jx_C0 p e R s m meth c V Z) : Z.2.2.2.2.2.2 ≤ R.locals := h.2.2.2.2.2.2.2.2.2.2.2.2.1
theorem jx_self (vm : Vm) (c : ClassId) : vm.assignable c c = true := by
  show vm.assignableAux _ c c = true
  unfold Vm.assignableAux
  simp
/-- the machine's rows of a handlers' table -/
def jx_et (hs : List (Nat × Nat × Nat × Nat)) : List ExceptionTableEntry := hs.map fun q => ⟨q.1, q.2.1, q.2.2.1, q.2.2.2⟩
theorem jx_et_of {L : List ExceptionTableEntry} {hs : List (Nat × Nat × Nat × Nat)} (h : L.map (fun h => (h.startPc, h.endPc, h.handlerPc, h.catchType)) = hs) : L = jx_et hs := by
  subst h
  unfold jx_et
  rw [List.map_map]
  have : ((fun q : Nat × Nat × Nat × Nat => (⟨q.1, q.2.1, q.2.2.1, q.2.2.2⟩ : ExceptionTableEntry)) ∘ fun h : ExceptionTableEntry => (h.startPc, h.endPc, h.handlerPc, h.catchType)) = id := by
    funext h
    rfl
  rw [this, List.map_id]
end JX25a
/-- a virtual call where the thrown one is caught -/
theorem jx_vcH {Z : jx_Z} {k pc n idx : Nat} {tab : List (Nat × jx_Mt)} {x : MethodName} (htab : ∀ q ∈ tab, jx_ve x n Z.2.2.2.2.2.1 Z.2.2.2.2.2.2 q.1 q.2) (hdc : jx_dc x) (hk : k ≤ 16) (hl : jx_lm Z.1 idx x) (hd : (parseMethodDescriptor x.desc).map (fun d => d.parameters.length) = some n) (d : decode Z.2.2.1 pc = .ok (.invokevirtual idx, 3)) (vs : List Value) (L : List Value) (h : jx_S) (r : (Option Value × jx_S) ⊕ (Nat × jx_S)) (hr : jx_ev tab vs L h = some r) : jx_le h (jx_at r) ∧
    ∀ p l e R s m args below meth c V u o h', jx_C0 p e R s m meth c V Z → jx_fit R s u h' → s.heap.size ≤ h.1 → u ≤ h.2.1 → jx_le (jx_at r) h' → ∀ st : List Value, jx_wt st ≤ k →
      (∀ v h1, r = .inl (v, h1) → jx_G p l e R s m args below meth c V u o h' (pc + 3) L (v.toList ++ st) h1) →
      (∀ (y : Nat) h1, r = .inr (y, h1) → ∃ ci fs C T N hpc ns, h1.2.2 y = some (.inr (ci, fs)) ∧ jx_cl[ci]? = some (C, T, N) ∧ jx_hs Z.1 C s pc hpc c.exceptionTable.toList ns ∧ jx_G p l e R s m args below meth c V u o h' hpc L [.ref y] h1) →
      jx_G p l e R s m args below meth c V u o h' pc L (vs.reverse ++ st) h := by
  have hr0 := hr
  unfold jx_ev at hr
  split at hr
  · rename_i b As
    split at hr
    · rename_i ci fs hq
      split at hr
      · rename_i F hF
        obtain ⟨C, T0, N, y, Z', hc, hsel, hy, hin, hM, hfr, hlo⟩ := htab _ (jx_tb_mem hF)
        obtain ⟨o1, h1, hFF, hcase⟩ := jx_ec_spec hr
        obtain ⟨hle, hlen⟩ := hM.1 _ h o1 h1 hFF
        have hat : jx_at r = h1 := by
          rcases hcase with ⟨v, -, rfl⟩ | ⟨x, -, rfl⟩ <;> rfl
        refine ⟨by rw [hat]; exact hle, fun p l e R s m args below meth c V u o h' hC hfit hs hu hle' st hst hT hthr H ls locs hR hL T hTH X => ?_⟩
        rw [hat] at hle'
        subst hTH
        have hTT := hC.t
        obtain ⟨⟨hmh, hmh2⟩, hdecl, C0, x0, y0, hs0, hy0⟩ := hdc
        have hD : va_Decl s x := by
          rcases hdecl with hz | ⟨h1, b0, n0, r0, h2⟩
          · exact va_Decl.abs (hTT.2.2.2.1 _ hz)
          · exact va_Decl.of (hTT.1 _ h1 args) (hTT.1 _ h2 args)
        obtain ⟨r0, rr, hn, hrm, hstR, hsigR⟩ := hD
        obtain ⟨cellB, hcB, hoB, hclB⟩ := va_recv hC.k (hR.one hq) hc (he := (rfl : ([(b, jx_tr V.2.1 (.inr (ci, fs)))] : va_W)[0]? = some (b, .inr (ci, fs))))
        obtain ⟨mk, methM, hnamed, hmethM, hstM, habM⟩ := Cond.instanceMethod_spec (hTT.1 _ hin args)
        obtain ⟨c2, r2, m2, q1, q2, q3, q4, kP, hkP, hkPi⟩ := Cond.selects_spec (hTT.1 _ hsel args)
        cases hclB.symm.trans q1
        cases (State.methodFound?_of_named hn ⟨hmh, hmh2⟩).symm.trans q2
        cases hnamed.symm.trans q3
        obtain ⟨_, _, m3, -, -, w3, -, kP3, hkP3, hkPi3⟩ := Cond.selects_spec (hTT.1 _ hs0 args)
        have hcls3 : m3.cls = r0.cls := by
          have e1 := findClass_of_methodNamed w3
          have e2 := findClass_of_methodNamed hn
          rw [hy0] at e1
          exact Option.some.inj (e1.symm.trans e2)
        rw [hcls3] at hkP3
        have hselP : selectMethod e.platform s.vm cellB.cls r0 = .method mk := by rw [Launch.admits_selectMethod X.admits]; exact q4
        have hlen' : As.length = rr.sig.parameters.length := by
          rw [hsigR] at hd
          have hq2 : rr.sig.parameters.length = n := Option.some.inj hd
          simp only [List.length_cons] at hlen
          omega
        have hstk : (F0 m pc ls ((Value.ref b :: As).reverse ++ st)).stack = As.reverse ++ .ref b :: st := by simp
        have hlk : ∃ vm', Stand p l e R s m args below meth c (T.setVm vm') locs (h.1 - s.heap.size) (h.2.1 - u) ∧ ∀ target, (∀ acts, Steps p.tables e below (doInvoke e ((T.setVm vm').setTop (F0 m pc ls st)) acts mk (Value.ref b :: As).toArray).1 target) → Steps p.tables e below (T.setTop (F0 m pc ls ((Value.ref b :: As).reverse ++ st))) target := by
          rcases hl with hl | ⟨host, hl⟩
          · exact X.invokevirtual hC.x hC.own (hTT.1 _ hl args) hn hrm hstR hkP3 hkPi3 ⟨hmh, hmh2⟩ (a := b) (cell := cellB) hcB (fun z h => by rw [h] at hoB; cases hoB) hselP hmethM habM hkP hkPi (g := F0 m pc ls ((Value.ref b :: As).reverse ++ st)) rfl (argsL := As) (rest := st) hlen' hstk (by rw [hC.b]; exact d)
          · exact X.invokevirtualNest hC.x hC.own (va_Nw.use rfl (hTT.2.2.1 _ _ _ _ hl)) hn hrm hstR hkP3 hkPi3 ⟨hmh, hmh2⟩ (a := b) (cell := cellB) hcB (fun z h => by rw [h] at hoB; cases hoB) hselP hmethM habM hkP hkPi (g := F0 m pc ls ((Value.ref b :: As).reverse ++ st)) rfl (argsL := As) (rest := st) hlen' hstk (by rw [hC.b]; exact d)
        obtain ⟨vm', X1, hstep⟩ := hlk
        have hsize : (F0 m pc ls st).locals.size = c.maxLocals := hL.1
        have f1 := hfit.1
        have f2 := hfit.2
        have l1 := hle'.1
        have l2 := hle'.2
        obtain ⟨T', locs', X', hR', hret, hthw⟩ := jx_run (vs := Value.ref b :: As) hM hy X1 hC.x hC.t hC.k hC.xx hC.tr (Nat.le_trans hfr hC.fr) (Nat.le_trans hlo hC.lo) hFF hR ⟨by omega, by omega⟩ hs hu (g := F0 m pc ls st) rfl hsize (by rw [hC.b]; exact d) (by
            show 2 * 0 + (st.map fun v => v.category).sum ≤ 16
            have : (st.map fun v => v.category).sum = jx_wt st := rfl
            omega) hnamed
        rcases hcase with ⟨v, rfl, rfl⟩ | ⟨x, rfl, rfl⟩
        · obtain ⟨t, a1, b1⟩ := hT v h1 rfl T'.heap ls locs' hR' hL T' rfl X'
          exact ⟨t, hstep t fun acts => (hret v rfl acts).trans a1, b1⟩
        · obtain ⟨ci2, fs2, C2, T2, N2, hpc, ns, g1, g2, g3, g4⟩ := hthr x h1 rfl
          obtain ⟨cellE, hcE, hoE, hclE⟩ := va_recv hC.k (hR'.one g1) g2 (he := (rfl : ([(x, jx_tr V.2.1 (.inr (ci2, fs2)))] : va_W)[0]? = some (x, .inr (ci2, fs2))))
          obtain ⟨vm2, X2, hgo⟩ := jx_catch X' hC.own hC.t (g := F0 m pc ls st) rfl hcE hclE hoE (jx_self _ _) g3
          obtain ⟨t, a1, b1⟩ := g4 (T'.setVm vm2).heap ls locs' hR' hL (T'.setVm vm2) rfl X2
          exact ⟨t, hstep t fun acts => (hthw x rfl acts).trans (hgo t a1), b1⟩
      · cases hr
    · cases hr
  · cases hr
/-- A METHOD's CONTRACT, with handlers -/
def jx_MeH (n : Nat) (Z : jx_Z) (hs : List (Nat × Nat × Nat × Nat)) (P : State → Prop) (F : jx_Mt) : Prop :=
  (∀ (vs : List Value) (h : jx_S) (o : Outcome) (h' : jx_S), F vs h = some (o, h') → jx_le h h' ∧ vs.length = n) ∧
  ∀ (p : Program) (l : Launch) (e : Env) (R : Room) (s : State) (m : MethodId) (vs : List Value) (below : List Frame) (meth : Method) (c : Code) (V : jx_V) (h : jx_S) (o : Outcome) (h' : jx_S), jx_C0 p e R s m meth c V Z → P s → c.exceptionTable.toList = jx_et hs → F vs h = some (o, h') → jx_fit R s h.2.1 h' → jx_R V h s.heap [] →
    ∀ T : State, T.heap = s.heap → Stand p l e R s m vs.toArray below meth c T [] 0 0 → ∃ t, Steps p.tables e below (T.setTop (entryFrame m vs.toArray Z.2.2.2.1)) t ∧ jx_Q s below V h.2.1 o h' t
def jx_mwH (y : MethodName) (Z : jx_Z) (hs : List (Nat × Nat × Nat × Nat)) : Prop := y.cls = Z.1 ∧ y.name = Z.2.1 ∧ plainFor y = true ∧ (y.cls ≠ "java/lang/invoke/MethodHandle" ∧ y.cls ≠ "java/lang/invoke/VarHandle") ∧ Cond.codeWith y Z.2.2.1 Z.2.2.2.1 Z.2.2.2.2.1 hs ∈ jx_tbl
section JX25b
variable {p : Program} {l : Launch} {e : Env} {R : Room} {s : State} {m : MethodId} {args : Array Value} {below : List Frame} {meth : Method} {c : Code} {V : jx_V}
theorem jx_runH {T : State} {locs : List Loc} {n u : Nat} {Z' : jx_Z} {hs' : List (Nat × Nat × Nat × Nat)} {P : State → Prop} (hP : ∀ s U : State, s.vm.Alike U.vm → P s → P U) {F : jx_Mt} (hM : jx_MeH n Z' hs' P F) {y : MethodName} (hy : jx_mwH y Z' hs') {h h1 : jx_S} {o : Outcome} {vs : List Value} (X : Stand p l e R s m args below meth c T locs (h.1 - s.heap.size) (h.2.1 - u)) (hx : p.tables.exec = Jvm.exec) (hT : jx_T s) (hK : jx_K V s) (hX : jx_X V s) (hPs : P s) (htr : e.platform.stackTraces = false)
    (hfr : Z'.2.2.2.2.2.1 + 1 ≤ R.frames) (hlo : 16 + (Z'.2.2.2.1 + 11) + Z'.2.2.2.2.2.2 ≤ R.locals) (hF : F vs h = some (o, h1)) (hR : jx_R V h T.heap locs) (hfit : jx_fit R s u h1) (hs : s.heap.size ≤ h.1) (hu : u ≤ h.2.1)
    {g : JFrame} (hg : g.method = m) (hsize : g.locals.size = c.maxLocals) {ig : Instr} (hdg : decode c.code g.pc = .ok (ig, 3)) (hW : 2 * g.monitorRoom + (g.stack.map fun v => v.category).sum ≤ 16) {mk : MethodId} (hn : s.methodNamed? y = some mk) :
    ∃ (T' : State) (locs' : List Loc), Stand p l e R s m args below meth c T' locs' (h1.1 - s.heap.size) (h1.2.1 - u) ∧ jx_R V h1 T'.heap locs' ∧
      (∀ v, o = .returned v → ∀ acts, Steps p.tables e below (doInvoke e (T.setTop g) acts mk vs.toArray).1 (T'.setTop { g with pc := g.pc + 3, stack := v.toList ++ g.stack })) := by
  obtain ⟨hyc, hyn, hpl, hmh, hcw⟩ := hy
  have hle := (hM.1 vs h o h1 hF).1
  obtain ⟨mk2, methk, ck, hn2, hmk, hck, hbk, hlk0, htab, hrk, hlkk, -⟩ := Cond.codeWith_spec (hT.1 _ hcw args)
  cases hn.symm.trans hn2
  have hmk' : T.vm.method? mk = some methk := by rw [X.warmed.alike.method?]; exact hmk
  have hn' : T.methodNamed? y = some mk := X.named hn
  have hpk : T.plainMethod mk := State.plainMethod.of_named hpl hn' hmk'
  have l1 : h.1 ≤ h1.1 := hle.1
  have l2 : h.2.1 ≤ h1.2.1 := hle.2
  have f1 := hfit.1
  have f2 := hfit.2
  obtain ⟨Y₀, hin⟩ := X.into hg hsize hdg vs.toArray (R' := { frames := R.frames - 1, cells := h1.1 - h.1, slots := h1.2.1 - h.2.1, locals := R.locals - (16 + (Z'.2.2.2.1 + 11)) }) hmk' hck hlkk hpk (by show R.frames - 1 + 1 ≤ R.frames; omega) (by show _ + _ + (ck.maxLocals + 11) + (R.locals - _) ≤ R.locals; rw [hlk0]; omega) (by show _ + (h1.1 - h.1) ≤ R.cells; omega) (by show _ + (h1.2.1 - h.2.1) ≤ R.slots; omega)
  have hwarm : s.WarmedH (T.calling g mk vs.toArray).vm := X.warmed
  have hC' : jx_C0 p e { frames := R.frames - 1, cells := h1.1 - h.1, slots := h1.2.1 - h.2.1, locals := R.locals - (16 + (Z'.2.2.2.1 + 11)) } (T.calling g mk vs.toArray) mk methk ck V Z' := by
    refine ⟨hx, hbk, hlk0, ?_, hT.warm hwarm, va_K.moved hwarm.alike hK, hlkk, hrk, ?_, hX.moved hwarm.alike, htr, by show _ ≤ R.frames - 1; omega, by show _ ≤ R.locals - _; omega, hR.2.2.1⟩
    · rw [← hyc]
      exact findClass_of_methodNamed hn'
    · rw [← hyn]
      exact (name_of_methodNamed hn hmk).1
  have hR' : jx_R V h (T.calling g mk vs.toArray).heap [] := ⟨hR.1, hR.2.1, hR.2.2.1, hR.2.2.2.1, hR.2.2.2.2.1, fun q hq => by cases hq⟩
  have hsz : (T.calling g mk vs.toArray).heap.size = h.1 := hR.1
  obtain ⟨t, st, hrun, hend, hWt, L, hRt, hsame⟩ := hM.2 p l e _ (T.calling g mk vs.toArray) mk vs (.java g :: below) methk ck V h o h1 hC' (hP _ _ hwarm.alike hPs) (jx_et_of htab) hF ⟨by rw [hsz]; exact Nat.le_refl _, Nat.le_refl _⟩ hR' ((T.setTop g).pushFrame (.java (entryFrame mk vs.toArray ck.maxLocals))) rfl Y₀
  rw [hsz] at hsame
  rw [← hlk0] at st
  cases o with
  | returned v =>
    obtain ⟨T', X', -, -, ht⟩ := X.outOf hg hdg hend hWt hsame
    have hh : T'.heap = t.heap := by rw [ht]; simp [State.setTop, State.modifyTopJava]
    refine ⟨T', locs ++ L, ?_, ?_, fun v' hv acts => ?_⟩
    · rw [show h1.1 - s.heap.size = (h.1 - s.heap.size) + (h1.1 - h.1) by omega, show h1.2.1 - u = (h.2.1 - u) + (h1.2.1 - h.2.1) by omega]
      exact X'
    · rw [hh]
      exact ⟨hRt.1, hRt.2.1, hRt.2.2.1, hRt.2.2.2.1, hRt.2.2.2.2.1, fun q hq => by
        rcases List.mem_append.mp hq with h | h
        · exact hR.2.2.2.2.2 q h
        · exact hRt.2.2.2.2.2 q h⟩
    · cases hv
      rw [hin acts, ← ht]
      exact jx_weak (mid := [.java g]) st
  | threw x =>
    obtain ⟨T', X', -, -, ht⟩ := X.outOfThrown hg hend hWt hsame
    have hh : T'.heap = t.heap := by rw [ht]; simp [State.setTop, State.modifyTopJava, State.pushFrame, State.setFrames]
    refine ⟨T', locs ++ L, ?_, ?_, (fun v hv => by cases hv)⟩
    · rw [show h1.1 - s.heap.size = (h.1 - s.heap.size) + (h1.1 - h.1) by omega, show h1.2.1 - u = (h.2.1 - u) + (h1.2.1 - h.2.1) by omega]
      exact X'
    · rw [hh]
      exact ⟨hRt.1, hRt.2.1, hRt.2.2.1, hRt.2.2.2.1, hRt.2.2.2.2.1, fun q hq => by
        rcases List.mem_append.mp hq with h | h
        · exact hR.2.2.2.2.2 q h
        · exact hRt.2.2.2.2.2 q h⟩
/-- a wrapper is called: it returns -/
theorem jx_scH {Z Z' : jx_Z} {pc n idx u : Nat} {hs' : List (Nat × Nat × Nat × Nat)} {P : State → Prop} (hP : ∀ s U : State, s.vm.Alike U.vm → P s → P U) {F : jx_Mt} {y : MethodName} (hM : jx_MeH n Z' hs' P F) (hy : jx_mwH y Z' hs') (hfr : Z'.2.2.2.2.2.1 + 1 ≤ Z.2.2.2.2.2.1) (hlo : 16 + (Z'.2.2.2.1 + 11) + Z'.2.2.2.2.2.2 ≤ Z.2.2.2.2.2.2) (hl : jx_lm Z.1 idx y) (hst : Cond.static y ∈ jx_tbl) (hini : Cond.initialized y.cls ∈ jx_tbl) (hd : (parseMethodDescriptor y.desc).map (fun d => d.parameters.length) = some n) (d : decode Z.2.2.1 pc = .ok (.invokestatic idx, 3)) (vs : List Value) {L : List Value} {h h1 h' : jx_S} {v : Option Value} {o : Outcome} (hC : jx_C0 p e R s m meth c V Z) (hPs : P s) (hF : F vs h = some (.returned v, h1)) (hfit : jx_fit R s u h') (hs : s.heap.size ≤ h.1) (hu : u ≤ h.2.1) (hle' : jx_le h1 h') {st : List Value} (hwt : jx_wt st ≤ 16) (hG : jx_G p l e R s m args below meth c V u o h' (pc + 3) L (v.toList ++ st) h1) : jx_G p l e R s m args below meth c V u o h' pc L (vs.reverse ++ st) h := by
  intro H ls locs hR hL T hTH X
  subst hTH
  obtain ⟨hle, hlen⟩ := hM.1 vs h _ h1 hF
  have hT := hC.t
  have hcode := hT.1 _ hy.2.2.2.2 args
  obtain ⟨mk, methM, cM, hnamed, hmethM, -, -, -, -, -, -, hsigM⟩ := Cond.codeWith_spec hcode
  have hstatic : methM.isStatic = true := Cond.static_spec hnamed hmethM (hT.1 _ hst args)
  obtain ⟨kP, hkP, -⟩ := className_of_methodNamed hnamed
  have hinitP : kP.init = .initialized := Cond.initialized_spec (findClass_of_methodNamed hnamed) hkP (hT.1 _ hini args)
  have hlen' : vs.length = methM.sig.parameters.length := by
    rw [hsigM] at hd
    rw [hlen]
    exact (Option.some.inj hd).symm
  have hlk : ∃ vm', Stand p l e R s m args below meth c (T.setVm vm') locs (h.1 - s.heap.size) (h.2.1 - u) ∧ ∀ target, (∀ acts, Steps p.tables e below (doInvoke e ((T.setVm vm').setTop (F0 m pc ls st)) acts mk vs.toArray).1 target) → Steps p.tables e below (T.setTop (F0 m pc ls (vs.reverse ++ st))) target := by
    rcases hl with hl | ⟨host, hl⟩
    · exact X.invokestatic hC.x hC.own (hT.1 _ hl args) hnamed hmethM hstatic hkP hinitP hy.2.2.2.1 (g := F0 m pc ls (vs.reverse ++ st)) rfl (argsL := vs) (rest := st) hlen' rfl (by rw [hC.b]; exact d)
    · exact X.invokestaticNest hC.x hC.own (va_Nw.use rfl (hT.2.2.1 _ _ _ _ hl)) hnamed hmethM hstatic hkP hinitP hy.2.2.2.1 (g := F0 m pc ls (vs.reverse ++ st)) rfl (argsL := vs) (rest := st) hlen' rfl (by rw [hC.b]; exact d)
  obtain ⟨vm', X1, hstep⟩ := hlk
  have f1 := hfit.1
  have f2 := hfit.2
  have l1 := hle'.1
  have l2 := hle'.2
  obtain ⟨T', locs', X', hR', hret⟩ := jx_runH (vs := vs) hP hM hy X1 hC.x hC.t hC.k hC.xx hPs hC.tr (Nat.le_trans hfr hC.fr) (Nat.le_trans hlo hC.lo) hF hR ⟨by omega, by omega⟩ hs hu (g := F0 m pc ls st) rfl hL.1 (by rw [hC.b]; exact d) (by
      show 2 * 0 + (st.map fun v => v.category).sum ≤ 16
      have : (st.map fun v => v.category).sum = jx_wt st := rfl
      omega) hnamed
  obtain ⟨t, a1, b1⟩ := hG T'.heap ls locs' hR' hL T' rfl X'
  exact ⟨t, hstep t fun acts => (hret v rfl acts).trans a1, b1⟩
end JX25b
