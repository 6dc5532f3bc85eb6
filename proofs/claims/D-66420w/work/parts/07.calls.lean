/-! CALLS AND THROWS -/
theorem jx_weak {tb : Tables} {e : Env} {mid below : List Frame} {a b : State} (h : Steps tb e (mid ++ below) a b) : Steps tb e below a b := by
  obtain ⟨n, hn, w⟩ := h
  exact ⟨n, hn, fun k hk => (w k hk).weaken⟩
/-- A METHOD's CONTRACT: whatever F says of n arguments and a heap, the machine does, wherever the method is called -/
def jx_Me (n : Nat) (Z : jx_Z) (F : jx_Mt) : Prop :=
  (∀ (vs : List Value) (h : jx_S) (o : Outcome) (h' : jx_S), F vs h = some (o, h') → jx_le h h' ∧ vs.length = n) ∧
  ∀ (p : Program) (l : Launch) (e : Env) (R : Room) (s : State) (m : MethodId) (vs : List Value) (below : List Frame) (meth : Method) (c : Code) (V : jx_V) (h : jx_S) (o : Outcome) (h' : jx_S), jx_C p e R s m meth c V Z → F vs h = some (o, h') → jx_fit R s h.2.1 h' → jx_R V h s.heap [] →
    ∀ T : State, T.heap = s.heap → Stand p l e R s m vs.toArray below meth c T [] 0 0 → ∃ t, Steps p.tables e below (T.setTop (entryFrame m vs.toArray Z.2.2.2.1)) t ∧ jx_Q s below V h.2.1 o h' t
/-- a body as a method of n arguments and nL locals -/
def jx_fn (n nL : Nat) (k : jx_Bk) : jx_Mt := fun vs h => if vs.length = n ∧ (vs.all fun v => v.category == 1) = true then k (vs ++ List.replicate (nL - n) (.double 0)) h else none
theorem jx_args_mem : ∀ (vs : List Value) (i j : Nat) (v : Value), (vs.all fun v => v.category == 1) = true → vs[j]? = some v → (i + j, v) ∈ lv_args i vs
  | [], i, j, v, _, h => by simp at h
  | w :: vs, i, j, v, ha, h => by
    simp only [List.all_cons, Bool.and_eq_true, beq_iff_eq] at ha
    unfold lv_args
    cases j with
    | zero =>
      simp at h
      subst h
      exact List.mem_cons_self
    | succ j =>
      rw [List.getElem?_cons_succ] at h
      have := jx_args_mem vs (i + 1) j v ha.2 h
      rw [if_neg (by omega), show i + (j + 1) = i + 1 + j by omega]
      exact List.mem_cons_of_mem _ this
theorem jx_sl_len : ∀ vs : List Value, (vs.all fun v => v.category == 1) = true → (lg_sl vs).length = vs.length
  | [], _ => rfl
  | w :: vs, ha => by
    simp only [List.all_cons, Bool.and_eq_true, beq_iff_eq] at ha
    have := jx_sl_len vs ha.2
    simp only [lg_sl, List.flatMap_cons] at this ⊢
    rw [if_neg (by omega)]
    simp [this]
theorem jx_Me.of {n : Nat} {Z : jx_Z} {k : jx_Bk} (hn : n ≤ Z.2.2.2.1) (hb : jx_B Z 0 [] k) : jx_Me n Z (jx_fn n Z.2.2.2.1 k) := by
  refine ⟨fun vs h o h' hF => ?_, fun p l e R s m vs below meth c V h o h' hC hF hfit hR T hT X => ?_⟩
  · unfold jx_fn at hF
    split at hF
    · rename_i hq
      exact ⟨(hb _ h o h' hF).1, hq.1⟩
    · cases hF
  · unfold jx_fn at hF
    split at hF
    · rename_i hq
      have hw := (hb _ h o h' hF).2 p l e R s m vs.toArray below meth c V h.2.1 hC hfit (by rw [hR.1]; exact Nat.le_refl _) (Nat.le_refl _) s.heap ((lg_sl vs ++ List.replicate (Z.2.2.2.1 - (lg_sl vs).length) Slot.unset).toArray) [] hR ?_
      · rw [hR.1, Nat.sub_self, Nat.sub_self] at hw
        rw [lg_entry_eq]
        exact hw T hT X
      · have he := lv_entry vs (n := Z.2.2.2.1) (by rw [jx_sl_len vs hq.2, hq.1]; exact hn)
        rw [hC.ml]
        refine ⟨he.1, he.2.1, fun i v hv hc => ?_⟩
        by_cases hi : i < vs.length
        · rw [List.getElem?_append_left hi] at hv
          have := he.2.2 _ (jx_args_mem vs 0 i v hq.2 hv)
          rwa [Nat.zero_add] at this
        · rw [List.getElem?_append_right (by omega)] at hv
          have hv2 := List.mem_of_getElem? hv
          rw [List.mem_replicate] at hv2
          rw [hv2.2] at hc
          cases hc
    · cases hF
/-- what a method's words say -/
def jx_mw (y : MethodName) (Z : jx_Z) : Prop := y.cls = Z.1 ∧ y.name = Z.2.1 ∧ plainFor y = true ∧ (y.cls ≠ "java/lang/invoke/MethodHandle" ∧ y.cls ≠ "java/lang/invoke/VarHandle") ∧ Cond.code y Z.2.2.1 Z.2.2.2.1 Z.2.2.2.2.1 ∈ jx_tbl
section JX7
variable {p : Program} {l : Launch} {e : Env} {R : Room} {s : State} {m : MethodId} {args : Array Value} {below : List Frame} {meth : Method} {c : Code} {V : jx_V}
/-- the call itself, behind its linking -/
theorem jx_run {T : State} {locs : List Loc} {n u : Nat} {Z' : jx_Z} {F : jx_Mt} (hM : jx_Me n Z' F) {y : MethodName} (hy : jx_mw y Z') {h h1 : jx_S} {o : Outcome} {vs : List Value} (X : Stand p l e R s m args below meth c T locs (h.1 - s.heap.size) (h.2.1 - u)) (hx : p.tables.exec = Jvm.exec) (hT : jx_T s) (hK : jx_K V s) (hX : jx_X V s) (htr : e.platform.stackTraces = false)
    (hfr : Z'.2.2.2.2.2.1 + 1 ≤ R.frames) (hlo : 16 + (Z'.2.2.2.1 + 11) + Z'.2.2.2.2.2.2 ≤ R.locals) (hF : F vs h = some (o, h1)) (hR : jx_R V h T.heap locs) (hfit : jx_fit R s u h1) (hs : s.heap.size ≤ h.1) (hu : u ≤ h.2.1)
    {g : JFrame} (hg : g.method = m) (hsize : g.locals.size = c.maxLocals) {ig : Instr} (hdg : decode c.code g.pc = .ok (ig, 3)) (hW : 2 * g.monitorRoom + (g.stack.map fun v => v.category).sum ≤ 16) {mk : MethodId} (hn : s.methodNamed? y = some mk) :
    ∃ (T' : State) (locs' : List Loc), Stand p l e R s m args below meth c T' locs' (h1.1 - s.heap.size) (h1.2.1 - u) ∧ jx_R V h1 T'.heap locs' ∧
      (∀ v, o = .returned v → ∀ acts, Steps p.tables e below (doInvoke e (T.setTop g) acts mk vs.toArray).1 (T'.setTop { g with pc := g.pc + 3, stack := v.toList ++ g.stack })) ∧
      (∀ x, o = .threw x → ∀ acts, Steps p.tables e below (doInvoke e (T.setTop g) acts mk vs.toArray).1 ((T'.setTop g).pushFrame (.throwing x))) := by
  obtain ⟨hyc, hyn, hpl, hmh, hcw⟩ := hy
  have hle := (hM.1 vs h o h1 hF).1
  obtain ⟨methk, ck, hmk, hck, hbk, hlk0, hrk, hlkk, hek, -⟩ := Cond.code_spec hn (hT.1 _ hcw args)
  have hmk' : T.vm.method? mk = some methk := by rw [X.warmed.alike.method?]; exact hmk
  have hn' : T.methodNamed? y = some mk := X.named hn
  have hpk : T.plainMethod mk := State.plainMethod.of_named hpl hn' hmk'
  have l1 : h.1 ≤ h1.1 := hle.1
  have l2 : h.2.1 ≤ h1.2.1 := hle.2
  have f1 := hfit.1
  have f2 := hfit.2
  obtain ⟨Y₀, hin⟩ := X.into hg hsize hdg vs.toArray (R' := { frames := R.frames - 1, cells := h1.1 - h.1, slots := h1.2.1 - h.2.1, locals := R.locals - (16 + (Z'.2.2.2.1 + 11)) }) hmk' hck hlkk hpk (by show R.frames - 1 + 1 ≤ R.frames; omega) (by show _ + _ + (ck.maxLocals + 11) + (R.locals - _) ≤ R.locals; rw [hlk0]; omega) (by show _ + (h1.1 - h.1) ≤ R.cells; omega) (by show _ + (h1.2.1 - h.2.1) ≤ R.slots; omega)
  have hwarm : s.WarmedH (T.calling g mk vs.toArray).vm := X.warmed
  have hC' : jx_C p e { frames := R.frames - 1, cells := h1.1 - h.1, slots := h1.2.1 - h.2.1, locals := R.locals - (16 + (Z'.2.2.2.1 + 11)) } (T.calling g mk vs.toArray) mk methk ck V Z' := by
    refine ⟨hx, hbk, hlk0, ?_, hT.warm hwarm, va_K.moved hwarm.alike hK, hlkk, hrk, ?_, hX.moved hwarm.alike, htr, by show _ ≤ R.frames - 1; omega, by show _ ≤ R.locals - _; omega, hR.2.2.1, ?_⟩
    · rw [← hyc]
      exact findClass_of_methodNamed hn'
    · rw [← hyn]
      exact (name_of_methodNamed hn hmk).1
    · have := hek
      rw [Array.isEmpty_iff] at this
      rw [this]
  have hR' : jx_R V h (T.calling g mk vs.toArray).heap [] := ⟨hR.1, hR.2.1, hR.2.2.1, hR.2.2.2.1, hR.2.2.2.2.1, fun q hq => by cases hq⟩
  have hsz : (T.calling g mk vs.toArray).heap.size = h.1 := hR.1
  obtain ⟨t, st, hrun, hend, hWt, L, hRt, hsame⟩ := hM.2 p l e _ (T.calling g mk vs.toArray) mk vs (.java g :: below) methk ck V h o h1 hC' hF ⟨by rw [hsz]; exact Nat.le_refl _, Nat.le_refl _⟩ hR' ((T.setTop g).pushFrame (.java (entryFrame mk vs.toArray ck.maxLocals))) rfl Y₀
  rw [hsz] at hsame
  rw [← hlk0] at st
  cases o with
  | returned v =>
    obtain ⟨T', X', -, -, ht⟩ := X.outOf hg hdg hend hWt hsame
    have hh : T'.heap = t.heap := by rw [ht]; simp [State.setTop, State.modifyTopJava]
    refine ⟨T', locs ++ L, ?_, ?_, fun v' hv acts => ?_, fun x hv => by cases hv⟩
    · rw [show h1.1 - s.heap.size = (h.1 - s.heap.size) + (h1.1 - h.1) by omega, show h1.2.1 - u = (h.2.1 - u) + (h1.2.1 - h.2.1) by omega]
      exact X'
    · rw [hh]
      exact ⟨hRt.1, hRt.2.1, hRt.2.2.1, hRt.2.2.2.1, hRt.2.2.2.2.1, fun q hq => by
        rcases List.mem_append.mp hq with h | h
        · exact hR.2.2.2.2.2 q h
        · exact hRt.2.2.2.2.2 q h⟩
    · cases hv
      rw [hin acts, ← ht]
      exact jx_weak (mid := [.java g]) st
  | threw x =>
    obtain ⟨T', X', -, -, ht⟩ := X.outOfThrown hg hend hWt hsame
    have hh : T'.heap = t.heap := by rw [ht]; simp [State.setTop, State.modifyTopJava, State.pushFrame, State.setFrames]
    refine ⟨T', locs ++ L, ?_, ?_, (fun v hv => by cases hv), fun x' hv acts => ?_⟩
    · rw [show h1.1 - s.heap.size = (h.1 - s.heap.size) + (h1.1 - h.1) by omega, show h1.2.1 - u = (h.2.1 - u) + (h1.2.1 - h.2.1) by omega]
      exact X'
    · rw [hh]
      exact ⟨hRt.1, hRt.2.1, hRt.2.2.1, hRt.2.2.2.1, hRt.2.2.2.2.1, fun q hq => by
        rcases List.mem_append.mp hq with h | h
        · exact hR.2.2.2.2.2 q h
        · exact hRt.2.2.2.2.2 q h⟩
    · cases hv
      rw [hin acts, ← ht]
      exact jx_weak (mid := [.java g]) st
end JX7
/-- what a call gives -/
def jx_ec (F : jx_Mt) (vs : List Value) : List Value → jx_S → jx_M (Option Value) := fun _ h => match F vs h with
  | some (.returned v, h1) => some (.inl (v, h1))
  | some (.threw x, h1) => some (.inr (x, h1))
  | none => none
theorem jx_ec_spec {F : jx_Mt} {vs L : List Value} {h : jx_S} {r : (Option Value × jx_S) ⊕ (Nat × jx_S)} (hr : jx_ec F vs L h = some r) : ∃ o h1, F vs h = some (o, h1) ∧ ((∃ v, o = .returned v ∧ r = .inl (v, h1)) ∨ ∃ x, o = .threw x ∧ r = .inr (x, h1)) := by
  unfold jx_ec at hr
  split at hr
  · cases hr
    exact ⟨_, _, by assumption, Or.inl ⟨_, rfl, rfl⟩⟩
  · cases hr
    exact ⟨_, _, by assumption, Or.inr ⟨_, rfl, rfl⟩⟩
  · cases hr
/-- a call as a piece, from what its linking gives -/
theorem jx_callS {Z Z' : jx_Z} {k pc n : Nat} {F : jx_Mt} (hM : jx_Me n Z' F) {y : MethodName} (hy : jx_mw y Z') (hk : k ≤ 16) (hfr : Z'.2.2.2.2.2.1 + 1 ≤ Z.2.2.2.2.2.1) (hlo : 16 + (Z'.2.2.2.1 + 11) + Z'.2.2.2.2.2.2 ≤ Z.2.2.2.2.2.2) {ig : Instr} (d : decode Z.2.2.1 pc = .ok (ig, 3)) {vs pre : List Value}
    (hlink : ∀ p l e R s m args below meth c V, jx_C p e R s m meth c V Z → ∀ (h : jx_S) (T : State) (locs : List Loc) (cells slots : Nat) (ls : Array Slot) (st : List Value), vs.length = n → jx_R V h T.heap locs → Stand p l e R s m args below meth c T locs cells slots → ∃ (mk : MethodId) (vm' : Vm), s.methodNamed? y = some mk ∧ Stand p l e R s m args below meth c (T.setVm vm') locs cells slots ∧ ∀ target, (∀ acts, Steps p.tables e below (doInvoke e ((T.setVm vm').setTop (F0 m pc ls st)) acts mk vs.toArray).1 target) → Steps p.tables e below (T.setTop (F0 m pc ls (pre ++ st))) target) :
    jx_Sim Z k pc pre (jx_ec F vs) (fun v => [(pc + 3, v.toList)]) := by
  intro L h r hr
  obtain ⟨o1, h1, hF, hcase⟩ := jx_ec_spec hr
  obtain ⟨hle, hlen⟩ := hM.1 vs h o1 h1 hF
  have hat : jx_at r = h1 := by
    rcases hcase with ⟨v, -, rfl⟩ | ⟨x, -, rfl⟩ <;> rfl
  refine ⟨by rw [hat]; exact hle, fun p l e R s m args below meth c V u o h' hC hfit hs hu hle' st hst hT hthr H ls locs hR hL T hTH X => ?_⟩
  rw [hat] at hle'
  subst hTH
  obtain ⟨mk, vm', hn, X1, hstep⟩ := hlink p l e R s m args below meth c V hC h T locs _ _ ls st hlen hR X
  have hsize : (F0 m pc ls st).locals.size = c.maxLocals := hL.1
  have f1 := hfit.1
  have f2 := hfit.2
  have l1 := hle'.1
  have l2 := hle'.2
  obtain ⟨T', locs', X', hR', hret, hthw⟩ := jx_run (vs := vs) hM hy X1 hC.x hC.t hC.k hC.xx hC.tr (Nat.le_trans hfr hC.fr) (Nat.le_trans hlo hC.lo) hF hR ⟨by omega, by omega⟩ hs hu (g := F0 m pc ls st) rfl hsize (by rw [hC.b]; exact d) (by
      show 2 * (F0 m pc ls st).monitorRoom + _ ≤ 16
      have : (F0 m pc ls st).monitorRoom = 0 := rfl
      rw [this]
      have : (st.map fun v => v.category).sum = jx_wt st := rfl
      show 2 * 0 + (st.map fun v => v.category).sum ≤ 16
      omega) hn
  rcases hcase with ⟨v, rfl, rfl⟩ | ⟨x, rfl, rfl⟩
  · obtain ⟨t, a1, b1⟩ := hT v h1 rfl (pc + 3, v.toList) (List.mem_singleton.mpr rfl) T'.heap ls locs' hR' hL T' rfl X'
    exact ⟨t, hstep t fun acts => (hret v rfl acts).trans a1, b1⟩
  · obtain ⟨rfl, rfl⟩ := hthr x h1 rfl
    obtain ⟨hw, h2, h3, h4, h5⟩ := X'.leaveThrown x (g := F0 m pc ls st) rfl rfl rfl (fun z hz => by rw [hC.nh] at hz; cases hz) hC.locks
    refine ⟨_, hstep _ fun acts => (hthw x rfl acts).trans hw, h2, h3, h4, locs', ?_, h5⟩
    exact hR'
def jx_lm (own : String) (idx : Nat) (x : MethodName) : Prop := Cond.methodLink own idx x ∈ jx_tbl ∨ ∃ host, Cond.methodLinkNest own idx x host ∈ lw_tbl
theorem s_ecs {Z Z' : jx_Z} {k pc n idx : Nat} {F : jx_Mt} {y : MethodName} (hM : jx_Me n Z' F) (hy : jx_mw y Z') (hk : k ≤ 16) (hfr : Z'.2.2.2.2.2.1 + 1 ≤ Z.2.2.2.2.2.1) (hlo : 16 + (Z'.2.2.2.1 + 11) + Z'.2.2.2.2.2.2 ≤ Z.2.2.2.2.2.2) (hl : jx_lm Z.1 idx y) (hst : Cond.static y ∈ jx_tbl) (hini : Cond.initialized y.cls ∈ jx_tbl) (hd : (parseMethodDescriptor y.desc).map (fun d => d.parameters.length) = some n) (d : decode Z.2.2.1 pc = .ok (.invokestatic idx, 3)) (vs : List Value) :
    jx_Sim Z k pc vs.reverse (jx_ec F vs) (fun v => [(pc + 3, v.toList)]) := by
  refine jx_callS hM hy hk hfr hlo d fun p l e R s m args below meth c V hC h T locs cells slots ls st hlen hR X => ?_
  have hT := hC.t
  have hcode := hT.1 _ hy.2.2.2.2 args
  obtain ⟨mk, hnamed⟩ := Cond.code_named hcode
  obtain ⟨methM, cM, hmethM, -, -, -, -, -, -, hsigM⟩ := Cond.code_spec hnamed hcode
  have hstatic : methM.isStatic = true := Cond.static_spec hnamed hmethM (hT.1 _ hst args)
  obtain ⟨kP, hkP, -⟩ := className_of_methodNamed hnamed
  have hinitP : kP.init = .initialized := Cond.initialized_spec (findClass_of_methodNamed hnamed) hkP (hT.1 _ hini args)
  have hlen' : vs.length = methM.sig.parameters.length := by
    rw [hsigM] at hd
    rw [hlen]
    exact (Option.some.inj hd).symm
  rcases hl with hl | ⟨host, hl⟩
  · obtain ⟨vm₁, X₁, hstep₁⟩ := X.invokestatic hC.x hC.own (hT.1 _ hl args) hnamed hmethM hstatic hkP hinitP hy.2.2.2.1 (g := F0 m pc ls (vs.reverse ++ st)) rfl (argsL := vs) (rest := st) hlen' rfl (by rw [hC.b]; exact d)
    exact ⟨mk, vm₁, hnamed, X₁, hstep₁⟩
  · obtain ⟨vm₁, X₁, hstep₁⟩ := X.invokestaticNest hC.x hC.own (va_Nw.use rfl (hT.2.2.1 _ _ _ _ hl)) hnamed hmethM hstatic hkP hinitP hy.2.2.2.1 (g := F0 m pc ls (vs.reverse ++ st)) rfl (argsL := vs) (rest := st) hlen' rfl (by rw [hC.b]; exact d)
    exact ⟨mk, vm₁, hnamed, X₁, hstep₁⟩
/-- a constructor's call -/
def jx_es (F : jx_Mt) (vs : List Value) : List Value → jx_S → jx_M (Option Value) := fun L h => match vs with
  | .ref _ :: _ => jx_ec F vs L h
  | _ => none
theorem s_eci {Z Z' : jx_Z} {k pc n idx : Nat} {F : jx_Mt} {y : MethodName} (hM : jx_Me (n + 1) Z' F) (hy : jx_mw y Z') (hyi : y.name = "<init>") (hyr : Z'.2.2.2.2.1 = none) (hk : k ≤ 16) (hfr : Z'.2.2.2.2.2.1 + 1 ≤ Z.2.2.2.2.2.1) (hlo : 16 + (Z'.2.2.2.1 + 11) + Z'.2.2.2.2.2.2 ≤ Z.2.2.2.2.2.2) (hl : jx_lm Z.1 idx y) (hin : Cond.instanceMethod y ∈ jx_tbl) (hd : (parseMethodDescriptor y.desc).map (fun d => d.parameters.length) = some n) (d : decode Z.2.2.1 pc = .ok (.invokespecial idx, 3)) (vs : List Value) :
    jx_Sim Z k pc vs.reverse (jx_es F vs) (fun v => [(pc + 3, v.toList)]) := by
  match vs with
  | [] => exact fun L h r hr => by cases hr
  | .int _ :: _ => exact fun L h r hr => by cases hr
  | .long _ :: _ => exact fun L h r hr => by cases hr
  | .float _ :: _ => exact fun L h r hr => by cases hr
  | .double _ :: _ => exact fun L h r hr => by cases hr
  | .null :: _ => exact fun L h r hr => by cases hr
  | .retAddr _ :: _ => exact fun L h r hr => by cases hr
  | .ref b :: As =>
    refine jx_callS (n := n + 1) hM hy hk hfr hlo d fun p l e R s m args below meth c V hC h T locs cells slots ls st hlen hR X => ?_
    have hT := hC.t
    have hcode : (Cond.code y Z'.2.2.1 Z'.2.2.2.1 none).before args s = true := by
      have := hT.1 _ hy.2.2.2.2 args
      rwa [hyr] at this
    have hpl : e.platform.magicAccessors = ({} : Platform).magicAccessors := by rw [X.admits.platform]
    have hlen' : ∀ sig, parseMethodDescriptor y.desc = some sig → As.length = sig.parameters.length := fun sig h => by
      rw [h] at hd
      have hq : sig.parameters.length = n := Option.some.inj hd
      simp only [List.length_cons] at hlen
      omega
    have hstk : (F0 m pc ls ((Value.ref b :: As).reverse ++ st)).stack = As.reverse ++ .ref b :: st := by simp
    rcases hl with hl | ⟨host, hl⟩
    · obtain ⟨mk, methM, cM, kP, vm₁, hnamed, hmethM, hcodeM, -, hlocalsM, -, hkP, -, hW₁, hstep₁⟩ := Steps.initColdArgs (e := e) X.here hC.x X.warmed hpl hC.own hyi hy.2.2.2.1 (hT.1 _ hl args) (hT.1 _ hin args) hcode (f := F0 m pc ls ((Value.ref b :: As).reverse ++ st)) rfl hlen' hstk (by rw [hC.b]; exact d)
      exact ⟨mk, vm₁, hnamed, X.noted hW₁, hstep₁⟩
    · obtain ⟨mk, methM, cM, kP, vm₁, hnamed, hmethM, hcodeM, -, hlocalsM, -, hkP, -, hW₁, hstep₁⟩ := Steps.initColdArgsNest (e := e) X.here hC.x X.warmed hpl hC.own hyi hy.2.2.2.1 (va_Nw.use rfl (hT.2.2.1 _ _ _ _ hl)) (hT.1 _ hin args) hcode (f := F0 m pc ls ((Value.ref b :: As).reverse ++ st)) rfl hlen' hstk (by rw [hC.b]; exact d)
      exact ⟨mk, vm₁, hnamed, X.noted hW₁, hstep₁⟩
/-- a call of an object's method: by the object's class -/
def jx_tb (tab : List (Nat × jx_Mt)) (ci : Nat) : Option jx_Mt := match tab with
  | [] => none
  | q :: r => if q.1 = ci then some q.2 else jx_tb r ci
theorem jx_tb_mem {tab : List (Nat × jx_Mt)} {ci : Nat} {F : jx_Mt} (h : jx_tb tab ci = some F) : (ci, F) ∈ tab := by
  induction tab with
  | nil => cases h
  | cons q r ih =>
    unfold jx_tb at h
    split at h
    · rename_i e
      cases h
      rw [← e]
      exact List.mem_cons_self
    · exact List.mem_cons_of_mem _ (ih h)
def jx_ev (tab : List (Nat × jx_Mt)) (vs : List Value) : List Value → jx_S → jx_M (Option Value) := fun L h => match vs with
  | .ref b :: _ => (match h.2.2 b with
    | some (.inr (ci, _)) => (match jx_tb tab ci with
      | some F => jx_ec F vs L h
      | none => none)
    | _ => none)
  | _ => none
/-- a row of such a table: class number ci, by the method y of contract F -/
def jx_ve (x : MethodName) (n fr lo : Nat) (ci : Nat) (F : jx_Mt) : Prop := ∃ (C : String) (T : u_T) (N : Nat) (y : MethodName) (Z' : jx_Z), jx_cl[ci]? = some (C, T, N) ∧ Cond.selects C x y ∈ jx_tbl ∧ jx_mw y Z' ∧ Cond.instanceMethod y ∈ jx_tbl ∧ jx_Me (n + 1) Z' F ∧ Z'.2.2.2.2.2.1 + 1 ≤ fr ∧ 16 + (Z'.2.2.2.1 + 11) + Z'.2.2.2.2.2.2 ≤ lo
/-- the method that the instruction names is declared, in a class that is no interface -/
def jx_dc (x : MethodName) : Prop := (x.cls ≠ "java/lang/invoke/MethodHandle" ∧ x.cls ≠ "java/lang/invoke/VarHandle") ∧ (Cond.declares x ∈ lw_tbl ∨ (Cond.instanceMethod x ∈ jx_tbl ∧ ∃ b n r, Cond.code x b n r ∈ jx_tbl)) ∧ ∃ C0 x0 y0, Cond.selects C0 x0 y0 ∈ jx_tbl ∧ y0.cls = x.cls
theorem s_ecv {Z : jx_Z} {k pc n idx : Nat} {tab : List (Nat × jx_Mt)} {x : MethodName} (htab : ∀ q ∈ tab, jx_ve x n Z.2.2.2.2.2.1 Z.2.2.2.2.2.2 q.1 q.2) (hdc : jx_dc x) (hk : k ≤ 16) (hl : jx_lm Z.1 idx x) (hd : (parseMethodDescriptor x.desc).map (fun d => d.parameters.length) = some n) (d : decode Z.2.2.1 pc = .ok (.invokevirtual idx, 3)) (vs : List Value) :
    jx_Sim Z k pc vs.reverse (jx_ev tab vs) (fun v => [(pc + 3, v.toList)]) := by
  intro L h r hr
  have hr0 := hr
  unfold jx_ev at hr
  split at hr
  · rename_i b As
    split at hr
    · rename_i ci fs hq
      split at hr
      · rename_i F hF
        obtain ⟨C, T0, N, y, Z', hc, hsel, hy, hin, hM, hfr, hlo⟩ := htab _ (jx_tb_mem hF)
        obtain ⟨o1, h1, hFF, hcase⟩ := jx_ec_spec hr
        obtain ⟨hle, hlen⟩ := hM.1 _ h o1 h1 hFF
        have hat : jx_at r = h1 := by
          rcases hcase with ⟨v, -, rfl⟩ | ⟨x, -, rfl⟩ <;> rfl
        refine ⟨by rw [hat]; exact hle, fun p l e R s m args below meth c V u o h' hC hfit hs hu hle' st hst hT hthr H ls locs hR hL T hTH X => ?_⟩
        rw [hat] at hle'
        subst hTH
        have hTT := hC.t
        obtain ⟨⟨hmh, hmh2⟩, hdecl, C0, x0, y0, hs0, hy0⟩ := hdc
        have hD : va_Decl s x := by
          rcases hdecl with hz | ⟨h1, b0, n0, r0, h2⟩
          · exact va_Decl.abs (hTT.2.2.2.1 _ hz)
          · exact va_Decl.of (hTT.1 _ h1 args) (hTT.1 _ h2 args)
        obtain ⟨r0, rr, hn, hrm, hstR, hsigR⟩ := hD
        obtain ⟨cellB, hcB, hoB, hclB⟩ := va_recv hC.k (hR.one hq) hc (he := (rfl : ([(b, jx_tr V.2.1 (.inr (ci, fs)))] : va_W)[0]? = some (b, .inr (ci, fs))))
        obtain ⟨mk, methM, hnamed, hmethM, hstM, habM⟩ := Cond.instanceMethod_spec (hTT.1 _ hin args)
        obtain ⟨c2, r2, m2, q1, q2, q3, q4, kP, hkP, hkPi⟩ := Cond.selects_spec (hTT.1 _ hsel args)
        cases hclB.symm.trans q1
        cases (State.methodFound?_of_named hn ⟨hmh, hmh2⟩).symm.trans q2
        cases hnamed.symm.trans q3
        obtain ⟨_, _, m3, -, -, w3, -, kP3, hkP3, hkPi3⟩ := Cond.selects_spec (hTT.1 _ hs0 args)
        have hcls3 : m3.cls = r0.cls := by
          have e1 := findClass_of_methodNamed w3
          have e2 := findClass_of_methodNamed hn
          rw [hy0] at e1
          exact Option.some.inj (e1.symm.trans e2)
        rw [hcls3] at hkP3
        have hselP : selectMethod e.platform s.vm cellB.cls r0 = .method mk := by rw [Launch.admits_selectMethod X.admits]; exact q4
        have hlen' : As.length = rr.sig.parameters.length := by
          rw [hsigR] at hd
          have hq2 : rr.sig.parameters.length = n := Option.some.inj hd
          simp only [List.length_cons] at hlen
          omega
        have hstk : (F0 m pc ls ((Value.ref b :: As).reverse ++ st)).stack = As.reverse ++ .ref b :: st := by simp
        have hlk : ∃ vm', Stand p l e R s m args below meth c (T.setVm vm') locs (h.1 - s.heap.size) (h.2.1 - u) ∧ ∀ target, (∀ acts, Steps p.tables e below (doInvoke e ((T.setVm vm').setTop (F0 m pc ls st)) acts mk (Value.ref b :: As).toArray).1 target) → Steps p.tables e below (T.setTop (F0 m pc ls ((Value.ref b :: As).reverse ++ st))) target := by
          rcases hl with hl | ⟨host, hl⟩
          · exact X.invokevirtual hC.x hC.own (hTT.1 _ hl args) hn hrm hstR hkP3 hkPi3 ⟨hmh, hmh2⟩ (a := b) (cell := cellB) hcB (fun z h => by rw [h] at hoB; cases hoB) hselP hmethM habM hkP hkPi (g := F0 m pc ls ((Value.ref b :: As).reverse ++ st)) rfl (argsL := As) (rest := st) hlen' hstk (by rw [hC.b]; exact d)
          · exact X.invokevirtualNest hC.x hC.own (va_Nw.use rfl (hTT.2.2.1 _ _ _ _ hl)) hn hrm hstR hkP3 hkPi3 ⟨hmh, hmh2⟩ (a := b) (cell := cellB) hcB (fun z h => by rw [h] at hoB; cases hoB) hselP hmethM habM hkP hkPi (g := F0 m pc ls ((Value.ref b :: As).reverse ++ st)) rfl (argsL := As) (rest := st) hlen' hstk (by rw [hC.b]; exact d)
        obtain ⟨vm', X1, hstep⟩ := hlk
        have hsize : (F0 m pc ls st).locals.size = c.maxLocals := hL.1
        have f1 := hfit.1
        have f2 := hfit.2
        have l1 := hle'.1
        have l2 := hle'.2
        obtain ⟨T', locs', X', hR', hret, hthw⟩ := jx_run (vs := Value.ref b :: As) hM hy X1 hC.x hC.t hC.k hC.xx hC.tr (Nat.le_trans hfr hC.fr) (Nat.le_trans hlo hC.lo) hFF hR ⟨by omega, by omega⟩ hs hu (g := F0 m pc ls st) rfl hsize (by rw [hC.b]; exact d) (by
            show 2 * 0 + (st.map fun v => v.category).sum ≤ 16
            have : (st.map fun v => v.category).sum = jx_wt st := rfl
            omega) hnamed
        rcases hcase with ⟨v, rfl, rfl⟩ | ⟨x, rfl, rfl⟩
        · obtain ⟨t, a1, b1⟩ := hT v h1 rfl (pc + 3, v.toList) (List.mem_singleton.mpr rfl) T'.heap ls locs' hR' hL T' rfl X'
          exact ⟨t, hstep t fun acts => (hret v rfl acts).trans a1, b1⟩
        · obtain ⟨rfl, rfl⟩ := hthr x h1 rfl
          obtain ⟨hw, h2, h3, h4, h5⟩ := X'.leaveThrown x (g := F0 m pc ls st) rfl rfl rfl (fun z hz => by rw [hC.nh] at hz; cases hz) hC.locks
          exact ⟨_, hstep _ fun acts => (hthw x rfl acts).trans hw, h2, h3, h4, locs', hR', h5⟩
      · cases hr
    · cases hr
  · cases hr
