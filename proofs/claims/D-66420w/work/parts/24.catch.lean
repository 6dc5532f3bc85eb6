/-! CATCHING: a handler's class may be unresolved yet -/
section JX24
theorem jx_fh_cold {E : CtlPost} {e : Env} {d : Bool} {acts : List Action} {s : State} {f : JFrame} {a : Addr} {Q : Handler → Pre} {x : ExceptionTableEntry} {t : List ExceptionTableEntry} {c : ClassId} {vm' : Vm} (hx : covers x f.pc = true) (h0 : x.catchType ≠ 0)
    (hg : (Jvm.resolveClass f.method.cls x.catchType).Gives e.toSetting s.vm (.ok c) vm') (hr : vm'.classReady f.method.cls x.catchType c) (hsz : vm'.classes.size ≤ s.vm.classes.size) :
    wp (findHandler.go f a (x :: t)) Q E e d acts s ↔ wp (findHandler.go f a (x :: t)) Q E e d acts (s.setVm vm') := by
  simp only [covers] at hx
  obtain ⟨ha, ht⟩ := hg.op (op := VmOp.resolveClass f.method.cls x.catchType) rfl
  obtain ⟨k, hkd, hres⟩ := hr
  obtain ⟨hb, hu⟩ := resolveClass_memo e hkd hres
  have e0 : (s.setVm vm').setVm vm' = s.setVm vm' := rfl
  simp [findHandler.go, hx, h0, ha, ht, hb, hu, hsz, VmOp.dirties, VmOp.acts, e0]
/-- the rows of a handlers' table up to the one that takes the class C: the others' classes are no superclasses of C -/
def jx_hs (own C : String) (s : State) (pc hpc : Nat) : List ExceptionTableEntry → List String → Prop
  | x :: t, n :: ns => covers x pc = true ∧ x.catchType ≠ 0 ∧ Cond.classLink own x.catchType n ∈ jx_tbl ∧ ((n = C ∧ x.handlerPc = hpc) ∨ (va_Nc C n s ∧ jx_hs own C s pc hpc t ns))
  | _, _ => False
variable {p : Program} {l : Launch} {e : Env} {R : Room} {s : State} {m : MethodId} {args : Array Value} {below : List Frame} {meth : Method} {c : Code} {T : State} {locs : List Loc} {cells slots : Nat}
theorem jx_fh (args : Array Value) {own C : String} (hown : s.vm.findClass own = some m.cls) (hT : jx_T s) (hpl : e.platform.magicAccessors = ({} : Platform).magicAccessors) {g : JFrame} (hg : g.method = m) {a : Addr} {cell : Cell} (hcls : s.vm.findClass C = some cell.cls) (hns : cell.vm.isStatics = false) (hself : s.vm.assignable cell.cls cell.cls = true) {hpc : Nat} (U : State) (hcell : U.heap[a]? = some cell) : ∀ (t : List ExceptionTableEntry) (ns : List String) (vm : Vm), s.WarmedH vm → jx_hs own C s g.pc hpc t ns →
    ∃ vm', s.WarmedH vm' ∧ ∀ (Q : Handler → Pre) (E : CtlPost) (d : Bool) (acts : List Action), wp (findHandler.go g a t) Q E e d acts (U.setVm vm) ↔ Q (.found hpc) d acts (U.setVm vm') := by
  intro t
  induction t with
  | nil => intro ns vm hW h; exact h.elim
  | cons x t ih =>
    intro ns vm hW h
    cases ns with
    | nil => exact h.elim
    | cons n ns =>
      obtain ⟨h1, h2, h3, h4⟩ := h
      obtain ⟨c', hc', hcl⟩ := Cond.classLink_spec hown (hT.1 _ h3 args) e.platform hpl
      obtain ⟨dk, _, _, kt, hd, _, _, _, _, hkt, _, hopen⟩ := hcl.here
      have hcl₀ := hW.classLinks hcl
      have hW' : s.WarmedH (vm.noted m.cls x.catchType (.cls c')) := hW.noted hd hopen (State.rightAt_cls hcl)
      obtain ⟨kt', hkt', -⟩ := hW'.alike.2.2 _ _ hkt
      obtain ⟨ks, hks⟩ := Vm.classAt_of_findClass hcls
      obtain ⟨ks', hks', -⟩ := hW'.alike.2.2 _ _ hks
      subst hg
      have hsz : (vm.noted g.method.cls x.catchType (.cls c')).classes.size ≤ (U.setVm vm).vm.classes.size := by
        show _ ≤ vm.classes.size
        rw [Vm.size_noted]
        exact Nat.le_refl _
      have hcold : ∀ (Q : Handler → Pre) (E : CtlPost) (d : Bool) (acts : List Action), wp (findHandler.go g a (x :: t)) Q E e d acts (U.setVm vm) ↔ wp (findHandler.go g a (x :: t)) Q E e d acts (U.setVm (vm.noted g.method.cls x.catchType (.cls c'))) := fun Q E d acts => jx_fh_cold (s := U.setVm vm) h1 h2 (resolveClass_links e.toSetting hcl₀) hcl₀.ready hsz
      have hgo : ∀ (Q : Handler → Pre) (E : CtlPost) (d : Bool) (acts : List Action), wp (findHandler.go g a (x :: t)) Q E e d acts (U.setVm (vm.noted g.method.cls x.catchType (.cls c'))) ↔ if (vm.noted g.method.cls x.catchType (.cls c')).assignable cell.cls c' = true then Q (.found x.handlerPc) d acts (U.setVm (vm.noted g.method.cls x.catchType (.cls c'))) else wp (findHandler.go g a t) Q E e d acts (U.setVm (vm.noted g.method.cls x.catchType (.cls c'))) := fun Q E d acts => W.findHandler_go_class (s := U.setVm (vm.noted g.method.cls x.catchType (.cls c'))) h1 h2 hcl₀.ready hcell (VmData.ne_statics_of hns) ⟨ks', hks'⟩ ⟨kt', hkt'⟩
      rcases h4 with ⟨rfl, rfl⟩ | ⟨h4, h5⟩
      · have e1 : c' = cell.cls := Option.some.inj (hc'.symm.trans hcls)
        refine ⟨_, hW', fun Q E d acts => ?_⟩
        rw [hcold, hgo, if_pos (by rw [hW'.alike.assignable, e1]; exact hself)]
      · obtain ⟨z1, z2, w1, w2, w3⟩ := h4
        have e1 : c' = z2 := Option.some.inj (hc'.symm.trans w2)
        have e2 : cell.cls = z1 := Option.some.inj (hcls.symm.trans w1)
        obtain ⟨vm', g1, g2⟩ := ih ns _ hW' h5
        refine ⟨vm', g1, fun Q E d acts => ?_⟩
        rw [hcold, hgo, if_neg (by rw [hW'.alike.assignable, e1, e2, w3]; decide)]
        exact g2 Q E d acts
/-- the exception is caught: the walk goes on at the handler, with the reference alone on the stack -/
theorem jx_catch (X : Stand p l e R s m args below meth c T locs cells slots) {own C : String} (hown : s.vm.findClass own = some m.cls) (hT : jx_T s) {g : JFrame} (hg : g.method = m) {a : Addr} {cell : Cell} (hcell : T.heap[a]? = some cell) (hcls : s.vm.findClass C = some cell.cls) (hns : cell.vm.isStatics = false) (hself : s.vm.assignable cell.cls cell.cls = true) {hpc : Nat} {ns : List String} (hh : jx_hs own C s g.pc hpc c.exceptionTable.toList ns) :
    ∃ vm', Stand p l e R s m args below meth c (T.setVm vm') locs cells slots ∧ ∀ target, Steps p.tables e below ((T.setVm vm').setTop { g with pc := hpc, stack := [.ref a] }) target → Steps p.tables e below ((T.setTop g).pushFrame (.throwing a)) target := by
  have hpl : e.platform.magicAccessors = ({} : Platform).magicAccessors := by rw [X.admits.platform]
  obtain ⟨vm', hW', hgo⟩ := jx_fh args hown hT hpl hg hcls hns hself ((T.setTop g).pushFrame (.throwing a)) (by rw [Stand.throwing_heap]; exact hcell) c.exceptionTable.toList ns T.vm X.warmed hh
  refine ⟨vm', X.noted hW', fun target hrest => ?_⟩
  subst hg
  have hvm : ((T.setTop g).pushFrame (.throwing a)).vm = T.vm := Stand.throwing_vm T g a
  have hself2 : ((T.setTop g).pushFrame (.throwing a)).setVm T.vm = (T.setTop g).pushFrame (.throwing a) := by
    rw [← hvm]
    rfl
  rw [hself2] at hgo
  have hm' : ((T.setTop g).pushFrame (.throwing a)).vm.method? g.method = some meth := by rw [hvm]; exact X.method'
  have hfind : ∀ (Q : Handler → Pre) (E : CtlPost) (d : Bool) (acts : List Action), wp (findHandler g a) Q E e d acts ((T.setTop g).pushFrame (.throwing a)) ↔ Q (.found hpc) d acts (((T.setTop g).pushFrame (.throwing a)).setVm vm') := fun Q E d acts => (W.findHandler_eq hm' X.code).trans (hgo Q E d acts)
  obtain ⟨hgo2, hw⟩ := X.here.throwing a
  refine Steps.head hgo2 hw ?_
  have hst : (stepThrowing e ((T.setTop g).pushFrame (.throwing a)) a (.java g :: T.frames.tail)).1 = (((T.setTop g).pushFrame (.throwing a)).setVm vm').setFrames (.java { g with pc := hpc, stack := [.ref a] } :: T.frames.tail) := by
    simp only [stepThrowing, searchFrame, vmDo]
    generalize hr : Sem.go _ e false [] ((T.setTop g).pushFrame (.throwing a)) = res
    obtain ⟨as, rfl, ha⟩ := Sem.eq_ok_of hr (a := Handler.found hpc) (s' := ((T.setTop g).pushFrame (.throwing a)).setVm vm') (acts' := []) (by simp [hfind _ _ _ _])
    rfl
  rw [stepThread_throwing (frames_entered X.here.top _), hst]
  obtain ⟨g₀, hg0⟩ := Option.isSome_iff_exists.mp X.here.top
  obtain ⟨r, hr⟩ := State.topJava?_eq_some.mp hg0
  have hr' : (T.setVm vm').frames = .java g₀ :: r := hr
  rw [State.setTop_of_frames _ hr'] at hrest
  rw [State.pushFrame, State.setTop_of_frames _ hr]
  rw [hr]
  have e1 : (((T.setFrames (.java g :: r)).setFrames (.throwing a :: (T.setFrames (.java g :: r)).frames)).setVm vm').setFrames (.java { g with pc := hpc, stack := [.ref a] } :: r) = (T.setVm vm').setFrames (.java { g with pc := hpc, stack := [.ref a] } :: r) := by
    rw [State.setFrames_setFrames]
    show ((T.setFrames _).setVm vm').setFrames _ = _
    have e2 : (T.setFrames (.throwing a :: (T.setFrames (.java g :: r)).frames)).setVm vm' = (T.setVm vm').setFrames (.throwing a :: (T.setFrames (.java g :: r)).frames) := rfl
    rw [e2, State.setFrames_setFrames]
  show Steps p.tables e below ((((T.setFrames (.java g :: r)).setFrames (.throwing a :: (T.setFrames (.java g :: r)).frames)).setVm vm').setFrames (.java { g with pc := hpc, stack := [.ref a] } :: r)) target
  rw [e1]
  exact hrest
end JX24
