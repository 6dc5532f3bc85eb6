/-! THROWS: a walk begun anew at a later state; new X(..), thrown -/
section JX9
variable {p : Program} {l : Launch} {e : Env} {R : Room} {s : State} {m : MethodId} {args : Array Value} {below : List Frame} {meth : Method} {c : Code} {T : State} {locs : List Loc} {cells slots : Nat}
/-- the walk as if the method began here -/
theorem jx_rebase (X : Stand p l e R s m args below meth c T locs cells slots) (hc : cells ≤ R.cells) (hs : slots ≤ R.slots) : Stand p l e { R with cells := R.cells - cells, slots := R.slots - slots } (T.setFrames (.invoking m args :: below)) m args below meth c T [] 0 0 := by
  obtain ⟨g₀, hfr⟩ := X.frames_eq
  have hcur : T.cur < T.threads.size := State.cur_lt_of_frames hfr
  have hf : (T.setFrames (.invoking m args :: below)).frames = .invoking m args :: below := State.frames_setFrames _ hcur
  have hmeth : (T.setFrames (.invoking m args :: below)).vm.method? m = some meth := X.method'
  have hcur2 : (T.setFrames (.invoking m args :: below)).cur < (T.setFrames (.invoking m args :: below)).threads.size := State.cur_lt_of_frames hf
  obtain ⟨th, hth, -⟩ := State.frames_cons hf
  obtain ⟨th0, hth0, -⟩ := State.frames_cons hfr
  refine ⟨X.admits, X.cas, X.clock, hf, ?_, ?_, hmeth, X.code, X.here, X.tail, State.WarmedH.refl _, by rw [State.stackLimits_setFrames], by rw [State.stackBytes_setFrames], ?_⟩
  · have h0 := X.room
    have hb := X.book
    have hz := X.heapSize
    have hu := X.used
    have hl1 : (T.setFrames (.invoking m args :: below)).localsInUse = s.localsInUse := by
      rw [State.localsInUse_invoking hf hmeth X.code, State.localsInUse_invoking X.frames X.method X.code]
    have hl2 : e.platform.stackLimits (T.setFrames (.invoking m args :: below)).me = e.platform.stackLimits s.me := by rw [State.stackLimits_setFrames]; exact X.limits
    have hl3 : (T.setFrames (.invoking m args :: below)).me.stackBytes = s.me.stackBytes := by rw [State.stackBytes_setFrames]; exact X.bytes
    have hl4 : (T.setFrames (.invoking m args :: below)).frames.length = s.frames.length := by rw [hf, X.frames]
    have hst : (T.setFrames (.invoking m args :: below)).slotsTrue = true := hb
    simp only [State.hasRoom, Bool.and_eq_true, decide_eq_true_eq] at h0 ⊢
    rw [hl1, hl2, hl3, hl4]
    refine ⟨⟨⟨h0.1.1.1, ?_⟩, ?_⟩, hst⟩
    · show T.heap.size + (R.cells - cells) ≤ _
      have := h0.1.1.2
      omega
    · show T.slotsUsed + (R.slots - slots) ≤ _
      have := h0.1.2
      omega
  · have h0 := X.hears
    have hal := X.warmed.alike
    cases below with
    | nil =>
      unfold State.hears at h0 ⊢
      show (T.vm.method? m).any _ = true
      rw [hal.method?]
      exact h0
    | cons f r =>
      cases f with
      | java g =>
        unfold State.hears at h0 ⊢
        have hcode : (T.setFrames (.invoking m args :: .java g :: r)).code? g.method = s.code? g.method := by
          rw [State.code?_eq, State.code?_eq]
          show (T.vm.method? g.method).bind _ = _
          rw [hal.method?]
        dsimp only at h0 ⊢
        rw [hcode]
        exact h0
      | native _ => rfl
      | proc _ => rfl
      | _ =>
        unfold State.hears at h0 ⊢
        show (T.vm.method? m).any _ = true
        rw [hal.method?]
        exact h0
  · have h := (State.sameButNew.refl (T.setFrames (.invoking m args :: below)) hth).setFrames T.frames hcur2
    have e1 : (T.setFrames (.invoking m args :: below)).setFrames T.frames = T := by rw [State.setFrames_setFrames, State.setFrames_self hth0]
    rw [e1] at h
    exact h
/-- what was done since the new beginning, seen from the old one -/
theorem jx_back (X : Stand p l e R s m args below meth c T locs cells slots) {t : State} {k n : Nat} (h : (T.setFrames (.invoking m args :: below)).sameButNew ({ t with vm := (T.setFrames (.invoking m args :: below)).vm } : State) [] k n) : s.sameButNew ({ t with vm := s.vm } : State) locs (cells + k) (slots + n) := by
  obtain ⟨g₀, hfr⟩ := X.frames_eq
  have hcur : T.cur < T.threads.size := State.cur_lt_of_frames hfr
  obtain ⟨th0, hth0, -⟩ := State.frames_cons hfr
  obtain ⟨e2, q2, q3, q4, q5, q6⟩ := h
  have hB : T.sameButNew ({ T with heap := t.heap, slotsUsed := t.slotsUsed } : State) [] k n := by
    refine ⟨?_, q2, q3, q4, q5, q6⟩
    show ({ T with heap := t.heap, slotsUsed := t.slotsUsed } : State) = { T.setFrames T.frames with heap := t.heap, slotsUsed := t.slotsUsed }
    rw [State.setFrames_self hth0]
  have h1 := (X.same.trans (hB.setVm s.vm)).setFrames t.frames X.cur
  rw [List.append_nil] at h1
  have e3 : (({ T with heap := t.heap, slotsUsed := t.slotsUsed } : State).setVm s.vm).setFrames t.frames = ({ t with vm := s.vm } : State) := by
    have e4 : ({ t with vm := (T.setFrames (.invoking m args :: below)).vm } : State).setVm s.vm = ({ t with vm := s.vm } : State) := rfl
    rw [← e4, e2]
    show _ = (({ (T.setFrames (.invoking m args :: below)).setFrames t.frames with heap := t.heap, slotsUsed := t.slotsUsed } : State)).setVm s.vm
    rw [State.setFrames_setFrames]
    rfl
  rw [e3] at h1
  exact h1
end JX9
/-- every word of a list stands at the state -/
def jx_wok (w : Cond) : Bool := decide (w ∈ jx_tbl) || decide (w ∈ jx_xw) || (match w with
  | .declares _ => decide (w ∈ lw_tbl)
  | .castable .. => decide (w ∈ lw_tbl)
  | _ => false)
theorem jx_atoms {s : State} (hT : jx_T s) (hX : ∀ w ∈ jx_xw, ∀ a : Array Value, w.before a s = true) {ws : List Cond} (h : ws.all jx_wok = true) : ∀ w ∈ ws, ∀ a : Array Value, w.before a s = true := by
  intro w hw a
  have h1 := List.all_eq_true.mp h w hw
  unfold jx_wok at h1
  simp only [Bool.or_eq_true, decide_eq_true_eq] at h1
  rcases h1 with (h1 | h1) | h1
  · exact hT.1 w h1 a
  · exact hX w h1 a
  · split at h1
    · exact va_Nw.use rfl (hT.2.2.2.1 _ (of_decide_eq_true h1))
    · exact va_Nw.use rfl (hT.2.2.2.2.1 _ _ (of_decide_eq_true h1))
    · cases h1
/-- throw new X(..): one cell of six slots more -/
def sThrow (ci : Nat) : jx_St := fun _ _ h => some (.threw h.1, (h.1 + 1, h.2.1 + 6, jx_up h.2.2 h.1 (.inr (ci, []))))
section JX9b
variable {Z : jx_Z} {pc : Nat}
/-- the end of a throw: from what the machine leaves, the picture -/
theorem jx_thrown {p : Program} {l : Launch} {e : Env} {R : Room} {s : State} {m : MethodId} {args : Array Value} {below : List Frame} {meth : Method} {c : Code} {T : State} {locs : List Loc} {V : jx_V} {h : jx_S} {u ci : Nat} {C : String} {F : u_T} (hc : jx_cl[ci]? = some (C, F, 0)) (hs : s.heap.size ≤ h.1) (hu : u ≤ h.2.1) (hK : jx_K V s) (X : Stand p l e R s m args below meth c T locs (h.1 - s.heap.size) (h.2.1 - u)) (hR : jx_R V h T.heap locs) {t : State} (h1 : t.status = .running) (h2 : Ended t below (.threw h.1)) (h3 : (T.setFrames (.invoking m args :: below)).WarmedH t.vm)
    (h4 : (T.setFrames (.invoking m args :: below)).sameButNew ({ t with vm := (T.setFrames (.invoking m args :: below)).vm } : State) [] 1 6) {ce : Cell} (h5 : t.heap[h.1]? = some ce) (h6 : ce.vm = .none) (h7 : s.vm.findClass C = some ce.cls) : jx_Q s below V u (.threw h.1) (h.1 + 1, h.2.1 + 6, jx_up h.2.2 h.1 (.inr (ci, []))) t := by
  have hb := jx_back X h4
  obtain ⟨-, q2, q3, -, -, q6⟩ := h4
  have hsz : t.heap.size ≤ T.heap.size + 1 := q3
  have hl : h.1 < t.heap.size := (Array.getElem?_eq_some_iff.mp h5).1
  have r1 := hR.1
  have hold : ∀ q : Nat, q < h.1 → t.heap[q]? = T.heap[q]? := by
    intro q hq
    have hlt : q < T.heap.size := by omega
    have hg : T.heap[q]? = some T.heap[q] := Array.getElem?_eq_getElem hlt
    obtain ⟨c', g1, g2, g3, g4⟩ := q6 q T.heap[q] hg
    have e1 : c'.slots = T.heap[q].slots := by
      apply Array.ext_getElem?
      intro i
      exact g4 i (by simp)
    rw [hg]
    refine Eq.trans (show t.heap[q]? = some c' from g1) ?_
    rw [g2, e1]
  refine ⟨h1, h2, State.WarmedH.trans X.warmed h3, locs, ?_, ?_⟩
  · have hn := hR.new (o := .inr (ci, [])) (H1 := t.heap) (n := 6) ?_ (by omega) hold
    · exact hn
    · refine ⟨_, hc, ce, h5, ?_, h6, fun k hk => absurd hk (Nat.not_lt_zero k)⟩
      exact Option.some.inj (h7.symm.trans (hK.1 ci _ hc).2.1)
  · rw [show h.1 + 1 - s.heap.size = h.1 - s.heap.size + 1 by omega, show h.2.1 + 6 - u = h.2.1 - u + 6 by omega]
    exact hb
theorem t_throwS {ci i1 i2 i3 : Nat} {C tx : String} {F : u_T} {names : List String} {E : List Nat} (hc : jx_cl[ci]? = some (C, F, 0)) (hcl : Cond.classLink Z.1 i1 C ∈ jx_tbl) (hinst : Cond.instantiable C 6 ∈ jx_tbl) (hini : Cond.initialized C ∈ jx_tbl) (hstr : Cond.stringRef Z.1 i2 tx ∈ lw_tbl) (hat : (Bundle.ownAtoms Z.1 i3 C names).all jx_wok = true) (hfit : Bundle.fit C = true) (hfits : ∀ n ∈ names, Bundle.fit n = true)
    (d0 : decode Z.2.2.1 pc = .ok (.new i1, 3)) (d3 : decode Z.2.2.1 (pc + 3) = .ok (.dup, 1)) (d4 : decode Z.2.2.1 (pc + 3 + 1) = .ok (.ldc i2, 2)) (d6 : decode Z.2.2.1 (pc + 3 + 1 + 2) = .ok (.invokespecial i3, 3)) (d9 : decode Z.2.2.1 (pc + 3 + 1 + 2 + 3) = .ok (.athrow, 1)) (hfr : names.length + 3 < Z.2.2.2.2.2.1) (hlo : 1 + (13 * (names.length + 1) + 42) ≤ Z.2.2.2.2.2.2) : jx_Ts Z pc (sThrow ci) E := fun _ _ L h o h' hr => by
  cases hr
  refine ⟨⟨Nat.le_succ _, Nat.le_add_right _ _⟩, fun p l e R s m args below meth c V u hC hfi hs hu H ls locs hR hL T hTH X => ?_⟩
  subst hTH
  have f1 : h.1 + 1 - s.heap.size ≤ R.cells := hfi.1
  have f2 : h.2.1 + 6 - u ≤ R.slots := hfi.2
  have Y := jx_rebase X (by omega) (by omega)
  have hwarm : s.WarmedH (T.setFrames (.invoking m args :: below)).vm := X.warmed
  have hT2 := hC.t.warm hwarm
  have hX2 : ∀ w ∈ jx_xw, ∀ a : Array Value, w.before a (T.setFrames (.invoking m args :: below)) = true := fun w hw a => hC.xx (T.setFrames (.invoking m args :: below)) a hwarm.alike hR.2.2.1 w hw
  have hown2 : (T.setFrames (.invoking m args :: below)).vm.findClass Z.1 = some m.cls := by rw [hwarm.alike.findClass]; exact hC.own
  have hfc : s.vm.findClass C = some (V.1.1 ci) := (hC.k.1 ci _ hc).2.1
  have hfc2 : (T.setFrames (.invoking m args :: below)).vm.findClass C = some (V.1.1 ci) := by rw [hwarm.alike.findClass]; exact hfc
  obtain ⟨q, hq⟩ := hT2.2.2.2.2.2.2 _ _ _ hstr
  have hfrR := hC.fr
  have hloR := hC.lo
  have w : W p l e { R with cells := R.cells - (h.1 - s.heap.size), slots := R.slots - (h.2.1 - u) } (T.setFrames (.invoking m args :: below)) m args below meth c T.heap [] 0 0 (jx_Q s below V u (.threw h.1) (h.1 + 1, h.2.1 + 6, jx_up h.2.2 h.1 (.inr (ci, [])))) (F0 m pc ls []) := by
    refine W.newcK hC.x hC.b hown2 (hT2.1 _ hcl _) (hT2.1 _ hinst _) (hT2.1 _ hini _) rfl d0 (by show 0 + 1 ≤ R.cells - _; omega) (by show 0 + 6 ≤ R.slots - _; omega) hfc2 hR.1 fun H1 kC hkC e1 z1 o1 => ?_
    refine lv_dup hC.x hC.b d3 rfl ?_
    refine va_ldcS hC.x hC.b hown2 hq d4 ?_
    intro T2 hT2h X2
    obtain ⟨U, g1, g2, g3, g4, g5, ce, g6, g7⟩ := X2.ctorThrowS hC.x hC.tr hown2 hfit hfits (fun w hw => jx_atoms hT2 hX2 hat w hw _) (fun x hx => by cases hx) hfc2 hkC (a := h.1) (by rw [hT2h, e1]; rfl) (by show T.heap.size ≤ h.1; rw [hR.1]; exact Nat.le_refl _) (msg := .ref q) rfl (g := F0 m (pc + 3 + 1 + 2) ls [.ref q, .ref h.1, .ref h.1]) rfl hL.1 rfl rfl (rest := []) rfl (by rw [hC.b]; exact d6) (by rw [hC.b]; exact d9) (fun x hx => by rw [hC.nh] at hx; cases hx) (by show _ < R.frames; omega) (by show 2 * 0 + 1 + _ ≤ R.locals; omega) hC.locks
    exact ⟨U, g1, jx_thrown hc hs hu hC.k X hR g2 g3 g4 g5 g6 g7.vm (by rw [← hwarm.alike.findClass]; exact g7.cls)⟩
  exact w T rfl Y
theorem t_throw0 {ci i1 i3 : Nat} {C : String} {F : u_T} {names : List String} {E : List Nat} (hc : jx_cl[ci]? = some (C, F, 0)) (hcl : Cond.classLink Z.1 i1 C ∈ jx_tbl) (hinst : Cond.instantiable C 6 ∈ jx_tbl) (hini : Cond.initialized C ∈ jx_tbl) (hat : (Bundle.ownAtoms0 Z.1 i3 C names).all jx_wok = true) (hfit : Bundle.fit C = true) (hfits : ∀ n ∈ names, Bundle.fit n = true)
    (d0 : decode Z.2.2.1 pc = .ok (.new i1, 3)) (d3 : decode Z.2.2.1 (pc + 3) = .ok (.dup, 1)) (d6 : decode Z.2.2.1 (pc + 3 + 1) = .ok (.invokespecial i3, 3)) (d9 : decode Z.2.2.1 (pc + 3 + 1 + 3) = .ok (.athrow, 1)) (hfr : names.length + 3 < Z.2.2.2.2.2.1) (hlo : 1 + (13 * (names.length + 1) + 41) ≤ Z.2.2.2.2.2.2) : jx_Ts Z pc (sThrow ci) E := fun _ _ L h o h' hr => by
  cases hr
  refine ⟨⟨Nat.le_succ _, Nat.le_add_right _ _⟩, fun p l e R s m args below meth c V u hC hfi hs hu H ls locs hR hL T hTH X => ?_⟩
  subst hTH
  have f1 : h.1 + 1 - s.heap.size ≤ R.cells := hfi.1
  have f2 : h.2.1 + 6 - u ≤ R.slots := hfi.2
  have Y := jx_rebase X (by omega) (by omega)
  have hwarm : s.WarmedH (T.setFrames (.invoking m args :: below)).vm := X.warmed
  have hT2 := hC.t.warm hwarm
  have hX2 : ∀ w ∈ jx_xw, ∀ a : Array Value, w.before a (T.setFrames (.invoking m args :: below)) = true := fun w hw a => hC.xx (T.setFrames (.invoking m args :: below)) a hwarm.alike hR.2.2.1 w hw
  have hown2 : (T.setFrames (.invoking m args :: below)).vm.findClass Z.1 = some m.cls := by rw [hwarm.alike.findClass]; exact hC.own
  have hfc : s.vm.findClass C = some (V.1.1 ci) := (hC.k.1 ci _ hc).2.1
  have hfc2 : (T.setFrames (.invoking m args :: below)).vm.findClass C = some (V.1.1 ci) := by rw [hwarm.alike.findClass]; exact hfc
  have hfrR := hC.fr
  have hloR := hC.lo
  have w : W p l e { R with cells := R.cells - (h.1 - s.heap.size), slots := R.slots - (h.2.1 - u) } (T.setFrames (.invoking m args :: below)) m args below meth c T.heap [] 0 0 (jx_Q s below V u (.threw h.1) (h.1 + 1, h.2.1 + 6, jx_up h.2.2 h.1 (.inr (ci, [])))) (F0 m pc ls []) := by
    refine W.newcK hC.x hC.b hown2 (hT2.1 _ hcl _) (hT2.1 _ hinst _) (hT2.1 _ hini _) rfl d0 (by show 0 + 1 ≤ R.cells - _; omega) (by show 0 + 6 ≤ R.slots - _; omega) hfc2 hR.1 fun H1 kC hkC e1 z1 o1 => ?_
    refine lv_dup hC.x hC.b d3 rfl ?_
    intro T2 hT2h X2
    obtain ⟨U, g1, g2, g3, g4, g5, ce, g6, g7⟩ := X2.ctorThrow0 hC.x hC.tr hown2 hfit hfits (fun w hw => jx_atoms hT2 hX2 hat w hw _) (fun x hx => by cases hx) hfc2 hkC (a := h.1) (by rw [hT2h, e1]; rfl) (by show T.heap.size ≤ h.1; rw [hR.1]; exact Nat.le_refl _) (g := F0 m (pc + 3 + 1) ls [.ref h.1, .ref h.1]) rfl hL.1 rfl rfl (rest := []) rfl (by rw [hC.b]; exact d6) (by rw [hC.b]; exact d9) (fun x hx => by rw [hC.nh] at hx; cases hx) (by show _ < R.frames; omega) (by show 2 * 0 + 1 + _ ≤ R.locals; omega) hC.locks
    exact ⟨U, g1, jx_thrown hc hs hu hC.k X hR g2 g3 g4 g5 g6 g7.vm (by rw [← hwarm.alike.findClass]; exact g7.cls)⟩
  exact w T rfl Y
end JX9b
