/-! ARGUMENTS, CALLS AS EXPRESSIONS AND STATEMENTS, NEW OBJECTS, THROWS -/
def jx_as : List jx_Ex → List Value → jx_S → jx_M (List Value)
  | [] => fun _ h => jx_ok [] h
  | e :: es => fun L h => jx_b (e L h) fun v h1 => jx_b (jx_as es L h1) fun vs h2 => jx_ok (v :: vs) h2
abbrev jx_SA (Z : jx_Z) (k pc : Nat) (es : List jx_Ex) (q : Nat) : Prop := jx_Sim Z k pc [] (jx_as es) (fun vs => [(q, vs.reverse)])
section JX8
variable {Z : jx_Z} {k pc : Nat}
theorem s_a0 : jx_SA Z k pc [] pc := jx_Sim.nop [] (List.mem_singleton.mpr rfl)
theorem s_a1 {e : jx_Ex} {es : List jx_Ex} {q1 q : Nat} (he : jx_E Z k pc e q1) (hes : jx_SA Z (k + 2) q1 es q) : jx_SA Z k pc (e :: es) q :=
  jx_Sim.b1 he fun v => jx_Sim.b1 ((hes.mono (Nat.add_le_add_left (jx_cat1 v) k)).un1 [v]) fun vs => jx_Sim.nop (v :: vs) (List.mem_singleton.mpr (by rw [List.reverse_cons]))
abbrev jx_Ca : Type := List Value → List Value → jx_S → jx_M (Option Value)
def eCl (call : jx_Ca) (es : List jx_Ex) : jx_Ex := fun L h => jx_b (jx_as es L h) fun vs h1 => jx_b (call vs L h1) fun v h2 => match v with
  | some w => jx_ok w h2
  | none => none
def sCl (call : jx_Ca) (es : List jx_Ex) : jx_St := fun k L h => jx_kb (jx_as es L h) fun vs h1 => jx_kb (call vs L h1) fun v h2 => match v with
  | none => k L h2
  | some _ => none
theorem s_cl {call : jx_Ca} {es : List jx_Ex} {q : Nat} (ha : jx_SA Z k pc es q) (hc : ∀ vs, jx_Sim Z k q vs.reverse (call vs) (fun v => [(q + 3, v.toList)])) : jx_E Z k pc (eCl call es) (q + 3) :=
  jx_Sim.b1 ha fun vs => jx_Sim.b1 (hc vs) fun v => by
    cases v with
    | none => exact fun L h r hr => by cases hr
    | some w => exact jx_Sim.nop w (List.mem_singleton.mpr rfl)
theorem t_cl {call : jx_Ca} {es : List jx_Ex} {q : Nat} (ha : jx_SA Z 0 pc es q) (hc : ∀ vs, jx_Sim Z 0 q vs.reverse (call vs) (fun v => [(q + 3, v.toList)])) : jx_Ts Z pc (sCl call es) [q + 3] := fun k hk =>
  jx_B.b1 ha fun vs => jx_B.b1 (hc vs) fun v => by
    cases v with
    | some w => exact jx_B.none
    | none => exact hk _ (List.mem_singleton.mpr rfl)
/-- new C(es) -/
def eNew (ci N : Nat) (fs : List Value) (F : jx_Mt) (es : List jx_Ex) : jx_Ex := fun L h => jx_b (jx_nw ci N fs L h) fun a h1 => jx_b (jx_as es L h1) fun vs h2 => jx_b (jx_es F (.ref a :: vs) L h2) fun r h3 => match r with
  | none => jx_ok (.ref a) h3
  | some _ => none
theorem s_newi {ci N : Nat} {fs : List Value} {F : jx_Mt} {es : List jx_Ex} {q : Nat} (hn : ∀ k, jx_Sim Z k pc [] (jx_nw ci N fs) (fun x => [(pc + 3, [.ref x])])) (dd : decode Z.2.2.1 (pc + 3) = .ok (.dup, 1)) (ha : jx_SA Z (k + 4) (pc + 3 + 1) es q) (hc : ∀ vs, jx_Sim Z (k + 2) q vs.reverse (jx_es F vs) (fun v => [(q + 3, v.toList)])) : jx_E Z k pc (eNew ci N fs F es) (q + 3) := by
  refine jx_Sim.b1 (hn k) fun a => ?_
  refine s_dupr dd (fun _ _ _ _ => rfl) ?_
  refine jx_Sim.b1 ((ha.mono (k' := k + jx_wt [.ref a, .ref a]) (by have := jx_wt2 (.ref a) (.ref a); omega)).un1 [.ref a, .ref a]) fun vs => ?_
  have h1 := ((hc (.ref a :: vs)).mono (k' := k + jx_wt [.ref a]) (Nat.add_le_add_left (jx_cat1 _) k)).un1 [.ref a]
  have e1 : (Value.ref a :: vs).reverse ++ [.ref a] = vs.reverse ++ [.ref a, .ref a] := by simp
  rw [e1] at h1
  refine jx_Sim.b1 h1 fun r => ?_
  cases r with
  | some w => exact fun L h r hr => by cases hr
  | none => exact jx_Sim.nop _ (List.mem_singleton.mpr rfl)
/-- Object's constructor -/
def sObj (x : jx_Ex) : jx_St := fun k L h => jx_kb (x L h) fun v h1 => match v with
  | .ref _ => k L h1
  | _ => none
theorem t_obj {x : jx_Ex} {q idx : Nat} (hx : jx_E Z 0 pc x q) (hl : Cond.methodLink Z.1 idx Lib.objectInit ∈ jx_tbl) (hi : Cond.instanceMethod Lib.objectInit ∈ jx_tbl) (hcw : Cond.code Lib.objectInit ⟨#[0xb1]⟩ 1 none ∈ jx_tbl) (hfr : 1 ≤ Z.2.2.2.2.2.1) (hlo : 28 ≤ Z.2.2.2.2.2.2) (d : decode Z.2.2.1 q = .ok (.invokespecial idx, 3)) : jx_Ts Z pc (sObj x) [q + 3] := fun k hk =>
  jx_B.b1 hx fun v L h o h' hr => by
    split at hr
    · obtain ⟨hle, hsim⟩ := hk _ (List.mem_singleton.mpr rfl) L h o h' hr
      refine ⟨hle, fun p l e R s m args below meth c V u hC hfit hs hu H ls locs hR hL => ?_⟩
      have hT := hC.t
      have h1 := hC.fr
      have h2 := hC.lo
      exact W.objInit hC.x hC.b hC.own (hT.1 _ hl args) (hT.1 _ hi args) (hT.1 _ hcw args) rfl hL.1 rfl d (by omega) (by show 2 * 0 + 0 + 12 ≤ R.locals; omega) (hsim p l e R s m args below meth c V u hC hfit hs hu H ls locs hR hL)
    · cases hr
/-- System.arraycopy between arrays of ints -/
def jx_cpy (vs : List Value) : List Value → jx_S → jx_M (Option Value) := fun _ h => match vs with
  | [.ref a0, .int sp, .ref a, .int dp, .int n] => (match h.2.2 a0, h.2.2 a with
    | some (.inl (0, n0, .inl f)), some (.inl (0, n1, .inl g)) => if 0 ≤ sp ∧ 0 ≤ dp ∧ 0 ≤ n ∧ sp.toNatClampNeg + n.toNatClampNeg ≤ n0 ∧ dp.toNatClampNeg + n.toNatClampNeg ≤ n1 then jx_ok none (h.1, h.2.1, jx_up h.2.2 a (.inl (0, n1, .inl (va_cpy f g sp.toNatClampNeg dp.toNatClampNeg n.toNatClampNeg)))) else none
    | _, _ => none)
  | _ => none
theorem jx_cpy_spec {vs L : List Value} {h : jx_S} {r : (Option Value × jx_S) ⊕ (Nat × jx_S)} (hr : jx_cpy vs L h = some r) : ∃ (a0 a n0 n1 : Nat) (sp dp n : Int32) (f g : Nat → Int32), vs = [.ref a0, .int sp, .ref a, .int dp, .int n] ∧ h.2.2 a0 = some (.inl (0, n0, .inl f)) ∧ h.2.2 a = some (.inl (0, n1, .inl g)) ∧ 0 ≤ sp ∧ 0 ≤ dp ∧ 0 ≤ n ∧ sp.toNatClampNeg + n.toNatClampNeg ≤ n0 ∧ dp.toNatClampNeg + n.toNatClampNeg ≤ n1 ∧ r = .inl (none, (h.1, h.2.1, jx_up h.2.2 a (.inl (0, n1, .inl (va_cpy f g sp.toNatClampNeg dp.toNatClampNeg n.toNatClampNeg))))) := by
  unfold jx_cpy at hr
  split at hr
  · split at hr
    · split at hr
      · rename_i hq
        cases hr
        exact ⟨_, _, _, _, _, _, _, _, _, rfl, by assumption, by assumption, hq.1, hq.2.1, hq.2.2.1, hq.2.2.2.1, hq.2.2.2.2, rfl⟩
      · cases hr
    · cases hr
  · cases hr
theorem s_cpy {idx : Nat} (hk : k ≤ 16) (hl : Cond.methodLink Z.1 idx arraycopyName ∈ jx_tbl) (hna : Cond.native arraycopyName ∈ jx_tbl) (hst : Cond.static arraycopyName ∈ jx_tbl) (hini : Cond.initialized "java/lang/System" ∈ jx_tbl) (hfr : 1 ≤ Z.2.2.2.2.2.1) (hlo : 16 + (nativeFrameWords "java/lang/System" "arraycopy" 5 + 11) ≤ Z.2.2.2.2.2.2) (d : decode Z.2.2.1 pc = .ok (.invokestatic idx, 3)) (vs : List Value) :
    jx_Sim Z k pc vs.reverse (jx_cpy vs) (fun v => [(pc + 3, v.toList)]) :=
  jx_Sim.hstep fun L h r hr => by
    obtain ⟨a0, a, n0, n1, sp, dp, n, f, g, rfl, hq0, hq1, h1, h2, h3, h4, h5, rfl⟩ := jx_cpy_spec hr
    refine ⟨none, _, rfl, jx_le.rf _, fun p l e R s m args below meth c V u o h' hC hfit hs hu hle H ls locs st hst2 hR hL kk => ?_⟩
    have nn : ∀ z : Int32, 0 ≤ z → z.toInt = (z.toNatClampNeg : Int) := by
      intro z hz
      have hz0 : (0 : Int) ≤ z.toInt := by simpa using Int32.le_iff_toInt_le.mp hz
      show z.toInt = ((z.toInt.toNat : Nat) : Int)
      omega
    intro T hT X
    have hc0 : H[a0]? = some (vp_cell (V.2.1 0) (n0, .inl f)) := hR.one hq0 0 _ rfl
    have hc1 : H[a]? = some (vp_cell (V.2.1 0) (n1, .inl g)) := hR.one hq1 0 _ rfl
    obtain ⟨-, k0, hk0, cm0, hkk0⟩ := (hC.k.2 0 _ rfl).1 n0 (fun j => .int (f j))
    obtain ⟨-, k1, hk1, cm1, hkk1⟩ := (hC.k.2 0 _ rfl).1 n1 (fun j => .int (g j))
    have hTT := hC.t
    have hf1 := hC.fr
    have hl1 := hC.lo
    have hwt : (st.map fun v => v.category).sum = jx_wt st := rfl
    obtain ⟨vm', X', step⟩ := X.arraycopy hC.x hC.own (hTT.1 _ hl args) (hTT.1 _ hna args) (hTT.1 _ hst args) (hTT.1 _ hini args) (src := a0) (dst := a) (cs := vp_cell (V.2.1 0) (n0, .inl f)) (cd := vp_cell (V.2.1 0) (n1, .inl g)) (srcPos := sp) (destPos := dp) (n := n) (by rw [hT]; exact hc0) (by rw [hT]; exact hc1)
      (fun _ h => by cases h) (fun _ h => by cases h) (fun h => by cases h) (fun h => by cases h) hk0 hk1 hkk0 hkk1 (by simp [show refKind FieldType.int = false from rfl]) (Int32.not_lt.mpr h1) (Int32.not_lt.mpr h2) (Int32.not_lt.mpr h3)
      (by rw [nn sp h1, nn n h3]; show ¬ _ > ((arrV (V.2.1 0) n0 (fun j => .int (f j))).slots.size : Int); rw [arrV_size]; omega)
      (by rw [nn dp h2, nn n h3]; show ¬ _ > ((arrV (V.2.1 0) n1 (fun j => .int (g j))).slots.size : Int); rw [arrV_size]; omega)
      (fun vm₁ _ i hi => by
        have e : (vp_cell (V.2.1 0) (n0, .inl f)).slots.getD (sp.toNatClampNeg + i) .null = .int (f (sp.toNatClampNeg + i)) := by
          show (arrV (V.2.1 0) n0 (fun j => .int (f j))).slots.getD _ _ = _
          rw [Array.getD_eq_getD_getElem?, arrV_read _ _ (by omega)]
          rfl
        refine ⟨?_, ?_⟩
        · rw [e]
          rfl
        · rw [e]
          exact trivial)
      (g := F0 m pc ls ([Value.ref a0, .int sp, .ref a, .int dp, .int n].reverse ++ st)) rfl (by rw [← hL.1]) (rest := st) rfl (by rw [hC.b]; exact d) (by omega) (by show 2 * 0 + _ + _ ≤ _; omega)
    have e1 : copied (vp_cell (V.2.1 0) (n0, .inl f)) (vp_cell (V.2.1 0) (n1, .inl g)) sp dp n = vp_cell (V.2.1 0) (n1, .inl (va_cpy f g sp.toNatClampNeg dp.toNatClampNeg n.toNatClampNeg)) := va_copied (fun z => .int z) (V.2.1 0) (V.2.1 0) f g h4
    rw [e1] at X' step
    have hl2 : a < H.size := (Array.getElem?_eq_some_iff.mp hc1).1
    have hheap : ((T.setVm vm').setCell a (vp_cell (V.2.1 0) (n1, .inl (va_cpy f g sp.toNatClampNeg dp.toNatClampNeg n.toNatClampNeg)))).heap = H.setIfInBounds a (vp_cell (V.2.1 0) (n1, .inl (va_cpy f g sp.toNatClampNeg dp.toNatClampNeg n.toNatClampNeg))) := by rw [← hT]; rfl
    obtain ⟨t, a1, b1⟩ := kk _ _ (hR.put (o := .inl (0, n1, .inl (va_cpy f g sp.toNatClampNeg dp.toNatClampNeg n.toNatClampNeg))) (H1 := H.setIfInBounds a (vp_cell (V.2.1 0) (n1, .inl (va_cpy f g sp.toNatClampNeg dp.toNatClampNeg n.toNatClampNeg)))) hq1 (show (H.setIfInBounds a _)[a]? = some _ by simp [Array.getElem?_setIfInBounds, hl2]) (by simp) (fun q hq => by simp [Array.getElem?_setIfInBounds, Ne.symm hq]) _ (fun q hq => by
        obtain ⟨z, -, hz⟩ := List.mem_map.mp hq
        rw [← hz])) _ hheap X'
    exact ⟨t, step t a1, b1⟩
end JX8
