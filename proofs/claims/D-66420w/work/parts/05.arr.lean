/-! ROWS OF THE HEAP: arrays, new -/
def jx_ix (i : Int32) (n : Nat) : Option Nat := if 0 ≤ i ∧ i.toNatClampNeg < n then some i.toNatClampNeg else none
theorem jx_ix_in {i : Int32} {n j : Nat} (h : jx_ix i n = some j) : vp_in i n ∧ j = i.toNatClampNeg ∧ j < n := by
  unfold jx_ix at h
  split at h
  · rename_i q
    cases h
    refine ⟨fun z => ?_, rfl, q.2⟩
    rcases z with z | z
    · exact absurd q.1 (Int32.not_le.mpr z)
    · omega
  · cases h
theorem jx_ix_nI {j n : Nat} (h : j < n) (hn : n < 2 ^ 31) : jx_ix (nI j) n = some j := by
  unfold jx_ix
  rw [nI_clamp (by omega), if_pos ⟨nI_pos' (by omega), h⟩]
/-- a place of an array of ints (t = 0) or booleans (t = 2) -/
def jx_ld (t : Nat) (v w : Value) : jx_Ex := fun _ h => match v, w with
  | .ref a, .int i => (match h.2.2 a with
    | some (.inl (t', n, .inl f)) => if t' = t then (match jx_ix i n with
      | some j => jx_ok (.int (f j)) h
      | none => none) else none
    | _ => none)
  | _, _ => none
/-- a place of an array of references (t = 3, 4) -/
def jx_lda (t : Nat) (v w : Value) : jx_Ex := fun _ h => match v, w with
  | .ref a, .int i => (match h.2.2 a with
    | some (.inl (t', n, .inr (.inr (.inr (.inr f))))) => if t' = t then (match jx_ix i n with
      | some j => jx_ok (va_rf (f j)) h
      | none => none) else none
    | _ => none)
  | _, _ => none
def jx_len (v : Value) : jx_Ex := fun _ h => match v with
  | .ref a => (match h.2.2 a with
    | some (.inl (t, n, _)) => if t < 5 then jx_ok (.int (nI n)) h else none
    | _ => none)
  | _ => none
def jx_st (t b : Nat) (v w x : Value) : List Value → jx_S → jx_M Unit := fun _ h => match v, w, x with
  | .ref a, .int i, .int z => (match h.2.2 a with
    | some (.inl (t', n, .inl f)) => if t' = t ∧ jx_ft b (.int z) = true then (match jx_ix i n with
      | some j => jx_ok () (h.1, h.2.1, jx_up h.2.2 a (.inl (t, n, .inl (upd f j z))))
      | none => none) else none
    | _ => none)
  | _, _, _ => none
/-- what lies in an array of references: null, or an object of one of the classes -/
def jx_el (cs : List Nat) (hp : jx_Hp) (x : Value) : Option (Option Nat) := match x with
  | .null => some none
  | .ref y => (match hp y with
    | some (.inr (ci, _)) => if ci ∈ cs then some (some y) else none
    | _ => none)
  | _ => none
def jx_sta (t : Nat) (cs : List Nat) (v w x : Value) : List Value → jx_S → jx_M Unit := fun _ h => match v, w with
  | .ref a, .int i => (match h.2.2 a with
    | some (.inl (t', n, .inr (.inr (.inr (.inr f))))) => if t' = t then (match jx_ix i n, jx_el cs h.2.2 x with
      | some j, some y => jx_ok () (h.1, h.2.1, jx_up h.2.2 a (.inl (t, n, .inr (.inr (.inr (.inr (va_up f j y)))))))
      | _, _ => none) else none
    | _ => none)
  | _, _ => none
section JX5
variable {Z : jx_Z} {pc : Nat}
theorem jx_ld_spec {t : Nat} {v w : Value} {L : List Value} {h : jx_S} {r : (Value × jx_S) ⊕ (Nat × jx_S)} (hr : jx_ld t v w L h = some r) : ∃ (a n j : Nat) (i : Int32) (f : Nat → Int32), v = .ref a ∧ w = .int i ∧ h.2.2 a = some (.inl (t, n, .inl f)) ∧ jx_ix i n = some j ∧ r = .inl (.int (f j), h) := by
  unfold jx_ld at hr
  split at hr
  · split at hr
    · split at hr
      · rename_i e
        subst e
        split at hr
        · cases hr
          exact ⟨_, _, _, _, _, rfl, rfl, by assumption, by assumption, rfl⟩
        · cases hr
      · cases hr
    · cases hr
  · cases hr
theorem s_iald (d : decode Z.2.2.1 pc = .ok (.iaload, 1)) (k : Nat) (v w : Value) : jx_Sim Z k pc [w, v] (jx_ld 0 v w) (fun x => [(pc + 1, [x])]) :=
  jx_Sim.step fun L h r hr => by
    obtain ⟨a, n, j, i, f, rfl, rfl, hq, hj, rfl⟩ := jx_ld_spec hr
    obtain ⟨h1, rfl, h3⟩ := jx_ix_in hj
    exact ⟨_, rfl, fun p l e R s m args below meth c V u o h' hC H ls locs st hR hL kk => va_iald hC.x hC.b hC.k (hR.one hq) 0 0 rfl rfl h1 d kk⟩
theorem s_zald (d : decode Z.2.2.1 pc = .ok (.baload, 1)) (k : Nat) (v w : Value) : jx_Sim Z k pc [w, v] (jx_ld 2 v w) (fun x => [(pc + 1, [x])]) :=
  jx_Sim.step fun L h r hr => by
    obtain ⟨a, n, j, i, f, rfl, rfl, hq, hj, rfl⟩ := jx_ld_spec hr
    obtain ⟨h1, rfl, h3⟩ := jx_ix_in hj
    exact ⟨_, rfl, fun p l e R s m args below meth c V u o h' hC H ls locs st hR hL kk => va_zald hC.x hC.b hC.k (hR.one hq) 0 2 rfl rfl h1 d kk⟩
theorem jx_lda_spec {t : Nat} {v w : Value} {L : List Value} {h : jx_S} {r : (Value × jx_S) ⊕ (Nat × jx_S)} (hr : jx_lda t v w L h = some r) : ∃ (a n j : Nat) (i : Int32) (f : Nat → Option Nat), v = .ref a ∧ w = .int i ∧ h.2.2 a = some (.inl (t, n, .inr (.inr (.inr (.inr f))))) ∧ jx_ix i n = some j ∧ r = .inl (va_rf (f j), h) := by
  unfold jx_lda at hr
  split at hr
  · split at hr
    · split at hr
      · rename_i e
        subst e
        split at hr
        · cases hr
          exact ⟨_, _, _, _, _, rfl, rfl, by assumption, by assumption, rfl⟩
        · cases hr
      · cases hr
    · cases hr
  · cases hr
theorem s_aald {t : Nat} (ht : t = 3 ∨ t = 4) (d : decode Z.2.2.1 pc = .ok (.aaload, 1)) (k : Nat) (v w : Value) : jx_Sim Z k pc [w, v] (jx_lda t v w) (fun x => [(pc + 1, [x])]) :=
  jx_Sim.step fun L h r hr => by
    obtain ⟨a, n, j, i, f, rfl, rfl, hq, hj, rfl⟩ := jx_lda_spec hr
    obtain ⟨h1, rfl, h3⟩ := jx_ix_in hj
    refine ⟨_, rfl, fun p l e R s m args below meth c V u o h' hC H ls locs st hR hL kk => ?_⟩
    rcases ht with rfl | rfl
    · exact va_aldq hC.x hC.b hC.k (hR.one hq) 0 3 rfl rfl h1 d kk
    · exact va_aldq hC.x hC.b hC.k (hR.one hq) 0 4 rfl rfl h1 d kk
theorem s_alen (d : decode Z.2.2.1 pc = .ok (.arraylength, 1)) (k : Nat) (v : Value) : jx_Sim Z k pc [v] (jx_len v) (fun x => [(pc + 1, [x])]) :=
  jx_Sim.step fun L h r hr => by
    unfold jx_len at hr
    split at hr
    · rename_i a
      split at hr
      · rename_i t n x hq
        split at hr
        · rename_i ht
          cases hr
          refine ⟨_, rfl, fun p l e R s m args below meth c V u o h' hC H ls locs st hR hL kk => ?_⟩
          match t, ht, hq with
          | 0, _, hq => exact va_alen hC.x hC.b hC.k (hR.one hq) 0 0 rfl rfl rfl d kk
          | 1, _, hq => exact va_alen hC.x hC.b hC.k (hR.one hq) 0 1 rfl rfl rfl d kk
          | 2, _, hq => exact va_alen hC.x hC.b hC.k (hR.one hq) 0 2 rfl rfl rfl d kk
          | 3, _, hq => exact va_alen hC.x hC.b hC.k (hR.one hq) 0 3 rfl rfl rfl d kk
          | 4, _, hq => exact va_alen hC.x hC.b hC.k (hR.one hq) 0 4 rfl rfl rfl d kk
          | n + 5, ht, _ => exact absurd ht (Nat.not_lt.mpr (Nat.le_add_left 5 n))
        · cases hr
      · cases hr
    · cases hr
theorem jx_st_spec {t b : Nat} {v w x : Value} {L : List Value} {h : jx_S} {r : (Unit × jx_S) ⊕ (Nat × jx_S)} (hr : jx_st t b v w x L h = some r) : ∃ (a n j : Nat) (i z : Int32) (f : Nat → Int32), v = .ref a ∧ w = .int i ∧ x = .int z ∧ h.2.2 a = some (.inl (t, n, .inl f)) ∧ jx_ix i n = some j ∧ jx_ft b (.int z) = true ∧ r = .inl ((), (h.1, h.2.1, jx_up h.2.2 a (.inl (t, n, .inl (upd f j z))))) := by
  unfold jx_st at hr
  split at hr
  · split at hr
    · split at hr
      · rename_i e
        obtain ⟨e, e2⟩ := e
        subst e
        split at hr
        · cases hr
          exact ⟨_, _, _, _, _, _, rfl, rfl, rfl, by assumption, by assumption, e2, rfl⟩
        · cases hr
      · cases hr
    · cases hr
  · cases hr
theorem s_iast (d : decode Z.2.2.1 pc = .ok (.iastore, 1)) (k : Nat) (v w x : Value) : jx_Sim Z k pc [x, w, v] (jx_st 0 0 v w x) (fun _ => [(pc + 1, [])]) :=
  jx_Sim.hstep fun L h r hr => by
    obtain ⟨a, n, j, i, z, f, rfl, rfl, rfl, hq, hj, hb, rfl⟩ := jx_st_spec hr
    obtain ⟨h1, rfl, h3⟩ := jx_ix_in hj
    refine ⟨(), _, rfl, jx_le.rf _, fun p l e R s m args below meth c V u o h' hC hfit hs hu hle H ls locs st hst hR hL kk => ?_⟩
    have hP := hR.one hq 0 _ rfl
    refine W.iast hC.x hC.b hP ((hC.k.2 0 _ rfl).1 n (fun j => .int (f j))) (fun q => by cases q) (by show ¬ (i < 0 ∨ (arrV _ _ _).slots.size ≤ _); rw [arrV_size]; exact h1) rfl rfl d fun H1 e1 z1 oq => ?_
    refine kk H1 _ (hR.put (o := .inl (0, n, .inl (upd f i.toNatClampNeg z))) (H1 := H1) hq ?_ z1 oq _ (fun q hq => by rw [List.mem_singleton.mp hq]))
    show H1[a]? = some (vp_cell _ _)
    rw [e1, vp_cell_i, arrV_store]
    show some (arrV (V.2.1 0) _ _) = some (vp_cell (V.2.1 0) (n, .inl (upd f i.toNatClampNeg z)))
    rw [vp_cell_i]
    congr 2
    funext q
    by_cases hq : q = i.toNatClampNeg
    · subst hq
      simp [updV, upd]
    · simp [updV, upd, hq]
theorem s_zast (d : decode Z.2.2.1 pc = .ok (.bastore, 1)) (k : Nat) (v w x : Value) : jx_Sim Z k pc [x, w, v] (jx_st 2 1 v w x) (fun _ => [(pc + 1, [])]) :=
  jx_Sim.hstep fun L h r hr => by
    obtain ⟨a, n, j, i, z, f, rfl, rfl, rfl, hq, hj, hb, rfl⟩ := jx_st_spec hr
    obtain ⟨h1, rfl, h3⟩ := jx_ix_in hj
    obtain ⟨hn, -⟩ := jx_ft_ok (ty := .boolean) hb
    refine ⟨(), _, rfl, jx_le.rf _, fun p l e R s m args below meth c V u o h' hC hfit hs hu hle H ls locs st hst hR hL kk => ?_⟩
    have hP := hR.one hq 0 _ rfl
    refine W.zast hC.x hC.b hP ((hC.k.2 2 _ rfl).1 n (fun j => .int (f j))) (fun q => by cases q) (by show ¬ (i < 0 ∨ (arrV _ _ _).slots.size ≤ _); rw [arrV_size]; exact h1) rfl rfl d fun H1 e1 z1 oq => ?_
    refine kk H1 _ (hR.put (o := .inl (2, n, .inl (upd f i.toNatClampNeg z))) (H1 := H1) hq ?_ z1 oq _ (fun q hq => by rw [List.mem_singleton.mp hq]))
    show H1[a]? = some (vp_cell _ _)
    rw [e1, hn, vp_cell_i, arrV_store]
    show some (arrV (V.2.1 2) _ _) = some (vp_cell (V.2.1 2) (n, .inl (upd f i.toNatClampNeg z)))
    rw [vp_cell_i]
    congr 2
    funext q
    by_cases hq : q = i.toNatClampNeg
    · subst hq
      simp [updV, upd]
    · simp [updV, upd, hq]
theorem jx_sta_spec {t : Nat} {cs : List Nat} {v w x : Value} {L : List Value} {h : jx_S} {r : (Unit × jx_S) ⊕ (Nat × jx_S)} (hr : jx_sta t cs v w x L h = some r) : ∃ (a n j : Nat) (i : Int32) (f : Nat → Option Nat) (y : Option Nat), v = .ref a ∧ w = .int i ∧ h.2.2 a = some (.inl (t, n, .inr (.inr (.inr (.inr f))))) ∧ jx_ix i n = some j ∧ jx_el cs h.2.2 x = some y ∧ r = .inl ((), (h.1, h.2.1, jx_up h.2.2 a (.inl (t, n, .inr (.inr (.inr (.inr (va_up f j y)))))))) := by
  unfold jx_sta at hr
  split at hr
  · split at hr
    · split at hr
      · rename_i e
        subst e
        split at hr
        · cases hr
          exact ⟨_, _, _, _, _, _, rfl, rfl, by assumption, by assumption, by assumption, rfl⟩
        · cases hr
      · cases hr
    · cases hr
  · cases hr
theorem jx_el_spec {cs : List Nat} {hp : jx_Hp} {x : Value} {y : Option Nat} (h : jx_el cs hp x = some y) : (x = .null ∧ y = none) ∨ ∃ (b ci : Nat) (fs : List Value), x = .ref b ∧ y = some b ∧ hp b = some (.inr (ci, fs)) ∧ ci ∈ cs := by
  unfold jx_el at h
  split at h
  · cases h
    exact Or.inl ⟨rfl, rfl⟩
  · split at h
    · split at h
      · cases h
        exact Or.inr ⟨_, _, _, rfl, rfl, by assumption, by assumption⟩
      · cases h
    · cases h
  · cases h
/-- the classes cs may lie in an array of E: E itself, or by a word 'castable' -/
def jx_ca (E : String) (cs : List Nat) : Prop := ∀ ci ∈ cs, ∃ C T N, jx_cl[ci]? = some (C, T, N) ∧ (C = E ∨ Cond.castable C E ∈ lw_tbl)
theorem s_aast {t : Nat} {cs : List Nat} {E : String} (ht : (t = 3 ∨ t = 4) ∧ jx_ty t = .object E) (hca : jx_ca E cs) (d : decode Z.2.2.1 pc = .ok (.aastore, 1)) (k : Nat) (v w x : Value) : jx_Sim Z k pc [x, w, v] (jx_sta t cs v w x) (fun _ => [(pc + 1, [])]) :=
  jx_Sim.hstep fun L h r hr => by
    obtain ⟨a, n, j, i, f, y, rfl, rfl, hq, hj, hy, rfl⟩ := jx_sta_spec hr
    obtain ⟨h1, rfl, h3⟩ := jx_ix_in hj
    refine ⟨(), _, rfl, jx_le.rf _, fun p l e R s m args below meth c V u o h' hC hfit hs hu hle H ls locs st hst hR hL kk => ?_⟩
    have hP := hR.one hq 0 _ rfl
    have hk : ArrOfT s (V.2.1 t) (.object E) ∧ va_RA s (V.2.1 t) (.object E) := by
      obtain ⟨ht, hE⟩ := ht
      rcases ht with rfl | rfl
      · rw [← hE]; exact hC.k.2 3 _ rfl
      · rw [← hE]; exact hC.k.2 4 _ rfl
    have fin : ∀ (H1 : Heap) (q : Value), q = va_rf y → H1[a]? = some ((vp_cell (V.2.1 t) (n, .inr (.inr (.inr (.inr f))))).setSlot i.toNatClampNeg q) → H1.size = H.size → (∀ q, q ≠ a → H1[q]? = H[q]?) → W p l e R s m args below meth c H1 (locs ++ [⟨a, i.toNatClampNeg⟩]) (h.1 - s.heap.size) (h.2.1 - u) (jx_Q s below V u o h') (F0 m (pc + 1) ls ([] ++ st)) := by
      intro H1 q hqy e1 z1 oq
      subst hqy
      refine kk H1 _ (hR.put (o := .inl (t, n, .inr (.inr (.inr (.inr (va_up f i.toNatClampNeg y)))))) (H1 := H1) hq ?_ z1 oq _ (fun q hq => by rw [List.mem_singleton.mp hq]))
      show H1[a]? = some (vp_cell _ _)
      rw [e1, vp_cell_q, arrV_store]
      show some (arrV (V.2.1 t) _ _) = some (vp_cell (V.2.1 t) (n, .inr (.inr (.inr (.inr (va_up f i.toNatClampNeg y))))))
      rw [vp_cell_q]
      congr 2
      funext q
      by_cases hq : q = i.toNatClampNeg
      · subst hq
        simp [updV, va_up]
      · simp [updV, va_up, hq]
    rcases jx_el_spec hy with ⟨rfl, rfl⟩ | ⟨b, ci, fs, rfl, rfl, hb, hci⟩
    · exact va_WaastN (C := E) hC.x hC.b hP (hk.1 n (fun j => va_rf (f j))) (fun h => by cases h) (by show ¬ (i < 0 ∨ (arrV _ _ _).slots.size ≤ _); rw [arrV_size]; exact h1) rfl rfl d fun H1 e1 z1 oq => fin H1 _ rfl e1 z1 oq
    · obtain ⟨C, T, N, c1, c2⟩ := hca ci hci
      obtain ⟨cell, g1, g2, g3⟩ := va_recv hC.k (hR.one hb) c1 (he := (rfl : ([(b, jx_tr V.2.1 (.inr (ci, fs)))] : va_W)[0]? = some (b, .inr (ci, fs))))
      obtain ⟨kC, hkC, -⟩ := Vm.findClass_spec g3
      obtain ⟨kA, comp, k1, k2, k3, -⟩ := hk.2
      obtain ⟨kE, hkE, -⟩ := Vm.findClass_spec k3
      have hasg : s.vm.assignable cell.cls comp = true := by
        have hcl := (hC.k.1 ci _ c1).2
        rcases c2 with rfl | c2
        · have e1 : comp = cell.cls := Option.some.inj (k3.symm.trans g3)
          subst e1
          have e2 : V.1.1 ci = cell.cls := Option.some.inj (hcl.1.symm.trans g3)
          rw [← e2]
          exact va_assign hcl
        · obtain ⟨z1, z2, w1, w2, w3⟩ : ∃ c0 t0 : ClassId, s.vm.findClass C = some c0 ∧ s.vm.findClass E = some t0 ∧ s.vm.assignable c0 t0 = true := by
            have hw := hC.t.2.2.2.2.1 _ _ c2
            simp only [va_Nw, Cond.before, Cond.holds, Cond.value] at hw
            cases q1 : s.vm.findClass C with
            | none => simp [q1] at hw
            | some c0 =>
              cases q2 : s.vm.findClass E with
              | none => simp [q1, q2] at hw
              | some t0 => exact ⟨c0, t0, rfl, rfl, by simpa [q1, q2] using hw⟩
          have e1 : comp = z2 := Option.some.inj (k3.symm.trans w2)
          have e2 : cell.cls = z1 := Option.some.inj (g3.symm.trans w1)
          rw [e1, e2]
          exact w3
      refine W.aast hC.x hC.b hP (fun q h => by cases h) (fun h => by cases h) k1 k2 rfl hkE ⟨fun q => h1 (Or.inl q), by show _ < (arrV _ _ _).slots.size; rw [arrV_size]; exact h3⟩ g1 (fun q h => by rw [h] at g2; cases g2) hkC hasg rfl rfl d fun H1 e1 z1 oq => fin H1 _ rfl e1 z1 oq
/-- a new object -/
def jx_nw (ci N : Nat) (fs : List Value) : List Value → jx_S → jx_M Nat := fun _ h => jx_ok h.1 (h.1 + 1, h.2.1 + N, jx_up h.2.2 h.1 (.inr (ci, fs)))
theorem s_new {ci N idx : Nat} {C : String} {T : u_T} {fs : List Value} {ty : Nat → FieldType} (hc : jx_cl[ci]? = some (C, T, N)) (hty : ∀ k, k < N → parseFieldDescriptor (T k).2.2.1 = some (ty k)) (hfs : ∀ j, j < N → defaultValue (ty j) = vp_V fs j) (hcl : Cond.classLink Z.1 idx C ∈ jx_tbl) (hinst : Cond.instantiable C N ∈ jx_tbl) (hini : Cond.initialized C ∈ jx_tbl) (d : decode Z.2.2.1 pc = .ok (.new idx, 3)) (k : Nat) : jx_Sim Z k pc [] (jx_nw ci N fs) (fun x => [(pc + 3, [.ref x])]) :=
  jx_Sim.hstep fun L h r hr => by
    cases hr
    refine ⟨_, _, rfl, ⟨Nat.le_succ _, Nat.le_add_right _ _⟩, fun p l e R s m args below meth c V u o h' hC hfit hs hu hle H ls locs st hst hR hL kk => ?_⟩
    have hKn := hC.k.1 ci _ hc
    have ht := hC.t
    have l1 : h.1 + 1 ≤ h'.1 := hle.1
    have l2 : h.2.1 + N ≤ h'.2.1 := hle.2
    have f1 := hfit.1
    have f2 := hfit.2
    refine W.newcK hC.x hC.b hC.own (ht.1 _ hcl _) (ht.1 _ hinst _) (ht.1 _ hini _) rfl d (by omega) (by omega) hKn.2.1 hR.1 fun H1 kC hkC e1 z1 o1 => ?_
    have hn := kk H1 locs (hR.new (o := .inr (ci, fs)) ⟨_, hc, (u_born ty (fun w hw => ht.1 w hw args) (jx_cls ci C T N hc).1 hKn hkC e1 hty).to hfs⟩ z1 o1 N)
    rw [show h.1 - s.heap.size + 1 = h.1 + 1 - s.heap.size by omega, show h.2.1 - u + N = h.2.1 + N - u by omega]
    exact hn
/-- a new array of ints, longs or booleans -/
def jx_z0 (t : Nat) : (Nat → Int32) ⊕ (Nat → Int64) ⊕ (Nat → UInt32) ⊕ (Nat → UInt64) ⊕ (Nat → Option Nat) := match t with
  | 0 => .inl fun _ => 0
  | 1 => .inr (.inl fun _ => 0)
  | 2 => .inl fun _ => 0
  | _ => .inr (.inr (.inr (.inr fun _ => none)))
def jx_na (t : Nat) (v : Value) : jx_Ex := fun _ h => match v with
  | .int n => if 0 ≤ n ∧ n.toNatClampNeg ≤ 4096 then jx_ok (.ref h.1) (h.1 + 1, h.2.1 + n.toNatClampNeg, jx_up h.2.2 h.1 (.inl (t, n.toNatClampNeg, jx_z0 t))) else none
  | _ => none
theorem s_newa {t : Nat} {at0 : ArrayType} (h3 : t < 3) (hat : newarray.typeOf at0 = jx_ty t) (harr : Cond.arrayClass (jx_ty t) ∈ jx_tbl) (d : decode Z.2.2.1 pc = .ok (.newarray at0, 2)) (k : Nat) (v : Value) : jx_Sim Z k pc [v] (jx_na t v) (fun x => [(pc + 2, [x])]) :=
  jx_Sim.hstep fun L h r hr => by
    unfold jx_na at hr
    split at hr
    · rename_i n
      split at hr
      · rename_i hn
        cases hr
        refine ⟨_, _, rfl, ⟨Nat.le_succ _, Nat.le_add_right _ _⟩, fun p l e R s m args below meth c V u o h' hC hfit hs hu hle H ls locs st hst hR hL kk => ?_⟩
        have ht := hC.t
        have l1 : h.1 + 1 ≤ h'.1 := hle.1
        have l2 : h.2.1 + n.toNatClampNeg ≤ h'.2.1 := hle.2
        have f1 := hfit.1
        have f2 := hfit.2
        have hb : n.toNatClampNeg * componentBytes (newarray.typeOf at0) ≤ 536870912 := by
          have : componentBytes (newarray.typeOf at0) ≤ 8 := by cases at0 <;> decide
          calc n.toNatClampNeg * componentBytes (newarray.typeOf at0) ≤ 4096 * 8 := Nat.mul_le_mul hn.2 this
            _ ≤ 536870912 := by decide
        refine va_newaK hC.x hC.b (by rw [hat]; exact ht.1 _ harr _) rfl d rfl (fun q => absurd hn.1 (Int32.not_le.mpr q)) rfl hb (by omega) (by omega) hR.1 fun H1 cA e1 z1 o1 hAr hNm => ?_
        have hcA : cA = V.2.1 t := by
          have hra : va_RA s (V.2.1 t) (jx_ty t) := by
            match t, h3 with
            | 0, _ => exact (hC.k.2 0 _ rfl).2
            | 1, _ => exact (hC.k.2 1 _ rfl).2
            | 2, _ => exact (hC.k.2 2 _ rfl).2
          rw [hat] at hNm
          match t, h3, hra, hNm with
          | 0, _, hra, hNm => exact Option.some.inj (hNm.symm.trans hra)
          | 1, _, hra, hNm => exact Option.some.inj (hNm.symm.trans hra)
          | 2, _, hra, hNm => exact Option.some.inj (hNm.symm.trans hra)
        have hn2 := kk H1 locs (hR.new (o := .inl (t, n.toNatClampNeg, jx_z0 t)) (by
          show H1[h.1]? = some (vp_cell (V.2.1 t) (n.toNatClampNeg, jx_z0 t))
          rw [e1, hcA, hat]
          match t, h3 with
          | 0, _ => rfl
          | 1, _ => rfl
          | 2, _ => rfl) z1 o1 n.toNatClampNeg)
        rw [show h.1 - s.heap.size + 1 = h.1 + 1 - s.heap.size by omega, show h.2.1 - u + n.toNatClampNeg = h.2.1 + n.toNatClampNeg - u by omega]
        exact hn2
      · cases hr
    · cases hr
theorem s_newq {t idx : Nat} {E : String} (ht : (t = 3 ∨ t = 4) ∧ jx_ty t = .object E) (hcl : Cond.classLink Z.1 idx E ∈ jx_tbl) (hov : Cond.arrayOver (.object E) ∈ lw_tbl) (d : decode Z.2.2.1 pc = .ok (.anewarray idx, 3)) (k : Nat) (v : Value) : jx_Sim Z k pc [v] (jx_na t v) (fun x => [(pc + 3, [x])]) :=
  jx_Sim.hstep fun L h r hr => by
    unfold jx_na at hr
    split at hr
    · rename_i n
      split at hr
      · rename_i hn
        cases hr
        refine ⟨_, _, rfl, ⟨Nat.le_succ _, Nat.le_add_right _ _⟩, fun p l e R s m args below meth c V u o h' hC hfit hs hu hle H ls locs st hst hR hL kk => ?_⟩
        have htt := hC.t
        have l1 : h.1 + 1 ≤ h'.1 := hle.1
        have l2 : h.2.1 + n.toNatClampNeg ≤ h'.2.1 := hle.2
        have f1 := hfit.1
        have f2 := hfit.2
        have hk : va_RA s (V.2.1 t) (.object E) := by
          obtain ⟨ht, hE⟩ := ht
          rcases ht with rfl | rfl
          · rw [← hE]; exact (hC.k.2 3 _ rfl).2
          · rw [← hE]; exact (hC.k.2 4 _ rfl).2
        refine W.anew hC.x hC.b hC.own (htt.1 _ hcl _) (va_AO.use (htt.2.2.2.2.2.1 _ hov)) rfl d rfl (fun q => absurd hn.1 (Int32.not_le.mpr q)) (by omega) (by omega) (by omega) fun cA kA comp g1 g2 g3 g4 => ?_
        have hcA : cA = V.2.1 t := by
          obtain ⟨_, _, -, -, -, k4⟩ := hk
          exact Option.some.inj (g1.symm.trans k4)
        have hz : jx_z0 t = .inr (.inr (.inr (.inr fun _ => none))) := by
          rcases ht.1 with rfl | rfl <;> rfl
        have e1 : (H.push ({ cls := cA, slots := Array.replicate n.toNatClampNeg .null, vm := .none } : Cell))[h.1]? = some (arrV cA n.toNatClampNeg (fun _ => .null)) := by rw [← hR.1, Array.getElem?_push_size, ← arrV_new]
        have hn2 := kk (H.push ({ cls := cA, slots := Array.replicate n.toNatClampNeg .null, vm := .none } : Cell)) locs (hR.new (o := .inl (t, n.toNatClampNeg, jx_z0 t)) (by
          show (H.push _)[h.1]? = some (vp_cell (V.2.1 t) (n.toNatClampNeg, jx_z0 t))
          rw [e1, hcA, hz]
          rfl) (by rw [Array.size_push, hR.1]) (fun q hq => by rw [Array.getElem?_push, if_neg (by rw [hR.1]; omega)]) n.toNatClampNeg)
        rw [show h.1 - s.heap.size + 1 = h.1 + 1 - s.heap.size by omega, show h.2.1 - u + n.toNatClampNeg = h.2.1 + n.toNatClampNeg - u by omega]
        rw [hR.1]
        exact hn2
      · cases hr
    · cases hr
end JX5
