/-! ROWS: constants, locals, arithmetic, compares -/
abbrev jx_E (Z : jx_Z) (k pc : Nat) (x : jx_Ex) (q : Nat) : Prop := jx_Sim Z k pc [] x (fun v => [(q, [v])])
def jx_tf (Ts Fs : List Nat) (b : Bool) : List (Nat × List Value) := match b with
  | true => Ts.map fun q => (q, [])
  | false => Fs.map fun q => (q, [])
abbrev jx_Cd (Z : jx_Z) (k pc : Nat) (x : jx_Cx) (Ts Fs : List Nat) : Prop := jx_Sim Z k pc [] x (jx_tf Ts Fs)
def eInt (x : Int32) : jx_Ex := fun _ h => jx_ok (.int x) h
def eNull : jx_Ex := fun _ h => jx_ok .null h
def eI (i : Nat) : jx_Ex := fun L h => match L[i]? with
  | some (.int x) => jx_ok (.int x) h
  | _ => none
def eA (i : Nat) : jx_Ex := fun L h => match L[i]? with
  | some (.ref a) => jx_ok (.ref a) h
  | some .null => jx_ok .null h
  | _ => none
def jx_op (f : Int32 → Int32 → Option Int32) (v w : Value) : jx_Ex := fun _ h => match v, w with
  | .int x, .int y => (match f x y with
    | some z => jx_ok (.int z) h
    | none => none)
  | _, _ => none
def eBin (f : Int32 → Int32 → Option Int32) (a b : jx_Ex) : jx_Ex := fun L h => jx_b (a L h) fun v h1 => jx_b (b L h1) fun w h2 => jx_op f v w L h2
def oAdd (x y : Int32) : Option Int32 := some (x + y)
def oSub (x y : Int32) : Option Int32 := some (x - y)
def oMul (x y : Int32) : Option Int32 := some (x * y)
def oAnd (x y : Int32) : Option Int32 := some (x &&& y)
def oXor (x y : Int32) : Option Int32 := some (x ^^^ y)
def oShr (x y : Int32) : Option Int32 := some (x >>> (y &&& 31))
def oDiv (x y : Int32) : Option Int32 := if y = 0 then none else some (x / y)
def oRem (x y : Int32) : Option Int32 := if y = 0 then none else some (x - x / y * y)
def rEq (x y : Int32) : Bool := decide (x = y)
def rNe (x y : Int32) : Bool := decide (¬ x = y)
def rLt (x y : Int32) : Bool := decide (x < y)
def rGe (x y : Int32) : Bool := decide (y ≤ x)
def rGt (x y : Int32) : Bool := decide (y < x)
def rLe (x y : Int32) : Bool := decide (x ≤ y)
def jx_cp (r : Int32 → Int32 → Bool) (v w : Value) : jx_Cx := fun _ h => match v, w with
  | .int x, .int y => jx_ok (r x y) h
  | _, _ => none
def cCmp (r : Int32 → Int32 → Bool) (a b : jx_Ex) : jx_Cx := fun L h => jx_b (a L h) fun v h1 => jx_b (b L h1) fun w h2 => jx_cp r v w L h2
def cCmp0 (r : Int32 → Int32 → Bool) (a : jx_Ex) : jx_Cx := fun L h => jx_b (a L h) fun v h1 => jx_cp r v (.int 0) L h1
def jx_nl (v : Value) : jx_Cx := fun _ h => match v with
  | .null => jx_ok true h
  | .ref _ => jx_ok false h
  | _ => none
def cNull (a : jx_Ex) : jx_Cx := fun L h => jx_b (a L h) fun v h1 => jx_nl v L h1
def cNot (c : jx_Cx) : jx_Cx := fun L h => jx_b (c L h) fun b h1 => jx_ok (!b) h1
def cAnd (a b : jx_Cx) : jx_Cx := fun L h => jx_b (a L h) fun x h1 => match x with
  | true => b L h1
  | false => jx_ok false h1
def cOr (a b : jx_Cx) : jx_Cx := fun L h => jx_b (a L h) fun x h1 => match x with
  | true => jx_ok true h1
  | false => b L h1
def cIte (c a b : jx_Cx) : jx_Cx := fun L h => jx_b (c L h) fun x h1 => match x with
  | true => a L h1
  | false => b L h1
def eIte (c : jx_Cx) (a b : jx_Ex) : jx_Ex := fun L h => jx_b (c L h) fun x h1 => match x with
  | true => a L h1
  | false => b L h1
section JX3
variable {Z : jx_Z} {k pc : Nat}
theorem jx_Sim.cond {pre : List Value} {x : jx_Cx} {Ts Fs : List Nat}
    (h1 : ∀ L h r, x L h = some r → ∃ b, r = .inl (b, h) ∧ ∀ p l e R s m args below meth c V u o h', jx_C p e R s m meth c V Z → ∀ (H : Heap) (ls : Array Slot) (locs : List Loc) (st : List Value), (b = true → ∀ q ∈ Ts, W p l e R s m args below meth c H locs (h.1 - s.heap.size) (h.2.1 - u) (jx_Q s below V u o h') (F0 m q ls st)) → (b = false → ∀ q ∈ Fs, W p l e R s m args below meth c H locs (h.1 - s.heap.size) (h.2.1 - u) (jx_Q s below V u o h') (F0 m q ls st)) → W p l e R s m args below meth c H locs (h.1 - s.heap.size) (h.2.1 - u) (jx_Q s below V u o h') (F0 m pc ls (pre ++ st))) :
    jx_Sim Z k pc pre x (jx_tf Ts Fs) := by
  intro L h r hr
  obtain ⟨b, rfl, hw⟩ := h1 L h r hr
  refine ⟨jx_le.rf _, fun p l e R s m args below meth c V u o h' hC hfit hs hu hle' st hst hT hthr H ls locs hR hL => ?_⟩
  refine hw p l e R s m args below meth c V u o h' hC H ls locs st (fun hb q hq => ?_) (fun hb q hq => ?_)
  · subst hb
    exact hT true h rfl (q, []) (List.mem_map.mpr ⟨q, hq, rfl⟩) H ls locs hR hL
  · subst hb
    exact hT false h rfl (q, []) (List.mem_map.mpr ⟨q, hq, rfl⟩) H ls locs hR hL
theorem jx_cat1 (v : Value) : jx_wt [v] ≤ 2 := by cases v <;> simp [jx_wt, Value.category]

theorem s_iconst {n : Int} {v : Int32} (d : decode Z.2.2.1 pc = .ok (.iconst n, 1)) (hv : Int32.ofInt n = v) : jx_E Z k pc (eInt v) (pc + 1) :=
  jx_Sim.step fun L h r hr => by
    cases hr
    exact ⟨_, rfl, fun p l e R s m args below meth c V u o h' hC H ls locs st hR hL kk => lv_iconst hC.1 hC.2.1 d hv kk⟩
theorem s_bipush {n : Int} {v : Int32} (d : decode Z.2.2.1 pc = .ok (.bipush n, 2)) (hv : (Int8.ofInt n).toInt32 = v) : jx_E Z k pc (eInt v) (pc + 2) :=
  jx_Sim.step fun L h r hr => by
    cases hr
    exact ⟨_, rfl, fun p l e R s m args below meth c V u o h' hC H ls locs st hR hL kk => lv_bipush hC.1 hC.2.1 d hv kk⟩
theorem s_sipush {n : Int} {v : Int32} (d : decode Z.2.2.1 pc = .ok (.sipush n, 3)) (hv : (Int16.ofInt n).toInt32 = v) : jx_E Z k pc (eInt v) (pc + 3) :=
  jx_Sim.step fun L h r hr => by
    cases hr
    exact ⟨_, rfl, fun p l e R s m args below meth c V u o h' hC H ls locs st hR hL kk => lv_sipush hC.1 hC.2.1 d hv kk⟩
theorem s_null (d : decode Z.2.2.1 pc = .ok (.aconst_null, 1)) : jx_E Z k pc eNull (pc + 1) :=
  jx_Sim.step fun L h r hr => by
    cases hr
    exact ⟨_, rfl, fun p l e R s m args below meth c V u o h' hC H ls locs st hR hL kk => lv_null hC.1 hC.2.1 d kk⟩
theorem s_iload_n {j : Fin 4} {i : Nat} (d : decode Z.2.2.1 pc = .ok (.iload_n j, 1)) (hi : (j : Nat) = i) : jx_E Z k pc (eI i) (pc + 1) :=
  jx_Sim.step fun L h r hr => by
    unfold eI at hr
    split at hr
    · rename_i x hx
      cases hr
      exact ⟨_, rfl, fun p l e R s m args below meth c V u o h' hC H ls locs st hR hL kk => lv_iload_n hC.1 hC.2.1 d hi (hL.2.2 i _ hx rfl) kk⟩
    · cases hr
theorem s_iload {i : Nat} (d : decode Z.2.2.1 pc = .ok (.iload i, 2))  : jx_E Z k pc (eI i) (pc + 2) :=
  jx_Sim.step fun L h r hr => by
    unfold eI at hr
    split at hr
    · rename_i x hx
      cases hr
      exact ⟨_, rfl, fun p l e R s m args below meth c V u o h' hC H ls locs st hR hL kk => lv_iload hC.1 hC.2.1 d (hL.2.2 i _ hx rfl) kk⟩
    · cases hr
theorem s_aload_n {j : Fin 4} {i : Nat} (d : decode Z.2.2.1 pc = .ok (.aload_n j, 1)) (hi : (j : Nat) = i) : jx_E Z k pc (eA i) (pc + 1) :=
  jx_Sim.step fun L h r hr => by
    unfold eA at hr
    split at hr
    · rename_i x hx
      cases hr
      exact ⟨_, rfl, fun p l e R s m args below meth c V u o h' hC H ls locs st hR hL kk => lv_aload_n hC.1 hC.2.1 d hi (hL.2.2 i _ hx rfl) kk⟩
    · rename_i hx
      cases hr
      exact ⟨_, rfl, fun p l e R s m args below meth c V u o h' hC H ls locs st hR hL kk => lv_aload_nN hC.1 hC.2.1 d hi (hL.2.2 i _ hx rfl) kk⟩
    · cases hr
theorem s_aload {i : Nat} (d : decode Z.2.2.1 pc = .ok (.aload i, 2))  : jx_E Z k pc (eA i) (pc + 2) :=
  jx_Sim.step fun L h r hr => by
    unfold eA at hr
    split at hr
    · rename_i x hx
      cases hr
      exact ⟨_, rfl, fun p l e R s m args below meth c V u o h' hC H ls locs st hR hL kk => lv_aload hC.1 hC.2.1 d (hL.2.2 i _ hx rfl) kk⟩
    · rename_i hx
      cases hr
      exact ⟨_, rfl, fun p l e R s m args below meth c V u o h' hC H ls locs st hR hL kk => lv_aloadN hC.1 hC.2.1 d (hL.2.2 i _ hx rfl) kk⟩
    · cases hr
def jx_O (Z : jx_Z) (pc : Nat) (f : Int32 → Int32 → Option Int32) : Prop := ∀ (k : Nat) (v w : Value), jx_Sim Z k pc [w, v] (jx_op f v w) (fun z => [(pc + 1, [z])])
theorem s_iadd (d : decode Z.2.2.1 pc = .ok (.iadd, 1)) : jx_O Z pc oAdd := fun k v w => jx_Sim.step fun L h r hr => by
  unfold jx_op at hr
  split at hr
  · cases hr
    exact ⟨_, rfl, fun p l e R s m args below meth c V u o h' hC H ls locs st hR hL kk => lv_iadd hC.1 hC.2.1 d kk⟩
  · cases hr
theorem s_isub (d : decode Z.2.2.1 pc = .ok (.isub, 1)) : jx_O Z pc oSub := fun k v w => jx_Sim.step fun L h r hr => by
  unfold jx_op at hr
  split at hr
  · cases hr
    exact ⟨_, rfl, fun p l e R s m args below meth c V u o h' hC H ls locs st hR hL kk => lv_isub hC.1 hC.2.1 d kk⟩
  · cases hr
theorem s_imul (d : decode Z.2.2.1 pc = .ok (.imul, 1)) : jx_O Z pc oMul := fun k v w => jx_Sim.step fun L h r hr => by
  unfold jx_op at hr
  split at hr
  · cases hr
    exact ⟨_, rfl, fun p l e R s m args below meth c V u o h' hC H ls locs st hR hL kk => lv_imul hC.1 hC.2.1 d kk⟩
  · cases hr
theorem s_iand (d : decode Z.2.2.1 pc = .ok (.iand, 1)) : jx_O Z pc oAnd := fun k v w => jx_Sim.step fun L h r hr => by
  unfold jx_op at hr
  split at hr
  · cases hr
    exact ⟨_, rfl, fun p l e R s m args below meth c V u o h' hC H ls locs st hR hL kk => lv_iand hC.1 hC.2.1 d kk⟩
  · cases hr
theorem s_ixor (d : decode Z.2.2.1 pc = .ok (.ixor, 1)) : jx_O Z pc oXor := fun k v w => jx_Sim.step fun L h r hr => by
  unfold jx_op at hr
  split at hr
  · cases hr
    exact ⟨_, rfl, fun p l e R s m args below meth c V u o h' hC H ls locs st hR hL kk => lv_ixor hC.1 hC.2.1 d kk⟩
  · cases hr
theorem s_ishr (d : decode Z.2.2.1 pc = .ok (.ishr, 1)) : jx_O Z pc oShr := fun k v w => jx_Sim.step fun L h r hr => by
  unfold jx_op at hr
  split at hr
  · cases hr
    exact ⟨_, rfl, fun p l e R s m args below meth c V u o h' hC H ls locs st hR hL kk => lv_ishr hC.1 hC.2.1 d kk⟩
  · cases hr
theorem s_idiv (d : decode Z.2.2.1 pc = .ok (.idiv, 1)) : jx_O Z pc oDiv := fun k v w => jx_Sim.step fun L h r hr => by
  unfold jx_op at hr
  split at hr
  · rename_i x y
    by_cases hy : y = 0
    · simp [oDiv, hy] at hr
    · simp only [oDiv, if_neg hy] at hr
      cases hr
      exact ⟨_, rfl, fun p l e R s m args below meth c V u o h' hC H ls locs st hR hL kk => lv_idiv hC.1 hC.2.1 d hy kk⟩
  · cases hr
theorem s_irem (d : decode Z.2.2.1 pc = .ok (.irem, 1)) : jx_O Z pc oRem := fun k v w => jx_Sim.step fun L h r hr => by
  unfold jx_op at hr
  split at hr
  · rename_i x y
    by_cases hy : y = 0
    · simp [oRem, hy] at hr
    · simp only [oRem, if_neg hy] at hr
      cases hr
      exact ⟨_, rfl, fun p l e R s m args below meth c V u o h' hC H ls locs st hR hL kk => lv_irem hC.1 hC.2.1 d hy kk⟩
  · cases hr
theorem s_bin {f : Int32 → Int32 → Option Int32} {a b : jx_Ex} {q1 q2 : Nat} (ha : jx_E Z k pc a q1) (hb : jx_E Z (k + 2) q1 b q2) (hop : jx_O Z q2 f) : jx_E Z k pc (eBin f a b) (q2 + 1) :=
  jx_Sim.b1 ha fun v => jx_Sim.b1 ((hb.mono (Nat.add_le_add_left (jx_cat1 v) k)).un1 [v]) fun w => hop k v w
def jx_J (Z : jx_Z) (pc : Nat) (r : Int32 → Int32 → Bool) (Ts Fs : List Nat) : Prop := ∀ (k : Nat) (v w : Value), jx_Sim Z k pc [w, v] (jx_cp r v w) (jx_tf Ts Fs)
def jx_J0 (Z : jx_Z) (pc : Nat) (r : Int32 → Int32 → Bool) (Ts Fs : List Nat) : Prop := ∀ (k : Nat) (v : Value), jx_Sim Z k pc [v] (jx_cp r v (.int 0)) (jx_tf Ts Fs)
theorem s_icmp_eqT {off : Int} {tgt : Nat} (d : decode Z.2.2.1 pc = .ok (.if_icmp .eq off, 3)) (hg : (pc : Int) + off = (tgt : Int)) : jx_J Z pc rEq [tgt] [pc + 3] := fun k v w => jx_Sim.cond fun L h r hr => by
  unfold jx_cp at hr
  split at hr
  · rename_i x y
    cases hr
    refine ⟨_, rfl, fun p l e R s m args below meth c V u o h' hC H ls locs st ht hf => lv_icmp_eq hC.1 hC.2.1 d hg (fun q => ?_) (fun q => ?_)⟩
    · exact ht (by simpa [rEq, Int32.not_le, Int32.not_lt] using q) _ (List.mem_singleton.mpr rfl)
    · exact hf (by simpa [rEq, Int32.not_le, Int32.not_lt] using q) _ (List.mem_singleton.mpr rfl)
  · cases hr
theorem s_if_eqT {off : Int} {tgt : Nat} (d : decode Z.2.2.1 pc = .ok (.ifCond .eq off, 3)) (hg : (pc : Int) + off = (tgt : Int)) : jx_J0 Z pc rEq [tgt] [pc + 3] := fun k v => jx_Sim.cond fun L h r hr => by
  unfold jx_cp at hr
  split at hr
  · rename_i x y he
    cases he
    cases hr
    refine ⟨_, rfl, fun p l e R s m args below meth c V u o h' hC H ls locs st ht hf => lv_if_eq hC.1 hC.2.1 d hg (fun q => ?_) (fun q => ?_)⟩
    · exact ht (by simpa [rEq, Int32.not_le, Int32.not_lt] using q) _ (List.mem_singleton.mpr rfl)
    · exact hf (by simpa [rEq, Int32.not_le, Int32.not_lt] using q) _ (List.mem_singleton.mpr rfl)
  · cases hr
theorem s_icmp_eqF {off : Int} {tgt : Nat} (d : decode Z.2.2.1 pc = .ok (.if_icmp .eq off, 3)) (hg : (pc : Int) + off = (tgt : Int)) : jx_J Z pc rNe [pc + 3] [tgt] := fun k v w => jx_Sim.cond fun L h r hr => by
  unfold jx_cp at hr
  split at hr
  · rename_i x y
    cases hr
    refine ⟨_, rfl, fun p l e R s m args below meth c V u o h' hC H ls locs st ht hf => lv_icmp_eq hC.1 hC.2.1 d hg (fun q => ?_) (fun q => ?_)⟩
    · exact hf (by simpa [rNe, Int32.not_le, Int32.not_lt] using q) _ (List.mem_singleton.mpr rfl)
    · exact ht (by simpa [rNe, Int32.not_le, Int32.not_lt] using q) _ (List.mem_singleton.mpr rfl)
  · cases hr
theorem s_if_eqF {off : Int} {tgt : Nat} (d : decode Z.2.2.1 pc = .ok (.ifCond .eq off, 3)) (hg : (pc : Int) + off = (tgt : Int)) : jx_J0 Z pc rNe [pc + 3] [tgt] := fun k v => jx_Sim.cond fun L h r hr => by
  unfold jx_cp at hr
  split at hr
  · rename_i x y he
    cases he
    cases hr
    refine ⟨_, rfl, fun p l e R s m args below meth c V u o h' hC H ls locs st ht hf => lv_if_eq hC.1 hC.2.1 d hg (fun q => ?_) (fun q => ?_)⟩
    · exact hf (by simpa [rNe, Int32.not_le, Int32.not_lt] using q) _ (List.mem_singleton.mpr rfl)
    · exact ht (by simpa [rNe, Int32.not_le, Int32.not_lt] using q) _ (List.mem_singleton.mpr rfl)
  · cases hr
theorem s_icmp_neT {off : Int} {tgt : Nat} (d : decode Z.2.2.1 pc = .ok (.if_icmp .ne off, 3)) (hg : (pc : Int) + off = (tgt : Int)) : jx_J Z pc rNe [tgt] [pc + 3] := fun k v w => jx_Sim.cond fun L h r hr => by
  unfold jx_cp at hr
  split at hr
  · rename_i x y
    cases hr
    refine ⟨_, rfl, fun p l e R s m args below meth c V u o h' hC H ls locs st ht hf => lv_icmp_ne hC.1 hC.2.1 d hg (fun q => ?_) (fun q => ?_)⟩
    · exact ht (by simpa [rNe, Int32.not_le, Int32.not_lt] using q) _ (List.mem_singleton.mpr rfl)
    · exact hf (by simpa [rNe, Int32.not_le, Int32.not_lt] using q) _ (List.mem_singleton.mpr rfl)
  · cases hr
theorem s_if_neT {off : Int} {tgt : Nat} (d : decode Z.2.2.1 pc = .ok (.ifCond .ne off, 3)) (hg : (pc : Int) + off = (tgt : Int)) : jx_J0 Z pc rNe [tgt] [pc + 3] := fun k v => jx_Sim.cond fun L h r hr => by
  unfold jx_cp at hr
  split at hr
  · rename_i x y he
    cases he
    cases hr
    refine ⟨_, rfl, fun p l e R s m args below meth c V u o h' hC H ls locs st ht hf => lv_if_ne hC.1 hC.2.1 d hg (fun q => ?_) (fun q => ?_)⟩
    · exact ht (by simpa [rNe, Int32.not_le, Int32.not_lt] using q) _ (List.mem_singleton.mpr rfl)
    · exact hf (by simpa [rNe, Int32.not_le, Int32.not_lt] using q) _ (List.mem_singleton.mpr rfl)
  · cases hr
theorem s_icmp_neF {off : Int} {tgt : Nat} (d : decode Z.2.2.1 pc = .ok (.if_icmp .ne off, 3)) (hg : (pc : Int) + off = (tgt : Int)) : jx_J Z pc rEq [pc + 3] [tgt] := fun k v w => jx_Sim.cond fun L h r hr => by
  unfold jx_cp at hr
  split at hr
  · rename_i x y
    cases hr
    refine ⟨_, rfl, fun p l e R s m args below meth c V u o h' hC H ls locs st ht hf => lv_icmp_ne hC.1 hC.2.1 d hg (fun q => ?_) (fun q => ?_)⟩
    · exact hf (by simpa [rEq, Int32.not_le, Int32.not_lt] using q) _ (List.mem_singleton.mpr rfl)
    · exact ht (by simpa [rEq, Int32.not_le, Int32.not_lt] using q) _ (List.mem_singleton.mpr rfl)
  · cases hr
theorem s_if_neF {off : Int} {tgt : Nat} (d : decode Z.2.2.1 pc = .ok (.ifCond .ne off, 3)) (hg : (pc : Int) + off = (tgt : Int)) : jx_J0 Z pc rEq [pc + 3] [tgt] := fun k v => jx_Sim.cond fun L h r hr => by
  unfold jx_cp at hr
  split at hr
  · rename_i x y he
    cases he
    cases hr
    refine ⟨_, rfl, fun p l e R s m args below meth c V u o h' hC H ls locs st ht hf => lv_if_ne hC.1 hC.2.1 d hg (fun q => ?_) (fun q => ?_)⟩
    · exact hf (by simpa [rEq, Int32.not_le, Int32.not_lt] using q) _ (List.mem_singleton.mpr rfl)
    · exact ht (by simpa [rEq, Int32.not_le, Int32.not_lt] using q) _ (List.mem_singleton.mpr rfl)
  · cases hr
theorem s_icmp_ltT {off : Int} {tgt : Nat} (d : decode Z.2.2.1 pc = .ok (.if_icmp .lt off, 3)) (hg : (pc : Int) + off = (tgt : Int)) : jx_J Z pc rLt [tgt] [pc + 3] := fun k v w => jx_Sim.cond fun L h r hr => by
  unfold jx_cp at hr
  split at hr
  · rename_i x y
    cases hr
    refine ⟨_, rfl, fun p l e R s m args below meth c V u o h' hC H ls locs st ht hf => lv_icmp_lt hC.1 hC.2.1 d hg (fun q => ?_) (fun q => ?_)⟩
    · exact ht (by simpa [rLt, Int32.not_le, Int32.not_lt] using q) _ (List.mem_singleton.mpr rfl)
    · exact hf (by simpa [rLt, Int32.not_le, Int32.not_lt] using q) _ (List.mem_singleton.mpr rfl)
  · cases hr
theorem s_if_ltT {off : Int} {tgt : Nat} (d : decode Z.2.2.1 pc = .ok (.ifCond .lt off, 3)) (hg : (pc : Int) + off = (tgt : Int)) : jx_J0 Z pc rLt [tgt] [pc + 3] := fun k v => jx_Sim.cond fun L h r hr => by
  unfold jx_cp at hr
  split at hr
  · rename_i x y he
    cases he
    cases hr
    refine ⟨_, rfl, fun p l e R s m args below meth c V u o h' hC H ls locs st ht hf => lv_if_lt hC.1 hC.2.1 d hg (fun q => ?_) (fun q => ?_)⟩
    · exact ht (by simpa [rLt, Int32.not_le, Int32.not_lt] using q) _ (List.mem_singleton.mpr rfl)
    · exact hf (by simpa [rLt, Int32.not_le, Int32.not_lt] using q) _ (List.mem_singleton.mpr rfl)
  · cases hr
theorem s_icmp_ltF {off : Int} {tgt : Nat} (d : decode Z.2.2.1 pc = .ok (.if_icmp .lt off, 3)) (hg : (pc : Int) + off = (tgt : Int)) : jx_J Z pc rGe [pc + 3] [tgt] := fun k v w => jx_Sim.cond fun L h r hr => by
  unfold jx_cp at hr
  split at hr
  · rename_i x y
    cases hr
    refine ⟨_, rfl, fun p l e R s m args below meth c V u o h' hC H ls locs st ht hf => lv_icmp_lt hC.1 hC.2.1 d hg (fun q => ?_) (fun q => ?_)⟩
    · exact hf (by simpa [rGe, Int32.not_le, Int32.not_lt] using q) _ (List.mem_singleton.mpr rfl)
    · exact ht (by simpa [rGe, Int32.not_le, Int32.not_lt] using q) _ (List.mem_singleton.mpr rfl)
  · cases hr
theorem s_if_ltF {off : Int} {tgt : Nat} (d : decode Z.2.2.1 pc = .ok (.ifCond .lt off, 3)) (hg : (pc : Int) + off = (tgt : Int)) : jx_J0 Z pc rGe [pc + 3] [tgt] := fun k v => jx_Sim.cond fun L h r hr => by
  unfold jx_cp at hr
  split at hr
  · rename_i x y he
    cases he
    cases hr
    refine ⟨_, rfl, fun p l e R s m args below meth c V u o h' hC H ls locs st ht hf => lv_if_lt hC.1 hC.2.1 d hg (fun q => ?_) (fun q => ?_)⟩
    · exact hf (by simpa [rGe, Int32.not_le, Int32.not_lt] using q) _ (List.mem_singleton.mpr rfl)
    · exact ht (by simpa [rGe, Int32.not_le, Int32.not_lt] using q) _ (List.mem_singleton.mpr rfl)
  · cases hr
theorem s_icmp_geT {off : Int} {tgt : Nat} (d : decode Z.2.2.1 pc = .ok (.if_icmp .ge off, 3)) (hg : (pc : Int) + off = (tgt : Int)) : jx_J Z pc rGe [tgt] [pc + 3] := fun k v w => jx_Sim.cond fun L h r hr => by
  unfold jx_cp at hr
  split at hr
  · rename_i x y
    cases hr
    refine ⟨_, rfl, fun p l e R s m args below meth c V u o h' hC H ls locs st ht hf => lv_icmp_ge hC.1 hC.2.1 d hg (fun q => ?_) (fun q => ?_)⟩
    · exact ht (by simpa [rGe, Int32.not_le, Int32.not_lt] using q) _ (List.mem_singleton.mpr rfl)
    · exact hf (by simpa [rGe, Int32.not_le, Int32.not_lt] using q) _ (List.mem_singleton.mpr rfl)
  · cases hr
theorem s_if_geT {off : Int} {tgt : Nat} (d : decode Z.2.2.1 pc = .ok (.ifCond .ge off, 3)) (hg : (pc : Int) + off = (tgt : Int)) : jx_J0 Z pc rGe [tgt] [pc + 3] := fun k v => jx_Sim.cond fun L h r hr => by
  unfold jx_cp at hr
  split at hr
  · rename_i x y he
    cases he
    cases hr
    refine ⟨_, rfl, fun p l e R s m args below meth c V u o h' hC H ls locs st ht hf => lv_if_ge hC.1 hC.2.1 d hg (fun q => ?_) (fun q => ?_)⟩
    · exact ht (by simpa [rGe, Int32.not_le, Int32.not_lt] using q) _ (List.mem_singleton.mpr rfl)
    · exact hf (by simpa [rGe, Int32.not_le, Int32.not_lt] using q) _ (List.mem_singleton.mpr rfl)
  · cases hr
theorem s_icmp_geF {off : Int} {tgt : Nat} (d : decode Z.2.2.1 pc = .ok (.if_icmp .ge off, 3)) (hg : (pc : Int) + off = (tgt : Int)) : jx_J Z pc rLt [pc + 3] [tgt] := fun k v w => jx_Sim.cond fun L h r hr => by
  unfold jx_cp at hr
  split at hr
  · rename_i x y
    cases hr
    refine ⟨_, rfl, fun p l e R s m args below meth c V u o h' hC H ls locs st ht hf => lv_icmp_ge hC.1 hC.2.1 d hg (fun q => ?_) (fun q => ?_)⟩
    · exact hf (by simpa [rLt, Int32.not_le, Int32.not_lt] using q) _ (List.mem_singleton.mpr rfl)
    · exact ht (by simpa [rLt, Int32.not_le, Int32.not_lt] using q) _ (List.mem_singleton.mpr rfl)
  · cases hr
theorem s_if_geF {off : Int} {tgt : Nat} (d : decode Z.2.2.1 pc = .ok (.ifCond .ge off, 3)) (hg : (pc : Int) + off = (tgt : Int)) : jx_J0 Z pc rLt [pc + 3] [tgt] := fun k v => jx_Sim.cond fun L h r hr => by
  unfold jx_cp at hr
  split at hr
  · rename_i x y he
    cases he
    cases hr
    refine ⟨_, rfl, fun p l e R s m args below meth c V u o h' hC H ls locs st ht hf => lv_if_ge hC.1 hC.2.1 d hg (fun q => ?_) (fun q => ?_)⟩
    · exact hf (by simpa [rLt, Int32.not_le, Int32.not_lt] using q) _ (List.mem_singleton.mpr rfl)
    · exact ht (by simpa [rLt, Int32.not_le, Int32.not_lt] using q) _ (List.mem_singleton.mpr rfl)
  · cases hr
theorem s_icmp_gtT {off : Int} {tgt : Nat} (d : decode Z.2.2.1 pc = .ok (.if_icmp .gt off, 3)) (hg : (pc : Int) + off = (tgt : Int)) : jx_J Z pc rGt [tgt] [pc + 3] := fun k v w => jx_Sim.cond fun L h r hr => by
  unfold jx_cp at hr
  split at hr
  · rename_i x y
    cases hr
    refine ⟨_, rfl, fun p l e R s m args below meth c V u o h' hC H ls locs st ht hf => lv_icmp_gt hC.1 hC.2.1 d hg (fun q => ?_) (fun q => ?_)⟩
    · exact ht (by simpa [rGt, Int32.not_le, Int32.not_lt] using q) _ (List.mem_singleton.mpr rfl)
    · exact hf (by simpa [rGt, Int32.not_le, Int32.not_lt] using q) _ (List.mem_singleton.mpr rfl)
  · cases hr
theorem s_if_gtT {off : Int} {tgt : Nat} (d : decode Z.2.2.1 pc = .ok (.ifCond .gt off, 3)) (hg : (pc : Int) + off = (tgt : Int)) : jx_J0 Z pc rGt [tgt] [pc + 3] := fun k v => jx_Sim.cond fun L h r hr => by
  unfold jx_cp at hr
  split at hr
  · rename_i x y he
    cases he
    cases hr
    refine ⟨_, rfl, fun p l e R s m args below meth c V u o h' hC H ls locs st ht hf => lv_if_gt hC.1 hC.2.1 d hg (fun q => ?_) (fun q => ?_)⟩
    · exact ht (by simpa [rGt, Int32.not_le, Int32.not_lt] using q) _ (List.mem_singleton.mpr rfl)
    · exact hf (by simpa [rGt, Int32.not_le, Int32.not_lt] using q) _ (List.mem_singleton.mpr rfl)
  · cases hr
theorem s_icmp_gtF {off : Int} {tgt : Nat} (d : decode Z.2.2.1 pc = .ok (.if_icmp .gt off, 3)) (hg : (pc : Int) + off = (tgt : Int)) : jx_J Z pc rLe [pc + 3] [tgt] := fun k v w => jx_Sim.cond fun L h r hr => by
  unfold jx_cp at hr
  split at hr
  · rename_i x y
    cases hr
    refine ⟨_, rfl, fun p l e R s m args below meth c V u o h' hC H ls locs st ht hf => lv_icmp_gt hC.1 hC.2.1 d hg (fun q => ?_) (fun q => ?_)⟩
    · exact hf (by simpa [rLe, Int32.not_le, Int32.not_lt] using q) _ (List.mem_singleton.mpr rfl)
    · exact ht (by simpa [rLe, Int32.not_le, Int32.not_lt] using q) _ (List.mem_singleton.mpr rfl)
  · cases hr
theorem s_if_gtF {off : Int} {tgt : Nat} (d : decode Z.2.2.1 pc = .ok (.ifCond .gt off, 3)) (hg : (pc : Int) + off = (tgt : Int)) : jx_J0 Z pc rLe [pc + 3] [tgt] := fun k v => jx_Sim.cond fun L h r hr => by
  unfold jx_cp at hr
  split at hr
  · rename_i x y he
    cases he
    cases hr
    refine ⟨_, rfl, fun p l e R s m args below meth c V u o h' hC H ls locs st ht hf => lv_if_gt hC.1 hC.2.1 d hg (fun q => ?_) (fun q => ?_)⟩
    · exact hf (by simpa [rLe, Int32.not_le, Int32.not_lt] using q) _ (List.mem_singleton.mpr rfl)
    · exact ht (by simpa [rLe, Int32.not_le, Int32.not_lt] using q) _ (List.mem_singleton.mpr rfl)
  · cases hr
theorem s_icmp_leT {off : Int} {tgt : Nat} (d : decode Z.2.2.1 pc = .ok (.if_icmp .le off, 3)) (hg : (pc : Int) + off = (tgt : Int)) : jx_J Z pc rLe [tgt] [pc + 3] := fun k v w => jx_Sim.cond fun L h r hr => by
  unfold jx_cp at hr
  split at hr
  · rename_i x y
    cases hr
    refine ⟨_, rfl, fun p l e R s m args below meth c V u o h' hC H ls locs st ht hf => lv_icmp_le hC.1 hC.2.1 d hg (fun q => ?_) (fun q => ?_)⟩
    · exact ht (by simpa [rLe, Int32.not_le, Int32.not_lt] using q) _ (List.mem_singleton.mpr rfl)
    · exact hf (by simpa [rLe, Int32.not_le, Int32.not_lt] using q) _ (List.mem_singleton.mpr rfl)
  · cases hr
theorem s_if_leT {off : Int} {tgt : Nat} (d : decode Z.2.2.1 pc = .ok (.ifCond .le off, 3)) (hg : (pc : Int) + off = (tgt : Int)) : jx_J0 Z pc rLe [tgt] [pc + 3] := fun k v => jx_Sim.cond fun L h r hr => by
  unfold jx_cp at hr
  split at hr
  · rename_i x y he
    cases he
    cases hr
    refine ⟨_, rfl, fun p l e R s m args below meth c V u o h' hC H ls locs st ht hf => lv_if_le hC.1 hC.2.1 d hg (fun q => ?_) (fun q => ?_)⟩
    · exact ht (by simpa [rLe, Int32.not_le, Int32.not_lt] using q) _ (List.mem_singleton.mpr rfl)
    · exact hf (by simpa [rLe, Int32.not_le, Int32.not_lt] using q) _ (List.mem_singleton.mpr rfl)
  · cases hr
theorem s_icmp_leF {off : Int} {tgt : Nat} (d : decode Z.2.2.1 pc = .ok (.if_icmp .le off, 3)) (hg : (pc : Int) + off = (tgt : Int)) : jx_J Z pc rGt [pc + 3] [tgt] := fun k v w => jx_Sim.cond fun L h r hr => by
  unfold jx_cp at hr
  split at hr
  · rename_i x y
    cases hr
    refine ⟨_, rfl, fun p l e R s m args below meth c V u o h' hC H ls locs st ht hf => lv_icmp_le hC.1 hC.2.1 d hg (fun q => ?_) (fun q => ?_)⟩
    · exact hf (by simpa [rGt, Int32.not_le, Int32.not_lt] using q) _ (List.mem_singleton.mpr rfl)
    · exact ht (by simpa [rGt, Int32.not_le, Int32.not_lt] using q) _ (List.mem_singleton.mpr rfl)
  · cases hr
theorem s_if_leF {off : Int} {tgt : Nat} (d : decode Z.2.2.1 pc = .ok (.ifCond .le off, 3)) (hg : (pc : Int) + off = (tgt : Int)) : jx_J0 Z pc rGt [pc + 3] [tgt] := fun k v => jx_Sim.cond fun L h r hr => by
  unfold jx_cp at hr
  split at hr
  · rename_i x y he
    cases he
    cases hr
    refine ⟨_, rfl, fun p l e R s m args below meth c V u o h' hC H ls locs st ht hf => lv_if_le hC.1 hC.2.1 d hg (fun q => ?_) (fun q => ?_)⟩
    · exact hf (by simpa [rGt, Int32.not_le, Int32.not_lt] using q) _ (List.mem_singleton.mpr rfl)
    · exact ht (by simpa [rGt, Int32.not_le, Int32.not_lt] using q) _ (List.mem_singleton.mpr rfl)
  · cases hr
def jx_Jn (Z : jx_Z) (pc : Nat) (Ts Fs : List Nat) : Prop := ∀ (k : Nat) (v : Value), jx_Sim Z k pc [v] (jx_nl v) (jx_tf Ts Fs)
theorem s_ifnull {off : Int} {tgt : Nat} (d : decode Z.2.2.1 pc = .ok (.ifnull off, 3)) (hg : (pc : Int) + off = (tgt : Int)) : jx_Jn Z pc [tgt] [pc + 3] := fun k v => jx_Sim.cond fun L h r hr => by
  unfold jx_nl at hr
  split at hr
  · cases hr
    exact ⟨_, rfl, fun p l e R s m args below meth c V u o h' hC H ls locs st ht hf => lv_ifnullN hC.1 hC.2.1 d hg (ht rfl _ (List.mem_singleton.mpr rfl))⟩
  · cases hr
    exact ⟨_, rfl, fun p l e R s m args below meth c V u o h' hC H ls locs st ht hf => lv_ifnull hC.1 hC.2.1 d (hf rfl _ (List.mem_singleton.mpr rfl))⟩
  · cases hr
theorem s_ifnonnull {off : Int} {tgt : Nat} (d : decode Z.2.2.1 pc = .ok (.ifnonnull off, 3)) (hg : (pc : Int) + off = (tgt : Int)) : jx_Jn Z pc [pc + 3] [tgt] := fun k v => jx_Sim.cond fun L h r hr => by
  unfold jx_nl at hr
  split at hr
  · cases hr
    exact ⟨_, rfl, fun p l e R s m args below meth c V u o h' hC H ls locs st ht hf => lv_ifnonnullN hC.1 hC.2.1 d (ht rfl _ (List.mem_singleton.mpr rfl))⟩
  · cases hr
    exact ⟨_, rfl, fun p l e R s m args below meth c V u o h' hC H ls locs st ht hf => lv_ifnonnull hC.1 hC.2.1 d hg (hf rfl _ (List.mem_singleton.mpr rfl))⟩
  · cases hr
theorem s_cmp {r : Int32 → Int32 → Bool} {a b : jx_Ex} {q1 q2 : Nat} {Ts Fs : List Nat} (ha : jx_E Z k pc a q1) (hb : jx_E Z (k + 2) q1 b q2) (hj : jx_J Z q2 r Ts Fs) : jx_Cd Z k pc (cCmp r a b) Ts Fs :=
  jx_Sim.b1 ha fun v => jx_Sim.b1 ((hb.mono (Nat.add_le_add_left (jx_cat1 v) k)).un1 [v]) fun w => hj k v w
theorem s_cmp0 {r : Int32 → Int32 → Bool} {a : jx_Ex} {q1 : Nat} {Ts Fs : List Nat} (ha : jx_E Z k pc a q1) (hj : jx_J0 Z q1 r Ts Fs) : jx_Cd Z k pc (cCmp0 r a) Ts Fs :=
  jx_Sim.b1 ha fun v => hj k v
theorem s_nul {a : jx_Ex} {q1 : Nat} {Ts Fs : List Nat} (ha : jx_E Z k pc a q1) (hj : jx_Jn Z q1 Ts Fs) : jx_Cd Z k pc (cNull a) Ts Fs :=
  jx_Sim.b1 ha fun v => hj k v
/-- nothing is done -/
theorem jx_Sim.nop {pre : List Value} {α : Type} (a : α) {T : α → List (Nat × List Value)} (h : (pc, pre) ∈ T a) : jx_Sim Z k pc pre (fun _ h => jx_ok a h) T := by
  intro L hh r hr
  cases hr
  exact ⟨jx_le.rf _, fun p l e R s m args below meth c V u o h' hC hfit hs hu hle' st hst hT hthr => hT a hh rfl (pc, pre) h⟩
theorem jx_Sim.sub {pre : List Value} {α : Type} {x : List Value → jx_S → jx_M α} {T T' : α → List (Nat × List Value)} (hx : jx_Sim Z k pc pre x T) (hs : ∀ a, ∀ t ∈ T a, t ∈ T' a) : jx_Sim Z k pc pre x T' := by
  intro L h r hr
  obtain ⟨hle, hsim⟩ := hx L h r hr
  exact ⟨hle, fun p l e R s m args below meth c V u o h' hC hfit hs' hu hle' st hst hT hthr => hsim p l e R s m args below meth c V u o h' hC hfit hs' hu hle' st hst (fun a h1 q t ht => hT a h1 q t (hs a t ht)) hthr⟩
theorem s_not {c : jx_Cx} {Ts Fs : List Nat} (hc : jx_Cd Z k pc c Ts Fs) (hn : Ts ≠ [] ∧ Fs ≠ []) : jx_Cd Z k pc (cNot c) Fs Ts := by
  refine jx_Sim.bind hc (fun b => ?_) (fun b t ht => ?_)
  · cases b
    · cases Fs with
      | nil => exact absurd rfl hn.2
      | cons q r => exact ⟨(q, []), List.mem_map.mpr ⟨q, List.mem_cons_self, rfl⟩, jx_Sim.nop _ (List.mem_map.mpr ⟨q, List.mem_cons_self, rfl⟩)⟩
    · cases Ts with
      | nil => exact absurd rfl hn.1
      | cons q r => exact ⟨(q, []), List.mem_map.mpr ⟨q, List.mem_cons_self, rfl⟩, jx_Sim.nop _ (List.mem_map.mpr ⟨q, List.mem_cons_self, rfl⟩)⟩
  · cases b
    · obtain ⟨q, hq, rfl⟩ := List.mem_map.mp ht
      exact jx_Sim.nop _ (List.mem_map.mpr ⟨q, hq, rfl⟩)
    · obtain ⟨q, hq, rfl⟩ := List.mem_map.mp ht
      exact jx_Sim.nop _ (List.mem_map.mpr ⟨q, hq, rfl⟩)
/-- a condition, then one of two pieces -/
theorem jx_Sim.branch {α : Type} {c : jx_Cx} {Ts Fs : List Nat} {f g : List Value → jx_S → jx_M α} {T : α → List (Nat × List Value)} (hc : jx_Cd Z k pc c Ts Fs) (hn : Ts ≠ [] ∧ Fs ≠ []) (hf : ∀ q ∈ Ts, jx_Sim Z k q [] f T) (hg : ∀ q ∈ Fs, jx_Sim Z k q [] g T) :
    jx_Sim Z k pc [] (fun L h => jx_b (c L h) fun x h1 => match x with
      | true => f L h1
      | false => g L h1) T := by
  have key : ∀ b, ∀ t ∈ jx_tf Ts Fs b, jx_Sim Z k t.1 t.2 (fun L h1 => match b with
      | true => f L h1
      | false => g L h1) T := by
    intro b t ht
    cases b
    · obtain ⟨q, hq, rfl⟩ := List.mem_map.mp ht
      exact hg q hq
    · obtain ⟨q, hq, rfl⟩ := List.mem_map.mp ht
      exact hf q hq
  refine jx_Sim.bind hc (fun b => ?_) key
  cases b
  · cases Fs with
    | nil => exact absurd rfl hn.2
    | cons q r => exact ⟨(q, []), List.mem_map.mpr ⟨q, List.mem_cons_self, rfl⟩, key false _ (List.mem_map.mpr ⟨q, List.mem_cons_self, rfl⟩)⟩
  · cases Ts with
    | nil => exact absurd rfl hn.1
    | cons q r => exact ⟨(q, []), List.mem_map.mpr ⟨q, List.mem_cons_self, rfl⟩, key true _ (List.mem_map.mpr ⟨q, List.mem_cons_self, rfl⟩)⟩
theorem s_and {a b : jx_Cx} {q : Nat} {T0 Ts Fs : List Nat} (ha : jx_Cd Z k pc a [q] Fs) (hb : jx_Cd Z k q b Ts Fs) (hn : Fs ≠ []) : jx_Cd Z k pc (cAnd a b) Ts Fs :=
  jx_Sim.branch ha ⟨by simp, hn⟩ (fun q' hq => by rw [List.mem_singleton.mp hq]; exact hb) (fun q' hq => jx_Sim.nop _ (List.mem_map.mpr ⟨q', hq, rfl⟩))
theorem s_or {a b : jx_Cx} {q : Nat} {Ts Fs : List Nat} (ha : jx_Cd Z k pc a Ts [q]) (hb : jx_Cd Z k q b Ts Fs) (hn : Ts ≠ []) : jx_Cd Z k pc (cOr a b) Ts Fs :=
  jx_Sim.branch ha ⟨hn, by simp⟩ (fun q' hq => jx_Sim.nop _ (List.mem_map.mpr ⟨q', hq, rfl⟩)) (fun q' hq => by rw [List.mem_singleton.mp hq]; exact hb)
/-- fewer places -/
theorem s_csub {a : jx_Cx} {T1 F1 Ts Fs : List Nat} (ha : jx_Cd Z k pc a T1 F1) (ht : ∀ q ∈ T1, q ∈ Ts) (hf : ∀ q ∈ F1, q ∈ Fs) : jx_Cd Z k pc a Ts Fs :=
  jx_Sim.sub ha fun b t h => by
    cases b
    · obtain ⟨q, hq, rfl⟩ := List.mem_map.mp h
      exact List.mem_map.mpr ⟨q, hf q hq, rfl⟩
    · obtain ⟨q, hq, rfl⟩ := List.mem_map.mp h
      exact List.mem_map.mpr ⟨q, ht q hq, rfl⟩
/-- a jump, whatever is on the stack -/
theorem s_goto {pre : List Value} {α : Type} {x : List Value → jx_S → jx_M α} {T : α → List (Nat × List Value)} {off : Int} {tgt : Nat} (d : decode Z.2.2.1 pc = .ok (.goto off, 3)) (hg : (pc : Int) + off = (tgt : Int)) (hx : jx_Sim Z k tgt pre x T) : jx_Sim Z k pc pre x T := by
  intro L h r hr
  obtain ⟨hle, hsim⟩ := hx L h r hr
  exact ⟨hle, fun p l e R s m args below meth c V u o h' hC hfit hs' hu hle' st hst hT hthr H ls locs hR hL => lv_goto hC.1 hC.2.1 d hg (hsim p l e R s m args below meth c V u o h' hC hfit hs' hu hle' st hst hT hthr H ls locs hR hL)⟩
theorem b_goto {pre : List Value} {x : jx_Bk} {off : Int} {tgt : Nat} (d : decode Z.2.2.1 pc = .ok (.goto off, 3)) (hg : (pc : Int) + off = (tgt : Int)) (hx : jx_B Z tgt pre x) : jx_B Z pc pre x := by
  intro L h o h' hr
  obtain ⟨hle, hsim⟩ := hx L h o h' hr
  exact ⟨hle, fun p l e R s m args below meth c V u hC hfit hs' hu H ls locs hR hL => lv_goto hC.1 hC.2.1 d hg (hsim p l e R s m args below meth c V u hC hfit hs' hu H ls locs hR hL)⟩
/-- c ? a : b as a condition: behind a a jump to where it is true -/
theorem s_cite {c a b : jx_Cx} {q1 q2 q3 : Nat} {Ts Fs : List Nat} (hc : jx_Cd Z k pc c [q1] [q2]) (ha : jx_Cd Z k q1 a Ts Fs) (hb : jx_Cd Z k q2 b Ts Fs) : jx_Cd Z k pc (cIte c a b) Ts Fs :=
  jx_Sim.branch hc ⟨by simp, by simp⟩ (fun q' hq => by rw [List.mem_singleton.mp hq]; exact ha) (fun q' hq => by rw [List.mem_singleton.mp hq]; exact hb)
/-- a jump behind a condition's true end -/
theorem s_cgoto {a : jx_Cx} {q3 : Nat} {Ts Fs : List Nat} {off : Int} {tgt : Nat} (ha : jx_Cd Z k pc a [q3] Fs) (d : decode Z.2.2.1 q3 = .ok (.goto off, 3)) (hg : (q3 : Int) + off = (tgt : Int)) (ht : tgt ∈ Ts) : jx_Cd Z k pc a Ts Fs := by
  intro L h r hr
  obtain ⟨hle, hsim⟩ := ha L h r hr
  refine ⟨hle, fun p l e R s m args below meth c V u o h' hC hfit hs' hu hle' st hst hT hthr => hsim p l e R s m args below meth c V u o h' hC hfit hs' hu hle' st hst (fun b h1 q t htt => ?_) hthr⟩
  cases b
  · exact hT false h1 q t htt
  · have e : t = (q3, []) := by
      obtain ⟨z, hz, rfl⟩ := List.mem_map.mp htt
      rw [List.mem_singleton.mp hz]
    subst e
    intro H ls locs hR hL
    exact lv_goto hC.1 hC.2.1 d hg (hT true h1 q (tgt, []) (List.mem_map.mpr ⟨tgt, ht, rfl⟩) H ls locs hR hL)
/-- c ? a : b as a value -/
theorem s_ite {c : jx_Cx} {a b : jx_Ex} {q1 q2 q3 q4 : Nat} {off : Int} (hc : jx_Cd Z k pc c [q1] [q2]) (ha : jx_E Z k q1 a q3) (d : decode Z.2.2.1 q3 = .ok (.goto off, 3)) (hg : (q3 : Int) + off = (q4 : Int)) (hb : jx_E Z k q2 b q4) : jx_E Z k pc (eIte c a b) q4 := by
  refine jx_Sim.branch hc ⟨by simp, by simp⟩ (fun q' hq => ?_) (fun q' hq => by rw [List.mem_singleton.mp hq]; exact hb)
  rw [List.mem_singleton.mp hq]
  intro L h r hr
  obtain ⟨hle, hsim⟩ := ha L h r hr
  refine ⟨hle, fun p l e R s m args below meth c V u o h' hC hfit hs' hu hle' st hst hT hthr => hsim p l e R s m args below meth c V u o h' hC hfit hs' hu hle' st hst (fun v h1 q t htt => ?_) hthr⟩
  rw [List.mem_singleton.mp htt]
  intro H ls locs hR hL
  exact lv_goto hC.1 hC.2.1 d hg (hT v h1 q _ (List.mem_singleton.mpr rfl) H ls locs hR hL)
/-- a condition as a value: 1 or 0 -/
def eC (c : jx_Cx) : jx_Ex := eIte c (eInt 1) (eInt 0)
end JX3
