/-! STATEMENTS: stores to locals, branches, loops, returns -/
def jx_pl (L : List Value) : List (Nat × Value) := (List.range L.length).filterMap fun i => match L[i]? with
  | some v => if v.category = 1 then some (i, v) else none
  | none => none
theorem jx_pl_mem {L : List Value} {q : Nat × Value} : q ∈ jx_pl L ↔ L[q.1]? = some q.2 ∧ q.2.category = 1 := by
  unfold jx_pl
  constructor
  · intro h
    obtain ⟨i, -, h2⟩ := List.mem_filterMap.mp h
    split at h2
    · rename_i v hv
      split at h2
      · rename_i hc
        cases h2
        exact ⟨hv, hc⟩
      · cases h2
    · cases h2
  · intro ⟨h1, h2⟩
    refine List.mem_filterMap.mpr ⟨q.1, List.mem_range.mpr (List.getElem?_eq_some_iff.mp h1).1, ?_⟩
    rw [h1]
    simp [h2]
theorem jx_L.has {ls : Array Slot} {L : List Value} {n : Nat} (h : jx_L ls L n) : lv_has ls n (jx_pl L) := ⟨h.1, h.2.1, fun q hq => by
  obtain ⟨h1, h2⟩ := jx_pl_mem.mp hq
  exact h.2.2 q.1 q.2 h1 h2⟩
theorem jx_L.set {ls' : Array Slot} {L : List Value} {n i : Nat} {v : Value} (h : lv_has ls' n ((i, v) :: (jx_pl L).filter (fun q => !(q.1 == i) && !(q.1 + 1 == i && q.2.category == 2)))) : jx_L ls' (L.set i v) n := by
  refine ⟨h.1, h.2.1, fun j w hj hw => ?_⟩
  by_cases e : i = j
  · subst e
    have hl : i < (L.set i v).length := (List.getElem?_eq_some_iff.mp hj).1
    rw [List.length_set] at hl
    rw [List.getElem?_set_self hl] at hj
    cases hj
    exact h.2.2 (i, v) List.mem_cons_self
  · rw [List.getElem?_set_ne e] at hj
    refine h.2.2 (j, w) (List.mem_cons_of_mem _ (List.mem_filter.mpr ⟨jx_pl_mem.mpr ⟨hj, hw⟩, ?_⟩))
    simp [Ne.symm e, hw]
def jx_set (b i : Nat) (v : Value) (k : jx_Bk) : jx_Bk := fun L h => if jx_ft b v = true then k (L.set i v) h else none
section JX6
variable {Z : jx_Z} {pc : Nat}
theorem jx_B.bstep {q : Nat} {pre pre' : List Value} {k k' : jx_Bk} (hk : jx_B Z q pre' k') (hh : ∀ L h o h', k L h = some (o, h') → ∃ L', k' L' h = some (o, h') ∧ ∀ p l e R s m args below meth c V u, jx_C p e R s m meth c V Z → ∀ (H : Heap) (ls : Array Slot) (locs : List Loc), jx_L ls L c.maxLocals → (∀ ls', jx_L ls' L' c.maxLocals → W p l e R s m args below meth c H locs (h.1 - s.heap.size) (h.2.1 - u) (jx_Q s below V u o h') (F0 m q ls' pre')) → W p l e R s m args below meth c H locs (h.1 - s.heap.size) (h.2.1 - u) (jx_Q s below V u o h') (F0 m pc ls pre)) : jx_B Z pc pre k := by
  intro L h o h' hr
  obtain ⟨L', hk', hw⟩ := hh L h o h' hr
  obtain ⟨hle, hsim⟩ := hk L' h o h' hk'
  exact ⟨hle, fun p l e R s m args below meth c V u hC hfit hs hu H ls locs hR hL => hw p l e R s m args below meth c V u hC H ls locs hL (fun ls' hL' => hsim p l e R s m args below meth c V u hC hfit hs hu H ls' locs hR hL')⟩
theorem jx_ft0 {v : Value} (h : jx_ft 0 v = true) : ∃ x, v = .int x := by
  cases v <;> first | exact ⟨_, rfl⟩ | exact Bool.noConfusion (show false = true from h)
theorem jx_ft2 {v : Value} (h : jx_ft 2 v = true) : v = .null ∨ ∃ a, v = .ref a := by
  cases v <;> first | exact Or.inr ⟨_, rfl⟩ | exact Or.inl rfl | exact Bool.noConfusion (show false = true from h)
theorem jx_set_spec {b i : Nat} {v : Value} {k : jx_Bk} {L : List Value} {h : jx_S} {r : Outcome × jx_S} (hr : jx_set b i v k L h = some r) : jx_ft b v = true ∧ k (L.set i v) h = some r := by
  unfold jx_set at hr
  split at hr
  · exact ⟨by assumption, hr⟩
  · cases hr
theorem b_istore_n {j : Fin 4} {i : Nat} {v : Value} {k : jx_Bk} (d : decode Z.2.2.1 pc = .ok (.istore_n j, 1)) (hi : (j : Nat) = i) (hn : i < Z.2.2.2.1) (hk : jx_B Z (pc + 1) [] k) : jx_B Z pc [v] (jx_set 0 i v k) :=
  jx_B.bstep hk fun L h o h' hr => by
    obtain ⟨hv, hr⟩ := jx_set_spec hr
    obtain ⟨x, rfl⟩ := jx_ft0 hv
    exact ⟨_, hr, fun p l e R s m args below meth c V u hC H ls locs hL kk => lv_istore_n hC.x hC.b d hi hL.has (by rw [hC.ml]; exact hn) rfl (fun ls' h' => kk ls' (jx_L.set h'))⟩
theorem b_istore {i : Nat} {v : Value} {k : jx_Bk} (d : decode Z.2.2.1 pc = .ok (.istore i, 2)) (hn : i < Z.2.2.2.1) (hk : jx_B Z (pc + 2) [] k) : jx_B Z pc [v] (jx_set 0 i v k) :=
  jx_B.bstep hk fun L h o h' hr => by
    obtain ⟨hv, hr⟩ := jx_set_spec hr
    obtain ⟨x, rfl⟩ := jx_ft0 hv
    exact ⟨_, hr, fun p l e R s m args below meth c V u hC H ls locs hL kk => lv_istore hC.x hC.b d hL.has (by rw [hC.ml]; exact hn) rfl (fun ls' h' => kk ls' (jx_L.set h'))⟩
theorem b_astore_n {j : Fin 4} {i : Nat} {v : Value} {k : jx_Bk} (d : decode Z.2.2.1 pc = .ok (.astore_n j, 1)) (hi : (j : Nat) = i) (hn : i < Z.2.2.2.1) (hk : jx_B Z (pc + 1) [] k) : jx_B Z pc [v] (jx_set 2 i v k) :=
  jx_B.bstep hk fun L h o h' hr => by
    obtain ⟨hv, hr⟩ := jx_set_spec hr
    rcases jx_ft2 hv with rfl | ⟨x, rfl⟩
    · exact ⟨_, hr, fun p l e R s m args below meth c V u hC H ls locs hL kk => lv_astore_nN hC.x hC.b d hi hL.has (by rw [hC.ml]; exact hn) rfl (fun ls' h' => kk ls' (jx_L.set h'))⟩
    · exact ⟨_, hr, fun p l e R s m args below meth c V u hC H ls locs hL kk => lv_astore_n hC.x hC.b d hi hL.has (by rw [hC.ml]; exact hn) rfl (fun ls' h' => kk ls' (jx_L.set h'))⟩
theorem b_astore {i : Nat} {v : Value} {k : jx_Bk} (d : decode Z.2.2.1 pc = .ok (.astore i, 2)) (hn : i < Z.2.2.2.1) (hk : jx_B Z (pc + 2) [] k) : jx_B Z pc [v] (jx_set 2 i v k) :=
  jx_B.bstep hk fun L h o h' hr => by
    obtain ⟨hv, hr⟩ := jx_set_spec hr
    rcases jx_ft2 hv with rfl | ⟨x, rfl⟩
    · exact ⟨_, hr, fun p l e R s m args below meth c V u hC H ls locs hL kk => lv_astoreN hC.x hC.b d hL.has (by rw [hC.ml]; exact hn) rfl (fun ls' h' => kk ls' (jx_L.set h'))⟩
    · exact ⟨_, hr, fun p l e R s m args below meth c V u hC H ls locs hL kk => lv_astore hC.x hC.b d hL.has (by rw [hC.ml]; exact hn) rfl (fun ls' h' => kk ls' (jx_L.set h'))⟩
/-- THE MACHINE FOLLOWS A STATEMENT: from pc, to one of the places E -/
def jx_Ts (Z : jx_Z) (pc : Nat) (A : jx_St) (E : List Nat) : Prop := ∀ k : jx_Bk, (∀ q ∈ E, jx_B Z q [] k) → jx_B Z pc [] (A k)
def sInc (i : Nat) (n : Int32) : jx_St := fun k L h => match L[i]? with
  | some (.int x) => k (L.set i (.int (x + n))) h
  | _ => none
theorem t_iinc {i : Nat} {n : Int} {v : Int32} (d : decode Z.2.2.1 pc = .ok (.iinc i n, 3)) (hv : Int32.ofInt n = v) (hn : i < Z.2.2.2.1) : jx_Ts Z pc (sInc i v) [pc + 3] := fun k hk =>
  jx_B.bstep (hk _ (List.mem_singleton.mpr rfl)) fun L h o h' hr => by
    unfold sInc at hr
    split at hr
    · rename_i x hx
      refine ⟨_, hr, fun p l e R s m args below meth c V u hC H ls locs hL kk => ?_⟩
      obtain ⟨j, hj⟩ := List.getElem?_of_mem (jx_pl_mem.mpr (⟨hx, rfl⟩ : L[(i, Value.int x).1]? = some (i, Value.int x).2 ∧ _))
      exact lv_iinc (v := x + v) hC.x hC.b d hL.has hj (by rw [hv]) (by rw [hC.ml]; exact hn) rfl (fun ls' h' => kk ls' (jx_L.set h'))
    · cases hr
def sAsg (b i : Nat) (x : jx_Ex) : jx_St := fun k L h => jx_kb (x L h) fun v h1 => jx_set b i v k L h1
theorem t_asg {b i q q' : Nat} {x : jx_Ex} (hx : jx_E Z 0 pc x q) (hs : ∀ (v : Value) (k : jx_Bk), jx_B Z q' [] k → jx_B Z q [v] (jx_set b i v k)) : jx_Ts Z pc (sAsg b i x) [q'] := fun k hk =>
  jx_B.b1 hx fun v => hs v k (hk _ (List.mem_singleton.mpr rfl))
def sSkip : jx_St := fun k => k
theorem t_skip {E : List Nat} (h : pc ∈ E) : jx_Ts Z pc sSkip E := fun k hk => hk pc h
def sSeq (A B : jx_St) : jx_St := fun k => A (B k)
theorem t_seq {A B : jx_St} {q : Nat} {E : List Nat} (hA : jx_Ts Z pc A [q]) (hB : jx_Ts Z q B E) : jx_Ts Z pc (sSeq A B) E := fun k hk => hA _ fun q' hq => by rw [List.mem_singleton.mp hq]; exact hB k hk
theorem t_sub {A : jx_St} {E E' : List Nat} (hA : jx_Ts Z pc A E) (h : ∀ q ∈ E, q ∈ E') : jx_Ts Z pc A E' := fun k hk => hA k fun q hq => hk q (h q hq)
/-- a jump behind a statement -/
theorem t_goto {A : jx_St} {q : Nat} {E : List Nat} {off : Int} {tgt : Nat} (hA : jx_Ts Z pc A (q :: E)) (d : decode Z.2.2.1 q = .ok (.goto off, 3)) (hg : (q : Int) + off = (tgt : Int)) (ht : tgt ∈ E) : jx_Ts Z pc A E := fun k hk => hA k fun q' hq => by
  rcases List.mem_cons.mp hq with rfl | h
  · exact b_goto d hg (hk tgt ht)
  · exact hk q' h
def sIf (c : jx_Cx) (A B : jx_St) : jx_St := fun k L h => jx_kb (c L h) fun b h1 => match b with
  | true => A k L h1
  | false => B k L h1
theorem jx_B.branch {c : jx_Cx} {Ts Fs : List Nat} {f g : jx_Bk} (hc : jx_Cd Z 0 pc c Ts Fs) (hn : Ts ≠ [] ∧ Fs ≠ []) (hf : ∀ q ∈ Ts, jx_B Z q [] f) (hg : ∀ q ∈ Fs, jx_B Z q [] g) :
    jx_B Z pc [] (fun L h => jx_kb (c L h) fun b h1 => match b with
      | true => f L h1
      | false => g L h1) := by
  have key : ∀ b, ∀ t ∈ jx_tf Ts Fs b, jx_B Z t.1 t.2 (fun L h1 => match b with
      | true => f L h1
      | false => g L h1) := by
    intro b t ht
    cases b
    · obtain ⟨q, hq, rfl⟩ := List.mem_map.mp ht
      exact hg q hq
    · obtain ⟨q, hq, rfl⟩ := List.mem_map.mp ht
      exact hf q hq
  refine jx_B.bind hc (fun b => ?_) key
  cases b
  · cases Fs with
    | nil => exact absurd rfl hn.2
    | cons q r => exact ⟨(q, []), List.mem_map.mpr ⟨q, List.mem_cons_self, rfl⟩, key false _ (List.mem_map.mpr ⟨q, List.mem_cons_self, rfl⟩)⟩
  · cases Ts with
    | nil => exact absurd rfl hn.1
    | cons q r => exact ⟨(q, []), List.mem_map.mpr ⟨q, List.mem_cons_self, rfl⟩, key true _ (List.mem_map.mpr ⟨q, List.mem_cons_self, rfl⟩)⟩
theorem t_if {c : jx_Cx} {A B : jx_St} {q1 q2 : Nat} {E : List Nat} (hc : jx_Cd Z 0 pc c [q1] [q2]) (hA : jx_Ts Z q1 A E) (hB : jx_Ts Z q2 B E) : jx_Ts Z pc (sIf c A B) E := fun k hk =>
  jx_B.branch hc ⟨by simp, by simp⟩ (fun q hq => by rw [List.mem_singleton.mp hq]; exact hA k hk) (fun q hq => by rw [List.mem_singleton.mp hq]; exact hB k hk)
/-- if without else: where it is false it goes on behind -/
theorem t_if1 {c : jx_Cx} {A : jx_St} {q1 : Nat} {Fs E : List Nat} (hc : jx_Cd Z 0 pc c [q1] Fs) (hn : Fs ≠ []) (hA : jx_Ts Z q1 A E) (hF : ∀ q ∈ Fs, q ∈ E) : jx_Ts Z pc (sIf c A sSkip) E := fun k hk =>
  jx_B.branch (g := sSkip k) hc ⟨by simp, hn⟩ (fun q hq => by rw [List.mem_singleton.mp hq]; exact hA k hk) (fun q hq => hk q (hF q hq))
def sWh : Nat → jx_Cx → jx_St → jx_St
  | 0, _, _ => fun _ _ _ => none
  | n + 1, c, A => fun k L h => jx_kb (c L h) fun b h1 => match b with
    | true => A (sWh n c A k) L h1
    | false => k L h1
theorem jx_B.none {pre : List Value} : jx_B Z pc pre (fun _ _ => none) := fun L h o h' hr => by cases hr
/-- a loop with its test first: behind the body a jump back, or what goes on jumps back by itself -/
theorem t_wh {c : jx_Cx} {A : jx_St} {q1 : Nat} {Fs EA E : List Nat} (n : Nat) (hc : jx_Cd Z 0 pc c [q1] Fs) (hn : Fs ≠ []) (hA : jx_Ts Z q1 A EA) (hE : ∀ q ∈ EA, q = pc ∨ ∃ off : Int, decode Z.2.2.1 q = .ok (.goto off, 3) ∧ (q : Int) + off = (pc : Int)) (hF : ∀ q ∈ Fs, q ∈ E) : jx_Ts Z pc (sWh n c A) E := by
  intro k hk
  induction n with
  | zero => exact jx_B.none
  | succ n ih =>
    refine jx_B.branch (f := A (sWh n c A k)) hc ⟨by simp, hn⟩ (fun q hq => ?_) (fun q hq => hk q (hF q hq))
    rw [List.mem_singleton.mp hq]
    refine hA _ fun q' hq' => ?_
    rcases hE q' hq' with rfl | ⟨off, d, hg⟩
    · exact ih
    · exact b_goto d hg ih
/-- statements by pieces -/
def sPf (cs : List Nat) (i b : Nat) (o x : jx_Ex) : jx_St := fun k L h => jx_kb (o L h) fun v h1 => jx_kb (x L h1) fun w h2 => jx_kb (jx_pf cs i b v w L h2) fun _ h3 => k L h3
theorem t_pf {idx i b q1 q2 : Nat} {cs : List Nat} {fin : Bool} {ty : FieldType} {o x : jx_Ex} (ho : jx_E Z 0 pc o q1) (hx : jx_E Z 2 q1 x q2) (hf : jx_fi Z.1 idx cs i fin ty) (hb : jx_kd ty = b) (hfin : fin = false ∨ (Z.2.1 = "<init>" ∧ ∀ ci ∈ cs, ∀ C T N, jx_cl[ci]? = some (C, T, N) → (T i).1 = Z.1)) (d : decode Z.2.2.1 q2 = .ok (.putfield idx, 3)) : jx_Ts Z pc (sPf cs i b o x) [q2 + 3] := fun k hk =>
  jx_B.b1 ho fun v => jx_B.b1 ((hx.mono (k' := 0 + jx_wt [v]) (by have := jx_cat1 v; omega)).un1 [v]) fun w => jx_B.b1 (s_pf hf hb hfin d 0 v w) fun _ => hk _ (List.mem_singleton.mpr rfl)
/-- o.f op= x -/
def sUf (cs : List Nat) (i b : Nat) (f : Int32 → Int32 → Option Int32) (o x : jx_Ex) : jx_St := fun k L h => jx_kb (o L h) fun v h1 => jx_kb (jx_gf cs i v L h1) fun w h2 => jx_kb (x L h2) fun y h3 => jx_kb (jx_op f w y L h3) fun z h4 => jx_kb (jx_pf cs i b v z L h4) fun _ h5 => k L h5
theorem s_dup (d : decode Z.2.2.1 pc = .ok (.dup, 1)) (k : Nat) (v : Value) : jx_Sim Z k pc [v] (fun _ h => if v.category = 1 then jx_ok () h else none) (fun _ => [(pc + 1, [v, v])]) :=
  jx_Sim.step fun L h r hr => by
    split at hr
    · rename_i hv
      cases hr
      exact ⟨(), rfl, fun p l e R s m args below meth c V u o h' hC H ls locs st hR hL kk => lv_dup hC.x hC.b d hv kk⟩
    · cases hr
/-- a copy of a reference is laid on top -/
theorem s_dupr {α : Type} {f : List Value → jx_S → jx_M α} {T : α → List (Nat × List Value)} (d : decode Z.2.2.1 pc = .ok (.dup, 1)) {k : Nat} {v : Value} (hf : ∀ L h r, f L h = some r → v.category = 1) (hx : jx_Sim Z k (pc + 1) [v, v] f T) : jx_Sim Z k pc [v] f T := by
  intro L h r hr
  obtain ⟨hle, hsim⟩ := hx L h r hr
  exact ⟨hle, fun p l e R s m args below meth c V u o h' hC hfit hs' hu hle' st hst hT hthr H ls locs hR hL => lv_dup hC.x hC.b d (hf L h r hr) (hsim p l e R s m args below meth c V u o h' hC hfit hs' hu hle' st hst hT hthr H ls locs hR hL)⟩
theorem b_dupr {f : jx_Bk} (d : decode Z.2.2.1 pc = .ok (.dup, 1)) {v : Value} (hf : ∀ L h r, f L h = some r → v.category = 1) (hx : jx_B Z (pc + 1) [v, v] f) : jx_B Z pc [v] f := by
  intro L h o h' hr
  obtain ⟨hle, hsim⟩ := hx L h o h' hr
  exact ⟨hle, fun p l e R s m args below meth c V u hC hfit hs' hu H ls locs hR hL => lv_dup hC.x hC.b d (hf L h _ hr) (hsim p l e R s m args below meth c V u hC hfit hs' hu H ls locs hR hL)⟩
theorem t_uf {idx i b q1 q2 : Nat} {cs : List Nat} {fin : Bool} {ty : FieldType} {f : Int32 → Int32 → Option Int32} {o x : jx_Ex} (ho : jx_E Z 0 pc o q1) (d1 : decode Z.2.2.1 q1 = .ok (.dup, 1)) (d2 : decode Z.2.2.1 (q1 + 1) = .ok (.getfield idx, 3)) (hx : jx_E Z 4 (q1 + 1 + 3) x q2) (hop : jx_O Z q2 f) (hf : jx_fi Z.1 idx cs i fin ty) (hb : jx_kd ty = b) (hfin : fin = false) (d : decode Z.2.2.1 (q2 + 1) = .ok (.putfield idx, 3)) : jx_Ts Z pc (sUf cs i b f o x) [q2 + 1 + 3] := fun k hk =>
  jx_B.b1 ho fun v => b_dupr d1 (fun L h r hr => by
      cases hg : jx_gf cs i v L h with
      | none => rw [hg] at hr; cases hr
      | some q =>
        obtain ⟨a, _, _, _, rfl, _⟩ := jx_gf_spec hg
        rfl) <|
    jx_B.b1 ((s_gf hf d2 (0 + jx_wt [v]) v).un1 [v]) fun w => jx_B.b1 ((hx.mono (k' := 0 + jx_wt [w, v]) (by have h1 := jx_cat1 v; have h2 := jx_cat1 w; have : jx_wt [w, v] = jx_wt [w] + jx_wt [v] := jx_wt_app [w] [v]; omega)).un1 [w, v]) fun y => jx_B.b1 ((hop (0 + jx_wt [v]) w y).un1 [v]) fun z => jx_B.b1 (s_pf hf hb (Or.inl hfin) d 0 v z) fun _ => hk _ (List.mem_singleton.mpr rfl)
/-- a[i] = x -/
def sSt (t b : Nat) (a i x : jx_Ex) : jx_St := fun k L h => jx_kb (a L h) fun v h1 => jx_kb (i L h1) fun w h2 => jx_kb (x L h2) fun y h3 => jx_kb (jx_st t b v w y L h3) fun _ h4 => k L h4
def jx_wt2 (v w : Value) : jx_wt [w, v] ≤ 4 := by
  have h1 := jx_cat1 v
  have h2 := jx_cat1 w
  have : jx_wt [w, v] = jx_wt [w] + jx_wt [v] := jx_wt_app [w] [v]
  omega
theorem t_st {t b q1 q2 q3 : Nat} {a i x : jx_Ex} (ha : jx_E Z 0 pc a q1) (hi : jx_E Z 2 q1 i q2) (hx : jx_E Z 4 q2 x q3) (hs : ∀ (k : Nat) (v w x : Value), jx_Sim Z k q3 [x, w, v] (jx_st t b v w x) (fun _ => [(q3 + 1, [])])) : jx_Ts Z pc (sSt t b a i x) [q3 + 1] := fun k hk =>
  jx_B.b1 ha fun v => jx_B.b1 ((hi.mono (k' := 0 + jx_wt [v]) (by have := jx_cat1 v; omega)).un1 [v]) fun w => jx_B.b1 ((hx.mono (k' := 0 + jx_wt [w, v]) (by have := jx_wt2 v w; omega)).un1 [w, v]) fun y => jx_B.b1 (hs 0 v w y) fun _ => hk _ (List.mem_singleton.mpr rfl)
def sSta (t : Nat) (cs : List Nat) (a i x : jx_Ex) : jx_St := fun k L h => jx_kb (a L h) fun v h1 => jx_kb (i L h1) fun w h2 => jx_kb (x L h2) fun y h3 => jx_kb (jx_sta t cs v w y L h3) fun _ h4 => k L h4
theorem t_sta {t q1 q2 q3 : Nat} {cs : List Nat} {a i x : jx_Ex} (ha : jx_E Z 0 pc a q1) (hi : jx_E Z 2 q1 i q2) (hx : jx_E Z 4 q2 x q3) (hs : ∀ (k : Nat) (v w x : Value), jx_Sim Z k q3 [x, w, v] (jx_sta t cs v w x) (fun _ => [(q3 + 1, [])])) : jx_Ts Z pc (sSta t cs a i x) [q3 + 1] := fun k hk =>
  jx_B.b1 ha fun v => jx_B.b1 ((hi.mono (k' := 0 + jx_wt [v]) (by have := jx_cat1 v; omega)).un1 [v]) fun w => jx_B.b1 ((hx.mono (k' := 0 + jx_wt [w, v]) (by have := jx_wt2 v w; omega)).un1 [w, v]) fun y => jx_B.b1 (hs 0 v w y) fun _ => hk _ (List.mem_singleton.mpr rfl)
/-- a[i] op= x -/
def sUst (t b : Nat) (f : Int32 → Int32 → Option Int32) (a i x : jx_Ex) : jx_St := fun k L h => jx_kb (a L h) fun v h1 => jx_kb (i L h1) fun w h2 => jx_kb (jx_ld t v w L h2) fun y h3 => jx_kb (x L h3) fun z h4 => jx_kb (jx_op f y z L h4) fun z' h5 => jx_kb (jx_st t b v w z' L h5) fun _ h6 => k L h6
theorem b_dup2 {f : jx_Bk} (d : decode Z.2.2.1 pc = .ok (.dup2, 1)) {v w : Value} (hf : ∀ L h r, f L h = some r → v.category = 1 ∧ w.category = 1) (hx : jx_B Z (pc + 1) [w, v, w, v] f) : jx_B Z pc [w, v] f := by
  intro L h o h' hr
  obtain ⟨hle, hsim⟩ := hx L h o h' hr
  exact ⟨hle, fun p l e R s m args below meth c V u hC hfit hs' hu H ls locs hR hL => lv_dup2_11 hC.x hC.b d (hf L h _ hr).2 (hf L h _ hr).1 (hsim p l e R s m args below meth c V u hC hfit hs' hu H ls locs hR hL)⟩
theorem t_ust {t b q1 q2 q3 : Nat} {f : Int32 → Int32 → Option Int32} {a i x : jx_Ex} (ha : jx_E Z 0 pc a q1) (hi : jx_E Z 2 q1 i q2) (d2 : decode Z.2.2.1 q2 = .ok (.dup2, 1)) (hl : ∀ (k : Nat) (v w : Value), jx_Sim Z k (q2 + 1) [w, v] (jx_ld t v w) (fun x => [(q2 + 1 + 1, [x])])) (hx : jx_E Z 6 (q2 + 1 + 1) x q3) (hop : jx_O Z q3 f) (hs : ∀ (k : Nat) (v w x : Value), jx_Sim Z k (q3 + 1) [x, w, v] (jx_st t b v w x) (fun _ => [(q3 + 1 + 1, [])])) : jx_Ts Z pc (sUst t b f a i x) [q3 + 1 + 1] := fun k hk =>
  jx_B.b1 ha fun v => jx_B.b1 ((hi.mono (k' := 0 + jx_wt [v]) (by have := jx_cat1 v; omega)).un1 [v]) fun w => b_dup2 d2 (fun L h r hr => by
      cases hg : jx_ld t v w L h with
      | none => rw [hg] at hr; cases hr
      | some q =>
        obtain ⟨a, _, _, _, _, rfl, rfl, _⟩ := jx_ld_spec hg
        exact ⟨rfl, rfl⟩) <|
    jx_B.b1 ((hl (0 + jx_wt [w, v]) v w).un1 [w, v]) fun y => jx_B.b1 ((hx.mono (k' := 0 + jx_wt [y, w, v]) (by have h1 := jx_wt2 v w; have h2 := jx_cat1 y; have : jx_wt [y, w, v] = jx_wt [y] + jx_wt [w, v] := jx_wt_app [y] [w, v]; omega)).un1 [y, w, v]) fun z => jx_B.b1 ((hop (0 + jx_wt [w, v]) y z).un1 [w, v]) fun z' => jx_B.b1 (hs 0 v w z') fun _ => hk _ (List.mem_singleton.mpr rfl)
def eLd (t : Nat) (a i : jx_Ex) : jx_Ex := fun L h => jx_b (a L h) fun v h1 => jx_b (i L h1) fun w h2 => jx_ld t v w L h2
theorem s_load {k t q1 q2 : Nat} {a i : jx_Ex} (ha : jx_E Z k pc a q1) (hi : jx_E Z (k + 2) q1 i q2) (hl : ∀ (k : Nat) (v w : Value), jx_Sim Z k q2 [w, v] (jx_ld t v w) (fun x => [(q2 + 1, [x])])) : jx_E Z k pc (eLd t a i) (q2 + 1) :=
  jx_Sim.b1 ha fun v => jx_Sim.b1 ((hi.mono (Nat.add_le_add_left (jx_cat1 v) k)).un1 [v]) fun w => hl k v w
def eLda (t : Nat) (a i : jx_Ex) : jx_Ex := fun L h => jx_b (a L h) fun v h1 => jx_b (i L h1) fun w h2 => jx_lda t v w L h2
theorem s_loada {k t q1 q2 : Nat} {a i : jx_Ex} (ha : jx_E Z k pc a q1) (hi : jx_E Z (k + 2) q1 i q2) (hl : ∀ (k : Nat) (v w : Value), jx_Sim Z k q2 [w, v] (jx_lda t v w) (fun x => [(q2 + 1, [x])])) : jx_E Z k pc (eLda t a i) (q2 + 1) :=
  jx_Sim.b1 ha fun v => jx_Sim.b1 ((hi.mono (Nat.add_le_add_left (jx_cat1 v) k)).un1 [v]) fun w => hl k v w
def eLen (a : jx_Ex) : jx_Ex := fun L h => jx_b (a L h) fun v h1 => jx_len v L h1
theorem s_len {k q1 : Nat} {a : jx_Ex} (ha : jx_E Z k pc a q1) (d : decode Z.2.2.1 q1 = .ok (.arraylength, 1)) : jx_E Z k pc (eLen a) (q1 + 1) :=
  jx_Sim.b1 ha fun v => s_alen d k v
def eNa (t : Nat) (a : jx_Ex) : jx_Ex := fun L h => jx_b (a L h) fun v h1 => jx_na t v L h1
theorem s_na {k t q1 q2 : Nat} {a : jx_Ex} (ha : jx_E Z k pc a q1) (hn : ∀ (k : Nat) (v : Value), jx_Sim Z k q1 [v] (jx_na t v) (fun x => [(q2, [x])])) : jx_E Z k pc (eNa t a) q2 :=
  jx_Sim.b1 ha fun v => hn k v
/-- an array's initializer: a value laid into a place, the array stays on the stack -/
def eIst (t b : Nat) (a i x : jx_Ex) : jx_Ex := fun L h => jx_b (a L h) fun v h1 => if v.category = 1 then jx_b (i L h1) fun w h2 => jx_b (x L h2) fun y h3 => jx_b (jx_st t b v w y L h3) fun _ h4 => jx_ok v h4 else none
def eIsta (t : Nat) (cs : List Nat) (a i x : jx_Ex) : jx_Ex := fun L h => jx_b (a L h) fun v h1 => if v.category = 1 then jx_b (i L h1) fun w h2 => jx_b (x L h2) fun y h3 => jx_b (jx_sta t cs v w y L h3) fun _ h4 => jx_ok v h4 else none
theorem s_ist0 {k q0 q1 q2 q3 : Nat} {a i x : jx_Ex} {st : Value → Value → Value → List Value → jx_S → jx_M Unit} (ha : jx_E Z k pc a q0) (d : decode Z.2.2.1 q0 = .ok (.dup, 1)) (hi : jx_E Z (k + 4) (q0 + 1) i q1) (hx : jx_E Z (k + 6) q1 x q2) (hs : ∀ (k : Nat) (v w x : Value), jx_Sim Z k q2 [x, w, v] (st v w x) (fun _ => [(q3, [])])) : jx_E Z k pc (fun L h => jx_b (a L h) fun v h1 => if v.category = 1 then jx_b (i L h1) fun w h2 => jx_b (x L h2) fun y h3 => jx_b (st v w y L h3) fun _ h4 => jx_ok v h4 else none) q3 := by
  refine jx_Sim.b1 ha fun v => ?_
  by_cases hv : v.category = 1
  · simp only [if_pos hv]
    refine s_dupr d (fun _ _ _ _ => hv) ?_
    refine jx_Sim.b1 ((hi.mono (k' := k + jx_wt [v, v]) (by have := jx_wt2 v v; omega)).un1 [v, v]) fun w => ?_
    refine jx_Sim.b1 ((hx.mono (k' := k + jx_wt [w, v, v]) (by have h1 := jx_wt2 v v; have h2 := jx_cat1 w; have : jx_wt [w, v, v] = jx_wt [w] + jx_wt [v, v] := jx_wt_app [w] [v, v]; omega)).un1 [w, v, v]) fun y => ?_
    exact jx_Sim.b1 ((hs (k + jx_wt [v]) v w y).un1 [v]) fun _ => jx_Sim.nop v (List.mem_singleton.mpr rfl)
  · simp only [if_neg hv]
    exact fun L h r hr => by cases hr
/-- ends of the method -/
theorem W.post {p : Program} {l : Launch} {e : Env} {R : Room} {s : State} {m : MethodId} {args : Array Value} {below : List Frame} {meth : Method} {c : Code} {H : Heap} {locs : List Loc} {cells slots : Nat} {Q Q' : State → Prop} {g : JFrame} (w : W p l e R s m args below meth c H locs cells slots Q g) (h : ∀ t, Q t → Q' t) : W p l e R s m args below meth c H locs cells slots Q' g := by
  intro T hT X
  obtain ⟨t, a1, b1⟩ := w T hT X
  exact ⟨t, a1, h t b1⟩
theorem jx_endQ {s : State} {args : Array Value} {below : List Frame} {V : jx_V} {u : Nat} {o : Outcome} {h : jx_S} {H : Heap} {locs : List Loc} (hR : jx_R V h H locs) {t : State} (hq : MQ below (fun _ _ o' t => o' = o ∧ t.heap = H) args s (h.1 - s.heap.size) (h.2.1 - u) (fun q => V.2.2.1 ≤ q) t) : jx_Q s below V u o h t := by
  obtain ⟨o', h1, h2, ⟨rfl, h3⟩, L, ⟨-, h4, h5⟩, h6⟩ := hq
  exact ⟨h1, h2, h4, L, ⟨by rw [h3]; exact hR.1, hR.2.1, by rw [h3]; exact hR.2.2.1, by rw [h3]; exact hR.2.2.2.1, by rw [h3]; exact hR.2.2.2.2.1, h6⟩, h5⟩
def jx_rt (b : Nat) (v : Value) : jx_Bk := fun _ h => if jx_ft b v = true then some (.returned (some v), h) else none
theorem b_ret (ty : FieldType) {v : Value} (hty : Z.2.2.2.2.1 = some ty) (hk : jx_kd ty < 2) (d : decode Z.2.2.1 pc = .ok (.ireturn, 1)) : jx_B Z pc [v] (jx_rt (jx_kd ty) v) := by
  intro L h o h' hr
  unfold jx_rt at hr
  split at hr
  · rename_i hv
    cases hr
    refine ⟨jx_le.rf _, fun p l e R s m args below meth c V u hC hfit hs hu H ls locs hR hL => ?_⟩
    obtain ⟨x, rfl⟩ : ∃ x, v = .int x := by
      cases ty <;> first
        | exact jx_ft0 hv
        | (exact absurd hk (Nat.lt_irrefl 2))
        | (exact absurd hk (Nat.not_lt.mpr (show 2 ≤ 3 by decide)))
        | (cases v <;> first | exact ⟨_, rfl⟩ | exact Bool.noConfusion (show false = true from hv))
    exact W.post (W.zret hC.x hC.b (hC.ret.trans hty) (jx_ft_ok hv).1 (Qc := fun _ _ o' t => o' = .returned (some (.int x)) ∧ t.heap = H) (fun t ht _ => ⟨rfl, ht⟩) hR.2.2.2.2.2 d hC.locks) (fun t ht => jx_endQ hR ht)
  · cases hr
theorem b_reta (ty : FieldType) {v : Value} (hty : Z.2.2.2.2.1 = some ty) (hk : (∃ n, ty = .object n) ∨ ∃ t, ty = .array t) (d : decode Z.2.2.1 pc = .ok (.areturn, 1)) : jx_B Z pc [v] (jx_rt 2 v) := by
  intro L h o h' hr
  unfold jx_rt at hr
  split at hr
  · rename_i hv
    cases hr
    refine ⟨jx_le.rf _, fun p l e R s m args below meth c V u hC hfit hs hu H ls locs hR hL => ?_⟩
    exact W.post (W.aret hC.x hC.b (hC.ret.trans hty) hk (jx_ft2 hv) (Qc := fun _ _ o' t => o' = .returned (some v) ∧ t.heap = H) (fun t ht _ => ⟨rfl, ht⟩) hR.2.2.2.2.2 d hC.locks) (fun t ht => jx_endQ hR ht)
  · cases hr
def sRet (b : Nat) (x : jx_Ex) : jx_St := fun _ L h => jx_kb (x L h) fun v h1 => jx_rt b v L h1
theorem t_ret {q : Nat} {x : jx_Ex} {E : List Nat} (ty : FieldType) (hx : jx_E Z 0 pc x q) (hty : Z.2.2.2.2.1 = some ty) (hk : jx_kd ty < 2) (d : decode Z.2.2.1 q = .ok (.ireturn, 1)) : jx_Ts Z pc (sRet (jx_kd ty) x) E := fun _ _ =>
  jx_B.b1 hx fun v => b_ret ty hty hk d
theorem t_reta {q : Nat} {x : jx_Ex} {E : List Nat} (ty : FieldType) (hx : jx_E Z 0 pc x q) (hty : Z.2.2.2.2.1 = some ty) (hk : (∃ n, ty = .object n) ∨ ∃ t, ty = .array t) (d : decode Z.2.2.1 q = .ok (.areturn, 1)) : jx_Ts Z pc (sRet 2 x) E := fun _ _ =>
  jx_B.b1 hx fun v => b_reta ty hty hk d
def sRetV : jx_St := fun _ _ h => some (.returned none, h)
theorem t_retv {E : List Nat} (hty : Z.2.2.2.2.1 = none) (d : decode Z.2.2.1 pc = .ok (.return_, 1)) : jx_Ts Z pc sRetV E := fun _ _ L h o h' hr => by
  cases hr
  refine ⟨jx_le.rf _, fun p l e R s m args below meth c V u hC hfit hs hu H ls locs hR hL => ?_⟩
  exact W.post (W.vret hC.x hC.b (hC.ret.trans hty) (Qc := fun _ _ o' t => o' = .returned none ∧ t.heap = H) (fun t ht _ => ⟨rfl, ht⟩) hR.2.2.2.2.2 d hC.locks) (fun t ht => jx_endQ hR ht)
end JX6
