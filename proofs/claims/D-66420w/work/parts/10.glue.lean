/-! GLUE for pieces that end at several places (jumps to jumps) -/
section JX10
variable {Z : jx_Z} {k pc : Nat}
theorem al_1 {P : Nat → Prop} {a : Nat} (h : P a) : ∀ q ∈ [a], P q := fun q hq => by rw [List.mem_singleton.mp hq]; exact h
theorem al_2 {P : Nat → Prop} {a b : Nat} (h1 : P a) (h2 : P b) : ∀ q ∈ [a, b], P q := List.forall_mem_cons.mpr ⟨h1, al_1 h2⟩
theorem al_3 {P : Nat → Prop} {a b c : Nat} (h1 : P a) (h2 : P b) (h3 : P c) : ∀ q ∈ [a, b, c], P q := List.forall_mem_cons.mpr ⟨h1, al_2 h2 h3⟩
abbrev jx_En (Z : jx_Z) (k pc : Nat) (x : jx_Ex) (Q : List Nat) : Prop := jx_Sim Z k pc [] x (fun v => Q.map fun q => (q, [v]))
theorem en_sub {x : jx_Ex} {Q Q' : List Nat} (h : jx_En Z k pc x Q) (hs : ∀ q ∈ Q, q ∈ Q') : jx_En Z k pc x Q' := jx_Sim.sub h fun v t ht => by
  obtain ⟨q, hq, rfl⟩ := List.mem_map.mp ht
  exact List.mem_map.mpr ⟨q, hs q hq, rfl⟩
theorem en_goto {x : jx_Ex} {Q : List Nat} {q : Nat} {off : Int} {tgt : Nat} (h : jx_En Z k pc x (q :: Q)) (d : decode Z.2.2.1 q = .ok (.goto off, 3)) (hg : (q : Int) + off = (tgt : Int)) (ht : tgt ∈ Q) : jx_En Z k pc x Q := by
  intro L h0 r hr
  obtain ⟨hle, hsim⟩ := h L h0 r hr
  refine ⟨hle, fun p l e R s m args below meth c V u o h' hC hfit hs' hu hle' st hst hT hthr => hsim p l e R s m args below meth c V u o h' hC hfit hs' hu hle' st hst (fun v h1 qq t htt => ?_) hthr⟩
  rcases List.mem_cons.mp htt with e | e
  · subst e
    intro H ls locs hR hL
    exact lv_goto hC.1 hC.2.1 d hg (hT v h1 qq (tgt, [v]) (List.mem_map.mpr ⟨tgt, ht, rfl⟩) H ls locs hR hL)
  · exact hT v h1 qq t e
theorem s_iteg {c : jx_Cx} {a b : jx_Ex} {Ts Fs Q : List Nat} (hc : jx_Cd Z k pc c Ts Fs) (hn : Ts ≠ [] ∧ Fs ≠ []) (ha : ∀ q ∈ Ts, jx_En Z k q a Q) (hb : ∀ q ∈ Fs, jx_En Z k q b Q) : jx_En Z k pc (eIte c a b) Q :=
  jx_Sim.branch hc hn ha hb
theorem cd_goto {a : jx_Cx} {q : Nat} {Ts Fs : List Nat} {off : Int} {tgt : Nat} (ha : jx_Cd Z k pc a (q :: Ts) Fs) (d : decode Z.2.2.1 q = .ok (.goto off, 3)) (hg : (q : Int) + off = (tgt : Int)) (ht : tgt ∈ Ts) : jx_Cd Z k pc a Ts Fs := by
  intro L h r hr
  obtain ⟨hle, hsim⟩ := ha L h r hr
  refine ⟨hle, fun p l e R s m args below meth c V u o h' hC hfit hs' hu hle' st hst hT hthr => hsim p l e R s m args below meth c V u o h' hC hfit hs' hu hle' st hst (fun b h1 qq t htt => ?_) hthr⟩
  cases b
  · exact hT false h1 qq t htt
  · obtain ⟨z, hz, rfl⟩ := List.mem_map.mp htt
    rcases List.mem_cons.mp hz with e | e
    · subst e
      intro H ls locs hR hL
      exact lv_goto hC.1 hC.2.1 d hg (hT true h1 qq (tgt, []) (List.mem_map.mpr ⟨tgt, ht, rfl⟩) H ls locs hR hL)
    · exact hT true h1 qq (z, []) (List.mem_map.mpr ⟨z, e, rfl⟩)
theorem s_citeg {c a b : jx_Cx} {T1 F1 Ts Fs : List Nat} (hc : jx_Cd Z k pc c T1 F1) (hn : T1 ≠ [] ∧ F1 ≠ []) (ha : ∀ q ∈ T1, jx_Cd Z k q a Ts Fs) (hb : ∀ q ∈ F1, jx_Cd Z k q b Ts Fs) : jx_Cd Z k pc (cIte c a b) Ts Fs :=
  jx_Sim.branch hc hn ha hb
theorem s_andg {a b : jx_Cx} {T1 Ts Fs : List Nat} (ha : jx_Cd Z k pc a T1 Fs) (hn : T1 ≠ [] ∧ Fs ≠ []) (hb : ∀ q ∈ T1, jx_Cd Z k q b Ts Fs) : jx_Cd Z k pc (cAnd a b) Ts Fs :=
  jx_Sim.branch ha hn hb (fun q' hq => jx_Sim.nop _ (List.mem_map.mpr ⟨q', hq, rfl⟩))
theorem s_org {a b : jx_Cx} {F1 Ts Fs : List Nat} (ha : jx_Cd Z k pc a Ts F1) (hn : Ts ≠ [] ∧ F1 ≠ []) (hb : ∀ q ∈ F1, jx_Cd Z k q b Ts Fs) : jx_Cd Z k pc (cOr a b) Ts Fs :=
  jx_Sim.branch ha hn (fun q' hq => jx_Sim.nop _ (List.mem_map.mpr ⟨q', hq, rfl⟩)) hb
theorem t_ifg {c : jx_Cx} {A B : jx_St} {Ts Fs E : List Nat} (hc : jx_Cd Z 0 pc c Ts Fs) (hn : Ts ≠ [] ∧ Fs ≠ []) (hA : ∀ q ∈ Ts, jx_Ts Z q A E) (hB : ∀ q ∈ Fs, jx_Ts Z q B E) : jx_Ts Z pc (sIf c A B) E := fun k hk =>
  jx_B.branch hc hn (fun q hq => hA q hq k hk) (fun q hq => hB q hq k hk)
/-- a body that ends where the method ends -/
theorem jx_Me.ofT {n : Nat} {A : jx_St} (hn : n ≤ Z.2.2.2.1) (h : jx_Ts Z 0 A []) : jx_Me n Z (jx_fn n Z.2.2.2.1 (A fun _ _ => none)) := jx_Me.of hn (h _ fun q hq => by cases hq)
/-- a statement of several: the constructor's super call -/
theorem t_cli {call : jx_Ca} {es : List jx_Ex} {q : Nat} (ha : jx_SA Z 0 pc es q) (hc : ∀ vs, jx_Sim Z 0 q vs.reverse (call vs) (fun v => [(q + 3, v.toList)])) : jx_Ts Z pc (sCl call es) [q + 3] := t_cl ha hc
theorem jx_fin {cs : List Nat} {i : Nat} {own : String} (h : (cs.all fun ci => decide ((jx_cl[ci]?.map fun q => (q.2.1 i).1) = some own)) = true) : ∀ ci ∈ cs, ∀ C T N, jx_cl[ci]? = some (C, T, N) → (T i).1 = own := by
  intro ci hc C T N hq
  have := List.all_eq_true.mp h ci hc
  rw [hq] at this
  have h2 : some ((T i).1) = some own := of_decide_eq_true this
  exact Option.some.inj h2
theorem tv_1 {P : Nat × jx_Mt → Prop} {a : Nat × jx_Mt} (h : P a) : ∀ q ∈ [a], P q := fun q hq => by rw [List.mem_singleton.mp hq]; exact h
theorem tv_3 {P : Nat × jx_Mt → Prop} {a b c : Nat × jx_Mt} (h1 : P a) (h2 : P b) (h3 : P c) : ∀ q ∈ [a, b, c], P q := List.forall_mem_cons.mpr ⟨h1, List.forall_mem_cons.mpr ⟨h2, tv_1 h3⟩⟩
end JX10
