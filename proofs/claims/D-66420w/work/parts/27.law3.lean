/-! THE LAW's WRAPPERS: what they do, and how it is shown -/
def exN : List String := [R_Ise, R_Iae, R_Uoe, R_Nse, R_Ioe]
def jx_P (s : State) : Prop := ∀ a ∈ exN, ∀ b ∈ exN, a ≠ b → va_Nc a b s
theorem jx_P.moved (s U : State) (hvm : s.vm.Alike U.vm) (h : jx_P s) : jx_P U := fun a ha b hb hab => (h a ha b hb hab).moved hvm
theorem hs_here {own C : String} {s : State} {pc a b hpc ct : Nat} {r : List (Nat × Nat × Nat × Nat)} {ns : List String} (hc : covers ⟨a, b, hpc, ct⟩ pc = true) (h0 : ct ≠ 0) (hl : Cond.classLink own ct C ∈ jx_tbl) : jx_hs own C s pc hpc (jx_et ((a, b, hpc, ct) :: r)) (C :: ns) := ⟨hc, h0, hl, Or.inl ⟨rfl, rfl⟩⟩
theorem hs_next {own C n : String} {s : State} {pc a b h2 hpc ct : Nat} {r : List (Nat × Nat × Nat × Nat)} {ns : List String} (hc : covers ⟨a, b, h2, ct⟩ pc = true) (h0 : ct ≠ 0) (hl : Cond.classLink own ct n ∈ jx_tbl) (hn : va_Nc C n s) (k : jx_hs own C s pc hpc (jx_et r) ns) : jx_hs own C s pc hpc (jx_et ((a, b, h2, ct) :: r)) (n :: ns) := ⟨hc, h0, hl, Or.inr ⟨hn, k⟩⟩
/-- the code of an exception's class -/
def wX (cs : List Nat) (a : Nat) (h1 : jx_S) : Option (Outcome × jx_S) := match h1.2.2 a with
  | some (.inr (ci, _)) => (match cs.findIdx? (fun q => q == ci) with
    | some k => some (.returned (some (.int (nI (k + 1)))), h1)
    | none => none)
  | _ => none
theorem wX_sp {cs : List Nat} {a : Nat} {h1 h' : jx_S} {o : Outcome} (h : wX cs a h1 = some (o, h')) : ∃ k ci fs, cs[k]? = some ci ∧ h1.2.2 a = some (.inr (ci, fs)) ∧ o = .returned (some (.int (nI (k + 1)))) ∧ h' = h1 := by
  unfold wX at h
  split at h
  · rename_i ci fs hc
    split at h
    · rename_i k hk
      cases h
      obtain ⟨hl, he, _⟩ := List.findIdx?_eq_some_iff_getElem.mp hk
      refine ⟨k, ci, fs, ?_, hc, rfl, rfl⟩
      rw [List.getElem?_eq_getElem hl]
      have : cs[k] = ci := by simpa using he
      rw [this]
    · cases h
  · cases h
def wV (r : jx_M (Option Value)) (cs : List Nat) : Option (Outcome × jx_S) := match r with
  | some (.inl (none, h1)) => some (.returned (some (.int (nI 0))), h1)
  | some (.inr (a, h1)) => wX cs a h1
  | _ => none
def wI (r : jx_M (Option Value)) (cs : List Nat) (t : Nat) : Option (Outcome × jx_S) := match r with
  | some (.inl (some (.int v), h1)) => (match h1.2.2 t with
    | some (.inl (1, 1, .inr (.inl f))) => some (.returned (some (.int (nI 0))), (h1.1, h1.2.1, jx_up h1.2.2 t (.inl (1, 1, .inr (.inl (vp_updL f 0 v.toInt64))))))
    | _ => none)
  | some (.inr (a, h1)) => wX cs a h1
  | _ => none
def wP (r : jx_M (Option Value)) (cs : List Nat) (t : Nat) : Option (Outcome × jx_S) := match r with
  | some (.inl (some (.int v), h1)) => (match h1.2.2 t with
    | some (.inl (1, 1, .inr (.inl f))) => some (.returned (some (.int (nI 0))), (h1.1, h1.2.1, jx_up h1.2.2 t (.inl (1, 1, .inr (.inl (vp_updL f 0 (if v = 0 then 0 else 1)))))))
    | _ => none)
  | some (.inr (a, h1)) => wX cs a h1
  | _ => none
theorem wV_sp {r : jx_M (Option Value)} {cs : List Nat} {o : Outcome} {h' : jx_S} (h : wV r cs = some (o, h')) : (∃ h1, r = some (.inl (none, h1)) ∧ o = .returned (some (.int (nI 0))) ∧ h' = h1) ∨ ∃ y h1 k ci fs, r = some (.inr (y, h1)) ∧ cs[k]? = some ci ∧ h1.2.2 y = some (.inr (ci, fs)) ∧ o = .returned (some (.int (nI (k + 1)))) ∧ h' = h1 := by
  unfold wV at h
  split at h
  · rename_i h1
    cases h
    exact Or.inl ⟨_, rfl, rfl, rfl⟩
  · rename_i y h1
    obtain ⟨k, ci, fs, a1, a2, a3, a4⟩ := wX_sp h
    exact Or.inr ⟨y, h1, k, ci, fs, rfl, a1, a2, a3, a4⟩
  · cases h
theorem wI_sp {r : jx_M (Option Value)} {cs : List Nat} {t : Nat} {o : Outcome} {h' : jx_S} (h : wI r cs t = some (o, h')) : (∃ v f h1, r = some (.inl (some (.int v), h1)) ∧ h1.2.2 t = some (.inl (1, 1, .inr (.inl f))) ∧ o = .returned (some (.int (nI 0))) ∧ h' = (h1.1, h1.2.1, jx_up h1.2.2 t (.inl (1, 1, .inr (.inl (vp_updL f 0 v.toInt64)))))) ∨ ∃ y h1 k ci fs, r = some (.inr (y, h1)) ∧ cs[k]? = some ci ∧ h1.2.2 y = some (.inr (ci, fs)) ∧ o = .returned (some (.int (nI (k + 1)))) ∧ h' = h1 := by
  unfold wI at h
  split at h
  · rename_i v g1
    split at h
    · rename_i f hf
      have h2 := Option.some.inj h
      exact Or.inl ⟨v, f, g1, rfl, hf, (congrArg Prod.fst h2).symm, (congrArg Prod.snd h2).symm⟩
    · cases h
  · rename_i y h1
    obtain ⟨k, ci, fs, a1, a2, a3, a4⟩ := wX_sp h
    exact Or.inr ⟨y, h1, k, ci, fs, rfl, a1, a2, a3, a4⟩
  · cases h
theorem wP_sp {r : jx_M (Option Value)} {cs : List Nat} {t : Nat} {o : Outcome} {h' : jx_S} (h : wP r cs t = some (o, h')) : (∃ v f h1, r = some (.inl (some (.int v), h1)) ∧ h1.2.2 t = some (.inl (1, 1, .inr (.inl f))) ∧ o = .returned (some (.int (nI 0))) ∧ h' = (h1.1, h1.2.1, jx_up h1.2.2 t (.inl (1, 1, .inr (.inl (vp_updL f 0 (if v = 0 then 0 else 1))))))) ∨ ∃ y h1 k ci fs, r = some (.inr (y, h1)) ∧ cs[k]? = some ci ∧ h1.2.2 y = some (.inr (ci, fs)) ∧ o = .returned (some (.int (nI (k + 1)))) ∧ h' = h1 := by
  unfold wP at h
  split at h
  · rename_i v g1
    split at h
    · rename_i f hf
      have h2 := Option.some.inj h
      exact Or.inl ⟨v, f, g1, rfl, hf, (congrArg Prod.fst h2).symm, (congrArg Prod.snd h2).symm⟩
    · cases h
  · rename_i y h1
    obtain ⟨k, ci, fs, a1, a2, a3, a4⟩ := wX_sp h
    exact Or.inr ⟨y, h1, k, ci, fs, rfl, a1, a2, a3, a4⟩
  · cases h
theorem wV_le {r : jx_M (Option Value)} {cs : List Nat} {o : Outcome} {h h' : jx_S} (hr : ∀ q, r = some q → jx_le h (jx_at q)) (hF : wV r cs = some (o, h')) : jx_le h h' := by
  rcases wV_sp hF with ⟨h1, e, _, rfl⟩ | ⟨y, h1, _, _, _, e, _, _, _, rfl⟩
  · exact hr _ e
  · exact hr _ e
theorem wI_le {r : jx_M (Option Value)} {cs : List Nat} {t : Nat} {o : Outcome} {h h' : jx_S} (hr : ∀ q, r = some q → jx_le h (jx_at q)) (hF : wI r cs t = some (o, h')) : jx_le h h' := by
  rcases wI_sp hF with ⟨v, f, h1, e, _, _, rfl⟩ | ⟨y, h1, _, _, _, e, _, _, _, rfl⟩
  · exact hr _ e
  · exact hr _ e
theorem wP_le {r : jx_M (Option Value)} {cs : List Nat} {t : Nat} {o : Outcome} {h h' : jx_S} (hr : ∀ q, r = some q → jx_le h (jx_at q)) (hF : wP r cs t = some (o, h')) : jx_le h h' := by
  rcases wP_sp hF with ⟨v, f, h1, e, _, _, rfl⟩ | ⟨y, h1, _, _, _, e, _, _, _, rfl⟩
  · exact hr _ e
  · exact hr _ e
theorem wt_it (t : Nat) : jx_wt [.int (nI 0), .ref t] ≤ 16 := by simp [jx_wt, Value.category]
theorem jx_MeH.of {n : Nat} {Z : jx_Z} {hs0 : List (Nat × Nat × Nat × Nat)} {P : State → Prop} {F : jx_Mt} (hn : n ≤ Z.2.2.2.1) (hl : ∀ vs h o h', F vs h = some (o, h') → jx_le h h' ∧ vs.length = n ∧ (vs.all fun v => v.category == 1) = true) (hb : ∀ (vs : List Value) (h : jx_S) (o : Outcome) (h' : jx_S), F vs h = some (o, h') → ∀ (p : Program) (l : Launch) (e : Env) (R : Room) (s : State) (m : MethodId) (args : Array Value) (below : List Frame) (meth : Method) (c : Code) (V : jx_V) (u : Nat), jx_C0 p e R s m meth c V Z → P s → c.exceptionTable.toList = jx_et hs0 → jx_fit R s u h' → s.heap.size ≤ h.1 → u ≤ h.2.1 → jx_G p l e R s m args below meth c V u o h' 0 (vs ++ List.replicate (Z.2.2.2.1 - n) (.double 0)) [] h) : jx_MeH n Z hs0 P F := by
  refine ⟨fun vs h o h' hF => ⟨(hl vs h o h' hF).1, (hl vs h o h' hF).2.1⟩, fun p l e R s m vs below meth c V h o h' hC hP het hF hfit hR T hT X => ?_⟩
  obtain ⟨_, q1, q2⟩ := hl vs h o h' hF
  have hw := hb vs h o h' hF p l e R s m vs.toArray below meth c V h.2.1 hC hP het hfit (by rw [hR.1]; exact Nat.le_refl _) (Nat.le_refl _) s.heap ((lg_sl vs ++ List.replicate (Z.2.2.2.1 - (lg_sl vs).length) Slot.unset).toArray) [] hR ?_
  · rw [hR.1, Nat.sub_self, Nat.sub_self] at hw
    rw [lg_entry_eq]
    exact hw T hT X
  · have he := lv_entry vs (n := Z.2.2.2.1) (by rw [jx_sl_len vs q2, q1]; exact hn)
    rw [hC.ml]
    refine ⟨he.1, he.2.1, fun i v hv hc => ?_⟩
    by_cases hi : i < vs.length
    · rw [List.getElem?_append_left hi] at hv
      have := he.2.2 _ (jx_args_mem vs 0 i v q2 hv)
      rwa [Nat.zero_add] at this
    · rw [List.getElem?_append_right (by omega)] at hv
      have hv2 := List.mem_of_getElem? hv
      rw [List.mem_replicate] at hv2
      rw [hv2.2] at hc
      cases hc
