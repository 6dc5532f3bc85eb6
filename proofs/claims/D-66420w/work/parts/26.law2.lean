/-! THE LAW's CLASS: single steps, whatever the handlers -/
section JX26
variable {p : Program} {l : Launch} {e : Env} {R : Room} {s : State} {m : MethodId} {args : Array Value} {below : List Frame} {meth : Method} {c : Code} {V : jx_V} {Z : jx_Z} {u pc : Nat} {o : Outcome} {h' h : jx_S} {L st : List Value}
theorem g_iconst (hC : jx_C0 p e R s m meth c V Z) {n : Int} {v : Int32} (d : decode Z.2.2.1 pc = .ok (.iconst n, 1)) (hv : Int32.ofInt n = v) (k : jx_G p l e R s m args below meth c V u o h' (pc + 1) L (.int v :: st) h) : jx_G p l e R s m args below meth c V u o h' pc L st h := fun H ls locs hR hL => lv_iconst hC.x hC.b d hv (k H ls locs hR hL)
theorem g_lconst (hC : jx_C0 p e R s m meth c V Z) {n : Fin 2} {v : Int64} (d : decode Z.2.2.1 pc = .ok (.lconst n, 1)) (hv : Int64.ofNat (n : Nat) = v) (k : jx_G p l e R s m args below meth c V u o h' (pc + 1) L (.long v :: st) h) : jx_G p l e R s m args below meth c V u o h' pc L st h := fun H ls locs hR hL => lv_lconst hC.x hC.b d hv (k H ls locs hR hL)
theorem g_iload_n (hC : jx_C0 p e R s m meth c V Z) {j : Fin 4} {i : Nat} {x : Int32} (d : decode Z.2.2.1 pc = .ok (.iload_n j, 1)) (hi : (j : Nat) = i) (hx : L[i]? = some (.int x)) (k : jx_G p l e R s m args below meth c V u o h' (pc + 1) L (.int x :: st) h) : jx_G p l e R s m args below meth c V u o h' pc L st h := fun H ls locs hR hL => lv_iload_n hC.x hC.b d hi (hL.2.2 i _ hx rfl) (k H ls locs hR hL)
theorem g_iload (hC : jx_C0 p e R s m meth c V Z) {i : Nat} {x : Int32} (d : decode Z.2.2.1 pc = .ok (.iload i, 2)) (hx : L[i]? = some (.int x)) (k : jx_G p l e R s m args below meth c V u o h' (pc + 2) L (.int x :: st) h) : jx_G p l e R s m args below meth c V u o h' pc L st h := fun H ls locs hR hL => lv_iload hC.x hC.b d (hL.2.2 i _ hx rfl) (k H ls locs hR hL)
theorem g_aload_n (hC : jx_C0 p e R s m meth c V Z) {j : Fin 4} {i : Nat} {x : Nat} (d : decode Z.2.2.1 pc = .ok (.aload_n j, 1)) (hi : (j : Nat) = i) (hx : L[i]? = some (.ref x)) (k : jx_G p l e R s m args below meth c V u o h' (pc + 1) L (.ref x :: st) h) : jx_G p l e R s m args below meth c V u o h' pc L st h := fun H ls locs hR hL => lv_aload_n hC.x hC.b d hi (hL.2.2 i _ hx rfl) (k H ls locs hR hL)
theorem g_aload (hC : jx_C0 p e R s m meth c V Z) {i : Nat} {x : Nat} (d : decode Z.2.2.1 pc = .ok (.aload i, 2)) (hx : L[i]? = some (.ref x)) (k : jx_G p l e R s m args below meth c V u o h' (pc + 2) L (.ref x :: st) h) : jx_G p l e R s m args below meth c V u o h' pc L st h := fun H ls locs hR hL => lv_aload hC.x hC.b d (hL.2.2 i _ hx rfl) (k H ls locs hR hL)
theorem g_astore_n (hC : jx_C0 p e R s m meth c V Z) {j : Fin 4} {i : Nat} {x : Nat} (d : decode Z.2.2.1 pc = .ok (.astore_n j, 1)) (hi : (j : Nat) = i) (hn : i < Z.2.2.2.1) (k : jx_G p l e R s m args below meth c V u o h' (pc + 1) (L.set i (.ref x)) st h) : jx_G p l e R s m args below meth c V u o h' pc L (.ref x :: st) h := fun H ls locs hR hL => lv_astore_n hC.x hC.b d hi hL.has (by rw [hC.ml]; exact hn) rfl (fun ls' h' => k H ls' locs hR (jx_L.set h'))
theorem g_astore (hC : jx_C0 p e R s m meth c V Z) {i : Nat} {x : Nat} (d : decode Z.2.2.1 pc = .ok (.astore i, 2)) (hn : i < Z.2.2.2.1) (k : jx_G p l e R s m args below meth c V u o h' (pc + 2) (L.set i (.ref x)) st h) : jx_G p l e R s m args below meth c V u o h' pc L (.ref x :: st) h := fun H ls locs hR hL => lv_astore hC.x hC.b d hL.has (by rw [hC.ml]; exact hn) rfl (fun ls' h' => k H ls' locs hR (jx_L.set h'))
theorem g_istore_n (hC : jx_C0 p e R s m meth c V Z) {j : Fin 4} {i : Nat} {x : Int32} (d : decode Z.2.2.1 pc = .ok (.istore_n j, 1)) (hi : (j : Nat) = i) (hn : i < Z.2.2.2.1) (k : jx_G p l e R s m args below meth c V u o h' (pc + 1) (L.set i (.int x)) st h) : jx_G p l e R s m args below meth c V u o h' pc L (.int x :: st) h := fun H ls locs hR hL => lv_istore_n hC.x hC.b d hi hL.has (by rw [hC.ml]; exact hn) rfl (fun ls' h' => k H ls' locs hR (jx_L.set h'))
theorem g_istore (hC : jx_C0 p e R s m meth c V Z) {i : Nat} {x : Int32} (d : decode Z.2.2.1 pc = .ok (.istore i, 2)) (hn : i < Z.2.2.2.1) (k : jx_G p l e R s m args below meth c V u o h' (pc + 2) (L.set i (.int x)) st h) : jx_G p l e R s m args below meth c V u o h' pc L (.int x :: st) h := fun H ls locs hR hL => lv_istore hC.x hC.b d hL.has (by rw [hC.ml]; exact hn) rfl (fun ls' h' => k H ls' locs hR (jx_L.set h'))
theorem g_goto (hC : jx_C0 p e R s m meth c V Z) {off : Int} {tgt : Nat} (d : decode Z.2.2.1 pc = .ok (.goto off, 3)) (ht : (pc : Int) + off = (tgt : Int)) (k : jx_G p l e R s m args below meth c V u o h' tgt L st h) : jx_G p l e R s m args below meth c V u o h' pc L st h := fun H ls locs hR hL => lv_goto hC.x hC.b d ht (k H ls locs hR hL)
theorem g_i2l (hC : jx_C0 p e R s m meth c V Z) {x : Int32} (d : decode Z.2.2.1 pc = .ok (.i2l, 1)) (k : jx_G p l e R s m args below meth c V u o h' (pc + 1) L (.long x.toInt64 :: st) h) : jx_G p l e R s m args below meth c V u o h' pc L (.int x :: st) h := fun H ls locs hR hL => lv_i2l hC.x hC.b d rfl (k H ls locs hR hL)
theorem g_if_eq (hC : jx_C0 p e R s m meth c V Z) {x : Int32} {off : Int} {tgt : Nat} (d : decode Z.2.2.1 pc = .ok (.ifCond .eq off, 3)) (ht : (pc : Int) + off = (tgt : Int)) (kt : x = 0 → jx_G p l e R s m args below meth c V u o h' tgt L st h) (kf : ¬ x = 0 → jx_G p l e R s m args below meth c V u o h' (pc + 3) L st h) : jx_G p l e R s m args below meth c V u o h' pc L (.int x :: st) h := fun H ls locs hR hL => lv_if_eq hC.x hC.b d ht (fun z => kt z H ls locs hR hL) (fun z => kf z H ls locs hR hL)
theorem g_if_ne (hC : jx_C0 p e R s m meth c V Z) {x : Int32} {off : Int} {tgt : Nat} (d : decode Z.2.2.1 pc = .ok (.ifCond .ne off, 3)) (ht : (pc : Int) + off = (tgt : Int)) (kt : ¬ x = 0 → jx_G p l e R s m args below meth c V u o h' tgt L st h) (kf : x = 0 → jx_G p l e R s m args below meth c V u o h' (pc + 3) L st h) : jx_G p l e R s m args below meth c V u o h' pc L (.int x :: st) h := fun H ls locs hR hL => lv_if_ne hC.x hC.b d ht (fun z => kt z H ls locs hR hL) (fun z => kf z H ls locs hR hL)
theorem g_icmp_eq (hC : jx_C0 p e R s m meth c V Z) {x y : Int32} {off : Int} {tgt : Nat} (d : decode Z.2.2.1 pc = .ok (.if_icmp .eq off, 3)) (ht : (pc : Int) + off = (tgt : Int)) (kt : x = y → jx_G p l e R s m args below meth c V u o h' tgt L st h) (kf : ¬ x = y → jx_G p l e R s m args below meth c V u o h' (pc + 3) L st h) : jx_G p l e R s m args below meth c V u o h' pc L (.int y :: .int x :: st) h := fun H ls locs hR hL => lv_icmp_eq hC.x hC.b d ht (fun z => kt z H ls locs hR hL) (fun z => kf z H ls locs hR hL)
theorem g_icmp_gt (hC : jx_C0 p e R s m meth c V Z) {x y : Int32} {off : Int} {tgt : Nat} (d : decode Z.2.2.1 pc = .ok (.if_icmp .gt off, 3)) (ht : (pc : Int) + off = (tgt : Int)) (kt : y < x → jx_G p l e R s m args below meth c V u o h' tgt L st h) (kf : ¬ y < x → jx_G p l e R s m args below meth c V u o h' (pc + 3) L st h) : jx_G p l e R s m args below meth c V u o h' pc L (.int y :: .int x :: st) h := fun H ls locs hR hL => lv_icmp_gt hC.x hC.b d ht (fun z => kt z H ls locs hR hL) (fun z => kf z H ls locs hR hL)
/-- a long laid into an array -/
theorem g_last (hC : jx_C0 p e R s m meth c V Z) {a n j : Nat} {x : Int64} {f : Nat → Int64} (ha : h.2.2 a = some (.inl (1, n, .inr (.inl f)))) (hj : j < n) (hj2 : j < 2 ^ 31) (d : decode Z.2.2.1 pc = .ok (.lastore, 1)) (k : jx_G p l e R s m args below meth c V u o h' (pc + 1) L st (h.1, h.2.1, jx_up h.2.2 a (.inl (1, n, .inr (.inl (vp_updL f j x)))))) : jx_G p l e R s m args below meth c V u o h' pc L (.long x :: .int (nI j) :: .ref a :: st) h := by
  intro H ls locs hR hL
  have hP := hR.one ha 0 _ rfl
  have hc : (nI j).toNatClampNeg = j := nI_clamp hj2
  refine W.last hC.x hC.b hP ((hC.k.2 1 _ rfl).1 n (fun j => .long (f j))) (fun q => by cases q) (by show ¬ (nI j < 0 ∨ (arrV _ _ _).slots.size ≤ _); rw [arrV_size, hc]; exact fun z => z.elim (nI_pos hj2) (Nat.not_le.mpr hj)) rfl rfl d fun H1 e1 z1 oq => ?_
  refine k H1 ls _ (hR.put (o := .inl (1, n, .inr (.inl (vp_updL f j x)))) (H1 := H1) ha ?_ z1 oq _ (fun q hq => by rw [List.mem_singleton.mp hq])) hL
  show H1[a]? = some (vp_cell _ _)
  rw [e1, vp_cell_l, arrV_store, hc]
  show some (arrV (V.2.1 1) _ _) = some (vp_cell (V.2.1 1) (n, .inr (.inl (vp_updL f j x))))
  rw [vp_cell_l]
  congr 2
  funext q
  by_cases hq : q = j
  · subst hq
    simp [updV, vp_updL]
  · simp [updV, vp_updL, hq]
theorem g_lald (hC : jx_C0 p e R s m meth c V Z) {a n j : Nat} {f : Nat → Int64} (ha : h.2.2 a = some (.inl (1, n, .inr (.inl f)))) (hj : j < n) (hj2 : j < 2 ^ 31) (d : decode Z.2.2.1 pc = .ok (.laload, 1)) (k : jx_G p l e R s m args below meth c V u o h' (pc + 1) L (.long (f j) :: st) h) : jx_G p l e R s m args below meth c V u o h' pc L (.int (nI j) :: .ref a :: st) h := by
  intro H ls locs hR hL
  have hc : (nI j).toNatClampNeg = j := nI_clamp hj2
  refine va_lald hC.x hC.b hC.k (hR.one ha) 0 1 rfl rfl (i := nI j) ?_ d ?_
  · intro z
    rcases z with z | z
    · exact nI_pos hj2 z
    · rw [hc] at z; omega
  · rw [hc]
    exact k H ls locs hR hL
theorem g_ireturn (hC : jx_C0 p e R s m meth c V Z) {x : Int32} (hty : Z.2.2.2.2.1 = some .int) (d : decode Z.2.2.1 pc = .ok (.ireturn, 1)) : jx_G p l e R s m args below meth c V u (.returned (some (.int x))) h pc L [.int x] h := by
  intro H ls locs hR hL
  exact W.post (W.zret hC.x hC.b (hC.ret.trans hty) (jx_ft_ok (ty := .int) (w := .int x) rfl).1 (Qc := fun _ _ o' t => o' = .returned (some (.int x)) ∧ t.heap = H) (fun t ht _ => ⟨rfl, ht⟩) hR.2.2.2.2.2 d hC.locks) (fun t ht => jx_endQ hR ht)
end JX26
