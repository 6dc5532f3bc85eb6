/-! THE PICTURE OF A TABLE, when a cell is set -/
theorem hset_ne (H : jx_S) {a q : Nat} (o : va_E) (h : q ≠ a) : (hset H a o).2.2 q = H.2.2 q := by
  rw [hset_at, if_neg h]
theorem hset_eq (H : jx_S) (a : Nat) (o : va_E) : (hset H a o).2.2 a = some o := by
  rw [hset_at, if_pos rfl]
theorem hset_2 (H : jx_S) (a : Nat) (o o' : va_E) : hset (hset H a o) a o' = hset H a o' := by
  unfold hset
  refine Prod.ext rfl (Prod.ext rfl ?_)
  funext q
  show jx_up (jx_up H.2.2 a o) a o' q = jx_up H.2.2 a o' q
  unfold jx_up
  by_cases e : q = a
  · rw [if_pos e, if_pos e]
  · rw [if_neg e, if_neg e, if_neg e]
theorem ne_cell {H : jx_S} {a c : Nat} {x y : va_E} (h1 : H.2.2 a = some x) (h2 : H.2.2 c = some y) (h : x ≠ y) : a ≠ c := by
  intro e
  subst e
  rw [h1] at h2
  exact h (Option.some.inj h2)
section TP2
variable {H : jx_S} {lo hi t : Nat} {T : Nat → Nat} {ea va : Nat} {qa la : Nat → Nat} {fe : Nat → Int32} {fv : Nat → Option Nat} {fl : Nat → Nat → Int32}
theorem TPa.ds (hp : TPa H lo hi t T ea va qa la fe fv fl) : (ea ≠ t ∧ va ≠ t ∧ ea ≠ va) ∧ ∀ v, v < 4 → T (5 + v) ≠ 0 → (qa v ≠ t ∧ qa v ≠ ea ∧ qa v ≠ va) ∧ (la v ≠ t ∧ la v ≠ ea ∧ la v ≠ va) ∧ ∀ u, u < 4 → T (5 + u) ≠ 0 → la v ≠ qa u := by
  obtain ⟨b1, b2, b3, b4, g1, g2, g3, g4, g5, g6, g7⟩ := hp
  refine ⟨⟨ne_cell g2 g1 (fun e => by cases e), ne_cell g4 g1 (fun e => by cases e), ne_cell g2 g4 (fun e => by injection e with e; injection e with e1 e2; cases e1)⟩, fun v hv h0 => ?_⟩
  obtain ⟨k1, k2, k3⟩ := g6 v hv h0
  refine ⟨⟨ne_cell k1 g1 (fun e => ?_), ne_cell k1 g2 (fun e => by cases e), ne_cell k1 g4 (fun e => by cases e)⟩, ⟨ne_cell k2 g1 (fun e => by cases e), ne_cell k2 g2 (fun e => ?_), ne_cell k2 g4 (fun e => ?_)⟩, fun u hu h1 => ne_cell k2 (g6 u hu h1).1 (fun e => by cases e)⟩
  · injection e with e
    injection e with e1 e2
    omega
  · injection e with e
    injection e with e1 e2
    injection e2 with e2 e3
    cases e2
  · injection e with e
    injection e with e1 e2
    cases e1
theorem TPa.cong {T' : Nat → Nat} (hp : TPa H lo hi t T ea va qa la fe fv fl) (h9 : ∀ j, j < 9 → T' j = T j) (hl : ∀ v, v < 4 → T (5 + v) ≠ 0 → ∀ k, k < 10 → T' (9 + 10 * v + k) = T (9 + 10 * v + k)) : TPa H lo hi t T' ea va qa la fe fv fl := by
  obtain ⟨b1, b2, b3, b4, g1, g2, g3, g4, g5, g6, g7⟩ := hp
  have e5 : ∀ v, v < 4 → T' (5 + v) = T (5 + v) := fun v hv => h9 _ (by omega)
  refine ⟨b1, b2, b3, fun v hv h0 => b4 v hv (by rw [← e5 v hv]; exact h0), ?_, g2, fun d hd => ?_, g4, fun v hv => ?_, fun v hv h0 => ?_, fun u v hu hv h0 h1 => g7 u v hu hv (by rw [← e5 u hu]; exact h0) (by rw [← e5 v hv]; exact h1)⟩
  · rw [h9 0 (by omega)]; exact g1
  · rw [h9 _ (by omega)]; exact g3 d hd
  · rw [e5 v hv]; exact g5 v hv
  · rw [e5 v hv] at h0 ⊢
    obtain ⟨k1, k2, k3⟩ := g6 v hv h0
    refine ⟨?_, k2, fun k hk => ?_⟩
    · unfold colsN elsN; rw [e5 v hv]; exact k1
    · rw [hl v hv h0 k hk]; exact k3 k hk
theorem upN_o (T : Nat → Nat) {q k : Nat} (x : Nat) (h : k ≠ q) : upN T q x k = T k := if_neg h
theorem upN_s (T : Nat → Nat) (q x : Nat) : upN T q x q = x := if_pos rfl
/-- the number -/
theorem TPa.setn (hp : TPa H lo hi t T ea va qa la fe fv fl) (n : Nat) : TPa (hset H t (.inr (3, [.int (nI n), .ref ea, .ref va]))) lo hi t (upN T 0 n) ea va qa la fe fv fl := by
  have hd := hp.ds
  obtain ⟨b1, b2, b3, b4, g1, g2, g3, g4, g5, g6, g7⟩ := hp
  have e5 : ∀ v, upN T 0 n (5 + v) = T (5 + v) := fun v => upN_o _ _ (by omega)
  refine ⟨b1, b2, b3, fun v hv h0 => b4 v hv (by rw [← e5 v]; exact h0), ?_, ?_, fun d hd => ?_, ?_, fun v hv => ?_, fun v hv h0 => ?_, fun u v hu hv h0 h1 => g7 u v hu hv (by rw [← e5 u]; exact h0) (by rw [← e5 v]; exact h1)⟩
  · rw [hset_eq, upN_s]
  · rw [hset_ne _ _ hd.1.1]; exact g2
  · rw [upN_o _ _ (by omega)]; exact g3 d hd
  · rw [hset_ne _ _ hd.1.2.1]; exact g4
  · rw [e5]; exact g5 v hv
  · rw [e5] at h0 ⊢
    obtain ⟨k1, k2, k3⟩ := g6 v hv h0
    obtain ⟨d1, d2, d3⟩ := hd.2 v hv h0
    rw [hset_ne _ _ d1.1, hset_ne _ _ d2.1]
    refine ⟨?_, k2, fun k hk => ?_⟩
    · unfold colsN elsN; rw [e5]; exact k1
    · rw [upN_o _ _ (by omega)]; exact k3 k hk
/-- an extent -/
theorem TPa.sete (hp : TPa H lo hi t T ea va qa la fe fv fl) {d : Nat} (hd4 : d < 4) (n : Nat) : TPa (hset H ea (.inl (0, 4, .inl (upd fe d (nI n))))) lo hi t (upN T (1 + d) n) ea va qa la (upd fe d (nI n)) fv fl := by
  have hd := hp.ds
  obtain ⟨b1, b2, b3, b4, g1, g2, g3, g4, g5, g6, g7⟩ := hp
  have e5 : ∀ v, upN T (1 + d) n (5 + v) = T (5 + v) := fun v => upN_o _ _ (by omega)
  refine ⟨b1, b2, b3, fun v hv h0 => b4 v hv (by rw [← e5 v]; exact h0), ?_, ?_, fun d' hd' => ?_, ?_, fun v hv => ?_, fun v hv h0 => ?_, fun u v hu hv h0 h1 => g7 u v hu hv (by rw [← e5 u]; exact h0) (by rw [← e5 v]; exact h1)⟩
  · rw [hset_ne _ _ (Ne.symm hd.1.1), upN_o _ _ (by omega)]; exact g1
  · rw [hset_eq]
  · unfold upd
    by_cases e : d' = d
    · subst e; rw [if_pos rfl, upN_s]
    · rw [if_neg e, upN_o _ _ (by omega)]; exact g3 d' hd'
  · rw [hset_ne _ _ (Ne.symm hd.1.2.2)]; exact g4
  · rw [e5]; exact g5 v hv
  · rw [e5] at h0 ⊢
    obtain ⟨k1, k2, k3⟩ := g6 v hv h0
    obtain ⟨d1, d2, d3⟩ := hd.2 v hv h0
    rw [hset_ne _ _ d1.2.1, hset_ne _ _ d2.2.1]
    refine ⟨?_, k2, fun k hk => ?_⟩
    · unfold colsN elsN; rw [e5]; exact k1
    · rw [upN_o _ _ (by omega)]; exact k3 k hk
/-- the legs of a volume -/
theorem TPa.setl {T' : Nat → Nat} (hp : TPa H lo hi t T ea va qa la fe fv fl) {v : Nat} (hv : v < 4) (h0 : T (5 + v) ≠ 0) (f : Nat → Int32) (hf : ∀ k, k < 10 → f k = nI (T' (9 + 10 * v + k))) (hT : ∀ j, j < 49 → (j < 9 + 10 * v ∨ 19 + 10 * v ≤ j) → T' j = T j) : TPa (hset H (la v) (.inl (0, 10, .inl f))) lo hi t T' ea va qa la fe fv (up2 fl v f) := by
  have hd := hp.ds
  obtain ⟨b1, b2, b3, b4, g1, g2, g3, g4, g5, g6, g7⟩ := hp
  obtain ⟨c1, c2, c3⟩ := hd.2 v hv h0
  have e5 : ∀ u, u < 4 → T' (5 + u) = T (5 + u) := fun u hu => hT _ (by omega) (by omega)
  refine ⟨b1, b2, b3, fun u hu q => b4 u hu (by rw [← e5 u hu]; exact q), ?_, ?_, fun d' hd' => ?_, ?_, fun u hu => ?_, fun u hu q => ?_, fun u w hu hw q q1 => g7 u w hu hw (by rw [← e5 u hu]; exact q) (by rw [← e5 w hw]; exact q1)⟩
  · rw [hset_ne _ _ (Ne.symm c2.1), hT 0 (by omega) (by omega)]; exact g1
  · rw [hset_ne _ _ (Ne.symm c2.2.1)]; exact g2
  · rw [hT _ (by omega) (by omega)]; exact g3 d' hd'
  · rw [hset_ne _ _ (Ne.symm c2.2.2)]; exact g4
  · rw [e5 u hu]; exact g5 u hu
  · rw [e5 u hu] at q ⊢
    obtain ⟨k1, k2, k3⟩ := g6 u hu q
    rw [hset_ne _ _ (Ne.symm (c3 u hu q))]
    refine ⟨by unfold colsN elsN; rw [e5 u hu]; exact k1, ?_⟩
    unfold up2
    by_cases e : u = v
    · subst e
      rw [if_pos rfl, hset_eq]
      exact ⟨rfl, hf⟩
    · rw [if_neg e, hset_ne _ _ (g7 u v hu hv q h0 e).2]
      refine ⟨k2, fun k hk => ?_⟩
      rw [hT _ (by omega) (by omega)]; exact k3 k hk
/-- the elements of a volume -/
theorem TPa.setm (hp : TPa H lo hi t T ea va qa la fe fv fl) {v w e : Nat} (hv : v < 4) (h0 : T (5 + v) ≠ 0) (hw0 : w ≠ 0) (hk : w % 4 = T (5 + v) % 4) (hc : w / 4 % 8 = colsN T v) (he : w / 32 = e) : TPa (hset H (qa v) (.inr (4 + T (5 + v) % 4, [.int (nI (colsN T v)), .int (nI e), .ref (la v)]))) lo hi t (upN T (5 + v) w) ea va qa la fe fv fl := by
  have hd := hp.ds
  obtain ⟨b1, b2, b3, b4, g1, g2, g3, g4, g5, g6, g7⟩ := hp
  obtain ⟨c1, c2, c3⟩ := hd.2 v hv h0
  have e5 : ∀ u, u < 4 → (upN T (5 + v) w (5 + u) = 0 ↔ T (5 + u) = 0) := fun u hu => by
    by_cases e : u = v
    · subst e; rw [upN_s]; exact ⟨fun z => absurd z hw0, fun z => absurd z h0⟩
    · rw [upN_o _ _ (by omega)]
  refine ⟨b1, b2, b3, fun u hu q => b4 u hu (fun z => q ((e5 u hu).mpr z)), ?_, ?_, fun d' hd' => ?_, ?_, fun u hu => ?_, fun u hu q => ?_, fun u x hu hx q q1 => g7 u x hu hx (fun z => q ((e5 u hu).mpr z)) (fun z => q1 ((e5 x hx).mpr z))⟩
  · rw [hset_ne _ _ (Ne.symm c1.1), upN_o _ _ (by omega)]; exact g1
  · rw [hset_ne _ _ (Ne.symm c1.2.1)]; exact g2
  · rw [upN_o _ _ (by omega)]; exact g3 d' hd'
  · rw [hset_ne _ _ (Ne.symm c1.2.2)]; exact g4
  · rw [g5 u hu]
    by_cases z : T (5 + u) = 0
    · rw [if_pos z, if_pos ((e5 u hu).mpr z)]
    · rw [if_neg z, if_neg (fun y => z ((e5 u hu).mp y))]
  · have q' : T (5 + u) ≠ 0 := fun z => q ((e5 u hu).mpr z)
    obtain ⟨k1, k2, k3⟩ := g6 u hu q'
    rw [hset_ne _ _ ((hd.2 u hu q').2.2 v hv h0)]
    refine ⟨?_, k2, fun k hk => ?_⟩
    · by_cases z : u = v
      · subst z
        rw [hset_eq]
        unfold colsN elsN at *
        rw [upN_s, hk, hc, he]
      · rw [hset_ne _ _ (g7 u v hu hv q' h0 z).1]
        unfold colsN elsN
        rw [upN_o _ _ (by omega)]
        exact k1
    · rw [upN_o _ _ (by omega)]; exact k3 k hk
/-- a volume is struck out -/
theorem TPa.nul {T' : Nat → Nat} (hp : TPa H lo hi t T ea va qa la fe fv fl) {v : Nat} (hv : v < 4) (h0 : T' (5 + v) = 0) (hT : ∀ j, j < 49 → j ≠ 5 + v → (j < 9 + 10 * v ∨ 19 + 10 * v ≤ j) → T' j = T j) : TPa (hset H va (.inl (4, 4, .inr (.inr (.inr (.inr (va_up fv v none))))))) lo hi t T' ea va qa la fe (va_up fv v none) fl := by
  have hd := hp.ds
  obtain ⟨b1, b2, b3, b4, g1, g2, g3, g4, g5, g6, g7⟩ := hp
  have e5 : ∀ u, u < 4 → T' (5 + u) ≠ 0 → u ≠ v ∧ T (5 + u) = T' (5 + u) := fun u hu q => by
    have : u ≠ v := fun z => by subst z; exact q h0
    exact ⟨this, (hT _ (by omega) (by omega) (by omega)).symm⟩
  have e6 : ∀ u, u < 4 → T' (5 + u) ≠ 0 → T (5 + u) ≠ 0 := fun u hu q => by rw [(e5 u hu q).2]; exact q
  refine ⟨b1, b2, b3, fun u hu q => b4 u hu (e6 u hu q), ?_, ?_, fun d' hd' => ?_, ?_, fun u hu => ?_, fun u hu q => ?_, fun u x hu hx q q1 => g7 u x hu hx (e6 u hu q) (e6 x hx q1)⟩
  · rw [hset_ne _ _ (Ne.symm hd.1.2.1), hT 0 (by omega) (by omega) (by omega)]; exact g1
  · rw [hset_ne _ _ hd.1.2.2]; exact g2
  · rw [hT _ (by omega) (by omega) (by omega)]; exact g3 d' hd'
  · rw [hset_eq]
  · unfold va_up
    by_cases z : u = v
    · subst z; rw [if_pos rfl, if_pos h0]
    · rw [if_neg z, hT _ (by omega) (by omega) (by omega)]; exact g5 u hu
  · obtain ⟨z, e⟩ := e5 u hu q
    have q' := e6 u hu q
    obtain ⟨k1, k2, k3⟩ := g6 u hu q'
    obtain ⟨d1, d2, d3⟩ := hd.2 u hu q'
    rw [hset_ne _ _ d1.2.2, hset_ne _ _ d2.2.2]
    refine ⟨?_, k2, fun k hk => ?_⟩
    · unfold colsN elsN at *; rw [← e]; exact k1
    · rw [hT _ (by omega) (by omega) (by omega)]; exact k3 k hk
/-- a volume is laid into the table -/
def vset (T : Nat → Nat) (v w : Nat) (lg : Nat → Nat) : Nat → Nat := fun j => if j = 5 + v then w else if 9 + 10 * v ≤ j ∧ j < 19 + 10 * v then lg (j - (9 + 10 * v)) else T j
theorem vset_w (T : Nat → Nat) (v w : Nat) (lg : Nat → Nat) : vset T v w lg (5 + v) = w := if_pos rfl
theorem vset_l (T : Nat → Nat) {v : Nat} (hv : v < 4) (w : Nat) (lg : Nat → Nat) {k : Nat} (hk : k < 10) : vset T v w lg (9 + 10 * v + k) = lg k := by
  unfold vset
  rw [if_neg (by omega), if_pos (by omega), Nat.add_sub_cancel_left]
theorem vset_n (T : Nat → Nat) {v : Nat} (w : Nat) (lg : Nat → Nat) {j : Nat} (h1 : j ≠ 5 + v) (h2 : j < 9 + 10 * v ∨ 19 + 10 * v ≤ j) : vset T v w lg j = T j := by
  unfold vset
  rw [if_neg h1, if_neg (by omega)]
theorem TPa.addv {lo' hi' q l w v : Nat} {f : Nat → Int32} {lg : Nat → Nat} (hp : TPa H lo hi t T ea va qa la fe fv fl) (hv : v < 4) (h0 : T (5 + v) = 0) (hw : w ≠ 0) (hlo : lo' ≤ lo) (hhi : hi ≤ hi') (hq : H.2.2 q = some (.inr (4 + w % 4, [.int (nI (w / 4 % 8)), .int (nI (w / 32)), .ref l]))) (hl : H.2.2 l = some (.inl (0, 10, .inl f))) (hf : ∀ k, k < 10 → f k = nI (lg k)) (q1 : lo' ≤ q ∧ q < hi') (q2 : ¬ (lo ≤ q ∧ q < hi)) (l1 : lo' ≤ l ∧ l < hi') (l2 : ¬ (lo ≤ l ∧ l < hi)) : TPa (hset H va (.inl (4, 4, .inr (.inr (.inr (.inr (va_up fv v (some q)))))))) lo' hi' t (vset T v w lg) ea va (up2 qa v q) (up2 la v l) fe (va_up fv v (some q)) (up2 fl v f) := by
  have hd := hp.ds
  obtain ⟨b1, b2, b3, b4, g1, g2, g3, g4, g5, g6, g7⟩ := hp
  have e5 : ∀ u, u < 4 → u ≠ v → vset T v w lg (5 + u) = T (5 + u) := fun u hu z => vset_n _ _ _ (by omega) (by omega)
  have qv : q ≠ va := fun z => q2 (by rw [z]; exact b3)
  have lv : l ≠ va := fun z => l2 (by rw [z]; exact b3)
  have up_t : ∀ {α : Type} (g : Nat → α) (x : α), up2 g v x v = x := fun g x => if_pos rfl
  have up_n : ∀ {α : Type} (g : Nat → α) (x : α) {u : Nat}, u ≠ v → up2 g v x u = g u := fun g x _ z => if_neg z
  refine ⟨⟨by omega, by omega⟩, ⟨by omega, by omega⟩, ⟨by omega, by omega⟩, fun u hu z => ?_, ?_, ?_, fun d' hd' => ?_, ?_, fun u hu => ?_, fun u hu z => ?_, fun u x hu hx z z1 hux => ?_⟩
  · by_cases e : u = v
    · subst e; rw [up_t, up_t]; exact ⟨q1, l1.1, l1.2⟩
    · rw [e5 u hu e] at z
      obtain ⟨c1, c2, c3⟩ := b4 u hu z
      rw [up_n _ _ e, up_n _ _ e]
      exact ⟨⟨by omega, by omega⟩, by omega, by omega⟩
  · rw [hset_ne _ _ (Ne.symm hd.1.2.1), vset_n _ _ _ (by omega) (by omega)]; exact g1
  · rw [hset_ne _ _ hd.1.2.2]; exact g2
  · rw [vset_n _ _ _ (by omega) (by omega)]; exact g3 d' hd'
  · rw [hset_eq]
  · unfold va_up
    by_cases z : u = v
    · subst z; rw [if_pos rfl, vset_w, if_neg hw, up_t]
    · rw [if_neg z, e5 u hu z, up_n _ _ z]; exact g5 u hu
  · by_cases e : u = v
    · subst e
      rw [up_t, up_t, up_t, hset_ne _ _ qv, hset_ne _ _ lv]
      refine ⟨?_, hl, fun k hk => ?_⟩
      · unfold colsN elsN; rw [vset_w]; exact hq
      · rw [vset_l _ hv _ _ hk]; exact hf k hk
    · rw [e5 u hu e] at z
      obtain ⟨k1, k2, k3⟩ := g6 u hu z
      obtain ⟨d1, d2, d3⟩ := hd.2 u hu z
      rw [up_n _ _ e, up_n _ _ e, up_n _ _ e, hset_ne _ _ d1.2.2, hset_ne _ _ d2.2.2]
      refine ⟨?_, k2, fun k hk => ?_⟩
      · unfold colsN elsN; rw [e5 u hu e]; exact k1
      · rw [vset_n _ _ _ (by omega) (by omega)]; exact k3 k hk
  · by_cases e : u = v
    · subst e
      have e1 : x ≠ u := Ne.symm hux
      rw [e5 x hx e1] at z1
      obtain ⟨c1, c2, c3⟩ := b4 x hx z1
      rw [up_t, up_t, up_n _ _ e1, up_n _ _ e1]
      exact ⟨fun y => q2 (by rw [y]; exact c1), fun y => l2 (by rw [y]; exact ⟨c2, c3⟩)⟩
    · rw [e5 u hu e] at z
      by_cases e1 : x = v
      · subst e1
        obtain ⟨c1, c2, c3⟩ := b4 u hu z
        rw [up_t, up_t, up_n _ _ e, up_n _ _ e]
        exact ⟨fun y => q2 (by rw [← y]; exact c1), fun y => l2 (by rw [← y]; exact ⟨c2, c3⟩)⟩
      · rw [e5 x hx e1] at z1
        rw [up_n _ _ e, up_n _ _ e, up_n _ _ e1, up_n _ _ e1]
        exact g7 u x hu hx z z1 hux
end TP2
