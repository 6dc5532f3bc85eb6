/-! THE PICTURE OF A TABLE in the component's heap -/
def TPa (h : jx_S) (lo hi t : Nat) (T : Nat → Nat) (ea va : Nat) (qa la : Nat → Nat) (fe : Nat → Int32) (fv : Nat → Option Nat) (fl : Nat → Nat → Int32) : Prop :=
  (lo ≤ t ∧ t < hi) ∧ (lo ≤ ea ∧ ea < hi) ∧ (lo ≤ va ∧ va < hi) ∧ (∀ v, v < 4 → T (5 + v) ≠ 0 → (lo ≤ qa v ∧ qa v < hi) ∧ lo ≤ la v ∧ la v < hi) ∧
  h.2.2 t = some (.inr (3, [.int (nI (T 0)), .ref ea, .ref va])) ∧
  h.2.2 ea = some (.inl (0, 4, .inl fe)) ∧ (∀ d, d < 4 → fe d = nI (T (1 + d))) ∧
  h.2.2 va = some (.inl (4, 4, .inr (.inr (.inr (.inr fv))))) ∧ (∀ v, v < 4 → fv v = if T (5 + v) = 0 then none else some (qa v)) ∧
  (∀ v, v < 4 → T (5 + v) ≠ 0 → h.2.2 (qa v) = some (.inr (4 + T (5 + v) % 4, [.int (nI (colsN T v)), .int (nI (elsN T v)), .ref (la v)])) ∧ h.2.2 (la v) = some (.inl (0, 10, .inl (fl v))) ∧ ∀ k, k < 10 → fl v k = nI (T (9 + 10 * v + k))) ∧
  ∀ u v, u < 4 → v < 4 → T (5 + u) ≠ 0 → T (5 + v) ≠ 0 → u ≠ v → qa u ≠ qa v ∧ la u ≠ la v
def TP (h : jx_S) (lo hi t : Nat) (T : Nat → Nat) : Prop := ∃ ea va qa la fe fv fl, TPa h lo hi t T ea va qa la fe fv fl
/-- what is written elsewhere leaves the picture -/
theorem TPa.keep {h h' : jx_S} {lo hi t : Nat} {T : Nat → Nat} {ea va : Nat} {qa la : Nat → Nat} {fe : Nat → Int32} {fv : Nat → Option Nat} {fl : Nat → Nat → Int32} (hp : TPa h lo hi t T ea va qa la fe fv fl) (hh : ∀ q, lo ≤ q → q < hi → h'.2.2 q = h.2.2 q) : TPa h' lo hi t T ea va qa la fe fv fl := by
  obtain ⟨b1, b2, b3, b4, g1, g2, g3, g4, g5, g6, g7⟩ := hp
  refine ⟨b1, b2, b3, b4, (hh _ b1.1 b1.2).trans g1, (hh _ b2.1 b2.2).trans g2, g3, (hh _ b3.1 b3.2).trans g4, g5, fun v hv h0 => ?_, g7⟩
  obtain ⟨k1, k2, k3⟩ := g6 v hv h0
  obtain ⟨c1, c2, c3⟩ := b4 v hv h0
  exact ⟨(hh _ c1.1 c1.2).trans k1, (hh _ c2 c3).trans k2, k3⟩
