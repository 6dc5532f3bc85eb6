/-! WHAT A CALL ANSWERS AND DOES (the plain law's middle): the code thrown, the answer, the new state -/
def WV (T : Nat → Nat) (v : Nat) : Prop := (T (5 + v) = 0 ∧ ∀ k, k < 10 → T (9 + 10 * v + k) = 0) ∨ (1 ≤ T (5 + v) % 4 ∧ (T (5 + v) % 4 = 2 → colsN T v = 2 ∨ colsN T v = 3) ∧ (T (5 + v) % 4 ≠ 2 → colsN T v = 1) ∧ 1 ≤ elsN T v ∧ elsN T v ≤ 5 ∧ elsN T v % colsN T v = 0 ∧ (∀ k, k < 10 → 2 * elsN T v ≤ k → T (9 + 10 * v + k) = 0) ∧ (T (5 + v) % 4 ≠ 3 → ∀ k, k < 10 → k % 2 = 1 → T (9 + 10 * v + k) = 0))
def WT (T : Nat → Nat) : Prop := (∀ k, T k < 2 ^ 31) ∧ (∀ d, d < 4 → T (1 + d) ≤ 8) ∧ (∀ v, v < 4 → WV T v) ∧ (∀ k, k < 40 → T (9 + k) ≤ 32) ∧ ∀ i j, i < 40 → j < 40 → T (9 + i) = T (9 + j) → T (9 + i) ≠ 0 → i = j
theorem WT.TB {T : Nat → Nat} (h : WT T) : TB T := by
  refine ⟨h.1, h.2.1, fun v hv => ?_, h.2.2.2.1⟩
  rcases h.2.2.1 v hv with ⟨h1, _⟩ | ⟨h1, h2, h3, h4, h5, _⟩
  · unfold elsN; rw [h1]; exact ⟨by omega, by omega⟩
  · refine ⟨fun q => ?_, h5⟩
    rcases h2 q with e | e <;> omega
theorem WT.cols {T : Nat → Nat} (h : WT T) {v : Nat} (hv : v < 4) (h0 : T (5 + v) ≠ 0) : 0 < colsN T v := by
  rcases h.2.2.1 v hv with ⟨h1, _⟩ | ⟨h1, h2, h3, _⟩
  · exact absurd h1 h0
  · by_cases q : T (5 + v) % 4 = 2
    · rcases h2 q with e | e <;> omega
    · have := h3 q
      omega
/-- present; slots, data, on, left, moved; the table; what is copied: volume, leg, to, words -/
abbrev xS : Type := (Nat → Bool) × xA × (Nat → Nat) × Nat × Nat × Nat × Nat
def IM (s : xS) : Prop := WT s.2.2.1 ∧ s.2.2.2.1 < 4 ∧ s.2.2.2.2.1 < 10 ∧ s.2.2.2.2.2.1 ≤ 32 ∧ s.2.2.2.2.2.2 ≤ 4 ∧ (s.2.1.2.2.2.2 = -1 ∨ ∃ d, d < 4 ∧ s.2.1.2.2.2.2 = nI d) ∧ s.2.2.1 0 < 2 ^ 30
def mX (h : jx_S) (b : Nat) (C : cC) (fo : Nat → Int64) (th : Int32) (s : xS) (fn : Nat → Int32) : jx_S := mH h b C fo th s.1 s.2.1 s.2.2.1 fn s.2.2.2.1 s.2.2.2.2.1 s.2.2.2.2.2.1 s.2.2.2.2.2.2
def isD (d : Int32) : Bool := rGe d 0 && rLt d (nI 4)
/-- the table that is begun -/
def nx0 (pr : Nat → Bool) (T : Nat → Nat) : Nat → Nat := upN T 0 (T 0 + (bif absn T pr then 2 else 1))
/-- the number is put into a table that was made out of another one -/
def nx1 (s : xS) (U : Nat → Nat) : Nat → Nat := upN U 0 (s.2.2.1 0 + (bif absn s.2.2.1 s.1 then 2 else 1))
/-- a change -/
def chS (s : xS) (N : Nat → Nat) : xS := bif (chg s.2.1 s.1 N).2.2.1 then (s.1, chg s.2.1 s.1 N, N, s.2.2.2.1, s.2.2.2.2.1, (bif decide (0 < s.2.2.2.2.2.1) && !decide (N (9 + 10 * s.2.2.2.1 + s.2.2.2.2.1) = s.2.2.1 (9 + 10 * s.2.2.2.1 + s.2.2.2.2.1)) then 0 else s.2.2.2.2.2.1), s.2.2.2.2.2.2) else (s.1, chg s.2.1 s.1 N, s.2.2)
def enS (s : xS) (a : Int32) : Nat × Int32 × xS := (bif s.2.1.2.2.1 then 0 else 1, bif s.2.1.2.2.1 then a else nI 0, s)
def setX (s : xS) (x : xA) : xS := (s.1, x, s.2.2)
def setMo (s : xS) (m : Int32) : xS := (s.1, (s.2.1.1, s.2.1.2.1, s.2.1.2.2.1, s.2.1.2.2.2.1, m), s.2.2)
def spRes : Type := Nat × Int32 × xS
def sp_moving (s : xS) : Nat × Int32 × xS := (0, bif s.2.1.2.2.1 then s.2.1.2.2.2.2 else -1, s)
def sp_number (s : xS) : Nat × Int32 × xS := (0, bif s.2.1.2.2.1 then nI (s.2.2.1 0) else -1, s)
def sp_cut (n : Int32) (s : xS) : Nat × Int32 × xS := bif !s.2.1.2.2.1 then (1, nI 0, s) else bif rLt n (-1) then (2, nI 0, s) else (0, nI 0, setX s (s.2.1.1, s.2.1.2.1, s.2.1.2.2.1, n, s.2.1.2.2.2.2))
def sp_off (s : xS) : Nat × Int32 × xS := (bif s.2.1.2.2.1 then 0 else 1, nI 0, setX s (s.2.1.1, s.2.1.2.1, false, -1, -1))
def sp_plug (d : Int32) (p : Bool) (s : xS) : Nat × Int32 × xS := bif s.2.1.2.2.1 then (1, nI 0, s) else bif !isD d then (2, nI 0, s) else (0, b2i (!(s.1 d.toNatClampNeg == p)), (up2 s.1 d.toNatClampNeg p, s.2))
def sp_look (d t i : Int32) (s : xS) : Nat × Int32 × xS := bif isD d && rGe t 0 && rLt t (nI 3) && rGe i 0 && rLt i (bif rEq t (nI 2) then nI 32 else nI 51) then (0, bif rEq t (nI 2) then s.2.1.2.1 d.toNatClampNeg i.toNatClampNeg else s.2.1.1 d.toNatClampNeg (51 * t.toNatClampNeg + i.toNatClampNeg), s) else (1, nI 0, s)
def sp_free (d : Int32) (s : xS) : Nat × Int32 × xS := bif !s.2.1.2.2.1 then (1, nI 0, s) else bif !isD d then (2, nI 0, s) else (0, bif decide (s.2.2.1 (1 + d.toNatClampNeg) = 0) then -1 else nI (fon s.2.2.1 (ec s.2.1.2.2.2.2 s.2.2.2.2.2.1) d.toNatClampNeg), s)
def isV (T : Nat → Nat) (v : Int32) : Bool := isD v && !decide (T (5 + v.toNatClampNeg) = 0)
def sp_volume (v w : Int32) (s : xS) : Nat × Int32 × xS := bif !s.2.1.2.2.1 then (1, nI 0, s) else bif !isV s.2.2.1 v then (2, nI 0, s) else bif rLt w 0 || rGt w (nI 3) then (3, nI 0, s) else (0, bif rEq w 0 then nI (s.2.2.1 (5 + v.toNatClampNeg) % 4 - 1) else bif rEq w (nI 1) then nI (colsN s.2.2.1 v.toNatClampNeg) else bif rEq w (nI 2) then nI (elsN s.2.2.1 v.toNatClampNeg) else nI (4 * elsN s.2.2.1 v.toNatClampNeg), s)
def sp_where (v e l : Int32) (s : xS) : Nat × Int32 × xS := bif !s.2.1.2.2.1 then (1, nI 0, s) else bif !isV s.2.2.1 v then (2, nI 0, s) else (0, bif rGe e 0 && rLt e (nI (elsN s.2.2.1 v.toNatClampNeg)) && rGe l 0 && rLt l (nI 2) then nIs (s.2.2.1 (9 + 10 * v.toNatClampNeg + 2 * e.toNatClampNeg + l.toNatClampNeg)) 1 else -1, s)
def rdb (pr : Nat → Bool) (leg : Nat) : Bool := decide (0 < leg) && pr ((leg - 1) / 8)
def sp_read (v w : Int32) (s : xS) : Nat × Int32 × xS := bif !s.2.1.2.2.1 then (1, nI 0, s) else bif !isV s.2.2.1 v then (2, nI 0, s) else bif rLt w 0 || rGe w (nI (4 * elsN s.2.2.1 v.toNatClampNeg)) then (3, nI 0, s) else
  let f := 9 + 10 * v.toNatClampNeg + 2 * elO s.2.2.1 v.toNatClampNeg w.toNatClampNeg
  let leg := bif rdb s.1 (s.2.2.1 f) then s.2.2.1 f else s.2.2.1 (f + 1)
  bif rdb s.1 leg then (0, s.2.1.2.1 ((leg - 1) / 8) (4 * ((leg - 1) % 8) + wdO s.2.2.1 v.toNatClampNeg w.toNatClampNeg), s) else (4, nI 0, s)
def sp_empty (d : Int32) (s : xS) : Nat × Int32 × xS := bif !s.2.1.2.2.1 then (1, nI 0, s) else bif !isD d then (2, nI 0, s) else bif decide (s.2.2.1 (1 + d.toNatClampNeg) = 0) || rGe s.2.1.2.2.2.2 0 || absn s.2.2.1 s.1 then (3, nI 0, s) else (0, nI (legsN s.2.2.1 d.toNatClampNeg), (s.1, (s.2.1.1, s.2.1.2.1, s.2.1.2.2.1, s.2.1.2.2.2.1, d), s.2.2.1, s.2.2.2.1, s.2.2.2.2.1, 0, s.2.2.2.2.2.2))
def sp_add (d e : Int32) (s : xS) : Nat × Int32 × xS := bif !s.2.1.2.2.1 then (1, nI 0, s) else bif !isD d || rLt e (nI 2) || rGt e (nI 8) then (2, nI 0, s) else bif decide (0 < s.2.2.1 (1 + d.toNatClampNeg)) || !s.1 d.toNatClampNeg || absn s.2.2.1 s.1 then (3, nI 0, s) else
  enS (chS (setX s (s.2.1.1, up2 s.2.1.2.1 d.toNatClampNeg (fun k => if k < 32 then nI 0 else s.2.1.2.1 d.toNatClampNeg k), s.2.1.2.2)) (upN (nx0 s.1 s.2.2.1) (1 + d.toNatClampNeg) e.toNatClampNeg)) (nI 0)
def aimd (s : xS) (d : Nat) : Bool := decide (0 < ec s.2.1.2.2.2.2 s.2.2.2.2.2.1) && decide ((ec s.2.1.2.2.2.2 s.2.2.2.2.2.1 - 1) / 8 = d)
def sp_remove (d : Int32) (s : xS) : Nat × Int32 × xS := bif !s.2.1.2.2.1 then (1, nI 0, s) else bif !isD d then (2, nI 0, s) else bif decide (s.2.2.1 (1 + d.toNatClampNeg) = 0) || decide (0 < legsN s.2.2.1 d.toNatClampNeg) || aimd s d.toNatClampNeg || decide (cntB (fun k => decide (0 < s.2.2.1 (1 + k))) 4 < 2) || absn s.2.2.1 s.1 then (3, nI 0, s) else
  let s' := chS s (upN (nx0 s.1 s.2.2.1) (1 + d.toNatClampNeg) 0)
  enS (setMo s' (bif rEq s'.2.1.2.2.2.2 d then -1 else s'.2.1.2.2.2.2)) (nI 0)
/-- legs of a disk are struck out; how many -/
def drpN (T : Nat → Nat) (d : Nat) : Nat → Nat := fun k => if 9 ≤ k ∧ k < 49 ∧ (0 < T k ∧ (T k - 1) / 8 = d) then 0 else T k
def sp_drop (d : Int32) (s : xS) : Nat × Int32 × xS := bif !s.2.1.2.2.1 then (1, nI 0, s) else bif !isD d then (2, nI 0, s) else bif decide (s.2.2.1 (1 + d.toNatClampNeg) = 0) || s.1 d.toNatClampNeg || !anyB (fun k => decide (0 < s.2.2.1 (1 + k)) && s.1 k) 4 then (3, nI 0, s) else
  enS (chS s (drpN (upN (nx0 s.1 s.2.2.1) (1 + d.toNatClampNeg) 0) d.toNatClampNeg)) (nI (legsN s.2.2.1 d.toNatClampNeg))
def sp_make (k c e : Int32) (s : xS) : Nat × Int32 × xS := bif !s.2.1.2.2.1 then (1, nI 0, s) else bif !(rGe k 0 && rLt k (nI 3) && (bif rEq k (nI 1) then rEq c (nI 2) || rEq c (nI 3) else rEq c (nI 1))) || !fitsB c e then (2, nI 0, s) else bif absn s.2.2.1 s.1 then (3, nI 0, s) else
  match scn (fun v => decide (s.2.2.1 (5 + v) = 0)) 0 4 with
  | none => (3, nI 0, s)
  | some v => (match fnds (ec s.2.1.2.2.2.2 s.2.2.2.2.2.1) s.2.2.2.1 s.2.2.2.2.1 s.1 v 0 (2 * e.toNatClampNeg) (upN s.2.2.1 (5 + v) (1 + k.toNatClampNeg + 4 * c.toNatClampNeg + 32 * e.toNatClampNeg)) with
    | none => (3, nI 0, s)
    | some N => enS (chS (setX s (clrs N v 0 (2 * e.toNatClampNeg) s.2.1)) (nx1 s N)) (nI v))
def sp_grow (v n : Int32) (s : xS) : Nat × Int32 × xS := bif !s.2.1.2.2.1 then (1, nI 0, s) else bif !isV s.2.2.1 v then (2, nI 0, s) else
  bif rLt n (nI 1) || rGt n (nI 5) || !fitsB (nI (colsN s.2.2.1 v.toNatClampNeg)) (nI (elsN s.2.2.1 v.toNatClampNeg) + n) then (3, nI 0, s) else bif absn s.2.2.1 s.1 then (4, nI 0, s) else
  match fnds (ec s.2.1.2.2.2.2 s.2.2.2.2.2.1) s.2.2.2.1 s.2.2.2.2.1 s.1 v.toNatClampNeg (2 * elsN s.2.2.1 v.toNatClampNeg) (2 * n.toNatClampNeg) (upN s.2.2.1 (5 + v.toNatClampNeg) (s.2.2.1 (5 + v.toNatClampNeg) + 32 * n.toNatClampNeg)) with
  | none => (4, nI 0, s)
  | some N => enS (chS (setX s (clrs N v.toNatClampNeg (2 * elsN s.2.2.1 v.toNatClampNeg) (2 * n.toNatClampNeg) s.2.1)) (nx1 s N)) (nI (elsN s.2.2.1 v.toNatClampNeg + n.toNatClampNeg))
/-- legs of a volume from one on are struck out -/
def zrL (T : Nat → Nat) (v k0 : Nat) : Nat → Nat := fun k => if 9 + 10 * v + k0 ≤ k ∧ k < 9 + 10 * v + 10 then 0 else T k
def sp_shrink (v n : Int32) (s : xS) : Nat × Int32 × xS := bif !s.2.1.2.2.1 then (1, nI 0, s) else bif !isV s.2.2.1 v then (2, nI 0, s) else
  bif rGe n (nI (elsN s.2.2.1 v.toNatClampNeg)) || !fitsB (nI (colsN s.2.2.1 v.toNatClampNeg)) n then (3, nI 0, s) else bif absn s.2.2.1 s.1 then (4, nI 0, s) else
  enS (chS s (zrL (upN (nx0 s.1 s.2.2.1) (5 + v.toNatClampNeg) (s.2.2.1 (5 + v.toNatClampNeg) - 32 * (elsN s.2.2.1 v.toNatClampNeg - n.toNatClampNeg))) v.toNatClampNeg (2 * n.toNatClampNeg))) (nI (elsN s.2.2.1 v.toNatClampNeg - n.toNatClampNeg))
def sp_delete (v : Int32) (s : xS) : Nat × Int32 × xS := bif !s.2.1.2.2.1 then (1, nI 0, s) else bif !isV s.2.2.1 v then (2, nI 0, s) else bif absn s.2.2.1 s.1 then (3, nI 0, s) else
  enS (chS s (zrL (upN (nx0 s.1 s.2.2.1) (5 + v.toNatClampNeg) 0) v.toNatClampNeg 0)) (nI 0)
/-! statements with what goes on kept shut (so that the simplifier works only at the front) -/
theorem kb_b {α β : Type} (x : jx_M α) (f : α → jx_S → jx_M β) (g : β → jx_S → Option (Outcome × jx_S)) : jx_kb (jx_b x f) g = jx_kb x fun a h => jx_kb (f a h) g := by
  cases x with
  | none => rfl
  | some r =>
    cases r with
    | inl p => rfl
    | inr p => rfl
def kU (y : jx_M Unit) (K : jx_Bk) (L : List Value) : Option (Outcome × jx_S) := jx_kb y fun _ h => K L h
def kA (y : jx_M Value) (b i : Nat) (K : jx_Bk) (L : List Value) : Option (Outcome × jx_S) := jx_kb y fun v h => jx_set b i v K L h
def kC (y : jx_M Bool) (P Q : jx_Bk) (L : List Value) : Option (Outcome × jx_S) := jx_kb y fun x h => bif x then P L h else Q L h
def kO (y : jx_M (Option Value)) (K : jx_Bk) (L : List Value) : Option (Outcome × jx_S) := jx_kb y fun v h => match v with
  | none => K L h
  | some _ => none
def kE (y : jx_M Bool) (a b : jx_Ex) (L : List Value) : jx_M Value := jx_b y fun x h => bif x then a L h else b L h
def kN (y : jx_M Bool) (b : jx_Cx) (L : List Value) : jx_M Bool := jx_b y fun x h => bif x then b L h else jx_ok false h
def kR (y : jx_M Bool) (b : jx_Cx) (L : List Value) : jx_M Bool := jx_b y fun x h => bif x then jx_ok true h else b L h
theorem kU_ok (h : jx_S) (K : jx_Bk) (L : List Value) (u : Unit) : kU (jx_ok u h) K L = K L h := id rfl
theorem kU_r (x : Nat) (h : jx_S) (K : jx_Bk) (L : List Value) : kU (some (.inr (x, h))) K L = some (.threw x, h) := id rfl
theorem kA_ok (v : Value) (h : jx_S) (b i : Nat) (K : jx_Bk) (L : List Value) : kA (jx_ok v h) b i K L = if jx_ft b v = true then K (L.set i v) h else none := id rfl
theorem kA_r (x : Nat) (h : jx_S) (b i : Nat) (K : jx_Bk) (L : List Value) : kA (some (.inr (x, h))) b i K L = some (.threw x, h) := id rfl
theorem kC_t (h : jx_S) (P Q : jx_Bk) (L : List Value) : kC (jx_ok true h) P Q L = P L h := id rfl
theorem kC_f (h : jx_S) (P Q : jx_Bk) (L : List Value) : kC (jx_ok false h) P Q L = Q L h := id rfl
theorem kC_r (x : Nat) (h : jx_S) (P Q : jx_Bk) (L : List Value) : kC (some (.inr (x, h))) P Q L = some (.threw x, h) := id rfl
theorem kO_ok (h : jx_S) (K : jx_Bk) (L : List Value) : kO (jx_ok none h) K L = K L h := id rfl
theorem kO_l (h : jx_S) (K : jx_Bk) (L : List Value) : kO (some (.inl (none, h))) K L = K L h := id rfl
theorem kO_r (x : Nat) (h : jx_S) (K : jx_Bk) (L : List Value) : kO (some (.inr (x, h))) K L = some (.threw x, h) := id rfl
theorem kE_ok (x : Bool) (h : jx_S) (a b : jx_Ex) (L : List Value) : kE (jx_ok x h) a b L = bif x then a L h else b L h := id rfl
theorem kN_ok (x : Bool) (h : jx_S) (b : jx_Cx) (L : List Value) : kN (jx_ok x h) b L = bif x then b L h else jx_ok false h := id rfl
theorem kR_ok (x : Bool) (h : jx_S) (b : jx_Cx) (L : List Value) : kR (jx_ok x h) b L = bif x then jx_ok true h else b L h := id rfl
theorem kE_t (h : jx_S) (a b : jx_Ex) (L : List Value) : kE (jx_ok true h) a b L = a L h := id rfl
theorem kE_f (h : jx_S) (a b : jx_Ex) (L : List Value) : kE (jx_ok false h) a b L = b L h := id rfl
theorem kN_t (h : jx_S) (b : jx_Cx) (L : List Value) : kN (jx_ok true h) b L = b L h := id rfl
theorem kN_f (h : jx_S) (b : jx_Cx) (L : List Value) : kN (jx_ok false h) b L = jx_ok false h := id rfl
theorem kR_t (h : jx_S) (b : jx_Cx) (L : List Value) : kR (jx_ok true h) b L = jx_ok true h := id rfl
theorem kR_f (h : jx_S) (b : jx_Cx) (L : List Value) : kR (jx_ok false h) b L = b L h := id rfl
theorem eIte_k (c : jx_Cx) (a b : jx_Ex) (L : List Value) (h : jx_S) : eIte c a b L h = kE (c L h) a b L := eIte_c c a b L h
theorem cAnd_k (a b : jx_Cx) (L : List Value) (h : jx_S) : cAnd a b L h = kN (a L h) b L := cAnd_c a b L h
theorem cOr_k (a b : jx_Cx) (L : List Value) (h : jx_S) : cOr a b L h = kR (a L h) b L := cOr_c a b L h
theorem sIf_k (c : jx_Cx) (A B : jx_St) (K : jx_Bk) (L : List Value) (h : jx_S) : sIf c A B K L h = kC (c L h) (A K) (B K) L := sIf_c c A B K L h
theorem sAsg_k (b i : Nat) (x : jx_Ex) (K : jx_Bk) (L : List Value) (h : jx_S) : sAsg b i x K L h = kA (x L h) b i K L := id rfl
theorem sPf_k (cs : List Nat) (i b : Nat) (o x : jx_Ex) (K : jx_Bk) (L : List Value) (h : jx_S) : sPf cs i b o x K L h = kU (jx_b (o L h) fun v h1 => jx_b (x L h1) fun w h2 => jx_pf cs i b v w L h2) K L := by
  unfold kU sPf
  simp only [kb_b]
theorem sUf_k (cs : List Nat) (i b : Nat) (f : Int32 → Int32 → Option Int32) (o x : jx_Ex) (K : jx_Bk) (L : List Value) (h : jx_S) : sUf cs i b f o x K L h = kU (jx_b (o L h) fun v h1 => jx_b (jx_gf cs i v L h1) fun w h2 => jx_b (x L h2) fun y h3 => jx_b (jx_op f w y L h3) fun z h4 => jx_pf cs i b v z L h4) K L := by
  unfold kU sUf
  simp only [kb_b]
theorem sSt_k (t b : Nat) (a i x : jx_Ex) (K : jx_Bk) (L : List Value) (h : jx_S) : sSt t b a i x K L h = kU (jx_b (a L h) fun v h1 => jx_b (i L h1) fun w h2 => jx_b (x L h2) fun y h3 => jx_st t b v w y L h3) K L := by
  unfold kU sSt
  simp only [kb_b]
theorem sSta_k (t : Nat) (cs : List Nat) (a i x : jx_Ex) (K : jx_Bk) (L : List Value) (h : jx_S) : sSta t cs a i x K L h = kU (jx_b (a L h) fun v h1 => jx_b (i L h1) fun w h2 => jx_b (x L h2) fun y h3 => jx_sta t cs v w y L h3) K L := by
  unfold kU sSta
  simp only [kb_b]
theorem sUst_k (t b : Nat) (f : Int32 → Int32 → Option Int32) (a i x : jx_Ex) (K : jx_Bk) (L : List Value) (h : jx_S) : sUst t b f a i x K L h = kU (jx_b (a L h) fun v h1 => jx_b (i L h1) fun w h2 => jx_b (jx_ld t v w L h2) fun y h3 => jx_b (x L h3) fun z h4 => jx_b (jx_op f y z L h4) fun z' h5 => jx_st t b v w z' L h5) K L := by
  unfold kU sUst
  simp only [kb_b]
theorem sCl_k (call : jx_Ca) (es : List jx_Ex) (K : jx_Bk) (L : List Value) (h : jx_S) : sCl call es K L h = kO (jx_b (jx_as es L h) fun vs h1 => call vs L h1) K L := by
  unfold kO sCl
  simp only [kb_b]
  rfl
theorem sSeq_k (A B : jx_St) (K : jx_Bk) : sSeq A B K = A (B K) := id rfl
