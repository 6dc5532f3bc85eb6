/-! THE HEAP OF THE LAW: the cells that stand from its first lines on (shelf b .. b+18, model b+19 .. b+24, out b+25) laid over the rest -/
def hset (h : jx_S) (a : Nat) (o : va_E) : jx_S := (h.1, h.2.1, jx_up h.2.2 a o)
def hnew (h : jx_S) (n : Nat) (o : va_E) : jx_S := (h.1 + 1, h.2.1 + n, jx_up h.2.2 h.1 o)
theorem hset_at (h : jx_S) (a : Nat) (o : va_E) (q : Nat) : (hset h a o).2.2 q = if q = a then some o else h.2.2 q := rfl
theorem hnew_at (h : jx_S) (n : Nat) (o : va_E) (q : Nat) : (hnew h n o).2.2 q = if q = h.1 then some o else h.2.2 q := rfl
/-- present; slots; data; words left; on; the table's address; the move; words -/
abbrev cC : Type := (Nat → Bool) × (Nat → Nat → Int32) × (Nat → Nat → Int32) × Int32 × Bool × Nat × Value × (Nat → Int32)
/-- thrown; present; slots; data; on; left; table; next; moved; copy: volume, leg, to, words -/
abbrev cM : Type := Int32 × (Nat → Int32) × (Nat → Int32) × (Nat → Int32) × Bool × Int32 × (Nat → Int32) × (Nat → Int32) × Int32 × Int32 × Int32 × Int32 × Int32
/-- cell number j of the standing ones -/
def ovc (b : Nat) (C : cC) (M : cM) (fo : Nat → Int64) (j : Nat) : va_E :=
  if j = 0 then .inr (0, [.ref (b + 1), .ref (b + 14), .ref C.2.2.2.2.2.1, C.2.2.2.2.2.2.1, .ref (b + 18)])
  else if j = 1 then .inl (3, 4, .inr (.inr (.inr (.inr fun d => some (b + 2 + 3 * d)))))
  else if j < 14 then
    (if j % 3 = 2 then .inr (1, [.int (nI ((j - 2) / 3)), .ref (b + 3 + 3 * ((j - 2) / 3)), .ref (b + 4 + 3 * ((j - 2) / 3)), .int (b2i (C.1 ((j - 2) / 3)))])
     else if j % 3 = 0 then .inl (0, 102, .inl (C.2.1 ((j - 3) / 3)))
     else .inl (0, 32, .inl (C.2.2.1 ((j - 4) / 3))))
  else if j = 14 then .inr (2, [.int C.2.2.2.1, .int (b2i C.2.2.2.2.1)])
  else if j = 18 then .inl (0, 51, .inl C.2.2.2.2.2.2.2)
  else if j = 19 then .inr (8, [.int M.1, .ref (b + 20), .ref (b + 21), .ref (b + 22), .int (b2i M.2.2.2.2.1), .int M.2.2.2.2.2.1, .ref (b + 23), .ref (b + 24), .int M.2.2.2.2.2.2.2.2.1, .int M.2.2.2.2.2.2.2.2.2.1, .int M.2.2.2.2.2.2.2.2.2.2.1, .int M.2.2.2.2.2.2.2.2.2.2.2.1, .int M.2.2.2.2.2.2.2.2.2.2.2.2])
  else if j = 20 then .inl (2, 4, .inl M.2.1)
  else if j = 21 then .inl (0, 408, .inl M.2.2.1)
  else if j = 22 then .inl (0, 128, .inl M.2.2.2.1)
  else if j = 23 then .inl (0, 51, .inl M.2.2.2.2.2.2.1)
  else if j = 24 then .inl (0, 51, .inl M.2.2.2.2.2.2.2.1)
  else .inl (1, 1, .inr (.inl fo))
def ov (h : jx_S) (b : Nat) (C : cC) (M : cM) (fo : Nat → Int64) : jx_S := (h.1, h.2.1, fun q => if b ≤ q ∧ q < b + 26 ∧ ¬ (b + 15 ≤ q ∧ q < b + 18) then some (ovc b C M fo (q - b)) else h.2.2 q)
section OV
variable (h : jx_S) (b : Nat) (C : cC) (M : cM) (fo : Nat → Int64)
theorem ov_1 : (ov h b C M fo).1 = h.1 := rfl
theorem ov_21 : (ov h b C M fo).2.1 = h.2.1 := rfl
theorem ov_out {q : Nat} (hq : b + 26 ≤ q ∨ (b + 15 ≤ q ∧ q < b + 18)) : (ov h b C M fo).2.2 q = h.2.2 q := by
  show (if _ then _ else _) = _
  rw [if_neg (by omega)]
theorem ov_cell {q : Nat} (h1 : b ≤ q) (h2 : q < b + 26) (h3 : ¬ (b + 15 ≤ q ∧ q < b + 18)) : (ov h b C M fo).2.2 q = some (ovc b C M fo (q - b)) := by
  show (if _ then _ else _) = _
  rw [if_pos ⟨h1, h2, h3⟩]
theorem ov_sh : (ov h b C M fo).2.2 b = some (.inr (0, [.ref (b + 1), .ref (b + 14), .ref C.2.2.2.2.2.1, C.2.2.2.2.2.2.1, .ref (b + 18)])) := by
  rw [ov_cell _ _ _ _ _ (by omega) (by omega) (by omega), Nat.sub_self]
  rfl
theorem ov_da : (ov h b C M fo).2.2 (b + 1) = some (.inl (3, 4, .inr (.inr (.inr (.inr fun d => some (b + 2 + 3 * d)))))) := by
  rw [ov_cell _ _ _ _ _ (by omega) (by omega) (by omega), Nat.add_sub_cancel_left]
  rfl
theorem ov_dk {d : Nat} (hd : d < 4) : (ov h b C M fo).2.2 (b + 2 + 3 * d) = some (.inr (1, [.int (nI d), .ref (b + 3 + 3 * d), .ref (b + 4 + 3 * d), .int (b2i (C.1 d))])) := by
  rw [ov_cell _ _ _ _ _ (by omega) (by omega) (by omega)]
  unfold ovc
  have e : (b + 2 + 3 * d - b - 2) / 3 = d := by omega
  rw [if_neg (by omega), if_neg (by omega), if_pos (by omega), if_pos (by omega), e]
theorem ov_sl {d : Nat} (hd : d < 4) : (ov h b C M fo).2.2 (b + 3 + 3 * d) = some (.inl (0, 102, .inl (C.2.1 d))) := by
  rw [ov_cell _ _ _ _ _ (by omega) (by omega) (by omega)]
  unfold ovc
  have e : (b + 3 + 3 * d - b - 3) / 3 = d := by omega
  rw [if_neg (by omega), if_neg (by omega), if_pos (by omega), if_neg (by omega), if_pos (by omega), e]
theorem ov_dt {d : Nat} (hd : d < 4) : (ov h b C M fo).2.2 (b + 4 + 3 * d) = some (.inl (0, 32, .inl (C.2.2.1 d))) := by
  rw [ov_cell _ _ _ _ _ (by omega) (by omega) (by omega)]
  unfold ovc
  have e : (b + 4 + 3 * d - b - 4) / 3 = d := by omega
  rw [if_neg (by omega), if_neg (by omega), if_pos (by omega), if_neg (by omega), if_neg (by omega), e]
theorem ov_pn : (ov h b C M fo).2.2 (b + 14) = some (.inr (2, [.int C.2.2.2.1, .int (b2i C.2.2.2.2.1)])) := by
  rw [ov_cell _ _ _ _ _ (by omega) (by omega) (by omega), Nat.add_sub_cancel_left]
  rfl
theorem ov_wd : (ov h b C M fo).2.2 (b + 18) = some (.inl (0, 51, .inl C.2.2.2.2.2.2.2)) := by
  rw [ov_cell _ _ _ _ _ (by omega) (by omega) (by omega), Nat.add_sub_cancel_left]
  rfl
theorem ov_md : (ov h b C M fo).2.2 (b + 19) = some (.inr (8, [.int M.1, .ref (b + 20), .ref (b + 21), .ref (b + 22), .int (b2i M.2.2.2.2.1), .int M.2.2.2.2.2.1, .ref (b + 23), .ref (b + 24), .int M.2.2.2.2.2.2.2.2.1, .int M.2.2.2.2.2.2.2.2.2.1, .int M.2.2.2.2.2.2.2.2.2.2.1, .int M.2.2.2.2.2.2.2.2.2.2.2.1, .int M.2.2.2.2.2.2.2.2.2.2.2.2])) := by
  rw [ov_cell _ _ _ _ _ (by omega) (by omega) (by omega), Nat.add_sub_cancel_left]
  rfl
theorem ov_m1 : (ov h b C M fo).2.2 (b + 20) = some (.inl (2, 4, .inl M.2.1)) := by
  rw [ov_cell _ _ _ _ _ (by omega) (by omega) (by omega), Nat.add_sub_cancel_left]
  rfl
theorem ov_m2 : (ov h b C M fo).2.2 (b + 21) = some (.inl (0, 408, .inl M.2.2.1)) := by
  rw [ov_cell _ _ _ _ _ (by omega) (by omega) (by omega), Nat.add_sub_cancel_left]
  rfl
theorem ov_m3 : (ov h b C M fo).2.2 (b + 22) = some (.inl (0, 128, .inl M.2.2.2.1)) := by
  rw [ov_cell _ _ _ _ _ (by omega) (by omega) (by omega), Nat.add_sub_cancel_left]
  rfl
theorem ov_m4 : (ov h b C M fo).2.2 (b + 23) = some (.inl (0, 51, .inl M.2.2.2.2.2.2.1)) := by
  rw [ov_cell _ _ _ _ _ (by omega) (by omega) (by omega), Nat.add_sub_cancel_left]
  rfl
theorem ov_m5 : (ov h b C M fo).2.2 (b + 24) = some (.inl (0, 51, .inl M.2.2.2.2.2.2.2.1)) := by
  rw [ov_cell _ _ _ _ _ (by omega) (by omega) (by omega), Nat.add_sub_cancel_left]
  rfl
theorem ov_fo : (ov h b C M fo).2.2 (b + 25) = some (.inl (1, 1, .inr (.inl fo))) := by
  rw [ov_cell _ _ _ _ _ (by omega) (by omega) (by omega), Nat.add_sub_cancel_left]
  rfl
/-- a cell of the standing ones is set -/
theorem hset_ov {C' : cC} {M' : cM} {fo' : Nat → Int64} {a : Nat} {o : va_E} (h1 : b ≤ a) (h2 : a < b + 26) (h3 : ¬ (b + 15 ≤ a ∧ a < b + 18)) (ho : ovc b C' M' fo' (a - b) = o) (hr : ∀ j, j < 26 → j ≠ a - b → ¬ (15 ≤ j ∧ j < 18) → ovc b C' M' fo' j = ovc b C M fo j) : hset (ov h b C M fo) a o = ov h b C' M' fo' := by
  unfold hset ov
  refine Prod.ext rfl (Prod.ext rfl ?_)
  funext q
  show jx_up _ a o q = _
  unfold jx_up
  dsimp only
  by_cases e : q = a
  · subst e
    rw [if_pos rfl, if_pos ⟨h1, h2, h3⟩, ho]
  · rw [if_neg e]
    by_cases hq : b ≤ q ∧ q < b + 26 ∧ ¬ (b + 15 ≤ q ∧ q < b + 18)
    · rw [if_pos hq, if_pos hq, hr (q - b) (by omega) (by omega) (by omega)]
    · rw [if_neg hq, if_neg hq]
theorem hset_out {a : Nat} {o : va_E} (ha : b + 26 ≤ a ∨ (b + 15 ≤ a ∧ a < b + 18)) : hset (ov h b C M fo) a o = ov (hset h a o) b C M fo := by
  unfold hset ov
  refine Prod.ext rfl (Prod.ext rfl ?_)
  funext q
  show jx_up _ a o q = if _ then _ else jx_up _ a o q
  unfold jx_up
  by_cases e : q = a
  · subst e
    rw [if_pos rfl, if_neg (by omega), if_pos rfl]
  · rw [if_neg e, if_neg e]
theorem hnew_ov {n : Nat} {o : va_E} (ha : b + 26 ≤ h.1) : hnew (ov h b C M fo) n o = ov (hnew h n o) b C M fo := by
  unfold hnew ov
  refine Prod.ext rfl (Prod.ext rfl ?_)
  funext q
  show jx_up _ h.1 o q = if _ then _ else jx_up _ h.1 o q
  unfold jx_up
  by_cases e : q = h.1
  · subst e
    rw [if_pos rfl, if_neg (by omega), if_pos rfl]
  · rw [if_neg e, if_neg e]
end OV
/-! the pieces, with the heap's changes named -/
theorem jx_pf_h (cs : List Nat) (i b : Nat) (v w : Value) (L : List Value) (h : jx_S) : jx_pf cs i b v w L h = match v with
  | .ref a => (match h.2.2 a with
    | some (.inr (ci, fs)) => if ci ∈ cs ∧ i < fs.length ∧ jx_ft b w = true then jx_ok () (hset h a (.inr (ci, fs.set i w))) else none
    | _ => none)
  | _ => none := rfl
theorem jx_st_h (t b : Nat) (v w x : Value) (L : List Value) (h : jx_S) : jx_st t b v w x L h = match v, w, x with
  | .ref a, .int i, .int z => (match h.2.2 a with
    | some (.inl (t', n, .inl f)) => if t' = t ∧ jx_ft b (.int z) = true then (match jx_ix i n with
      | some j => jx_ok () (hset h a (.inl (t, n, .inl (upd f j z))))
      | none => none) else none
    | _ => none)
  | _, _, _ => none := rfl
theorem jx_sta_h (t : Nat) (cs : List Nat) (v w x : Value) (L : List Value) (h : jx_S) : jx_sta t cs v w x L h = match v, w with
  | .ref a, .int i => (match h.2.2 a with
    | some (.inl (t', n, .inr (.inr (.inr (.inr f))))) => if t' = t then (match jx_ix i n, jx_el cs h.2.2 x with
      | some j, some y => jx_ok () (hset h a (.inl (t, n, .inr (.inr (.inr (.inr (va_up f j y)))))))
      | _, _ => none) else none
    | _ => none)
  | _, _ => none := rfl
theorem jx_nw_h (ci N : Nat) (fs : List Value) (L : List Value) (h : jx_S) : jx_nw ci N fs L h = jx_ok h.1 (hnew h N (.inr (ci, fs))) := rfl
theorem sThrow_h (ci : Nat) (K : jx_Bk) (L : List Value) (h : jx_S) : sThrow ci K L h = some (.threw h.1, hnew h 6 (.inr (ci, []))) := rfl
theorem jx_ft_int (x : Int32) : jx_ft 0 (.int x) = true := rfl
theorem jx_ft_ref (a : Nat) : jx_ft 2 (.ref a) = true := rfl
theorem jx_ft_null : jx_ft 2 .null = true := rfl
theorem jx_ft_z0 : jx_ft 1 (.int (nI 0)) = true := by decide
theorem jx_ft_z1 : jx_ft 1 (.int (nI 1)) = true := by decide
theorem ret_int (v : Int32) (h : jx_S) : jx_rt 0 (.int v) = fun _ h => some (.returned (some (.int v)), h) := rfl
