/-! SETTING the standing cells (printed by a program) -/
section OVS
variable (h : jx_S) (b : Nat) (fo : Nat → Int64)
theorem hs_m_th (C : cC) (th : Int32) (fp fs fd : Nat → Int32) (on : Bool) (lf : Int32) (ft fn : Nat → Int32) (mo cv cl ct cp : Int32) (x : Int32) : hset (ov h b C (th, fp, fs, fd, on, lf, ft, fn, mo, cv, cl, ct, cp) fo) (b + 19) (.inr (8, [.int x, .ref (b + 20), .ref (b + 21), .ref (b + 22), .int (b2i on), .int lf, .ref (b + 23), .ref (b + 24), .int mo, .int cv, .int cl, .int ct, .int cp])) = ov h b C (x, fp, fs, fd, on, lf, ft, fn, mo, cv, cl, ct, cp) fo := by
  refine hset_ov h b _ _ fo (by omega) (by omega) (by omega) (by rw [Nat.add_sub_cancel_left]; rfl) (fun j hj hne h15 => ?_)
  unfold ovc
  rw [Nat.add_sub_cancel_left] at hne
  simp only [hne, if_false]
theorem hs_m_on (C : cC) (th : Int32) (fp fs fd : Nat → Int32) (on : Bool) (lf : Int32) (ft fn : Nat → Int32) (mo cv cl ct cp : Int32) (x : Bool) : hset (ov h b C (th, fp, fs, fd, on, lf, ft, fn, mo, cv, cl, ct, cp) fo) (b + 19) (.inr (8, [.int th, .ref (b + 20), .ref (b + 21), .ref (b + 22), .int (b2i x), .int lf, .ref (b + 23), .ref (b + 24), .int mo, .int cv, .int cl, .int ct, .int cp])) = ov h b C (th, fp, fs, fd, x, lf, ft, fn, mo, cv, cl, ct, cp) fo := by
  refine hset_ov h b _ _ fo (by omega) (by omega) (by omega) (by rw [Nat.add_sub_cancel_left]; rfl) (fun j hj hne h15 => ?_)
  unfold ovc
  rw [Nat.add_sub_cancel_left] at hne
  simp only [hne, if_false]
theorem hs_m_lf (C : cC) (th : Int32) (fp fs fd : Nat → Int32) (on : Bool) (lf : Int32) (ft fn : Nat → Int32) (mo cv cl ct cp : Int32) (x : Int32) : hset (ov h b C (th, fp, fs, fd, on, lf, ft, fn, mo, cv, cl, ct, cp) fo) (b + 19) (.inr (8, [.int th, .ref (b + 20), .ref (b + 21), .ref (b + 22), .int (b2i on), .int x, .ref (b + 23), .ref (b + 24), .int mo, .int cv, .int cl, .int ct, .int cp])) = ov h b C (th, fp, fs, fd, on, x, ft, fn, mo, cv, cl, ct, cp) fo := by
  refine hset_ov h b _ _ fo (by omega) (by omega) (by omega) (by rw [Nat.add_sub_cancel_left]; rfl) (fun j hj hne h15 => ?_)
  unfold ovc
  rw [Nat.add_sub_cancel_left] at hne
  simp only [hne, if_false]
theorem hs_m_mo (C : cC) (th : Int32) (fp fs fd : Nat → Int32) (on : Bool) (lf : Int32) (ft fn : Nat → Int32) (mo cv cl ct cp : Int32) (x : Int32) : hset (ov h b C (th, fp, fs, fd, on, lf, ft, fn, mo, cv, cl, ct, cp) fo) (b + 19) (.inr (8, [.int th, .ref (b + 20), .ref (b + 21), .ref (b + 22), .int (b2i on), .int lf, .ref (b + 23), .ref (b + 24), .int x, .int cv, .int cl, .int ct, .int cp])) = ov h b C (th, fp, fs, fd, on, lf, ft, fn, x, cv, cl, ct, cp) fo := by
  refine hset_ov h b _ _ fo (by omega) (by omega) (by omega) (by rw [Nat.add_sub_cancel_left]; rfl) (fun j hj hne h15 => ?_)
  unfold ovc
  rw [Nat.add_sub_cancel_left] at hne
  simp only [hne, if_false]
theorem hs_m_cv (C : cC) (th : Int32) (fp fs fd : Nat → Int32) (on : Bool) (lf : Int32) (ft fn : Nat → Int32) (mo cv cl ct cp : Int32) (x : Int32) : hset (ov h b C (th, fp, fs, fd, on, lf, ft, fn, mo, cv, cl, ct, cp) fo) (b + 19) (.inr (8, [.int th, .ref (b + 20), .ref (b + 21), .ref (b + 22), .int (b2i on), .int lf, .ref (b + 23), .ref (b + 24), .int mo, .int x, .int cl, .int ct, .int cp])) = ov h b C (th, fp, fs, fd, on, lf, ft, fn, mo, x, cl, ct, cp) fo := by
  refine hset_ov h b _ _ fo (by omega) (by omega) (by omega) (by rw [Nat.add_sub_cancel_left]; rfl) (fun j hj hne h15 => ?_)
  unfold ovc
  rw [Nat.add_sub_cancel_left] at hne
  simp only [hne, if_false]
theorem hs_m_cl (C : cC) (th : Int32) (fp fs fd : Nat → Int32) (on : Bool) (lf : Int32) (ft fn : Nat → Int32) (mo cv cl ct cp : Int32) (x : Int32) : hset (ov h b C (th, fp, fs, fd, on, lf, ft, fn, mo, cv, cl, ct, cp) fo) (b + 19) (.inr (8, [.int th, .ref (b + 20), .ref (b + 21), .ref (b + 22), .int (b2i on), .int lf, .ref (b + 23), .ref (b + 24), .int mo, .int cv, .int x, .int ct, .int cp])) = ov h b C (th, fp, fs, fd, on, lf, ft, fn, mo, cv, x, ct, cp) fo := by
  refine hset_ov h b _ _ fo (by omega) (by omega) (by omega) (by rw [Nat.add_sub_cancel_left]; rfl) (fun j hj hne h15 => ?_)
  unfold ovc
  rw [Nat.add_sub_cancel_left] at hne
  simp only [hne, if_false]
theorem hs_m_ct (C : cC) (th : Int32) (fp fs fd : Nat → Int32) (on : Bool) (lf : Int32) (ft fn : Nat → Int32) (mo cv cl ct cp : Int32) (x : Int32) : hset (ov h b C (th, fp, fs, fd, on, lf, ft, fn, mo, cv, cl, ct, cp) fo) (b + 19) (.inr (8, [.int th, .ref (b + 20), .ref (b + 21), .ref (b + 22), .int (b2i on), .int lf, .ref (b + 23), .ref (b + 24), .int mo, .int cv, .int cl, .int x, .int cp])) = ov h b C (th, fp, fs, fd, on, lf, ft, fn, mo, cv, cl, x, cp) fo := by
  refine hset_ov h b _ _ fo (by omega) (by omega) (by omega) (by rw [Nat.add_sub_cancel_left]; rfl) (fun j hj hne h15 => ?_)
  unfold ovc
  rw [Nat.add_sub_cancel_left] at hne
  simp only [hne, if_false]
theorem hs_m_cp (C : cC) (th : Int32) (fp fs fd : Nat → Int32) (on : Bool) (lf : Int32) (ft fn : Nat → Int32) (mo cv cl ct cp : Int32) (x : Int32) : hset (ov h b C (th, fp, fs, fd, on, lf, ft, fn, mo, cv, cl, ct, cp) fo) (b + 19) (.inr (8, [.int th, .ref (b + 20), .ref (b + 21), .ref (b + 22), .int (b2i on), .int lf, .ref (b + 23), .ref (b + 24), .int mo, .int cv, .int cl, .int ct, .int x])) = ov h b C (th, fp, fs, fd, on, lf, ft, fn, mo, cv, cl, ct, x) fo := by
  refine hset_ov h b _ _ fo (by omega) (by omega) (by omega) (by rw [Nat.add_sub_cancel_left]; rfl) (fun j hj hne h15 => ?_)
  unfold ovc
  rw [Nat.add_sub_cancel_left] at hne
  simp only [hne, if_false]
theorem hs_m_fp (C : cC) (th : Int32) (fp fs fd : Nat → Int32) (on : Bool) (lf : Int32) (ft fn : Nat → Int32) (mo cv cl ct cp : Int32) (x : Nat → Int32) : hset (ov h b C (th, fp, fs, fd, on, lf, ft, fn, mo, cv, cl, ct, cp) fo) (b + 20) (.inl (2, 4, .inl x)) = ov h b C (th, x, fs, fd, on, lf, ft, fn, mo, cv, cl, ct, cp) fo := by
  refine hset_ov h b _ _ fo (by omega) (by omega) (by omega) (by rw [Nat.add_sub_cancel_left]; rfl) (fun j hj hne h15 => ?_)
  unfold ovc
  rw [Nat.add_sub_cancel_left] at hne
  simp only [hne, if_false]
theorem hs_m_fs (C : cC) (th : Int32) (fp fs fd : Nat → Int32) (on : Bool) (lf : Int32) (ft fn : Nat → Int32) (mo cv cl ct cp : Int32) (x : Nat → Int32) : hset (ov h b C (th, fp, fs, fd, on, lf, ft, fn, mo, cv, cl, ct, cp) fo) (b + 21) (.inl (0, 408, .inl x)) = ov h b C (th, fp, x, fd, on, lf, ft, fn, mo, cv, cl, ct, cp) fo := by
  refine hset_ov h b _ _ fo (by omega) (by omega) (by omega) (by rw [Nat.add_sub_cancel_left]; rfl) (fun j hj hne h15 => ?_)
  unfold ovc
  rw [Nat.add_sub_cancel_left] at hne
  simp only [hne, if_false]
theorem hs_m_fd (C : cC) (th : Int32) (fp fs fd : Nat → Int32) (on : Bool) (lf : Int32) (ft fn : Nat → Int32) (mo cv cl ct cp : Int32) (x : Nat → Int32) : hset (ov h b C (th, fp, fs, fd, on, lf, ft, fn, mo, cv, cl, ct, cp) fo) (b + 22) (.inl (0, 128, .inl x)) = ov h b C (th, fp, fs, x, on, lf, ft, fn, mo, cv, cl, ct, cp) fo := by
  refine hset_ov h b _ _ fo (by omega) (by omega) (by omega) (by rw [Nat.add_sub_cancel_left]; rfl) (fun j hj hne h15 => ?_)
  unfold ovc
  rw [Nat.add_sub_cancel_left] at hne
  simp only [hne, if_false]
theorem hs_m_ft (C : cC) (th : Int32) (fp fs fd : Nat → Int32) (on : Bool) (lf : Int32) (ft fn : Nat → Int32) (mo cv cl ct cp : Int32) (x : Nat → Int32) : hset (ov h b C (th, fp, fs, fd, on, lf, ft, fn, mo, cv, cl, ct, cp) fo) (b + 23) (.inl (0, 51, .inl x)) = ov h b C (th, fp, fs, fd, on, lf, x, fn, mo, cv, cl, ct, cp) fo := by
  refine hset_ov h b _ _ fo (by omega) (by omega) (by omega) (by rw [Nat.add_sub_cancel_left]; rfl) (fun j hj hne h15 => ?_)
  unfold ovc
  rw [Nat.add_sub_cancel_left] at hne
  simp only [hne, if_false]
theorem hs_m_fn (C : cC) (th : Int32) (fp fs fd : Nat → Int32) (on : Bool) (lf : Int32) (ft fn : Nat → Int32) (mo cv cl ct cp : Int32) (x : Nat → Int32) : hset (ov h b C (th, fp, fs, fd, on, lf, ft, fn, mo, cv, cl, ct, cp) fo) (b + 24) (.inl (0, 51, .inl x)) = ov h b C (th, fp, fs, fd, on, lf, ft, x, mo, cv, cl, ct, cp) fo := by
  refine hset_ov h b _ _ fo (by omega) (by omega) (by omega) (by rw [Nat.add_sub_cancel_left]; rfl) (fun j hj hne h15 => ?_)
  unfold ovc
  rw [Nat.add_sub_cancel_left] at hne
  simp only [hne, if_false]
theorem hs_c_t (M : cM) (pr : Nat → Bool) (sl dt : Nat → Nat → Int32) (lf : Int32) (on : Bool) (t : Nat) (mv : Value) (wd : Nat → Int32) (x : Nat) : hset (ov h b (pr, sl, dt, lf, on, t, mv, wd) M fo) b (.inr (0, [.ref (b + 1), .ref (b + 14), .ref x, mv, .ref (b + 18)])) = ov h b (pr, sl, dt, lf, on, x, mv, wd) M fo := by
  refine hset_ov h b _ _ fo (by omega) (by omega) (by omega) (by rw [Nat.sub_self]; rfl) (fun j hj hne h15 => ?_)
  unfold ovc
  rw [Nat.sub_self] at hne
  simp only [hne, if_false]
theorem hs_c_mv (M : cM) (pr : Nat → Bool) (sl dt : Nat → Nat → Int32) (lf : Int32) (on : Bool) (t : Nat) (mv : Value) (wd : Nat → Int32) (x : Value) : hset (ov h b (pr, sl, dt, lf, on, t, mv, wd) M fo) b (.inr (0, [.ref (b + 1), .ref (b + 14), .ref t, x, .ref (b + 18)])) = ov h b (pr, sl, dt, lf, on, t, x, wd) M fo := by
  refine hset_ov h b _ _ fo (by omega) (by omega) (by omega) (by rw [Nat.sub_self]; rfl) (fun j hj hne h15 => ?_)
  unfold ovc
  rw [Nat.sub_self] at hne
  simp only [hne, if_false]
theorem hs_c_lf (M : cM) (pr : Nat → Bool) (sl dt : Nat → Nat → Int32) (lf : Int32) (on : Bool) (t : Nat) (mv : Value) (wd : Nat → Int32) (x : Int32) : hset (ov h b (pr, sl, dt, lf, on, t, mv, wd) M fo) (b + 14) (.inr (2, [.int x, .int (b2i on)])) = ov h b (pr, sl, dt, x, on, t, mv, wd) M fo := by
  refine hset_ov h b _ _ fo (by omega) (by omega) (by omega) (by rw [Nat.add_sub_cancel_left]; rfl) (fun j hj hne h15 => ?_)
  unfold ovc
  rw [Nat.add_sub_cancel_left] at hne
  simp only [hne, if_false]
theorem hs_c_on (M : cM) (pr : Nat → Bool) (sl dt : Nat → Nat → Int32) (lf : Int32) (on : Bool) (t : Nat) (mv : Value) (wd : Nat → Int32) (x : Bool) : hset (ov h b (pr, sl, dt, lf, on, t, mv, wd) M fo) (b + 14) (.inr (2, [.int lf, .int (b2i x)])) = ov h b (pr, sl, dt, lf, x, t, mv, wd) M fo := by
  refine hset_ov h b _ _ fo (by omega) (by omega) (by omega) (by rw [Nat.add_sub_cancel_left]; rfl) (fun j hj hne h15 => ?_)
  unfold ovc
  rw [Nat.add_sub_cancel_left] at hne
  simp only [hne, if_false]
theorem hs_c_wd (M : cM) (pr : Nat → Bool) (sl dt : Nat → Nat → Int32) (lf : Int32) (on : Bool) (t : Nat) (mv : Value) (wd : Nat → Int32) (x : Nat → Int32) : hset (ov h b (pr, sl, dt, lf, on, t, mv, wd) M fo) (b + 18) (.inl (0, 51, .inl x)) = ov h b (pr, sl, dt, lf, on, t, mv, x) M fo := by
  refine hset_ov h b _ _ fo (by omega) (by omega) (by omega) (by rw [Nat.add_sub_cancel_left]; rfl) (fun j hj hne h15 => ?_)
  unfold ovc
  rw [Nat.add_sub_cancel_left] at hne
  simp only [hne, if_false]
def up2 {α : Type} (f : Nat → α) (d : Nat) (x : α) : Nat → α := fun q => if q = d then x else f q
theorem up2_same {α : Type} (f : Nat → α) (d : Nat) (x : α) : up2 f d x d = x := if_pos rfl
theorem up2_ne {α : Type} (f : Nat → α) {d q : Nat} (x : α) (h : q ≠ d) : up2 f d x q = f q := if_neg h
theorem hs_c_pr (M : cM) (pr : Nat → Bool) (sl dt : Nat → Nat → Int32) (lf : Int32) (on : Bool) (t : Nat) (mv : Value) (wd : Nat → Int32) {d : Nat} (hd : d < 4) (x : Bool) : hset (ov h b (pr, sl, dt, lf, on, t, mv, wd) M fo) (b + 2 + 3 * d) (.inr (1, [.int (nI d), .ref (b + 3 + 3 * d), .ref (b + 4 + 3 * d), .int (b2i x)])) = ov h b (up2 pr d x, sl, dt, lf, on, t, mv, wd) M fo := by
  refine hset_ov h b _ _ fo (by omega) (by omega) (by omega) ?_ (fun j hj hne h15 => ?_)
  · have e : b + 2 + 3 * d - b = 2 + 3 * d := by omega
    rw [e]
    have hd4 : d = 0 ∨ d = 1 ∨ d = 2 ∨ d = 3 := by omega
    rcases hd4 with rfl | rfl | rfl | rfl <;> rfl
  · have e : b + 2 + 3 * d - b = 2 + 3 * d := by omega
    rw [e] at hne
    by_cases h14 : j < 14
    · have hd4 : d = 0 ∨ d = 1 ∨ d = 2 ∨ d = 3 := by omega
      have hj14 : j = 0 ∨ j = 1 ∨ j = 2 ∨ j = 3 ∨ j = 4 ∨ j = 5 ∨ j = 6 ∨ j = 7 ∨ j = 8 ∨ j = 9 ∨ j = 10 ∨ j = 11 ∨ j = 12 ∨ j = 13 := by omega
      rcases hd4 with rfl | rfl | rfl | rfl <;> rcases hj14 with rfl | rfl | rfl | rfl | rfl | rfl | rfl | rfl | rfl | rfl | rfl | rfl | rfl | rfl <;> first | rfl | exact absurd rfl hne
    · have hj26 : j = 14 ∨ j = 18 ∨ j = 19 ∨ j = 20 ∨ j = 21 ∨ j = 22 ∨ j = 23 ∨ j = 24 ∨ j = 25 := by omega
      rcases hj26 with rfl | rfl | rfl | rfl | rfl | rfl | rfl | rfl | rfl <;> rfl
theorem hs_c_sl (M : cM) (pr : Nat → Bool) (sl dt : Nat → Nat → Int32) (lf : Int32) (on : Bool) (t : Nat) (mv : Value) (wd : Nat → Int32) {d : Nat} (hd : d < 4) (x : Nat → Int32) : hset (ov h b (pr, sl, dt, lf, on, t, mv, wd) M fo) (b + 3 + 3 * d) (.inl (0, 102, .inl x)) = ov h b (pr, up2 sl d x, dt, lf, on, t, mv, wd) M fo := by
  refine hset_ov h b _ _ fo (by omega) (by omega) (by omega) ?_ (fun j hj hne h15 => ?_)
  · have e : b + 3 + 3 * d - b = 3 + 3 * d := by omega
    rw [e]
    have hd4 : d = 0 ∨ d = 1 ∨ d = 2 ∨ d = 3 := by omega
    rcases hd4 with rfl | rfl | rfl | rfl <;> rfl
  · have e : b + 3 + 3 * d - b = 3 + 3 * d := by omega
    rw [e] at hne
    by_cases h14 : j < 14
    · have hd4 : d = 0 ∨ d = 1 ∨ d = 2 ∨ d = 3 := by omega
      have hj14 : j = 0 ∨ j = 1 ∨ j = 2 ∨ j = 3 ∨ j = 4 ∨ j = 5 ∨ j = 6 ∨ j = 7 ∨ j = 8 ∨ j = 9 ∨ j = 10 ∨ j = 11 ∨ j = 12 ∨ j = 13 := by omega
      rcases hd4 with rfl | rfl | rfl | rfl <;> rcases hj14 with rfl | rfl | rfl | rfl | rfl | rfl | rfl | rfl | rfl | rfl | rfl | rfl | rfl | rfl <;> first | rfl | exact absurd rfl hne
    · have hj26 : j = 14 ∨ j = 18 ∨ j = 19 ∨ j = 20 ∨ j = 21 ∨ j = 22 ∨ j = 23 ∨ j = 24 ∨ j = 25 := by omega
      rcases hj26 with rfl | rfl | rfl | rfl | rfl | rfl | rfl | rfl | rfl <;> rfl
theorem hs_c_dt (M : cM) (pr : Nat → Bool) (sl dt : Nat → Nat → Int32) (lf : Int32) (on : Bool) (t : Nat) (mv : Value) (wd : Nat → Int32) {d : Nat} (hd : d < 4) (x : Nat → Int32) : hset (ov h b (pr, sl, dt, lf, on, t, mv, wd) M fo) (b + 4 + 3 * d) (.inl (0, 32, .inl x)) = ov h b (pr, sl, up2 dt d x, lf, on, t, mv, wd) M fo := by
  refine hset_ov h b _ _ fo (by omega) (by omega) (by omega) ?_ (fun j hj hne h15 => ?_)
  · have e : b + 4 + 3 * d - b = 4 + 3 * d := by omega
    rw [e]
    have hd4 : d = 0 ∨ d = 1 ∨ d = 2 ∨ d = 3 := by omega
    rcases hd4 with rfl | rfl | rfl | rfl <;> rfl
  · have e : b + 4 + 3 * d - b = 4 + 3 * d := by omega
    rw [e] at hne
    by_cases h14 : j < 14
    · have hd4 : d = 0 ∨ d = 1 ∨ d = 2 ∨ d = 3 := by omega
      have hj14 : j = 0 ∨ j = 1 ∨ j = 2 ∨ j = 3 ∨ j = 4 ∨ j = 5 ∨ j = 6 ∨ j = 7 ∨ j = 8 ∨ j = 9 ∨ j = 10 ∨ j = 11 ∨ j = 12 ∨ j = 13 := by omega
      rcases hd4 with rfl | rfl | rfl | rfl <;> rcases hj14 with rfl | rfl | rfl | rfl | rfl | rfl | rfl | rfl | rfl | rfl | rfl | rfl | rfl | rfl <;> first | rfl | exact absurd rfl hne
    · have hj26 : j = 14 ∨ j = 18 ∨ j = 19 ∨ j = 20 ∨ j = 21 ∨ j = 22 ∨ j = 23 ∨ j = 24 ∨ j = 25 := by omega
      rcases hj26 with rfl | rfl | rfl | rfl | rfl | rfl | rfl | rfl | rfl <;> rfl
theorem hs_fo (C : cC) (M : cM) (x : Nat → Int64) : hset (ov h b C M fo) (b + 25) (.inl (1, 1, .inr (.inl x))) = ov h b C M x := by
  refine hset_ov h b C M fo (by omega) (by omega) (by omega) (by rw [Nat.add_sub_cancel_left]; rfl) (fun j hj hne h15 => ?_)
  unfold ovc
  rw [Nat.add_sub_cancel_left] at hne
  by_cases e0 : j = 0
  · subst e0; rfl
  by_cases e1 : j = 1
  · subst e1; rfl
  by_cases e14 : j < 14
  · simp only [e0, e1, e14, if_false, if_true]
  · have : j = 14 ∨ j = 18 ∨ j = 19 ∨ j = 20 ∨ j = 21 ∨ j = 22 ∨ j = 23 ∨ j = 24 := by omega
    rcases this with rfl | rfl | rfl | rfl | rfl | rfl | rfl | rfl <;> rfl
theorem hs_m_on0 (C : cC) (th : Int32) (fp fs fd : Nat → Int32) (on : Bool) (lf : Int32) (ft fn : Nat → Int32) (mo cv cl ct cp : Int32) : hset (ov h b C (th, fp, fs, fd, on, lf, ft, fn, mo, cv, cl, ct, cp) fo) (b + 19) (.inr (8, [.int th, .ref (b + 20), .ref (b + 21), .ref (b + 22), .int (nI 0), .int lf, .ref (b + 23), .ref (b + 24), .int mo, .int cv, .int cl, .int ct, .int cp])) = ov h b C (th, fp, fs, fd, false, lf, ft, fn, mo, cv, cl, ct, cp) fo := hs_m_on h b fo C th fp fs fd on lf ft fn mo cv cl ct cp false
theorem hs_m_on1 (C : cC) (th : Int32) (fp fs fd : Nat → Int32) (on : Bool) (lf : Int32) (ft fn : Nat → Int32) (mo cv cl ct cp : Int32) : hset (ov h b C (th, fp, fs, fd, on, lf, ft, fn, mo, cv, cl, ct, cp) fo) (b + 19) (.inr (8, [.int th, .ref (b + 20), .ref (b + 21), .ref (b + 22), .int (nI 1), .int lf, .ref (b + 23), .ref (b + 24), .int mo, .int cv, .int cl, .int ct, .int cp])) = ov h b C (th, fp, fs, fd, true, lf, ft, fn, mo, cv, cl, ct, cp) fo := hs_m_on h b fo C th fp fs fd on lf ft fn mo cv cl ct cp true
theorem hs_c_on0 (M : cM) (pr : Nat → Bool) (sl dt : Nat → Nat → Int32) (lf : Int32) (on : Bool) (t : Nat) (mv : Value) (wd : Nat → Int32) : hset (ov h b (pr, sl, dt, lf, on, t, mv, wd) M fo) (b + 14) (.inr (2, [.int lf, .int (nI 0)])) = ov h b (pr, sl, dt, lf, false, t, mv, wd) M fo := hs_c_on h b fo M pr sl dt lf on t mv wd false
theorem hs_c_on1 (M : cM) (pr : Nat → Bool) (sl dt : Nat → Nat → Int32) (lf : Int32) (on : Bool) (t : Nat) (mv : Value) (wd : Nat → Int32) : hset (ov h b (pr, sl, dt, lf, on, t, mv, wd) M fo) (b + 14) (.inr (2, [.int lf, .int (nI 1)])) = ov h b (pr, sl, dt, lf, true, t, mv, wd) M fo := hs_c_on h b fo M pr sl dt lf on t mv wd true
end OVS
