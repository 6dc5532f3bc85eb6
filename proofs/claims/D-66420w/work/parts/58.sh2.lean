/-! THE COMPONENT's HEAP, by the plain state -/
def cH (h : jx_S) (b : Nat) (M : cM) (fo : Nat → Int64) (pr : Nat → Bool) (x : xA) (t : Nat) (mv : Value) (wd : Nat → Int32) : jx_S := ov h b (pr, x.1, x.2.1, x.2.2.2.1, x.2.2.1, t, mv, wd) M fo
section CH
variable (h : jx_S) (b : Nat) (M : cM) (fo : Nat → Int64) (pr : Nat → Bool) (x : xA) (t : Nat) (mv : Value) (wd : Nat → Int32)
theorem cH_1 : (cH h b M fo pr x t mv wd).1 = h.1 := rfl
theorem cH_21 : (cH h b M fo pr x t mv wd).2.1 = h.2.1 := rfl
theorem cH_out {q : Nat} (hq : b + 26 ≤ q ∨ (b + 15 ≤ q ∧ q < b + 18)) : (cH h b M fo pr x t mv wd).2.2 q = h.2.2 q := ov_out _ _ _ _ _ hq
theorem cH_sh : (cH h b M fo pr x t mv wd).2.2 b = some (.inr (0, [.ref (b + 1), .ref (b + 14), .ref t, mv, .ref (b + 18)])) := ov_sh ..
theorem cH_da : (cH h b M fo pr x t mv wd).2.2 (b + 1) = some (.inl (3, 4, .inr (.inr (.inr (.inr fun d => some (b + 2 + 3 * d)))))) := ov_da ..
theorem cH_dk {d : Nat} (hd : d < 4) : (cH h b M fo pr x t mv wd).2.2 (b + 2 + 3 * d) = some (.inr (1, [.int (nI d), .ref (b + 3 + 3 * d), .ref (b + 4 + 3 * d), .int (b2i (pr d))])) := ov_dk _ _ _ _ _ hd
theorem cH_sl {d : Nat} (hd : d < 4) : (cH h b M fo pr x t mv wd).2.2 (b + 3 + 3 * d) = some (.inl (0, 102, .inl (x.1 d))) := ov_sl _ _ _ _ _ hd
theorem cH_dt {d : Nat} (hd : d < 4) : (cH h b M fo pr x t mv wd).2.2 (b + 4 + 3 * d) = some (.inl (0, 32, .inl (x.2.1 d))) := ov_dt _ _ _ _ _ hd
theorem cH_pn : (cH h b M fo pr x t mv wd).2.2 (b + 14) = some (.inr (2, [.int x.2.2.2.1, .int (b2i x.2.2.1)])) := ov_pn ..
theorem cH_wd : (cH h b M fo pr x t mv wd).2.2 (b + 18) = some (.inl (0, 51, .inl wd)) := ov_wd ..
theorem cH_md : (cH h b M fo pr x t mv wd).2.2 (b + 25) = some (.inl (1, 1, .inr (.inl fo))) := ov_fo ..
theorem cS_sh (t' : Nat) (mv' : Value) : hset (cH h b M fo pr x t mv wd) b (.inr (0, [.ref (b + 1), .ref (b + 14), .ref t', mv', .ref (b + 18)])) = (cH h b M fo pr x (t') (mv') wd) := by
  refine hset_ov h b _ _ fo (by omega) (by omega) (by omega) (by rw [Nat.sub_self]; rfl) (fun j hj hne h15 => ?_)
  unfold ovc
  rw [Nat.sub_self] at hne
  simp only [hne, if_false]
theorem cS_pn (l : Int32) (o : Bool) : hset (cH h b M fo pr x t mv wd) (b + 14) (.inr (2, [.int l, .int (b2i o)])) = (cH h b M fo pr (x.1, x.2.1, o, l, x.2.2.2.2) t mv wd) := by
  refine hset_ov h b _ _ fo (by omega) (by omega) (by omega) (by rw [Nat.add_sub_cancel_left]; rfl) (fun j hj hne h15 => ?_)
  unfold ovc
  rw [Nat.add_sub_cancel_left] at hne
  simp only [hne, if_false]
theorem cS_pn0 (l : Int32) : hset (cH h b M fo pr x t mv wd) (b + 14) (.inr (2, [.int l, .int (nI 0)])) = (cH h b M fo pr (x.1, x.2.1, false, l, x.2.2.2.2) t mv wd) := cS_pn h b M fo pr x t mv wd l false
theorem cS_pn1 (l : Int32) : hset (cH h b M fo pr x t mv wd) (b + 14) (.inr (2, [.int l, .int (nI 1)])) = (cH h b M fo pr (x.1, x.2.1, true, l, x.2.2.2.2) t mv wd) := cS_pn h b M fo pr x t mv wd l true
theorem cS_sl {d : Nat} (hd : d < 4) (g : Nat → Int32) : hset (cH h b M fo pr x t mv wd) (b + 3 + 3 * d) (.inl (0, 102, .inl g)) = (cH h b M fo pr (up2 x.1 d g, x.2) t mv wd) := hs_c_sl h b fo M _ _ _ _ _ _ _ _ hd g
theorem cS_dt {d : Nat} (hd : d < 4) (g : Nat → Int32) : hset (cH h b M fo pr x t mv wd) (b + 4 + 3 * d) (.inl (0, 32, .inl g)) = (cH h b M fo pr (x.1, up2 x.2.1 d g, x.2.2) t mv wd) := hs_c_dt h b fo M _ _ _ _ _ _ _ _ hd g
theorem cS_wd (g : Nat → Int32) : hset (cH h b M fo pr x t mv wd) (b + 18) (.inl (0, 51, .inl g)) = (cH h b M fo pr x t mv (g)) := hs_c_wd ..
theorem cS_pr {d : Nat} (hd : d < 4) (p : Bool) : hset (cH h b M fo pr x t mv wd) (b + 2 + 3 * d) (.inr (1, [.int (nI d), .ref (b + 3 + 3 * d), .ref (b + 4 + 3 * d), .int (b2i p)])) = (cH h b M fo (up2 pr d p) x t mv wd) := hs_c_pr h b fo M _ _ _ _ _ _ _ _ hd p
end CH
