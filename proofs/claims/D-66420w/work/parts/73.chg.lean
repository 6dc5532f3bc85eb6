/-! THE COMPONENT's METHODS: a change -/
section CG
variable (h : jx_S) (b : Nat) (M : cM) (fo : Nat → Int64) (pr : Nat → Bool) (x : xA) (t : Nat) (mv : Value) (wd : Nat → Int32)
theorem cS_out {a : Nat} (o : va_E) (ha : b + 26 ≤ a ∨ (b + 15 ≤ a ∧ a < b + 18)) : hset (cH h b M fo pr x t mv wd) a o = (cH (hset h a o) b M fo pr x t mv wd) := hset_out _ _ _ _ _ ha
theorem cN_out (n : Nat) (o : va_E) (ha : b + 26 ≤ h.1) : hnew (cH h b M fo pr x t mv wd) n o = (cH (hnew h n o) b M fo pr x t mv wd) := hnew_ov _ _ _ _ _ ha
theorem cH_x {y : xA} (h1 : y.1 = x.1) (h2 : y.2.1 = x.2.1) (h3 : y.2.2.1 = x.2.2.1) (h4 : y.2.2.2.1 = x.2.2.2.1) : (cH h b M fo pr (y) t mv wd) = (cH h b M fo pr x t mv wd) := by
  unfold cH
  rw [h1, h2, h3, h4]
theorem pw_goes {y : xA} (h0 : y.2.2.1 = true) (h1 : (pw y).2.2.1 = false) : pw y = (y.1, y.2.1, false, -1, -1) := by
  unfold pw at h1 ⊢
  rw [h0] at h1 ⊢
  cases hz : rEq y.2.2.2.1 0
  · rw [hz] at h1; cases h1
  · rfl
theorem wS_pw (y : xA) (q : Nat) (v : Int32) : (wS y q v).2.2.1 = (pw y).2.2.1 := by
  unfold wS
  cases hz : (pw y).2.2.1
  · exact hz
  · exact hz
theorem wD_pw (y : xA) (q : Nat) (v : Int32) : (wD y q v).2.2.1 = (pw y).2.2.1 := by
  unfold wD
  cases hz : (pw y).2.2.1
  · exact hz
  · exact hz
theorem cH_wS {y : xA} (q : Nat) (v : Int32) (h0 : y.2.2.1 = true) (h1 : (wS y q v).2.2.1 = false) : (cH h b M fo pr (pOff y) t mv wd) = (cH h b M fo pr (wS y q v) t mv wd) := by
  rw [wS_pw] at h1
  have e : wS y q v = (y.1, y.2.1, false, -1, -1) := by
    unfold wS
    rw [h1]
    exact pw_goes h0 h1
  rw [e]
  rfl
theorem cH_wD {y : xA} (q : Nat) (v : Int32) (h0 : y.2.2.1 = true) (h1 : (wD y q v).2.2.1 = false) : (cH h b M fo pr (pOff y) t mv wd) = (cH h b M fo pr (wD y q v) t mv wd) := by
  rw [wD_pw] at h1
  have e : wD y q v = (y.1, y.2.1, false, -1, -1) := by
    unfold wD
    rw [h1]
    exact pw_goes h0 h1
  rw [e]
  rfl
/-- a slot is written, word by word -/
theorem chL {c : jx_Cx} {A : jx_St} (S : Nat → List Value) (d o : Nat) (hd : d < 4) (ho : 51 * o + 51 ≤ 102) (hx : x.2.2.1 = true) (hc : ∀ (y : xA) k, k < 51 → c (S k) (cH h b M fo pr (y) t mv wd) = jx_ok true (cH h b M fo pr (y) t mv wd)) (hN : ∀ y : xA, c (S 51) (cH h b M fo pr (y) t mv wd) = jx_ok false (cH h b M fo pr (y) t mv wd))
    (hA : ∀ (y : xA) k, k < 51 → y.2.2.1 = true → ∀ K, A K (S k) (cH h b M fo pr (y) t mv wd) = bif (wS y (102 * d + 51 * o + k) (wd k)).2.2.1 then K (S (k + 1)) (cH h b M fo pr (wS y (102 * d + 51 * o + k) (wd k)) t mv wd) else some (.threw h.1, hnew (cH h b M fo pr (pOff y) t mv wd) 6 (.inr (9, [])))) :
    (((itr (fun k y => wS y (102 * d + 51 * o + k) (wd k)) 51 x).2.2.1 = true ∧ ∀ K, sWh 64 c A K (S 0) (cH h b M fo pr x t mv wd) = K (S 51) (cH h b M fo pr (itr (fun k y => wS y (102 * d + 51 * o + k) (wd k)) 51 x) t mv wd)) ∨ ((itr (fun k y => wS y (102 * d + 51 * o + k) (wd k)) 51 x).2.2.1 = false ∧ ∀ K, sWh 64 c A K (S 0) (cH h b M fo pr x t mv wd) = some (.threw h.1, hnew (cH h b M fo pr (itr (fun k y => wS y (102 * d + 51 * o + k) (wd k)) 51 x) t mv wd) 6 (.inr (9, []))))) := by
  rcases wh_inv (c := c) (A := A) (fun k L H' => L = S k ∧ H' = (cH h b M fo pr (itr (fun k y => wS y (102 * d + 51 * o + k) (wd k)) k x) t mv wd) ∧ (itr (fun k y => wS y (102 * d + 51 * o + k) (wd k)) k x).2.2.1 = true) (fun r => (itr (fun k y => wS y (102 * d + 51 * o + k) (wd k)) 51 x).2.2.1 = false ∧ r = (.threw h.1, hnew (cH h b M fo pr (itr (fun k y => wS y (102 * d + 51 * o + k) (wd k)) 51 x) t mv wd) 6 (.inr (9, [])))) 51 (fun k L H' hk hI => by
      obtain ⟨rfl, rfl, _⟩ := hI
      exact hc _ k hk) (fun k L H' hk hI => by
      obtain ⟨rfl, rfl, hon⟩ := hI
      have e := hA _ k hk hon
      have e1 : itr (fun k y => wS y (102 * d + 51 * o + k) (wd k)) (k + 1) x = wS (itr (fun k y => wS y (102 * d + 51 * o + k) (wd k)) k x) (102 * d + 51 * o + k) (wd k) := rfl
      cases hz : (wS (itr (fun k y => wS y (102 * d + 51 * o + k) (wd k)) k x) (102 * d + 51 * o + k) (wd k)).2.2.1
      · right
        rw [hz] at e
        have e2 : itr (fun k y => wS y (102 * d + 51 * o + k) (wd k)) 51 x = itr (fun k y => wS y (102 * d + 51 * o + k) (wd k)) (k + 1) x := itr_stop (P := fun y => y.2.2.1 = false) (fun k y hy => wS_off hy _ _) (by rw [e1]; exact hz) 51 (by omega)
        refine ⟨_, ⟨by rw [e2, e1]; exact hz, rfl⟩, fun K => ?_⟩
        rw [e K, e2, e1, ← cH_wS h b M fo pr t mv wd _ _ hon hz]
        rfl
      · left
        rw [hz] at e
        exact ⟨_, _, ⟨rfl, rfl, by rw [e1]; exact hz⟩, fun K => e K⟩) (fun L H' hI => by
      obtain ⟨rfl, rfl, _⟩ := hI
      exact hN _) 64 0 (S 0) (cH h b M fo pr x t mv wd) (by omega) (by omega) ⟨rfl, rfl, hx⟩ with ⟨L', H', ⟨rfl, rfl, hon⟩, hK⟩ | ⟨r, ⟨hoff, rfl⟩, hK⟩
  · exact Or.inl ⟨hon, hK⟩
  · exact Or.inr ⟨hoff, hK⟩
/-- the disks that a table lists are written -/
theorem chO {c : jx_Cx} {A : jx_St} (S : Nat → Value → Value → Value → List Value) (z1 z2 z3 : Value) (g : Nat → xA → xA) (hg : ∀ d y, y.2.2.1 = false → g d y = y) (hx : x.2.2.1 = true) (hc : ∀ (y : xA) k w1 w2 w3, k < 4 → c (S k w1 w2 w3) (cH h b M fo pr (y) t mv wd) = jx_ok true (cH h b M fo pr (y) t mv wd)) (hN : ∀ (y : xA) w1 w2 w3, c (S 4 w1 w2 w3) (cH h b M fo pr (y) t mv wd) = jx_ok false (cH h b M fo pr (y) t mv wd))
    (hA : ∀ (y : xA) k w1 w2 w3, k < 4 → y.2.2.1 = true → ((g k y).2.2.1 = true ∧ ∃ v1 v2 v3, ∀ K, A K (S k w1 w2 w3) (cH h b M fo pr (y) t mv wd) = K (S (k + 1) v1 v2 v3) (cH h b M fo pr (g k y) t mv wd)) ∨ ((g k y).2.2.1 = false ∧ ∀ K, A K (S k w1 w2 w3) (cH h b M fo pr (y) t mv wd) = some (.threw h.1, hnew (cH h b M fo pr (g k y) t mv wd) 6 (.inr (9, []))))) :
    (((itr g 4 x).2.2.1 = true ∧ ∃ w1 w2 w3, ∀ K, sWh 64 c A K (S 0 z1 z2 z3) (cH h b M fo pr x t mv wd) = K (S 4 w1 w2 w3) (cH h b M fo pr (itr g 4 x) t mv wd)) ∨ ((itr g 4 x).2.2.1 = false ∧ ∀ K, sWh 64 c A K (S 0 z1 z2 z3) (cH h b M fo pr x t mv wd) = some (.threw h.1, hnew (cH h b M fo pr (itr g 4 x) t mv wd) 6 (.inr (9, []))))) := by
  rcases wh_inv (c := c) (A := A) (fun k L H' => ∃ w1 w2 w3, L = S k w1 w2 w3 ∧ H' = (cH h b M fo pr (itr g k x) t mv wd) ∧ (itr g k x).2.2.1 = true) (fun r => (itr g 4 x).2.2.1 = false ∧ r = (.threw h.1, hnew (cH h b M fo pr (itr g 4 x) t mv wd) 6 (.inr (9, [])))) 4 (fun k L H' hk hI => by
      obtain ⟨w1, w2, w3, rfl, rfl, _⟩ := hI
      exact hc _ k _ _ _ hk) (fun k L H' hk hI => by
      obtain ⟨w1, w2, w3, rfl, rfl, hon⟩ := hI
      rcases hA _ k w1 w2 w3 hk hon with ⟨h1, v1, v2, v3, h2⟩ | ⟨h1, h2⟩
      · exact Or.inl ⟨_, _, ⟨v1, v2, v3, rfl, rfl, h1⟩, h2⟩
      · have e2 : itr g 4 x = itr g (k + 1) x := itr_stop (P := fun y => y.2.2.1 = false) (fun k y hy => hg k y hy) h1 4 (by omega)
        refine Or.inr ⟨_, ⟨by rw [e2]; exact h1, rfl⟩, fun K => ?_⟩
        rw [h2 K, e2]
        rfl) (fun L H' hI => by
      obtain ⟨w1, w2, w3, rfl, rfl, _⟩ := hI
      exact hN _ _ _ _) 64 0 (S 0 z1 z2 z3) (cH h b M fo pr x t mv wd) (by omega) (by omega) ⟨z1, z2, z3, rfl, rfl, hx⟩ with ⟨L', H', ⟨w1, w2, w3, rfl, rfl, hon⟩, hK⟩ | ⟨r, ⟨hoff, rfl⟩, hK⟩
  · exact Or.inl ⟨hon, w1, w2, w3, hK⟩
  · exact Or.inr ⟨hoff, hK⟩
end CG
