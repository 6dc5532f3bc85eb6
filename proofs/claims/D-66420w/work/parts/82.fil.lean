/-! THE COMPONENT's METHODS: fill (room for all legs of a volume, their words 0) -/
theorem rom_ok {U : Nat → Nat} {c cv cl : Nat} {pr : Nat → Bool} {v k : Nat} {nt : Int32} (h : rom U c cv cl pr v k nt ≠ 0) : 1 ≤ rom U c cv cl pr v k nt ∧ rom U c cv cl pr v k nt ≤ 32 ∧ hold U (rom U c cv cl pr v k nt) = false ∧ c ≠ rom U c cv cl pr v k nt := by
  refine ⟨by omega, rmo_le _ _, ?_⟩
  unfold rom rmo at h ⊢
  generalize (rmb (frd U c cv cl pr v k nt) 4).1 = o at h ⊢
  cases o with
  | none => exact absurd rfl h
  | some d =>
    dsimp only at h ⊢
    cases hs : scn (fun p => fre U c (1 + 8 * d + p)) 0 8 with
    | none => rw [hs] at h; exact absurd rfl h
    | some p =>
      have := (scn_lt 8 0 p hs).2.2
      dsimp only
      unfold fre at this
      rw [Bool.and_eq_true] at this
      refine ⟨?_, ?_⟩
      · have := this.1
        cases hz : hold U (1 + 8 * d + p)
        · rfl
        · rw [hz] at this; cases this
      · intro z
        have := this.2
        rw [decide_eq_true z] at this
        cases this
theorem hold_no {U : Nat → Nat} {r : Nat} (h : hold U r = false) {i : Nat} (hi : i < 40) : U (9 + i) ≠ r := by
  intro z
  unfold hold at h
  have : anyB (fun k => decide (U (9 + k) = r)) 40 = true := anyB_iff.mpr ⟨i, hi, decide_eq_true z⟩
  rw [h] at this
  cases this
theorem WT.leg {U : Nat → Nat} (hW : WT U) {v k r : Nat} (hv : v < 4) (h0 : U (5 + v) ≠ 0) (hk : k < 2 * elsN U v) (hk2 : U (5 + v) % 4 ≠ 3 → k % 2 = 0) (hr : r ≤ 32) (hh : hold U r = false) : WT (upN U (9 + 10 * v + k) r) := by
  have he5 := (hW.TB.2.2.1 v hv).2
  obtain ⟨w1, w2, w3, w4, w5⟩ := hW
  have e9 : ∀ j, j < 9 → upN U (9 + 10 * v + k) r j = U j := fun j hj => upN_o _ _ (by omega)
  have el : ∀ i, i < 40 → i ≠ 10 * v + k → upN U (9 + 10 * v + k) r (9 + i) = U (9 + i) := fun i hi z => upN_o _ _ (by omega)
  refine ⟨fun j => ?_, fun d hd => by rw [e9 _ (by omega)]; exact w2 d hd, fun u hu => ?_, fun i hi => ?_, fun i j hi hj e1 e2 => ?_⟩
  · unfold upN
    by_cases z : j = 9 + 10 * v + k
    · rw [if_pos z]; omega
    · rw [if_neg z]; exact w1 j
  · have := w3 u hu
    unfold WV colsN elsN at this ⊢
    rw [e9 (5 + u) (by omega)]
    by_cases z : u = v
    · subst z
      rcases this with ⟨a1, a2⟩ | ⟨a1, a2, a3, a4, a5, a6, a7, a8⟩
      · exact absurd a1 h0
      · refine Or.inr ⟨a1, a2, a3, a4, a5, a6, fun i hi y => ?_, fun y i hi y2 => ?_⟩
        · unfold elsN at hk
          rw [upN_o _ _ (by omega)]
          exact a7 i hi y
        · have := hk2 y
          rw [upN_o _ _ (by omega)]
          exact a8 y i hi y2
    · have e3 : ∀ i, i < 10 → upN U (9 + 10 * v + k) r (9 + 10 * u + i) = U (9 + 10 * u + i) := fun i hi => upN_o _ _ (by omega)
      rcases this with ⟨a1, a2⟩ | ⟨a1, a2, a3, a4, a5, a6, a7, a8⟩
      · exact Or.inl ⟨a1, fun i hi => by rw [e3 i hi]; exact a2 i hi⟩
      · exact Or.inr ⟨a1, a2, a3, a4, a5, a6, fun i hi y => by rw [e3 i hi]; exact a7 i hi y, fun y i hi y2 => by rw [e3 i hi]; exact a8 y i hi y2⟩
  · by_cases z : i = 10 * v + k
    · subst z; rw [← Nat.add_assoc, upN_s]; exact hr
    · rw [el i hi z]; exact w4 i hi
  · by_cases z : i = 10 * v + k
    · by_cases y : j = 10 * v + k
      · omega
      · rw [el j hj y] at e1
        subst z
        rw [← Nat.add_assoc, upN_s] at e1
        exact absurd e1.symm (hold_no hh hj)
    · rw [el i hi z] at e1 e2
      by_cases y : j = 10 * v + k
      · subst y
        rw [← Nat.add_assoc, upN_s] at e1
        exact absurd e1 (hold_no hh hi)
      · rw [el j hj y] at e1
        exact w5 i j hi hj e1 e2
theorem fnds_s {c cv cl : Nat} {pr : Nat → Bool} {v : Nat} : ∀ (m k : Nat) (U : Nat → Nat), fnds c cv cl pr v k (m + 1) U = match fnds c cv cl pr v k m U with
    | none => none
    | some W => fd1 c cv cl pr v (k + m) W := by
  intro m
  induction m with
  | zero =>
    intro k U
    show (match fd1 c cv cl pr v k U with
      | none => none
      | some U' => some U') = fd1 c cv cl pr v k U
    cases fd1 c cv cl pr v k U <;> rfl
  | succ m ih =>
    intro k U
    show (match fd1 c cv cl pr v k U with
      | none => none
      | some U' => fnds c cv cl pr v (k + 1) (m + 1) U') = match (match fd1 c cv cl pr v k U with
      | none => none
      | some U' => fnds c cv cl pr v (k + 1) m U') with
      | none => none
      | some W => fd1 c cv cl pr v (k + (m + 1)) W
    cases fd1 c cv cl pr v k U with
    | none => rfl
    | some U' =>
      have e : k + (m + 1) = k + 1 + m := by omega
      rw [e]
      exact ih (k + 1) U'
theorem fnds_n {c cv cl : Nat} {pr : Nat → Bool} {v k m : Nat} {U : Nat → Nat} (h : fnds c cv cl pr v k m U = none) : ∀ n, m ≤ n → fnds c cv cl pr v k n U = none := by
  intro n
  induction n with
  | zero => intro hn; have : m = 0 := by omega
            rw [← this]; exact h
  | succ n ih =>
    intro hn
    by_cases e : m = n + 1
    · rw [← e]; exact h
    · rw [fnds_s, ih (by omega)]
/-- what fnds has laid so far -/
theorem fnds_WT {c cv cl : Nat} {pr : Nat → Bool} {v : Nat} (hv : v < 4) {U : Nat → Nat} (hW : WT U) (h0 : U (5 + v) ≠ 0) {k : Nat} : ∀ (m : Nat) {N : Nat → Nat}, k + m ≤ 2 * elsN U v → fnds c cv cl pr v k m U = some N → WT N ∧ (∀ j, j < 9 → N j = U j) ∧ ∀ j, ¬ (9 + 10 * v + k ≤ j ∧ j < 9 + 10 * v + k + m) → N j = U j := by
  intro m
  induction m with
  | zero =>
    intro N _ h
    have e : U = N := Option.some.inj h
    subst e
    exact ⟨hW, fun _ _ => rfl, fun _ _ => rfl⟩
  | succ m ih =>
    intro N hm h
    rw [fnds_s] at h
    cases hW2 : fnds c cv cl pr v k m U with
    | none => rw [hW2] at h; cases h
    | some W =>
      rw [hW2] at h
      dsimp only at h
      obtain ⟨i1, i2, i3⟩ := ih (by omega) hW2
      have e5 : W (5 + v) = U (5 + v) := i2 _ (by omega)
      unfold fd1 at h
      cases hz : (decide ((k + m) % 2 = 0) || decide (W (5 + v) % 4 = 3)) <;> rw [hz] at h
      · have e : W = N := Option.some.inj h
        subst e
        exact ⟨i1, i2, fun j hj => i3 j (by omega)⟩
      · rw [cond_true] at h
        by_cases hr : rom W c cv cl pr v (k + m) (-1) = 0
        · rw [decide_eq_true hr] at h; cases h
        · rw [decide_eq_false hr] at h
          have e : upN W (9 + 10 * v + (k + m)) (rom W c cv cl pr v (k + m) (-1)) = N := Option.some.inj h
          obtain ⟨r1, r2, r3, _⟩ := rom_ok hr
          subst e
          refine ⟨i1.leg hv (by rw [e5]; exact h0) (by unfold elsN at hm ⊢; rw [e5]; omega) (fun z => ?_) r2 r3, fun j hj => by rw [upN_o _ _ (by omega)]; exact i2 j hj, fun j hj => by rw [upN_o _ _ (by omega)]; exact i3 j (by omega)⟩
          rw [decide_eq_false z, Bool.or_false] at hz
          exact of_decide_eq_true hz
section LP
variable (h : jx_S) (b : Nat) (M : cM) (fo : Nat → Int64) (pr : Nat → Bool) (x : xA) (t : Nat) (mv : Value) (wd : Nat → Int32)
/-- a loop of writes; one more place among the locals may change -/
theorem lpO {c : jx_Cx} {A : jx_St} (N : Nat) (hN64 : N < 64) (S : Nat → Value → List Value) (z : Value) (g : Nat → xA → xA) (hg : ∀ d y, y.2.2.1 = false → g d y = y) (hx : x.2.2.1 = true) (hc : ∀ (y : xA) k w, k < N → c (S k w) (cH h b M fo pr (y) t mv wd) = jx_ok true (cH h b M fo pr (y) t mv wd)) (hN : ∀ (y : xA) w, c (S N w) (cH h b M fo pr (y) t mv wd) = jx_ok false (cH h b M fo pr (y) t mv wd))
    (hA : ∀ (y : xA) k w, k < N → y.2.2.1 = true → ((g k y).2.2.1 = true ∧ ∃ v, ∀ K, A K (S k w) (cH h b M fo pr (y) t mv wd) = K (S (k + 1) v) (cH h b M fo pr (g k y) t mv wd)) ∨ ((g k y).2.2.1 = false ∧ ∀ K, A K (S k w) (cH h b M fo pr (y) t mv wd) = some (.threw h.1, hnew (cH h b M fo pr (g k y) t mv wd) 6 (.inr (9, []))))) :
    (((itr g N x).2.2.1 = true ∧ ∃ w, ∀ K, sWh 64 c A K (S 0 z) (cH h b M fo pr x t mv wd) = K (S N w) (cH h b M fo pr (itr g N x) t mv wd)) ∨ ((itr g N x).2.2.1 = false ∧ ∀ K, sWh 64 c A K (S 0 z) (cH h b M fo pr x t mv wd) = some (.threw h.1, hnew (cH h b M fo pr (itr g N x) t mv wd) 6 (.inr (9, []))))) := by
  rcases wh_inv (c := c) (A := A) (fun k L H' => ∃ w, L = S k w ∧ H' = (cH h b M fo pr (itr g k x) t mv wd) ∧ (itr g k x).2.2.1 = true) (fun r => (itr g N x).2.2.1 = false ∧ r = (.threw h.1, hnew (cH h b M fo pr (itr g N x) t mv wd) 6 (.inr (9, [])))) N (fun k L H' hk hI => by
      obtain ⟨w, rfl, rfl, _⟩ := hI
      exact hc _ k _ hk) (fun k L H' hk hI => by
      obtain ⟨w, rfl, rfl, hon⟩ := hI
      rcases hA _ k w hk hon with ⟨h1, v, h2⟩ | ⟨h1, h2⟩
      · exact Or.inl ⟨_, _, ⟨v, rfl, rfl, h1⟩, h2⟩
      · have e2 : itr g N x = itr g (k + 1) x := itr_stop (P := fun y => y.2.2.1 = false) (fun k y hy => hg k y hy) h1 N (by omega)
        refine Or.inr ⟨_, ⟨by rw [e2]; exact h1, rfl⟩, fun K => ?_⟩
        rw [h2 K, e2]
        rfl) (fun L H' hI => by
      obtain ⟨w, rfl, rfl, _⟩ := hI
      exact hN _ _) 64 0 (S 0 z) (cH h b M fo pr x t mv wd) (by omega) (by omega) ⟨z, rfl, rfl, hx⟩ with ⟨L', H', ⟨w, rfl, rfl, hon⟩, hK⟩ | ⟨r, ⟨hoff, rfl⟩, hK⟩
  · exact Or.inl ⟨hon, w, hK⟩
  · exact Or.inr ⟨hoff, hK⟩
/-- a word of a leg, as pen and power take it -/
theorem q_put2 (hx : x.2.2.1 = true) (leg w : Nat) (h1 : 1 ≤ leg) (h2 : leg ≤ 32) (hw : w < 4) (v : Int32) : f_Sh_put [.ref b, .int (nI leg), .int (nI w), .int v] (cH h b M fo pr x t mv wd) = bif (wD x (4 * (leg - 1) + w) v).2.2.1 then some (.returned none, (cH h b M fo pr (wD x (4 * (leg - 1) + w) v) t mv wd)) else some (.threw h.1, hnew (cH h b M fo pr (wD x (4 * (leg - 1) + w) v) t mv wd) 6 (.inr (9, []))) := by
  rw [q_Sh_put h b M fo pr x t mv wd hx leg w h1 h2 hw v]
  cases hz : (wD x (4 * (leg - 1) + w) v).2.2.1
  · rw [cond_false, cond_false, cH_wD h b M fo pr t mv wd _ _ hx hz]
  · rfl
end LP
