/-! THE INVARIANT: slots, their marks and numbers -/
def mixS (f : Nat → Int32) (o j : Nat) (w : Nat → Int32) : Nat → Int32 := fun q => if 51 * o ≤ q ∧ q < 51 * o + j then w (q - 51 * o) else f q
theorem wS_sl (x : xA) (q : Nat) (v : Int32) : ((wS x q v).2.2.1 = true ∧ (wS x q v).1 = upS x.1 q v) ∨ ((wS x q v).2.2.1 = false ∧ (wS x q v).1 = x.1) := by
  have hp1 : (pw x).1 = x.1 := by
    unfold pw
    cases x.2.2.1
    · rfl
    · rw [cond_true]
      cases rEq x.2.2.2.1 0 <;> rfl
  unfold wS
  cases hz : (pw x).2.2.1
  · right
    rw [cond_false]
    exact ⟨hz, hp1⟩
  · left
    rw [cond_true]
    dsimp only
    exact ⟨hz, by rw [hp1]⟩
theorem wTo_sl (y : xA) {d : Nat} (w : Nat → Int32) {o : Nat} (ho : o ≤ 1) : ∀ k, k ≤ 51 → ∃ j, j ≤ k ∧ (itr (fun k z => wS z (102 * d + 51 * o + k) (w k)) k y).1 = up2 y.1 d (mixS (y.1 d) o j w) ∧ ((itr (fun k z => wS z (102 * d + 51 * o + k) (w k)) k y).2.2.1 = true → j = k) := by
  intro k
  induction k with
  | zero =>
    intro _
    refine ⟨0, Nat.le_refl _, ?_, fun _ => rfl⟩
    show y.1 = _
    funext a q
    unfold up2 mixS
    by_cases h : a = d
    · rw [if_pos h, if_neg (by omega), h]
    · rw [if_neg h]
  | succ k ih =>
    intro hk
    obtain ⟨j, hj, e1, e2⟩ := ih (by omega)
    have es : itr (fun k z => wS z (102 * d + 51 * o + k) (w k)) (k + 1) y = wS (itr (fun k z => wS z (102 * d + 51 * o + k) (w k)) k y) (102 * d + 51 * o + k) (w k) := rfl
    rw [es]
    have hoff : (itr (fun k z => wS z (102 * d + 51 * o + k) (w k)) k y).2.2.1 = false → wS (itr (fun k z => wS z (102 * d + 51 * o + k) (w k)) k y) (102 * d + 51 * o + k) (w k) = itr (fun k z => wS z (102 * d + 51 * o + k) (w k)) k y := fun hz => wS_off hz _ _
    generalize itr (fun k z => wS z (102 * d + 51 * o + k) (w k)) k y = Y at e1 e2 hoff ⊢
    cases hY : Y.2.2.1
    · rw [hoff hY]
      exact ⟨j, by omega, e1, fun z => by rw [hY] at z; cases z⟩
    · have := e2 hY
      subst this
      rcases wS_sl Y (102 * d + 51 * o + j) (w j) with ⟨h1, h2⟩ | ⟨h1, h2⟩
      · refine ⟨j + 1, by omega, ?_, fun _ => rfl⟩
        rw [h2, e1, Nat.add_assoc, upS_d _ (by omega)]
        funext a q
        unfold up2
        by_cases h : a = d
        · rw [if_pos h, if_pos h, if_pos rfl]
          unfold upd mixS
          by_cases z : q = 51 * o + j
          · rw [if_pos z, if_pos (by omega)]
            have : q - 51 * o = j := by omega
            rw [this]
          · rw [if_neg z]
            by_cases z2 : 51 * o ≤ q ∧ q < 51 * o + j
            · rw [if_pos z2, if_pos (by omega)]
            · rw [if_neg z2, if_neg (by omega)]
        · rw [if_neg h, if_neg h, if_neg h]
      · exact ⟨j, by omega, by rw [h2, e1], fun z => by rw [h1] at z; cases z⟩
/-- the greatest whole number of a disk -/
def WM (sl : Nat → Nat → Int32) (d : Nat) : Nat := max (sltN sl d 0) (sltN sl d 1)
theorem whW_wds {N : Nat → Nat} (h0 : 0 < N 0) (h1 : N 0 < 2 ^ 31) : whW (wds N) = true ∧ nmN (wds N) = N 0 := by
  have e : whW (wds N) = true := by
    unfold whW
    have e1 : sumW (wds N) 49 = sumW (fun j => nI (N j)) 49 := sumW_congr fun k hk => wds_lo N hk
    have e2 : wds N 49 = sumW (fun j => nI (N j)) 49 := rfl
    have e3 : wds N 50 = nI (N 0) := rfl
    have e4 : wds N 0 = nI (N 0) := rfl
    rw [e1, e2, e3, e4, rGt_0 h1, decide_eq_true h0]
    unfold rEq
    rw [decide_eq_true rfl, decide_eq_true rfl]
    rfl
  refine ⟨e, ?_⟩
  unfold nmN
  rw [e]
  show (wds N 0).toNatClampNeg = N 0
  exact nI_clamp h1
theorem nmN_congr {f g : Nat → Int32} (h : ∀ k, k < 51 → f k = g k) : nmN f = nmN g := by
  have e : whW f = whW g := by
    unfold whW
    rw [sumW_congr (fun k hk => h k (by omega)), h 49 (by omega), h 50 (by omega), h 0 (by omega)]
  unfold nmN
  rw [e, h 0 (by omega)]
theorem whW_congr {f g : Nat → Int32} (h : ∀ k, k < 51 → f k = g k) : whW f = whW g := by
  unfold whW
  rw [sumW_congr (fun k hk => h k (by omega)), h 49 (by omega), h 50 (by omega), h 0 (by omega)]
theorem oldr_o (sl : Nat → Nat → Int32) (d : Nat) : (oldr sl d = 0 ∧ WM sl d = sltN sl d 1) ∨ (oldr sl d = 1 ∧ WM sl d = sltN sl d 0) := by
  unfold oldr WM
  by_cases h0 : sltN sl d 0 = 0
  · left
    rw [decide_eq_true h0]
    exact ⟨rfl, by omega⟩
  · rw [decide_eq_false h0, Bool.false_or]
    by_cases h1 : 0 < sltN sl d 1
    · by_cases h2 : sltN sl d 0 < sltN sl d 1
      · left
        rw [decide_eq_true h1, decide_eq_true h2]
        exact ⟨rfl, by omega⟩
      · right
        rw [decide_eq_false h2, Bool.and_false]
        exact ⟨rfl, by omega⟩
    · right
      rw [decide_eq_false h1]
      exact ⟨rfl, by omega⟩
/-- one disk's slots: a whole one holds a table; the marks are no greater than the greatest whole number -/
def DK (g : Nat → Int32) : Prop := (∀ t, t < 2 → whW (fun k => g (51 * t + k)) = true → ∃ T, WT T ∧ T 0 < 2 ^ 30 ∧ ∀ k, k < 51 → g (51 * t + k) = wds T k) ∧ ∀ t, t < 2 → ∃ m, g (51 * t + 50) = nI m ∧ m < 2 ^ 30 ∧ m ≤ max (nmN fun k => g (51 * 0 + k)) (nmN fun k => g (51 * 1 + k))
def KM (sl : Nat → Nat → Int32) (n : Nat) : Prop := ∀ d, d < 4 → DK (sl d) ∧ WM sl d ≤ n
theorem KM.si {sl : Nat → Nat → Int32} {n : Nat} (h : KM sl n) : SI sl := fun d t hd ht hw => (h d hd).1.1 t ht hw
theorem DK_mix {g : Nat → Int32} (hg : DK g) {o j : Nat} {N : Nat → Nat} (ho : (o = 0 ∧ max (nmN fun k => g (51 * 0 + k)) (nmN fun k => g (51 * 1 + k)) = nmN fun k => g (51 * 1 + k)) ∨ (o = 1 ∧ max (nmN fun k => g (51 * 0 + k)) (nmN fun k => g (51 * 1 + k)) = nmN fun k => g (51 * 0 + k))) (hj : j ≤ 51) (hW : WT N) (h30 : N 0 < 2 ^ 30) (hlt : max (nmN fun k => g (51 * 0 + k)) (nmN fun k => g (51 * 1 + k)) < N 0) :
    DK (mixS g o j (wds N)) ∧ ((j < 51 ∧ max (nmN fun k => mixS g o j (wds N) (51 * 0 + k)) (nmN fun k => mixS g o j (wds N) (51 * 1 + k)) = max (nmN fun k => g (51 * 0 + k)) (nmN fun k => g (51 * 1 + k))) ∨ max (nmN fun k => mixS g o j (wds N) (51 * 0 + k)) (nmN fun k => mixS g o j (wds N) (51 * 1 + k)) = N 0) := by
  obtain ⟨g1, g2⟩ := hg
  have ho2 : o < 2 := by omega
  -- the other slot stays
  have oth : ∀ t, t < 2 → t ≠ o → ∀ k, k < 51 → mixS g o j (wds N) (51 * t + k) = g (51 * t + k) := fun t ht hto k hk => by
    unfold mixS
    rw [if_neg (by omega)]
  have own : ∀ k, k < 51 → mixS g o j (wds N) (51 * o + k) = if k < j then wds N k else g (51 * o + k) := fun k hk => by
    unfold mixS
    by_cases z : k < j
    · rw [if_pos (by omega), if_pos z, Nat.add_sub_cancel_left]
    · rw [if_neg (by omega), if_neg z]
  have hN0 : 0 < N 0 := by omega
  rcases Nat.eq_zero_or_pos j with j0 | j0
  · -- nothing written
    have same : mixS g o j (wds N) = g := by
      funext q
      unfold mixS
      rw [if_neg (by omega)]
    rw [same]
    exact ⟨⟨g1, g2⟩, Or.inl ⟨by omega, rfl⟩⟩
  · by_cases j51 : j = 51
    · -- written whole
      subst j51
      have own' : ∀ k, k < 51 → mixS g o 51 (wds N) (51 * o + k) = wds N k := fun k hk => by rw [own k hk, if_pos hk]
      have nmo : (nmN fun k => mixS g o 51 (wds N) (51 * o + k)) = N 0 := by
        rw [nmN_congr own']
        exact (whW_wds hN0 (by omega)).2
      have nmt : ∀ t, t < 2 → t ≠ o → (nmN fun k => mixS g o 51 (wds N) (51 * t + k)) = nmN fun k => g (51 * t + k) := fun t ht hto => nmN_congr (fun k hk => oth t ht hto k hk)
      have hmax : max (nmN fun k => mixS g o 51 (wds N) (51 * 0 + k)) (nmN fun k => mixS g o 51 (wds N) (51 * 1 + k)) = N 0 := by
        rcases ho with ⟨rfl, _⟩ | ⟨rfl, _⟩
        · rw [nmo, nmt 1 (by omega) (by omega)]
          omega
        · rw [nmo, nmt 0 (by omega) (by omega)]
          omega
      refine ⟨⟨fun t ht hw => ?_, fun t ht => ?_⟩, Or.inr hmax⟩
      · by_cases z : t = o
        · subst z
          exact ⟨N, hW, h30, own'⟩
        · rw [whW_congr (fun k hk => oth t ht z k hk)] at hw
          obtain ⟨T, a1, a2, a3⟩ := g1 t ht hw
          exact ⟨T, a1, a2, fun k hk => by rw [oth t ht z k hk]; exact a3 k hk⟩
      · rw [hmax]
        by_cases z : t = o
        · subst z
          exact ⟨N 0, own' 50 (by omega), h30, Nat.le_refl _⟩
        · obtain ⟨m, m1, m2, m3⟩ := g2 t ht
          exact ⟨m, by rw [oth t ht z 50 (by omega)]; exact m1, m2, by omega⟩
    · -- torn
      obtain ⟨mo, mo1, mo2, mo3⟩ := g2 o ho2
      have w0 : mixS g o j (wds N) (51 * o + 0) = nI (N 0) := by rw [own 0 (by omega), if_pos j0]; rfl
      have w50 : mixS g o j (wds N) (51 * o + 50) = nI mo := by rw [own 50 (by omega), if_neg (by omega)]; exact mo1
      have nwh : whW (fun k => mixS g o j (wds N) (51 * o + k)) = false := by
        show (rEq _ _ && rEq (mixS g o j (wds N) (51 * o + 50)) (mixS g o j (wds N) (51 * o + 0)) && _) = false
        rw [w0, w50, rEq_n (by omega) (by omega), decide_eq_false (by omega), Bool.and_false]
        rfl
      have nmo : (nmN fun k => mixS g o j (wds N) (51 * o + k)) = 0 := by
        unfold nmN
        rw [nwh]
        rfl
      have nmt : ∀ t, t < 2 → t ≠ o → (nmN fun k => mixS g o j (wds N) (51 * t + k)) = nmN fun k => g (51 * t + k) := fun t ht hto => nmN_congr (fun k hk => oth t ht hto k hk)
      have hmax : max (nmN fun k => mixS g o j (wds N) (51 * 0 + k)) (nmN fun k => mixS g o j (wds N) (51 * 1 + k)) = max (nmN fun k => g (51 * 0 + k)) (nmN fun k => g (51 * 1 + k)) := by
        rcases ho with ⟨rfl, e⟩ | ⟨rfl, e⟩
        · rw [nmo, nmt 1 (by omega) (by omega), e]
          omega
        · rw [nmo, nmt 0 (by omega) (by omega), e]
          omega
      refine ⟨⟨fun t ht hw => ?_, fun t ht => ?_⟩, Or.inl ⟨by omega, hmax⟩⟩
      · by_cases z : t = o
        · subst z
          rw [nwh] at hw; cases hw
        · rw [whW_congr (fun k hk => oth t ht z k hk)] at hw
          obtain ⟨T, a1, a2, a3⟩ := g1 t ht hw
          exact ⟨T, a1, a2, fun k hk => by rw [oth t ht z k hk]; exact a3 k hk⟩
      · rw [hmax]
        by_cases z : t = o
        · subst z
          exact ⟨mo, w50, mo2, mo3⟩
        · obtain ⟨m, m1, m2, m3⟩ := g2 t ht
          exact ⟨m, by rw [oth t ht z 50 (by omega)]; exact m1, m2, m3⟩
/-- a slot of a disk is written -/
theorem wTo_KM {y : xA} {n d : Nat} {N : Nat → Nat} (hd : d < 4) (hK : KM y.1 n) (hW : WT N) (h30 : N 0 < 2 ^ 30) (hn : N 0 ≤ n) (hlt : WM y.1 d < N 0) : KM (wTo y d (wds N)).1 n ∧ (∀ e, e ≠ d → WM (wTo y d (wds N)).1 e = WM y.1 e) ∧ WM (wTo y d (wds N)).1 d ≤ N 0 := by
  have ho := oldr_o y.1 d
  have ho1 : oldr y.1 d ≤ 1 := by omega
  obtain ⟨j, hj, e1, _⟩ := wTo_sl y (d := d) (wds N) ho1 51 (Nat.le_refl _)
  have e2 : (wTo y d (wds N)).1 = up2 y.1 d (mixS (y.1 d) (oldr y.1 d) j (wds N)) := e1
  rw [e2]
  have hat : up2 y.1 d (mixS (y.1 d) (oldr y.1 d) j (wds N)) d = mixS (y.1 d) (oldr y.1 d) j (wds N) := if_pos rfl
  have hne : ∀ e, e ≠ d → up2 y.1 d (mixS (y.1 d) (oldr y.1 d) j (wds N)) e = y.1 e := fun e he => if_neg he
  obtain ⟨k1, k2⟩ := hK d hd
  obtain ⟨p1, p2⟩ := DK_mix k1 (o := oldr y.1 d) (j := j) (N := N) ho hj hW h30 hlt
  have hWMd : WM (up2 y.1 d (mixS (y.1 d) (oldr y.1 d) j (wds N))) d = max (nmN fun k => mixS (y.1 d) (oldr y.1 d) j (wds N) (51 * 0 + k)) (nmN fun k => mixS (y.1 d) (oldr y.1 d) j (wds N) (51 * 1 + k)) := by
    unfold WM sltN
    rw [hat]
  have hWMe : ∀ e, e ≠ d → WM (up2 y.1 d (mixS (y.1 d) (oldr y.1 d) j (wds N))) e = WM y.1 e := fun e he => by
    unfold WM sltN
    rw [hne e he]
  have hWM0 : max (nmN fun k => y.1 d (51 * 0 + k)) (nmN fun k => y.1 d (51 * 1 + k)) = WM y.1 d := rfl
  have hle : WM (up2 y.1 d (mixS (y.1 d) (oldr y.1 d) j (wds N))) d ≤ N 0 := by
    rw [hWMd]
    rcases p2 with ⟨_, e⟩ | e
    · rw [e, hWM0]; omega
    · rw [e]; exact Nat.le_refl _
  refine ⟨fun e he => ?_, hWMe, hle⟩
  by_cases z : e = d
  · subst z
    rw [hat]
    exact ⟨p1, by omega⟩
  · rw [hne e z, hWMe e z]
    exact hK e he
/-- all disks that a table lists are written -/
theorem chg_KM {x : xA} {pr : Nat → Bool} {n : Nat} {N : Nat → Nat} (hK : KM x.1 n) (hW : WT N) (h30 : N 0 < 2 ^ 30) (hn : N 0 ≤ n) (hlt : ∀ d, d < 4 → pr d = true → WM x.1 d < N 0) : KM (chg x pr N).1 n ∧ ∀ d, d < 4 → pr d = true → WM (chg x pr N).1 d ≤ N 0 := by
  have key : ∀ k, k ≤ 4 → KM (itr (fun d y => bif decide (0 < N (1 + d)) && pr d then wTo y d (wds N) else y) k x).1 n ∧ (∀ d, d < k → pr d = true → WM (itr (fun d y => bif decide (0 < N (1 + d)) && pr d then wTo y d (wds N) else y) k x).1 d ≤ N 0) ∧ ∀ d, k ≤ d → d < 4 → pr d = true → WM (itr (fun d y => bif decide (0 < N (1 + d)) && pr d then wTo y d (wds N) else y) k x).1 d < N 0 := by
    intro k
    induction k with
    | zero => intro _; exact ⟨hK, fun d hd => by omega, fun d _ hd hp => hlt d hd hp⟩
    | succ k ih =>
      intro hk
      obtain ⟨a1, a2, a3⟩ := ih (by omega)
      have es : itr (fun d y => bif decide (0 < N (1 + d)) && pr d then wTo y d (wds N) else y) (k + 1) x = (bif decide (0 < N (1 + k)) && pr k then wTo (itr (fun d y => bif decide (0 < N (1 + d)) && pr d then wTo y d (wds N) else y) k x) k (wds N) else itr (fun d y => bif decide (0 < N (1 + d)) && pr d then wTo y d (wds N) else y) k x) := rfl
      rw [es]
      generalize itr (fun d y => bif decide (0 < N (1 + d)) && pr d then wTo y d (wds N) else y) k x = Y at a1 a2 a3 ⊢
      cases hz : (decide (0 < N (1 + k)) && pr k)
      · rw [cond_false]
        refine ⟨a1, fun d hd hp => ?_, fun d h1 h2 hp => a3 d (by omega) h2 hp⟩
        by_cases z : d = k
        · subst z
          have := a3 d (Nat.le_refl _) (by omega) hp
          omega
        · exact a2 d (by omega) hp
      · rw [cond_true]
        rw [Bool.and_eq_true] at hz
        obtain ⟨w1, w2, w3⟩ := wTo_KM (d := k) (by omega) a1 hW h30 hn (a3 k (Nat.le_refl _) (by omega) hz.2)
        refine ⟨w1, fun d hd hp => ?_, fun d h1 h2 hp => ?_⟩
        · by_cases z : d = k
          · subst z; exact w3
          · rw [w2 d z]; exact a2 d (by omega) hp
        · rw [w2 d (by omega)]; exact a3 d (by omega) h2 hp
  obtain ⟨a1, a2, a3⟩ := key 4 (Nat.le_refl _)
  exact ⟨a1, a2⟩
