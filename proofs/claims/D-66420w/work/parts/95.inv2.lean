/-! THE INVARIANT, kept by every call -/
def GI (s : xS) (n : Nat) : Prop := IM s ∧ MV s ∧ MH s ∧ KM s.2.1.1 n ∧ s.2.2.1 0 ≤ n ∧ (s.2.1.2.2.1 = false → s.2.1.2.2.2.1 = -1 ∧ s.2.1.2.2.2.2 = -1) ∧ (s.2.1.2.2.1 = true → ∀ d, d < 4 → s.1 d = true → WM s.2.1.1 d ≤ s.2.2.1 0)
theorem KM.mo {sl : Nat → Nat → Int32} {n n' : Nat} (h : KM sl n) (hn : n ≤ n') : KM sl n' := fun d hd => ⟨(h d hd).1, Nat.le_trans (h d hd).2 hn⟩
theorem GI.mo {s : xS} {n n' : Nat} (h : GI s n) (hn : n ≤ n') : GI s n' := by
  obtain ⟨a1, a2, a3, a4, a5, a6, a7⟩ := h
  exact ⟨a1, a2, a3, a4.mo hn, by omega, a6, a7⟩
theorem GIc {c : Bool} {x y : Nat × Int32 × xS} {n : Nat} (h1 : c = true → GI x.2.2 n) (h2 : c = false → GI y.2.2 n) : GI (bif c then x else y).2.2 n := by
  cases c
  · exact h2 rfl
  · exact h1 rfl
/-- data are written: on as before, or off -/
def XD (x x' : xA) : Prop := x'.1 = x.1 ∧ ((x'.2.2.1 = true ∧ x'.2.2.2.2 = x.2.2.2.2) ∨ (x'.2.2.1 = false ∧ x'.2.2.2.1 = -1 ∧ x'.2.2.2.2 = -1))
theorem XD.rf {x : xA} (h : x.2.2.1 = true) : XD x x := ⟨rfl, Or.inl ⟨h, rfl⟩⟩
theorem XD_wD {x y : xA} (h : XD x y) (q : Nat) (v : Int32) : XD x (wD y q v) := by
  obtain ⟨h1, h2⟩ := h
  rcases h2 with ⟨a1, a2⟩ | ⟨a1, a2, a3⟩
  · cases hp : (pw y).2.2.1
    · have e := pw_goes a1 hp
      have e2 : wD y q v = pw y := by
        unfold wD
        rw [hp, cond_false]
      rw [e2, e]
      exact ⟨h1, Or.inr ⟨rfl, rfl, rfl⟩⟩
    · have hon : (wD y q v).2.2.1 = true := by rw [wD_pw]; exact hp
      refine ⟨?_, Or.inl ⟨hon, (wD_mo a1 hon).trans a2⟩⟩
      have e1 : (pw y).1 = y.1 := by
        unfold pw
        rw [a1, cond_true]
        cases rEq y.2.2.2.1 0 <;> rfl
      unfold wD
      rw [hp, cond_true]
      exact e1.trans h1
  · rw [wD_off a1]
    exact ⟨h1, Or.inr ⟨a1, a2, a3⟩⟩
theorem XD_clrs {x y : xA} (h : XD x y) (N : Nat → Nat) (v k0 n : Nat) : XD x (clrs N v k0 n y) := by
  unfold clrs
  refine itr_keep (P := XD x) (fun k z hz => ?_) h n
  unfold clr1
  cases decide (0 < N (9 + 10 * v + (k0 + k)))
  · exact hz
  · rw [cond_true]
    exact itr_keep (P := XD x) (fun k z hz => XD_wD hz _ _) hz 4
theorem XD_cpys {x y : xA} (h : XD x y) (T N : Nat → Nat) (v n : Nat) : XD x (cpys T N v n y) := by
  unfold cpys
  refine itr_keep (P := XD x) (fun k z hz => ?_) h n
  generalize decide (N (9 + 10 * v + k) = T (9 + 10 * v + k)) = p
  cases p
  · rw [cond_false]
    unfold cpy1
    exact itr_keep (P := XD x) (fun k z hz => XD_wD hz _ _) hz 4
  · rw [cond_true]; exact hz
theorem XD_wrt1 {x y : xA} (h : XD x y) (s : xS) (k a : Nat) (v : Int32) : XD x (wrt1 s k a v y) := by
  unfold wrt1
  cases decide (0 < s.2.2.1 k)
  · exact h
  · rw [cond_true]
    dsimp only
    generalize ((wD y (4 * (s.2.2.1 k - 1) + a) v).2.2.1 && rGe (wD y (4 * (s.2.2.1 k - 1) + a) v).2.2.2.2 0 && decide (0 < s.2.2.2.2.2.1) && decide (k = 9 + 10 * s.2.2.2.1 + s.2.2.2.2.1) && decide (a < s.2.2.2.2.2.2)) = p
    cases p
    · rw [cond_false]; exact XD_wD h _ _
    · rw [cond_true]; exact XD_wD (XD_wD h _ _) _ _
theorem GI.setX {s : xS} {n : Nat} (h : GI s n) (hon : s.2.1.2.2.1 = true) {x' : xA} (hx : XD s.2.1 x') : GI (setX s x') n := by
  obtain ⟨pr, x, T, cv, cl, ct, cp⟩ := s
  obtain ⟨⟨i1, i2, i3, i4, i5, i6, i7⟩, a2, a3, a4, a5, a6, a7⟩ := h
  dsimp only at hon hx i1 i2 i3 i4 i5 i6 i7 a4 a5 a6 a7
  obtain ⟨h1, h2⟩ := hx
  show GI (pr, x', T, cv, cl, ct, cp) n
  rcases h2 with ⟨b1, b2⟩ | ⟨b1, b2, b3⟩
  · refine ⟨⟨i1, i2, i3, i4, i5, by dsimp only; rw [b2]; exact i6, i7⟩, ?_, ?_, by dsimp only; rw [h1]; exact a4, a5, fun z => (by dsimp only at z; rw [b1] at z; cases z), fun _ => by dsimp only; rw [h1]; exact a7 hon⟩
    · unfold MV at a2 ⊢
      dsimp only at a2 ⊢
      rw [b2]; exact a2
    · unfold MH at a3 ⊢
      dsimp only at a3 ⊢
      rw [b2]; exact a3
  · refine ⟨⟨i1, i2, i3, i4, i5, Or.inl b3, i7⟩, ?_, ?_, by dsimp only; rw [h1]; exact a4, a5, fun _ => ⟨b2, b3⟩, fun z => (by dsimp only at z; rw [b1] at z; cases z)⟩
    · intro z
      dsimp only at z
      rw [b3, rLt_n1] at z; cases z
    · intro z
      dsimp only at z
      rw [b3, rLt_n1] at z; cases z
theorem hold_sub {T U : Nat → Nat} {c : Nat} (hs : ∀ k, k < 40 → U (9 + k) = T (9 + k) ∨ U (9 + k) = 0) (hc : 0 < c) (h : hold T c = false) : hold U c = false := by
  rw [← Bool.not_eq_true]
  intro z
  unfold hold at z
  obtain ⟨k, hk, hz⟩ := anyB_iff.mp z
  have hz := of_decide_eq_true hz
  rcases hs k hk with e | e
  · exact hold_no h hk (by rw [← e]; exact hz)
  · omega
theorem wS_lfo {y : xA} {q : Nat} {v : Int32} (h : y.2.2.1 = false → y.2.2.2.1 = -1 ∧ y.2.2.2.2 = -1) : (wS y q v).2.2.1 = false → (wS y q v).2.2.2.1 = -1 ∧ (wS y q v).2.2.2.2 = -1 := by
  intro hz
  cases hy : y.2.2.1
  · rw [wS_off hy]
    exact h hy
  · rw [wS_pw] at hz
    have e := pw_goes hy hz
    have e2 : wS y q v = pw y := by
      unfold wS
      rw [hz, cond_false]
    rw [e2, e]
    exact ⟨rfl, rfl⟩
theorem chg_lfo {y : xA} (h : y.2.2.1 = false → y.2.2.2.1 = -1 ∧ y.2.2.2.2 = -1) (pr : Nat → Bool) (N : Nat → Nat) : (chg y pr N).2.2.1 = false → (chg y pr N).2.2.2.1 = -1 ∧ (chg y pr N).2.2.2.2 = -1 := by
  unfold chg
  refine itr_keep (P := fun y : xA => y.2.2.1 = false → y.2.2.2.1 = -1 ∧ y.2.2.2.2 = -1) (fun k z hz => ?_) h 4
  generalize (decide (0 < N (1 + k)) && pr k) = p
  cases p
  · rw [cond_false]; exact hz
  · rw [cond_true]
    unfold wTo
    exact itr_keep (P := fun y : xA => y.2.2.1 = false → y.2.2.2.1 = -1 ∧ y.2.2.2.2 = -1) (fun k z hz => wS_lfo hz) hz 51
theorem nx1_l (s : xS) (U : Nat → Nat) {k : Nat} (h : 0 < k) : nx1 s U k = U k := upN_o _ _ (by omega)
theorem nx1_hold (s : xS) (U : Nat → Nat) (c : Nat) : hold (nx1 s U) c = hold U c := by
  unfold hold
  exact anyB_congr fun k hk => by rw [nx1_l s U (by omega)]
/-- a change -/
theorem GI_ch {s : xS} {n : Nat} {U : Nat → Nat} (hI : IM s) (hK : KM s.2.1.1 n) (hT0 : s.2.2.1 0 ≤ n) (hon : s.2.1.2.2.1 = true) (hK1 : ∀ d, d < 4 → s.1 d = true → WM s.2.1.1 d ≤ s.2.2.1 0) (hW : WT U) (hM : rLt s.2.1.2.2.2.2 0 = false → 0 < s.2.2.2.2.2.1 → U (9 + 10 * s.2.2.2.1 + s.2.2.2.2.1) = s.2.2.1 (9 + 10 * s.2.2.2.1 + s.2.2.2.2.1) → 0 < s.2.2.1 (9 + 10 * s.2.2.2.1 + s.2.2.2.2.1) ∧ s.2.2.2.2.2.2 < 4 ∧ hold U s.2.2.2.2.2.1 = false) (hn : n + 2 < 2 ^ 30) : GI (chS s (nx1 s U)) (n + 2) := by
  obtain ⟨pr, x, T, cv, cl, ct, cp⟩ := s
  obtain ⟨i1, i2, i3, i4, i5, i6, i7⟩ := hI
  dsimp only at i1 i2 i3 i4 i5 i6 i7 hK hT0 hon hK1 hM
  have hN0 : nx1 (pr, x, T, cv, cl, ct, cp) U 0 = T 0 + (bif absn T pr then 2 else 1) := upN_s _ _ _
  have hN1 : T 0 < nx1 (pr, x, T, cv, cl, ct, cp) U 0 ∧ nx1 (pr, x, T, cv, cl, ct, cp) U 0 ≤ n + 2 := by
    rw [hN0]
    cases absn T pr <;> simp only [cond_true, cond_false] <;> omega
  have hWN : WT (nx1 (pr, x, T, cv, cl, ct, cp) U) := hW.up0 (by
    show T 0 + _ < _
    cases absn T pr <;> simp only [cond_true, cond_false] <;> omega)
  have hat : nx1 (pr, x, T, cv, cl, ct, cp) U (9 + 10 * cv + cl) = U (9 + 10 * cv + cl) := nx1_l _ _ (by omega)
  have hhd : hold (nx1 (pr, x, T, cv, cl, ct, cp) U) ct = hold U ct := nx1_hold _ _ _
  generalize nx1 (pr, x, T, cv, cl, ct, cp) U = N at hN0 hN1 hWN hat hhd ⊢
  obtain ⟨k1, k2⟩ := chg_KM (x := x) (pr := pr) (n := n + 2) (N := N) (hK.mo (by omega)) hWN (by omega) (by omega) (fun d hd hp => Nat.lt_of_le_of_lt (hK1 d hd hp) hN1.1)
  have hlfo := chg_lfo (y := x) (fun z => (by rw [hon] at z; cases z)) pr N
  have hPM := chg_PM (m := x.2.2.2.2) (y := x) (Or.inl ⟨hon, rfl⟩) pr N
  unfold chS
  dsimp only
  cases hz : (chg x pr N).2.2.1
  · rw [cond_false]
    obtain ⟨l1, l2⟩ := hlfo hz
    refine ⟨⟨i1, i2, i3, i4, i5, Or.inl l2, i7⟩, ?_, ?_, k1, by dsimp only; omega, fun _ => ⟨l1, l2⟩, fun z => (by dsimp only at z; rw [hz] at z; cases z)⟩
    · intro z
      dsimp only at z
      rw [l2, rLt_n1] at z; cases z
    · intro z
      dsimp only at z
      rw [l2, rLt_n1] at z; cases z
  · rw [cond_true]
    have hmo : (chg x pr N).2.2.2.2 = x.2.2.2.2 := by
      rcases hPM with ⟨_, e⟩ | ⟨e, _⟩
      · exact e
      · rw [hz] at e; cases e
    have hct : ∀ c', c' = (bif decide (0 < ct) && !decide (N (9 + 10 * cv + cl) = T (9 + 10 * cv + cl)) then 0 else ct) → c' ≤ 32 ∧ (0 < c' → c' = ct ∧ N (9 + 10 * cv + cl) = T (9 + 10 * cv + cl)) := fun c' hc => by
      by_cases y1 : 0 < ct
      · by_cases y2 : N (9 + 10 * cv + cl) = T (9 + 10 * cv + cl)
        · rw [decide_eq_true y2] at hc
          simp only [Bool.not_true, Bool.and_false, cond_false] at hc
          exact ⟨by omega, fun _ => ⟨hc, y2⟩⟩
        · rw [decide_eq_false y2, decide_eq_true y1] at hc
          simp only [Bool.not_false, Bool.and_self, cond_true] at hc
          exact ⟨by omega, fun z => by omega⟩
      · rw [decide_eq_false y1] at hc
        simp only [Bool.false_and, cond_false] at hc
        exact ⟨by omega, fun z => by omega⟩
    obtain ⟨c1, c2⟩ := hct _ rfl
    generalize (bif decide (0 < ct) && !decide (N (9 + 10 * cv + cl) = T (9 + 10 * cv + cl)) then 0 else ct) = c' at c1 c2 ⊢
    refine ⟨⟨hWN, i2, i3, c1, i5, by dsimp only; rw [hmo]; exact i6, by dsimp only; omega⟩, ?_, ?_, k1, hN1.2, fun z => (by dsimp only at z; rw [hz] at z; cases z), fun _ => k2⟩
    · intro y1 y2
      dsimp only at y1 y2 ⊢
      obtain ⟨e1, e2⟩ := c2 y2
      rw [hmo] at y1
      obtain ⟨m1, m2, m3⟩ := hM y1 (by omega) (by rw [← hat]; exact e2)
      exact ⟨by rw [e2]; exact m1, m2⟩
    · intro y1 y2
      dsimp only at y1 y2 ⊢
      obtain ⟨e1, e2⟩ := c2 y2
      rw [hmo] at y1
      obtain ⟨m1, m2, m3⟩ := hM y1 (by omega) (by rw [← hat]; exact e2)
      rw [e1, hhd]; exact m3
/-- a change behind data that were written -/
theorem GI_chX {s : xS} {n : Nat} {U : Nat → Nat} {x' : xA} (h : GI s n) (hon : s.2.1.2.2.1 = true) (hx : XD s.2.1 x') (hW : WT U) (hM : rLt s.2.1.2.2.2.2 0 = false → 0 < s.2.2.2.2.2.1 → hold s.2.2.1 s.2.2.2.2.2.1 = false → U (9 + 10 * s.2.2.2.1 + s.2.2.2.2.1) = s.2.2.1 (9 + 10 * s.2.2.2.1 + s.2.2.2.2.1) → hold U s.2.2.2.2.2.1 = false) (hn : n + 2 < 2 ^ 30) : GI (chS (setX s x') (nx1 s U)) (n + 2) := by
  have hg := h.setX hon hx
  cases hz : x'.2.2.1
  · rw [chS_off (s := setX s x') hz]
    exact hg.mo (by omega)
  · obtain ⟨a1, a2, a3, a4, a5, a6, a7⟩ := hg
    have hmo : x'.2.2.2.2 = s.2.1.2.2.2.2 := by
      rcases hx.2 with ⟨_, e⟩ | ⟨e, _⟩
      · exact e
      · rw [hz] at e; cases e
    refine GI_ch (s := setX s x') (U := U) a1 a4 a5 hz (a7 hz) hW (fun y1 y2 y3 => ?_) hn
    have m := a2 y1 y2
    have y1' : rLt s.2.1.2.2.2.2 0 = false := by rw [← hmo]; exact y1
    exact ⟨m.1, m.2, hM y1' y2 (a3 y1 y2) y3⟩
theorem GI_ch1 {s : xS} {n : Nat} {U : Nat → Nat} (h : GI s n) (hon : s.2.1.2.2.1 = true) (hW : WT U) (hM : rLt s.2.1.2.2.2.2 0 = false → 0 < s.2.2.2.2.2.1 → hold s.2.2.1 s.2.2.2.2.2.1 = false → U (9 + 10 * s.2.2.2.1 + s.2.2.2.2.1) = s.2.2.1 (9 + 10 * s.2.2.2.1 + s.2.2.2.2.1) → hold U s.2.2.2.2.2.1 = false) (hn : n + 2 < 2 ^ 30) : GI (chS s (nx1 s U)) (n + 2) := GI_chX (x' := s.2.1) h hon (XD.rf hon) hW hM hn
theorem GI.setMo1 {s : xS} {n : Nat} (h : GI s n) : GI (setMo s (-1)) n := by
  obtain ⟨pr, ⟨sl, dt, on, lf, mo⟩, T, cv, cl, ct, cp⟩ := s
  obtain ⟨⟨i1, i2, i3, i4, i5, i6, i7⟩, a2, a3, a4, a5, a6, a7⟩ := h
  exact ⟨⟨i1, i2, i3, i4, i5, Or.inl rfl, i7⟩, fun z => by (have : rLt (-1) 0 = false := z; rw [rLt_n1] at this; cases this), fun z => by (have : rLt (-1) 0 = false := z; rw [rLt_n1] at this; cases this), a4, a5, fun z => ⟨(a6 z).1, rfl⟩, a7⟩
