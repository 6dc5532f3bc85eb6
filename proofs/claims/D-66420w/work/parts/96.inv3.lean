/-! THE INVARIANT, call by call -/
theorem drp_nx (pr : Nat → Bool) (x : xA) (T : Nat → Nat) (cv cl ct cp n : Nat) (hn : n < 4) : nx1 (pr, x, T, cv, cl, ct, cp) (drJ T (upN T (1 + n) 0) n 40) = drpN (upN (nx0 pr T) (1 + n) 0) n := by
  funext j
  unfold nx1 drpN
  dsimp only
  by_cases z0 : j = 0
  · subst z0
    rw [upN_s, if_neg (by omega), upN_o _ _ (by omega)]
    rfl
  · rw [upN_o _ _ z0]
    have e1 : j ≠ 1 + n → upN (nx0 pr T) (1 + n) 0 j = T j := fun z => by
      rw [upN_o _ _ z]
      exact upN_o _ _ z0
    by_cases z1 : 9 ≤ j ∧ j < 9 + 40 ∧ (0 < T j ∧ (T j - 1) / 8 = n)
    · rw [drJ_z _ _ z1, if_pos]
      rw [e1 (by omega)]
      exact ⟨z1.1, by omega, z1.2.2⟩
    · rw [drJ_o _ _ z1]
      by_cases z2 : j = 1 + n
      · rw [z2, upN_s, upN_s, if_neg (by omega)]
      · rw [e1 z2, upN_o _ _ z2, if_neg (by omega)]
theorem nx1_up (s : xS) {q : Nat} (e : Nat) (hq : 0 < q) : nx1 s (upN s.2.2.1 q e) = upN (nx0 s.1 s.2.2.1) q e := upN_comm _ _ _ (by omega)
theorem fnds_hold {c cv cl : Nat} {pr : Nat → Bool} {v : Nat} {U : Nat → Nat} (hc : 0 < c) {k : Nat} (hu : hold U c = false) : ∀ (m : Nat) {N : Nat → Nat}, fnds c cv cl pr v k m U = some N → hold N c = false := by
  intro m
  induction m with
  | zero =>
    intro N h
    have e : U = N := Option.some.inj h
    rw [← e]; exact hu
  | succ m ih =>
    intro N h
    rw [fnds_s] at h
    cases hW2 : fnds c cv cl pr v k m U with
    | none => rw [hW2] at h; cases h
    | some W =>
      rw [hW2] at h
      dsimp only at h
      have i1 := ih hW2
      unfold fd1 at h
      cases hz : (decide ((k + m) % 2 = 0) || decide (W (5 + v) % 4 = 3)) <;> rw [hz] at h
      · have e : W = N := Option.some.inj h
        rw [← e]; exact i1
      · rw [cond_true] at h
        by_cases hr : rom W c cv cl pr v (k + m) (-1) = 0
        · rw [decide_eq_true hr] at h; cases h
        · rw [decide_eq_false hr] at h
          have e : upN W (9 + 10 * v + (k + m)) (rom W c cv cl pr v (k + m) (-1)) = N := Option.some.inj h
          obtain ⟨r1, r2, r3, r4⟩ := rom_ok hr
          rw [← e, ← Bool.not_eq_true]
          intro z
          unfold hold at z
          obtain ⟨i, hi, hz⟩ := anyB_iff.mp z
          have hz := of_decide_eq_true hz
          unfold upN at hz
          by_cases y : 9 + i = 9 + 10 * v + (k + m)
          · rw [if_pos y] at hz; exact r4 hz.symm
          · rw [if_neg y] at hz; exact hold_no i1 hi hz
theorem mds_hold {c cv cl : Nat} {pr : Nat → Bool} {T : Nat → Nat} {v : Nat} (hc : 0 < c) (hu : hold T c = false) : ∀ (m : Nat) {N : Nat → Nat}, mds c cv cl pr T v 0 m T = some N → hold N c = false := by
  intro m
  induction m with
  | zero =>
    intro N h
    have e : T = N := Option.some.inj h
    rw [← e]; exact hu
  | succ m ih =>
    intro N h
    rw [mds_s] at h
    cases hW2 : mds c cv cl pr T v 0 m T with
    | none => rw [hW2] at h; cases h
    | some W =>
      rw [hW2] at h
      dsimp only at h
      have i1 := ih hW2
      unfold md1 at h
      cases hz : (decide (T (9 + 10 * v + (0 + m)) = 0) && decide (0 < T (9 + 10 * v + twN (0 + m)))) <;> rw [hz] at h
      · have e : W = N := Option.some.inj h
        rw [← e]; exact i1
      · rw [cond_true] at h
        by_cases hr : rom W c cv cl pr v (0 + m) (-1) = 0
        · rw [decide_eq_true hr] at h; cases h
        · rw [decide_eq_false hr] at h
          have e : upN W (9 + 10 * v + (0 + m)) (rom W c cv cl pr v (0 + m) (-1)) = N := Option.some.inj h
          obtain ⟨r1, r2, r3, r4⟩ := rom_ok hr
          rw [← e, ← Bool.not_eq_true]
          intro z
          unfold hold at z
          obtain ⟨i, hi, hz⟩ := anyB_iff.mp z
          have hz := of_decide_eq_true hz
          unfold upN at hz
          by_cases y : 9 + i = 9 + 10 * v + (0 + m)
          · rw [if_pos y] at hz; exact r4 hz.symm
          · rw [if_neg y] at hz; exact hold_no i1 hi hz
theorem not_f {c : Bool} (h : (!c) = false) : c = true := by
  cases c
  · cases h
  · rfl
theorem ec_on {mo : Int32} {ct : Nat} (h : rLt mo 0 = false) : ec mo ct = ct := by
  unfold ec
  rw [h]
  rfl
section G
variable {s : xS} {n : Nat}
theorem g_cut (h : GI s n) (k : Int32) : GI (sp_cut k s).2.2 (n + 2) := by
  have hm := h.mo (n' := n + 2) (by omega)
  unfold sp_cut
  refine GIc (fun _ => hm) fun g1 => GIc (fun _ => hm) fun g2 => ?_
  obtain ⟨pr, ⟨sl, dt, on, lf, mo⟩, T, cv, cl, ct, cp⟩ := s
  have hon : on = true := not_f g1
  subst hon
  obtain ⟨⟨i1, i2, i3, i4, i5, i6, i7⟩, a2, a3, a4, a5, a6, a7⟩ := hm
  exact ⟨⟨i1, i2, i3, i4, i5, i6, i7⟩, a2, a3, a4, a5, fun z => (by cases z), a7⟩
theorem g_off (h : GI s n) : GI (sp_off s).2.2 (n + 2) := by
  have hm := h.mo (n' := n + 2) (by omega)
  obtain ⟨pr, ⟨sl, dt, on, lf, mo⟩, T, cv, cl, ct, cp⟩ := s
  obtain ⟨⟨i1, i2, i3, i4, i5, i6, i7⟩, a2, a3, a4, a5, a6, a7⟩ := hm
  exact ⟨⟨i1, i2, i3, i4, i5, Or.inl rfl, i7⟩, fun z => (by (have : rLt (-1) 0 = false := z; rw [rLt_n1] at this; cases this)), fun z => (by (have : rLt (-1) 0 = false := z; rw [rLt_n1] at this; cases this)), a4, a5, fun _ => ⟨rfl, rfl⟩, fun z => (by cases z)⟩
theorem g_plug (h : GI s n) (d : Int32) (p : Bool) : GI (sp_plug d p s).2.2 (n + 2) := by
  have hm := h.mo (n' := n + 2) (by omega)
  unfold sp_plug
  refine GIc (fun _ => hm) fun g1 => GIc (fun _ => hm) fun g2 => ?_
  obtain ⟨pr, ⟨sl, dt, on, lf, mo⟩, T, cv, cl, ct, cp⟩ := s
  have hon : on = false := g1
  subst hon
  obtain ⟨⟨i1, i2, i3, i4, i5, i6, i7⟩, a2, a3, a4, a5, a6, a7⟩ := hm
  exact ⟨⟨i1, i2, i3, i4, i5, i6, i7⟩, a2, a3, a4, a5, a6, fun z => (by cases z)⟩
theorem g_same {r : Nat × Int32 × xS} (h : GI s n) (hr : r.2.2 = s) : GI r.2.2 (n + 2) := by
  rw [hr]
  exact h.mo (by omega)
theorem g_look (h : GI s n) (d k i : Int32) : GI (sp_look d k i s).2.2 (n + 2) := by
  unfold sp_look
  exact GIc (fun _ => h.mo (by omega)) fun _ => h.mo (by omega)
theorem g_free (h : GI s n) (d : Int32) : GI (sp_free d s).2.2 (n + 2) := by
  unfold sp_free
  exact GIc (fun _ => h.mo (by omega)) fun _ => GIc (fun _ => h.mo (by omega)) fun _ => h.mo (by omega)
theorem g_volume (h : GI s n) (v w : Int32) : GI (sp_volume v w s).2.2 (n + 2) := by
  unfold sp_volume
  exact GIc (fun _ => h.mo (by omega)) fun _ => GIc (fun _ => h.mo (by omega)) fun _ => GIc (fun _ => h.mo (by omega)) fun _ => h.mo (by omega)
theorem g_where (h : GI s n) (v e l : Int32) : GI (sp_where v e l s).2.2 (n + 2) := by
  unfold sp_where
  exact GIc (fun _ => h.mo (by omega)) fun _ => GIc (fun _ => h.mo (by omega)) fun _ => h.mo (by omega)
theorem g_read (h : GI s n) (v w : Int32) : GI (sp_read v w s).2.2 (n + 2) := by
  unfold sp_read
  exact GIc (fun _ => h.mo (by omega)) fun _ => GIc (fun _ => h.mo (by omega)) fun _ => GIc (fun _ => h.mo (by omega)) fun _ => GIc (fun _ => h.mo (by omega)) fun _ => h.mo (by omega)
theorem g_empty (h : GI s n) (d : Int32) : GI (sp_empty d s).2.2 (n + 2) := by
  have hm := h.mo (n' := n + 2) (by omega)
  unfold sp_empty
  refine GIc (fun _ => hm) fun g1 => GIc (fun _ => hm) fun g2 => GIc (fun _ => hm) fun g3 => ?_
  obtain ⟨k, hk, rfl⟩ := rng (L := 4) (by decide) (not_f g2)
  obtain ⟨pr, ⟨sl, dt, on, lf, mo⟩, T, cv, cl, ct, cp⟩ := s
  have hon : on = true := not_f g1
  subst hon
  obtain ⟨⟨i1, i2, i3, i4, i5, i6, i7⟩, a2, a3, a4, a5, a6, a7⟩ := hm
  exact ⟨⟨i1, i2, i3, Nat.zero_le _, i5, Or.inr ⟨k, hk, rfl⟩, i7⟩, fun _ z => (absurd z (Nat.lt_irrefl 0)), fun _ z => (absurd z (Nat.lt_irrefl 0)), a4, a5, fun z => (by cases z), a7⟩
theorem g_add (h : GI s n) (hn : n + 2 < 2 ^ 30) (d e : Int32) : GI (sp_add d e s).2.2 (n + 2) := by
  have hm := h.mo (n' := n + 2) (by omega)
  unfold sp_add
  refine GIc (fun _ => hm) fun g1 => GIc (fun _ => hm) fun g2 => GIc (fun _ => hm) fun g3 => ?_
  have hon : s.2.1.2.2.1 = true := not_f g1
  simp only [Bool.or_eq_false_iff] at g2
  obtain ⟨⟨g4, g5⟩, g6⟩ := g2
  obtain ⟨k, hk, rfl⟩ := rng (L := 4) (by decide) (not_f g4)
  have hee : e.toNatClampNeg ≤ 8 := by
    have z : rGe e 0 = true := by
      rw [rLt, decide_eq_false_iff_not, Int32.lt_iff_toInt_lt, nI_toInt (by decide)] at g5
      rw [rGe, decide_eq_true_iff, Int32.le_iff_toInt_le]
      show (0 : Int) ≤ _
      omega
    have z2 : rLt e (nI 9) = true := by
      rw [← rLe_s (by decide), rLe_not, g6]
      rfl
    obtain ⟨e', h5, h6⟩ := rng (L := 9) (by decide) (by rw [z, z2]; rfl)
    rw [h6, clampI _ (by omega)]
    omega
  rw [clampI k (by omega)]
  show GI (chS (setX s _) (upN (nx0 s.1 s.2.2.1) (1 + k) e.toNatClampNeg)) (n + 2)
  rw [← nx1_up s _ (by omega)]
  refine GI_chX h hon ⟨rfl, Or.inl ⟨hon, rfl⟩⟩ (h.1.1.upE hk hee) (fun _ hc hh _ => hold_sub (fun i _ => Or.inl (upN_o _ _ (by omega))) hc hh) hn
theorem g_remove (h : GI s n) (hn : n + 2 < 2 ^ 30) (d : Int32) : GI (sp_remove d s).2.2 (n + 2) := by
  have hm := h.mo (n' := n + 2) (by omega)
  unfold sp_remove
  refine GIc (fun _ => hm) fun g1 => GIc (fun _ => hm) fun g2 => GIc (fun _ => hm) fun g3 => ?_
  have hon : s.2.1.2.2.1 = true := not_f g1
  obtain ⟨k, hk, rfl⟩ := rng (L := 4) (by decide) (not_f g2)
  rw [clampI k (by omega)]
  have hg : GI (chS s (upN (nx0 s.1 s.2.2.1) (1 + k) 0)) (n + 2) := by
    rw [← nx1_up s _ (by omega)]
    exact GI_ch1 h hon (h.1.1.upE hk (by omega)) (fun _ hc hh _ => hold_sub (fun i _ => Or.inl (upN_o _ _ (by omega))) hc hh) hn
  show GI (setMo (chS s (upN (nx0 s.1 s.2.2.1) (1 + k) 0)) (bif rEq (chS s (upN (nx0 s.1 s.2.2.1) (1 + k) 0)).2.1.2.2.2.2 (nI k) then -1 else (chS s (upN (nx0 s.1 s.2.2.1) (1 + k) 0)).2.1.2.2.2.2)) (n + 2)
  generalize chS s (upN (nx0 s.1 s.2.2.1) (1 + k) 0) = S at hg ⊢
  cases rEq S.2.1.2.2.2.2 (nI k)
  · rw [cond_false, setMo_x rfl]
    exact hg
  · exact hg.setMo1
theorem g_drop (h : GI s n) (hn : n + 2 < 2 ^ 30) (d : Int32) : GI (sp_drop d s).2.2 (n + 2) := by
  have hm := h.mo (n' := n + 2) (by omega)
  unfold sp_drop
  refine GIc (fun _ => hm) fun g1 => GIc (fun _ => hm) fun g2 => GIc (fun _ => hm) fun g3 => ?_
  have hon : s.2.1.2.2.1 = true := not_f g1
  obtain ⟨k, hk, rfl⟩ := rng (L := 4) (by decide) (not_f g2)
  rw [clampI k (by omega)]
  obtain ⟨pr, x, T, cv, cl, ct, cp⟩ := s
  show GI (chS (pr, x, T, cv, cl, ct, cp) (drpN (upN (nx0 pr T) (1 + k) 0) k)) (n + 2)
  rw [← drp_nx pr x T cv cl ct cp k hk]
  have hW := h.1.1
  dsimp only at hW
  have hl : ∀ i, i < 40 → drJ T (upN T (1 + k) 0) k 40 (9 + i) = T (9 + i) ∨ drJ T (upN T (1 + k) 0) k 40 (9 + i) = 0 := fun i hi => by
    by_cases z2 : 9 ≤ 9 + i ∧ 9 + i < 9 + 40 ∧ (0 < T (9 + i) ∧ (T (9 + i) - 1) / 8 = k)
    · exact Or.inr (drJ_z _ _ z2)
    · exact Or.inl ((drJ_o _ _ z2).trans (upN_o _ _ (by omega)))
  refine GI_ch1 h hon ((hW.upE hk (e := 0) (by omega)).sub (fun i => ?_) (fun i hi => drJ_o _ _ (by omega)) (fun i hi => ?_)) (fun _ hc hh _ => hold_sub hl hc hh) hn
  · unfold drJ
    split
    · decide
    · unfold upN
      split
      · decide
      · exact hW.1 i
  · rcases hl i hi with z | z
    · exact Or.inl (z.trans (upN_o _ _ (by omega)).symm)
    · exact Or.inr z
theorem isV_get {T : Nat → Nat} {v : Int32} (hV : isV T v = true) : ∃ m, m < 4 ∧ v = nI m ∧ T (5 + m) ≠ 0 := by
  rcases isV_cases T v with ⟨_, z2⟩ | ⟨m, h1, rfl, h2⟩
  · rw [z2] at hV; cases hV
  · exact ⟨m, h1, rfl, fun z => by rw [hV, decide_eq_true z] at h2; cases h2⟩
theorem g_delete (h : GI s n) (hn : n + 2 < 2 ^ 30) (v : Int32) : GI (sp_delete v s).2.2 (n + 2) := by
  have hm := h.mo (n' := n + 2) (by omega)
  unfold sp_delete
  refine GIc (fun _ => hm) fun g1 => GIc (fun _ => hm) fun g2 => GIc (fun _ => hm) fun g3 => ?_
  have hon : s.2.1.2.2.1 = true := not_f g1
  obtain ⟨m, h1, rfl, h0⟩ := isV_get (not_f g2)
  rw [clampI m (by omega)]
  obtain ⟨pr, x, T, cv, cl, ct, cp⟩ := s
  show GI (chS (pr, x, T, cv, cl, ct, cp) (zrL (upN (nx0 pr T) (5 + m) 0) m 0)) (n + 2)
  rw [← nx1_zr pr x T cv cl ct cp]
  exact GI_ch1 h hon (h.1.1.del h1) (fun _ hc hh _ => hold_sub (fun i hi => by
    by_cases z : 9 + 10 * m + 0 ≤ 9 + i ∧ 9 + i < 9 + 10 * m + 10
    · exact Or.inr (zrL_z _ z)
    · exact Or.inl ((zrL_o _ z).trans (upN_o _ _ (by omega)))) hc hh) hn
theorem g_shrink (h : GI s n) (hn : n + 2 < 2 ^ 30) (v k : Int32) : GI (sp_shrink v k s).2.2 (n + 2) := by
  have hm := h.mo (n' := n + 2) (by omega)
  unfold sp_shrink
  refine GIc (fun _ => hm) fun g1 => GIc (fun _ => hm) fun g2 => GIc (fun _ => hm) fun g3 => GIc (fun _ => hm) fun g4 => ?_
  have hon : s.2.1.2.2.1 = true := not_f g1
  obtain ⟨m, h1, rfl, h0⟩ := isV_get (not_f g2)
  rw [clampI m (by omega)] at g3 ⊢
  obtain ⟨pr, x, T, cv, cl, ct, cp⟩ := s
  have hW := h.1.1
  dsimp only at hW h0 g3
  have hcols := hW.cols h1 h0
  have hcols2 : colsN T m < 8 := by unfold colsN; omega
  have he5 := (hW.TB.2.2.1 m h1).2
  rw [Bool.or_eq_false_iff] at g3
  obtain ⟨g5, g6⟩ := g3
  obtain ⟨n', hn5, rfl⟩ := fits_rng (not_f g6)
  obtain ⟨f1, f2, f3⟩ := fitsB_n hcols hcols2 (by omega) (not_f g6)
  have f4 : n' < elsN T m := by
    rw [rGe_n (by omega) (by omega), decide_eq_false_iff_not] at g5
    omega
  rw [clampI n' (by omega)]
  show GI (chS (pr, x, T, cv, cl, ct, cp) (zrL (upN (nx0 pr T) (5 + m) (T (5 + m) - 32 * (elsN T m - n'))) m (2 * n'))) (n + 2)
  rw [← nx1_zr pr x T cv cl ct cp]
  exact GI_ch1 h hon (hW.shr h1 h0 f1 f4 f3) (fun _ hc hh _ => hold_sub (fun i hi => by
    by_cases z : 9 + 10 * m + 2 * n' ≤ 9 + i ∧ 9 + i < 9 + 10 * m + 10
    · exact Or.inr (zrL_z _ z)
    · exact Or.inl ((zrL_o _ z).trans (upN_o _ _ (by omega)))) hc hh) hn
theorem g_grow (h : GI s n) (hn : n + 2 < 2 ^ 30) (v k : Int32) : GI (sp_grow v k s).2.2 (n + 2) := by
  have hm := h.mo (n' := n + 2) (by omega)
  unfold sp_grow
  refine GIc (fun _ => hm) fun g1 => GIc (fun _ => hm) fun g2 => GIc (fun _ => hm) fun g3 => GIc (fun _ => hm) fun g4 => ?_
  have hon : s.2.1.2.2.1 = true := not_f g1
  obtain ⟨m, h1, rfl, h0⟩ := isV_get (not_f g2)
  rw [clampI m (by omega)] at g3 ⊢
  obtain ⟨pr, x, T, cv, cl, ct, cp⟩ := s
  have hW := h.1.1
  dsimp only at hW h0 g3 hon
  have hcols := hW.cols h1 h0
  have hcols2 : colsN T m < 8 := by unfold colsN; omega
  have he5 := (hW.TB.2.2.1 m h1).2
  simp only [Bool.or_eq_false_iff] at g3
  obtain ⟨⟨g5, g6⟩, g7⟩ := g3
  have hnn : ∃ n', 1 ≤ n' ∧ n' ≤ 5 ∧ k = nI n' := by
    have z : rGe k 0 = true := by
      rw [rLt, decide_eq_false_iff_not, Int32.lt_iff_toInt_lt, nI_toInt (by decide)] at g5
      rw [rGe, decide_eq_true_iff, Int32.le_iff_toInt_le]
      show (0 : Int) ≤ _
      omega
    have z2 : rLt k (nI 6) = true := by
      rw [← rLe_s (by decide), rLe_not, g6]
      rfl
    obtain ⟨n', h5, rfl⟩ := rng (L := 6) (by decide) (by rw [z, z2]; rfl)
    rw [rLt_n (by omega) (by decide), decide_eq_false_iff_not] at g5
    exact ⟨n', by omega, by omega, rfl⟩
  obtain ⟨n', hn1, hn5, rfl⟩ := hnn
  have g7' := not_f g7
  rw [nI_add] at g7'
  obtain ⟨f1, f2, f3⟩ := fitsB_n hcols hcols2 (by omega) g7'
  rw [clampI n' (by omega)]
  dsimp only
  have hWU := hW.gro h1 h0 (n := n') (by omega) f3
  have eU : elsN (upN T (5 + m) (T (5 + m) + 32 * n')) m = elsN T m + n' := by
    unfold elsN
    rw [upN_s]
    omega
  cases hf : fnds (ec x.2.2.2.2 ct) cv cl pr m (2 * elsN T m) (2 * n') (upN T (5 + m) (T (5 + m) + 32 * n')) with
  | none => exact hm
  | some N =>
    show GI (chS (setX (pr, x, T, cv, cl, ct, cp) (clrs N m (2 * elsN T m) (2 * n') x)) (nx1 (pr, x, T, cv, cl, ct, cp) N)) (n + 2)
    refine GI_chX h hon (XD_clrs (XD.rf hon) _ _ _ _) (fnds_WT h1 hWU (by rw [upN_s]; omega) (2 * n') (by rw [eU]; omega) hf).1 (fun y1 hc hh _ => ?_) hn
    dsimp only at y1 hc hh ⊢
    rw [ec_on y1] at hf
    exact fnds_hold hc (hold_sub (fun i _ => Or.inl (upN_o _ _ (by omega))) hc hh) _ hf
theorem g_make (h : GI s n) (hn : n + 2 < 2 ^ 30) (k c e : Int32) : GI (sp_make k c e s).2.2 (n + 2) := by
  have hm := h.mo (n' := n + 2) (by omega)
  unfold sp_make
  refine GIc (fun _ => hm) fun g1 => GIc (fun _ => hm) fun g2 => GIc (fun _ => hm) fun g3 => ?_
  have hon : s.2.1.2.2.1 = true := not_f g1
  obtain ⟨pr, x, T, cv, cl, ct, cp⟩ := s
  have hW := h.1.1
  dsimp only at hW hon ⊢
  rw [Bool.or_eq_false_iff] at g2
  obtain ⟨g4, g5⟩ := g2
  have g4 := not_f g4
  have g5 := not_f g5
  simp only [Bool.and_eq_true] at g4
  obtain ⟨⟨q1, q2⟩, q3⟩ := g4
  obtain ⟨kk, hk3, rfl⟩ := rng (L := 3) (by decide) (by rw [q1, q2]; rfl)
  have hcc : ∃ cc, c = nI cc ∧ (kk = 1 → cc = 2 ∨ cc = 3) ∧ (kk ≠ 1 → cc = 1) := by
    rw [rEq_n (by omega) (by decide)] at q3
    by_cases z : kk = 1
    · rw [decide_eq_true z, cond_true, Bool.or_eq_true] at q3
      rcases q3 with y | y
      · exact ⟨2, of_decide_eq_true y, fun _ => Or.inl rfl, fun q => absurd z q⟩
      · exact ⟨3, of_decide_eq_true y, fun _ => Or.inr rfl, fun q => absurd z q⟩
    · rw [decide_eq_false z, cond_false] at q3
      exact ⟨1, of_decide_eq_true q3, fun q => absurd q z, fun _ => rfl⟩
  obtain ⟨cc, rfl, hcA, hcB⟩ := hcc
  have hc13 : cc = 1 ∨ cc = 2 ∨ cc = 3 := by
    by_cases z : kk = 1
    · rcases hcA z with e | e <;> omega
    · have := hcB z; omega
  obtain ⟨ee, hee5, rfl⟩ := fits_rng g5
  obtain ⟨f1, f2, f3⟩ := fitsB_n (show 0 < cc by omega) (by omega) (by omega) g5
  rw [clampI kk (by omega), clampI cc (by omega), clampI ee (by omega)]
  have sc := scn_spec (fun v => decide (T (5 + v) = 0)) 4 0
  cases hsc : scn (fun v => decide (T (5 + v) = 0)) 0 4 with
  | none => exact hm
  | some v =>
    rw [hsc] at sc
    obtain ⟨s1, s2, s3, s4⟩ := sc
    have h0 : T (5 + v) = 0 := of_decide_eq_true s3
    have hv4 : v < 4 := by omega
    dsimp only
    have hWU := hW.new hv4 h0 hk3 ⟨hcA, hcB⟩ f1 f2 f3
    have eU : elsN (upN T (5 + v) (1 + kk + 4 * cc + 32 * ee)) v = ee := by
      unfold elsN
      rw [upN_s]
      omega
    cases hf : fnds (ec x.2.2.2.2 ct) cv cl pr v 0 (2 * ee) (upN T (5 + v) (1 + kk + 4 * cc + 32 * ee)) with
    | none => exact hm
    | some N =>
      show GI (chS (setX (pr, x, T, cv, cl, ct, cp) (clrs N v 0 (2 * ee) x)) (nx1 (pr, x, T, cv, cl, ct, cp) N)) (n + 2)
      refine GI_chX h hon (XD_clrs (XD.rf hon) _ _ _ _) (fnds_WT hv4 hWU (by rw [upN_s]; omega) (2 * ee) (by rw [eU]; omega) hf).1 (fun y1 hc hh _ => ?_) hn
      dsimp only at y1 hc hh ⊢
      rw [ec_on y1] at hf
      exact fnds_hold hc (hold_sub (fun i _ => Or.inl (upN_o _ _ (by omega))) hc hh) _ hf
theorem g_mend (h : GI s n) (hn : n + 2 < 2 ^ 30) (v : Int32) : GI (sp_mend v s).2.2 (n + 2) := by
  have hm := h.mo (n' := n + 2) (by omega)
  unfold sp_mend
  refine GIc (fun _ => hm) fun g1 => GIc (fun _ => hm) fun g2 => GIc (fun _ => hm) fun g3 => GIc (fun _ => hm) fun g4 => ?_
  have hon : s.2.1.2.2.1 = true := not_f g1
  obtain ⟨m, h1, rfl, h0⟩ := isV_get (not_f g2)
  rw [clampI m (by omega)] at g3 ⊢
  obtain ⟨pr, x, T, cv, cl, ct, cp⟩ := s
  have hW := h.1.1
  dsimp only at hW h0 g3 hon ⊢
  have hk3 := of_decide_eq_true (not_f g3)
  cases hf : mds (ec x.2.2.2.2 ct) cv cl pr T m 0 (2 * elsN T m) T with
  | none => exact hm
  | some N =>
    dsimp only
    refine GIc (fun _ => hm) fun _ => ?_
    show GI (chS (setX (pr, x, T, cv, cl, ct, cp) (cpys T N m 10 x)) (nx1 (pr, x, T, cv, cl, ct, cp) N)) (n + 2)
    refine GI_chX h hon (XD_cpys (XD.rf hon) _ _ _ _) (mds_WT h1 hW h0 hk3 _ (Nat.le_refl _) hf).1 (fun y1 hc hh _ => ?_) hn
    dsimp only at y1 hc hh ⊢
    rw [ec_on y1] at hf
    exact mds_hold hc hh _ hf
theorem g_write (h : GI s n) (hn : n + 2 < 2 ^ 30) (v w val : Int32) : GI (sp_write v w val s).2.2 (n + 2) := by
  have hm := h.mo (n' := n + 2) (by omega)
  unfold sp_write
  refine GIc (fun _ => hm) fun g1 => GIc (fun _ => hm) fun g2 => GIc (fun _ => hm) fun g3 => ?_
  have hon : s.2.1.2.2.1 = true := not_f g1
  dsimp only
  refine GIc (fun _ => hm) fun g4 => ?_
  have hf9 : 9 ≤ 9 + 10 * v.toNatClampNeg + 2 * elO s.2.2.1 v.toNatClampNeg w.toNatClampNeg := by omega
  generalize 9 + 10 * v.toNatClampNeg + 2 * elO s.2.2.1 v.toNatClampNeg w.toNatClampNeg = f at hf9 ⊢
  have hlo : 9 ≤ (bif rdb s.1 (s.2.2.1 f) then f + 1 else f) := by
    cases rdb s.1 (s.2.2.1 f)
    · exact hf9
    · show 9 ≤ f + 1; omega
  generalize (bif rdb s.1 (s.2.2.1 f) then f + 1 else f) = lost at hlo ⊢
  have hGS : GI (bif !(rdb s.1 (s.2.2.1 f) && rdb s.1 (s.2.2.1 (f + 1))) && decide (0 < s.2.2.1 lost) then chS s (upN (nx0 s.1 s.2.2.1) lost 0) else s) (n + 2) := by
    generalize (!(rdb s.1 (s.2.2.1 f) && rdb s.1 (s.2.2.1 (f + 1))) && decide (0 < s.2.2.1 lost)) = p
    cases p
    · exact hm
    · rw [cond_true, ← nx1_up s _ (by omega)]
      exact GI_ch1 h hon (h.1.1.leg0 hlo) (fun _ hc hh _ => hold_sub (fun i _ => by
        by_cases z : 9 + i = lost
        · exact Or.inr (by rw [z]; exact upN_s _ _ _)
        · exact Or.inl (upN_o _ _ z)) hc hh) hn
  generalize (bif !(rdb s.1 (s.2.2.1 f) && rdb s.1 (s.2.2.1 (f + 1))) && decide (0 < s.2.2.1 lost) then chS s (upN (nx0 s.1 s.2.2.1) lost 0) else s) = S at hGS ⊢
  show GI (setX S (wrt1 S (f + 1) (wdO s.2.2.1 v.toNatClampNeg w.toNatClampNeg) val (wrt1 S f (wdO s.2.2.1 v.toNatClampNeg w.toNatClampNeg) val S.2.1))) (n + 2)
  cases hz : S.2.1.2.2.1
  · rw [wrt1_off (y := S.2.1) hz, wrt1_off hz]
    exact hGS
  · exact hGS.setX hz (XD_wrt1 (XD_wrt1 (XD.rf hz) _ _ _ _) _ _ _ _)
theorem g_stp2 (h : GI s n) (hn : n + 2 < 2 ^ 30) (hon : s.2.1.2.2.1 = true) (hmo : rLt s.2.1.2.2.2.2 0 = false) (hct : 0 < s.2.2.2.2.2.1) : GI (stp2 s).2.2 (n + 2) := by
  obtain ⟨pr, x, T, cv, cl, ct, cp⟩ := s
  have h0 := h
  obtain ⟨⟨i1, i2, i3, i4, i5, i6, i7⟩, a2, a3, a4, a5, a6, a7⟩ := h
  dsimp only at i1 i2 i3 i4 i5 i6 i7 a4 a5 a6 a7 hon hmo hct
  obtain ⟨m1, m2⟩ := a2 hmo hct
  have m3 := a3 hmo hct
  dsimp only at m1 m2 m3
  have hx := XD_wD (XD.rf hon) (4 * (ct - 1) + cp) (xfd x.2.1 (4 * (T (9 + 10 * cv + cl) - 1) + cp))
  have hst : (stp2 (pr, x, T, cv, cl, ct, cp)).2.2 = (let x1 := wD x (4 * (ct - 1) + cp) (xfd x.2.1 (4 * (T (9 + 10 * cv + cl) - 1) + cp))
      let s2 := bif x1.2.2.1 && decide (cp + 1 = 4) then chS (pr, x1, T, cv, cl, ct, cp + 1) (upN (nx0 pr T) (9 + 10 * cv + cl) ct) else (pr, x1, T, cv, cl, ct, cp + 1)
      setMo s2 (bif decide ((bif rLt s2.2.1.2.2.2.2 0 then 0 else legsN s2.2.2.1 s2.2.1.2.2.2.2.toNatClampNeg) = 0) then -1 else s2.2.1.2.2.2.2)) := rfl
  rw [hst]
  generalize wD x (4 * (ct - 1) + cp) (xfd x.2.1 (4 * (T (9 + 10 * cv + cl) - 1) + cp)) = x1 at hx ⊢
  dsimp only
  have hGX : GI (pr, x1, T, cv, cl, ct, cp) n := h0.setX hon hx
  obtain ⟨⟨j1, j2, j3, j4, j5, j6, j7⟩, b2, b3, b4, b5, b6, b7⟩ := hGX
  have hIM1 : IM (pr, x1, T, cv, cl, ct, cp + 1) := ⟨j1, j2, j3, j4, by dsimp only; omega, j6, j7⟩
  have hGS : GI (bif x1.2.2.1 && decide (cp + 1 = 4) then chS (pr, x1, T, cv, cl, ct, cp + 1) (upN (nx0 pr T) (9 + 10 * cv + cl) ct) else (pr, x1, T, cv, cl, ct, cp + 1)) (n + 2) := by
    cases hz : x1.2.2.1
    · rw [Bool.false_and, cond_false]
      have hmo1 := (b6 hz).2
      refine ⟨hIM1, ?_, ?_, b4.mo (by omega), by dsimp only at b5 ⊢; omega, fun _ => b6 hz, fun z => (by dsimp only at z; rw [hz] at z; cases z)⟩
      · intro z
        dsimp only at z hmo1
        rw [hmo1, rLt_n1] at z; cases z
      · intro z
        dsimp only at z hmo1
        rw [hmo1, rLt_n1] at z; cases z
    · rw [Bool.true_and]
      by_cases h4 : cp + 1 = 4
      · rw [decide_eq_true h4, cond_true]
        have enx : upN (nx0 pr T) (9 + 10 * cv + cl) ct = nx1 (pr, x1, T, cv, cl, ct, cp + 1) (upN T (9 + 10 * cv + cl) ct) := by
          unfold nx0 nx1
          dsimp only
          rw [upN_comm T (a := 9 + 10 * cv + cl) (c := 0) _ _ (by omega)]
        rw [enx]
        have h05 : T (5 + cv) ≠ 0 := fun z => by
          rcases i1.2.2.1 cv i2 with ⟨_, y⟩ | ⟨y, _⟩
          · have := y cl i3; omega
          · rw [z] at y; omega
        have hkl : cl < 2 * elsN T cv ∧ (T (5 + cv) % 4 ≠ 3 → cl % 2 = 0) := by
          rcases i1.2.2.1 cv i2 with ⟨y, _⟩ | ⟨_, _, _, _, _, _, y1, y2⟩
          · exact absurd y h05
          · refine ⟨Nat.lt_of_not_le fun z => ?_, fun z => ?_⟩
            · have := y1 cl i3 z; omega
            · by_cases z2 : cl % 2 = 1
              · have := y2 z cl i3 z2; omega
              · omega
        refine GI_ch hIM1 b4 b5 hz (b7 hz) (i1.leg i2 h05 hkl.1 hkl.2 i4 m3) (fun _ _ y3 => ?_) hn
        dsimp only at y3
        rw [upN_s] at y3
        have := hold_no m3 (i := 10 * cv + cl) (by omega)
        rw [← Nat.add_assoc] at this
        exact absurd y3.symm this
      · rw [decide_eq_false h4, cond_false]
        refine ⟨hIM1, fun y1 y2 => ?_, fun y1 y2 => b3 y1 y2, b4.mo (by omega), by dsimp only at b5 ⊢; omega, fun z => (by dsimp only at z; rw [hz] at z; cases z), b7⟩
        have := b2 y1 y2
        exact ⟨this.1, by have := this.2; dsimp only at this ⊢; omega⟩
  generalize (bif x1.2.2.1 && decide (cp + 1 = 4) then chS (pr, x1, T, cv, cl, ct, cp + 1) (upN (nx0 pr T) (9 + 10 * cv + cl) ct) else (pr, x1, T, cv, cl, ct, cp + 1)) = S at hGS ⊢
  generalize decide ((bif rLt S.2.1.2.2.2.2 0 then 0 else legsN S.2.2.1 S.2.1.2.2.2.2.toNatClampNeg) = 0) = p
  cases p
  · rw [cond_false, setMo_x rfl]; exact hGS
  · rw [cond_true]; exact hGS.setMo1
theorem g_step (h : GI s n) (hn : n + 2 < 2 ^ 30) : GI (sp_step s).2.2 (n + 2) := by
  have hm := h.mo (n' := n + 2) (by omega)
  unfold sp_step
  refine GIc (fun _ => hm) fun g1 => GIc (fun _ => hm) fun g2 => GIc (fun g3 => ?_) fun g3 => ?_
  · have hon : s.2.1.2.2.1 = true := not_f g1
    have sc := scn_spec (fun k => decide (0 < s.2.2.1 (9 + k)) && rEq (nI ((s.2.2.1 (9 + k) - 1) / 8)) s.2.1.2.2.2.2) 40 0
    cases hsc : scn (fun k => decide (0 < s.2.2.1 (9 + k)) && rEq (nI ((s.2.2.1 (9 + k) - 1) / 8)) s.2.1.2.2.2.2) 0 40 with
    | none => exact hm.setMo1
    | some k =>
      rw [hsc] at sc
      obtain ⟨q1, q2, q3, q4⟩ := sc
      dsimp only
      have hpos : 0 < s.2.2.1 (9 + k) := by
        rw [Bool.and_eq_true] at q3
        exact of_decide_eq_true q3.1
      have bR : rom s.2.2.1 0 (k / 10) (k % 10) s.1 (k / 10) (k % 10) s.2.1.2.2.2.2 ≤ 32 := rmo_le _ _
      have hro := rom_ok (U := s.2.2.1) (c := 0) (cv := k / 10) (cl := k % 10) (pr := s.1) (v := k / 10) (k := k % 10) (nt := s.2.1.2.2.2.2)
      generalize rom s.2.2.1 0 (k / 10) (k % 10) s.1 (k / 10) (k % 10) s.2.1.2.2.2.2 = r at bR hro ⊢
      have hG1 : GI (s.1, s.2.1, s.2.2.1, k / 10, k % 10, r, 0) n := by
        obtain ⟨⟨i1, i2, i3, i4, i5, i6, i7⟩, a2, a3, a4, a5, a6, a7⟩ := h
        have e9 : 9 + 10 * (k / 10) + k % 10 = 9 + k := by omega
        refine ⟨⟨i1, by dsimp only; omega, by dsimp only; omega, bR, by dsimp only; omega, i6, i7⟩, fun _ _ => ⟨by dsimp only; rw [e9]; exact hpos, by dsimp only; omega⟩, fun _ y2 => (hro (by dsimp only at y2; omega)).2.2.1, a4, a5, a6, a7⟩
      refine GIc (fun _ => (hG1.mo (by omega)).setMo1) fun g4 => ?_
      have g4' : r ≠ 0 := of_decide_eq_false g4
      exact g_stp2 hG1 hn hon g2 (by dsimp only; omega)
  · have g3' : s.2.2.2.2.2.1 ≠ 0 := of_decide_eq_false g3
    exact g_stp2 h hn (not_f g1) g2 (by omega)
theorem bst_max (pr : Nat → Bool) (sl : Nat → Nat → Int32) : ∀ i j, j < i → pr (j / 2) = true → sltN sl (j / 2) (j % 2) ≤ (bst pr sl i).2 := by
  intro i
  induction i with
  | zero => intro j hj; omega
  | succ i ih =>
    intro j hj hp
    simp only [bst]
    cases hz : (pr (i / 2) && decide ((bst pr sl i).2 < sltN sl (i / 2) (i % 2)))
    · rw [cond_false]
      by_cases e : j = i
      · subst e
        rw [hp, Bool.true_and, decide_eq_false_iff_not] at hz
        omega
      · exact ih j (by omega) hp
    · rw [cond_true]
      rw [Bool.and_eq_true] at hz
      have h2 := of_decide_eq_true hz.2
      show sltN sl (j / 2) (j % 2) ≤ sltN sl (i / 2) (i % 2)
      by_cases e : j = i
      · subst e; exact Nat.le_refl _
      · have := ih j (by omega) hp; omega
theorem stW_KM {x : xA} {pr : Nat → Bool} {T : Nat → Nat} (hK : KM x.1 n) (hW : WT T) (h30 : T 0 < 2 ^ 30) (hn : T 0 ≤ n) (hle : ∀ d, d < 4 → pr d = true → WM x.1 d ≤ T 0) : KM (stW pr T x).1 n ∧ ∀ d, d < 4 → pr d = true → WM (stW pr T x).1 d ≤ T 0 := by
  rw [stW_eq]
  have key : ∀ k, k ≤ 4 → KM (itr (stF pr T) k x).1 n ∧ ∀ d, d < 4 → pr d = true → WM (itr (stF pr T) k x).1 d ≤ T 0 := by
    intro k
    induction k with
    | zero => intro _; exact ⟨hK, hle⟩
    | succ k ih =>
      intro hk
      obtain ⟨a1, a2⟩ := ih (by omega)
      have es : itr (stF pr T) (k + 1) x = stF pr T k (itr (stF pr T) k x) := rfl
      rw [es]
      generalize itr (stF pr T) k x = Y at a1 a2 ⊢
      unfold stF
      cases hz : (decide (0 < T (1 + k)) && pr k && !decide (sltN Y.1 k 0 = T 0) && !decide (sltN Y.1 k 1 = T 0))
      · exact ⟨a1, a2⟩
      · rw [cond_true]
        simp only [Bool.and_eq_true, Bool.not_eq_true', decide_eq_false_iff_not] at hz
        obtain ⟨⟨⟨z1, z2⟩, z3⟩, z4⟩ := hz
        have hlt : WM Y.1 k < T 0 := by
          have := a2 k (by omega) z2
          unfold WM at this ⊢
          omega
        obtain ⟨w1, w2, w3⟩ := wTo_KM (d := k) (by omega) a1 hW h30 hn hlt
        refine ⟨w1, fun d hd hp => ?_⟩
        by_cases z : d = k
        · subst z; exact w3
        · rw [w2 d z]; exact a2 d hd hp
  exact key 4 (Nat.le_refl _)
theorem alks_1 (pr : Nat → Bool) (T : Nat → Nat) : ∀ (n : Nat) (x : xA), (itr (alk pr T) n x).1 = x.1 := by
  intro n
  induction n with
  | zero => intro x; rfl
  | succ n ih =>
    intro x
    have e : (alk pr T n (itr (alk pr T) n x)).1 = (itr (alk pr T) n x).1 := by
      rw [alk_eq]
      cases rdb pr (T (9 + 2 * n)) && rdb pr (T (9 + 2 * n + 1))
      · rfl
      · have : ∀ (f g m : Nat) (y : xA), (itr (fun w (y : xA) => ((y.1, upD y.2.1 (4 * (g - 1) + w) (xfd y.2.1 (4 * (f - 1) + w)), y.2.2) : xA)) m y).1 = y.1 := by
          intro f g m
          induction m with
          | zero => intro y; rfl
          | succ m ih => intro y; exact ih y
        exact this _ _ 4 _
    exact e.trans (ih x)
theorem g_start (h : GI s n) : GI (sp_start s).2.2 (n + 2) := by
  have hm := h.mo (n' := n + 2) (by omega)
  unfold sp_start
  refine GIc (fun _ => hm) fun g1 => ?_
  obtain ⟨pr, ⟨sl, dt, on, lf, mo⟩, T, cv, cl, ct, cp⟩ := s
  have hon : on = false := g1
  subst hon
  obtain ⟨⟨i1, i2, i3, i4, i5, i6, i7⟩, a2, a3, a4, a5, a6, a7⟩ := h
  dsimp only at i1 i2 i3 i4 i5 i6 i7 a4 a5 a6 ⊢
  obtain ⟨l1, l2⟩ := a6 rfl
  subst l1
  obtain ⟨hWc, h30c, h0c⟩ := cho (pr := pr) a4.si
  have hmax : ∀ d, d < 4 → pr d = true → WM sl d ≤ rdT sl (bst pr sl 8).1 0 := fun d hd hp => by
    rw [h0c]
    unfold WM
    have x0 := bst_max pr sl 8 (2 * d) (by omega) (by rw [show 2 * d / 2 = d by omega]; exact hp)
    have x1 := bst_max pr sl 8 (2 * d + 1) (by omega) (by rw [show (2 * d + 1) / 2 = d by omega]; exact hp)
    rw [show 2 * d / 2 = d by omega, show 2 * d % 2 = 0 by omega] at x0
    rw [show (2 * d + 1) / 2 = d by omega, show (2 * d + 1) % 2 = 1 by omega] at x1
    omega
  have hT0 : rdT sl (bst pr sl 8).1 0 ≤ n := by
    rw [h0c]
    rcases bst_inv pr sl 8 (by omega) with ⟨_, e2⟩ | ⟨d, t, hd, ht, hp, e1, e2, e3⟩
    · rw [e2]; exact Nat.zero_le _
    · rw [e2]
      have := (a4 d hd).2
      unfold WM at this
      have : t = 0 ∨ t = 1 := by omega
      rcases this with rfl | rfl <;> omega
  generalize rdT sl (bst pr sl 8).1 = U at hWc h30c hmax hT0 ⊢
  have hNE0 : NE (sl, dt, true, -1, -1) := ⟨rfl, rfl⟩
  have hNE := stW_NE (pr := pr) (T := U) hNE0
  have hXmo := stW_mo (pr := pr) (T := U) hNE0
  obtain ⟨k1, k2⟩ := stW_KM (x := (sl, dt, true, -1, -1)) (pr := pr) (T := U) (n := n) a4 hWc h30c hT0 hmax
  generalize stW pr U (sl, dt, true, -1, -1) = X at hNE hXmo k1 k2 ⊢
  have e1 : (stA pr U X).1 = X.1 := alks_1 pr U 20 X
  have e2 : (stA pr U X).2.2 = X.2.2 := alks_k pr U 20 X
  generalize stA pr U X = Z at e1 e2 ⊢
  have hmoZ : Z.2.2.2.2 = -1 := by rw [e2]; exact hXmo
  refine ⟨⟨hWc, i2, i3, Nat.zero_le _, i5, Or.inl hmoZ, h30c⟩, ?_, ?_, ?_, by dsimp only; omega, fun z => ?_, fun _ => ?_⟩
  · intro z
    dsimp only at z
    rw [hmoZ, rLt_n1] at z; cases z
  · intro z
    dsimp only at z
    rw [hmoZ, rLt_n1] at z; cases z
  · dsimp only
    rw [e1]; exact k1.mo (by omega)
  · dsimp only at z
    rw [e2, hNE.1] at z; cases z
  · dsimp only
    rw [e1]; exact k2
end G
/-- the state at the beginning -/
def s0 : xS := (fun _ => true, (fun _ _ => 0, fun _ _ => 0, true, -1, -1), fun _ => 0, 0, 0, 0, 0)
theorem sumW_0 : ∀ n, sumW (fun _ => 0) n = 0 := by
  intro n
  induction n with
  | zero => rfl
  | succ n ih =>
    simp only [sumW]
    rw [ih]
    simp
theorem g_s0 : GI s0 0 := by
  have hs : ∀ d t, sltN (fun _ _ => (0 : Int32)) d t = 0 := fun d t => by
    unfold sltN nmN whW
    have : rGt (0 : Int32) 0 = false := by decide
    simp only [this, Bool.and_false, cond_false]
  refine ⟨⟨WT_zero, by decide, by decide, by decide, by decide, Or.inl rfl, by decide⟩, fun z => (by (have : rLt (-1) 0 = false := z; rw [rLt_n1] at this; cases this)), fun z => (by (have : rLt (-1) 0 = false := z; rw [rLt_n1] at this; cases this)), fun d hd => ⟨⟨fun t ht hw => ?_, fun t ht => ⟨0, rfl, by decide, Nat.zero_le _⟩⟩, ?_⟩, Nat.le_refl _, fun z => (by cases z), fun _ d hd _ => ?_⟩
  · have : rGt (0 : Int32) 0 = false := by decide
    unfold whW at hw
    simp only [s0, this, Bool.and_false] at hw
    cases hw
  · show WM (fun _ _ => 0) d ≤ 0
    unfold WM
    rw [hs, hs]
    exact Nat.le_refl _
  · show WM (fun _ _ => 0) d ≤ 0
    unfold WM
    rw [hs, hs]
    exact Nat.le_refl _
